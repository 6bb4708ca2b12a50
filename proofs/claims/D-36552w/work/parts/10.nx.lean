/-! Lastbus$Trip -/
set_option maxRecDepth 100000
def RX3 : String := "Lastbus$Trip"
def TX3 : u_T := fun k => match k with
  | 0 => ("Lastbus$Trip", "service", "I", true)
  | _ => ("Lastbus$Trip", "calls", "Ljava/util/ArrayList;", true)
def tyX3 : Nat → FieldType := fun k => match k with
  | 0 => .int
  | _ => .object "java/util/ArrayList"
abbrev wsX30 : List Cond := u_ws RX3 TX3 2
theorem nmX3 : ∀ a, a < 2 → ∀ b, b < 2 → a ≠ b → (TX3 a).2.1 ≠ (TX3 b).2.1 := by decide +kernel
theorem tyX3_ok : ∀ k, k < 2 → parseFieldDescriptor (TX3 k).2.2.1 = some (tyX3 k) := by decide +kernel
abbrev cX3_init : ByteArray := prog_12_method_1_code
def yX3_init : MethodName := ⟨RX3, "<init>", "(I)V"⟩
def dkwX3_init_0 : List UInt8 := [42, 183, 0, 3, 42, 187, 0, 9, 89, 183, 0, 11, 181, 0, 12, 42, 27, 181, 0, 18, 177]
abbrev dktX3_init_0 : List UInt8 := dkwX3_init_0 ++ []
theorem dksX3_init_0 : cX3_init.data.toList.drop 0 = dktX3_init_0 := by decide +kernel
theorem dX3_init_0 : decode cX3_init 0 = .ok (.aload_n 0, 1) := dk_42 (dk_at dksX3_init_0 0 rfl rfl)
theorem dX3_init_1 : decode cX3_init 1 = .ok (.invokespecial 3, 3) := dk_183 0 3 (dk_at dksX3_init_0 1 rfl rfl)
theorem dX3_init_4 : decode cX3_init 4 = .ok (.aload_n 0, 1) := dk_42 (dk_at dksX3_init_0 4 rfl rfl)
theorem dX3_init_5 : decode cX3_init 5 = .ok (.new 9, 3) := dk_187 0 9 (dk_at dksX3_init_0 5 rfl rfl)
theorem dX3_init_8 : decode cX3_init 8 = .ok (.dup, 1) := dk_89 (dk_at dksX3_init_0 8 rfl rfl)
theorem dX3_init_9 : decode cX3_init 9 = .ok (.invokespecial 11, 3) := dk_183 0 11 (dk_at dksX3_init_0 9 rfl rfl)
theorem dX3_init_12 : decode cX3_init 12 = .ok (.putfield 12, 3) := dk_181 0 12 (dk_at dksX3_init_0 12 rfl rfl)
theorem dX3_init_15 : decode cX3_init 15 = .ok (.aload_n 0, 1) := dk_42 (dk_at dksX3_init_0 15 rfl rfl)
theorem dX3_init_16 : decode cX3_init 16 = .ok (.iload_n 1, 1) := dk_27 (dk_at dksX3_init_0 16 rfl rfl)
theorem dX3_init_17 : decode cX3_init 17 = .ok (.putfield 18, 3) := dk_181 0 18 (dk_at dksX3_init_0 17 rfl rfl)
theorem dX3_init_20 : decode cX3_init 20 = .ok (.return_, 1) := dk_177 (dk_at dksX3_init_0 20 rfl rfl)
abbrev cX3_last : ByteArray := prog_12_method_2_code
def yX3_last : MethodName := ⟨RX3, "last", "()LLastbus$Call;"⟩
def dkwX3_last_0 : List UInt8 := [42, 180, 0, 12, 42, 180, 0, 12, 182, 0, 22, 4, 100, 182, 0, 26, 192, 0, 30, 176]
abbrev dktX3_last_0 : List UInt8 := dkwX3_last_0 ++ []
theorem dksX3_last_0 : cX3_last.data.toList.drop 0 = dktX3_last_0 := by decide +kernel
theorem dX3_last_0 : decode cX3_last 0 = .ok (.aload_n 0, 1) := dk_42 (dk_at dksX3_last_0 0 rfl rfl)
theorem dX3_last_1 : decode cX3_last 1 = .ok (.getfield 12, 3) := dk_180 0 12 (dk_at dksX3_last_0 1 rfl rfl)
theorem dX3_last_4 : decode cX3_last 4 = .ok (.aload_n 0, 1) := dk_42 (dk_at dksX3_last_0 4 rfl rfl)
theorem dX3_last_5 : decode cX3_last 5 = .ok (.getfield 12, 3) := dk_180 0 12 (dk_at dksX3_last_0 5 rfl rfl)
theorem dX3_last_8 : decode cX3_last 8 = .ok (.invokevirtual 22, 3) := dk_182 0 22 (dk_at dksX3_last_0 8 rfl rfl)
theorem dX3_last_11 : decode cX3_last 11 = .ok (.iconst 1, 1) := dk_4 (dk_at dksX3_last_0 11 rfl rfl)
theorem dX3_last_12 : decode cX3_last 12 = .ok (.isub, 1) := dk_100 (dk_at dksX3_last_0 12 rfl rfl)
theorem dX3_last_13 : decode cX3_last 13 = .ok (.invokevirtual 26, 3) := dk_182 0 26 (dk_at dksX3_last_0 13 rfl rfl)
theorem dX3_last_16 : decode cX3_last 16 = .ok (.checkcast 30, 3) := dk_192 0 30 (dk_at dksX3_last_0 16 rfl rfl)
theorem dX3_last_19 : decode cX3_last 19 = .ok (.areturn, 1) := dk_176 (dk_at dksX3_last_0 19 rfl rfl)
abbrev cX3_canShift : ByteArray := prog_12_method_4_code
def yX3_canShift : MethodName := ⟨RX3, "canShift", "(I)Z"⟩
def dkwX3_canShift_1 : List UInt8 := [182, 0, 64, 27, 96, 17, 11, 64, 162, 0, 7, 4, 167, 0, 4, 3, 172]
abbrev dktX3_canShift_1 : List UInt8 := dkwX3_canShift_1 ++ []
def dkwX3_canShift_0 : List UInt8 := [42, 180, 0, 12, 3, 182, 0, 26, 192, 0, 30, 182, 0, 57, 27, 96, 155, 0, 22, 42, 182, 0, 60]
abbrev dktX3_canShift_0 : List UInt8 := dkwX3_canShift_0 ++ dktX3_canShift_1
theorem dksX3_canShift_0 : cX3_canShift.data.toList.drop 0 = dktX3_canShift_0 := by decide +kernel
theorem dksX3_canShift_1 : cX3_canShift.data.toList.drop 23 = dktX3_canShift_1 := dk_seg dksX3_canShift_0 23 rfl rfl
theorem dX3_canShift_0 : decode cX3_canShift 0 = .ok (.aload_n 0, 1) := dk_42 (dk_at dksX3_canShift_0 0 rfl rfl)
theorem dX3_canShift_1 : decode cX3_canShift 1 = .ok (.getfield 12, 3) := dk_180 0 12 (dk_at dksX3_canShift_0 1 rfl rfl)
theorem dX3_canShift_4 : decode cX3_canShift 4 = .ok (.iconst 0, 1) := dk_3 (dk_at dksX3_canShift_0 4 rfl rfl)
theorem dX3_canShift_5 : decode cX3_canShift 5 = .ok (.invokevirtual 26, 3) := dk_182 0 26 (dk_at dksX3_canShift_0 5 rfl rfl)
theorem dX3_canShift_8 : decode cX3_canShift 8 = .ok (.checkcast 30, 3) := dk_192 0 30 (dk_at dksX3_canShift_0 8 rfl rfl)
theorem dX3_canShift_11 : decode cX3_canShift 11 = .ok (.invokevirtual 57, 3) := dk_182 0 57 (dk_at dksX3_canShift_0 11 rfl rfl)
theorem dX3_canShift_14 : decode cX3_canShift 14 = .ok (.iload_n 1, 1) := dk_27 (dk_at dksX3_canShift_0 14 rfl rfl)
theorem dX3_canShift_15 : decode cX3_canShift 15 = .ok (.iadd, 1) := dk_96 (dk_at dksX3_canShift_0 15 rfl rfl)
theorem dX3_canShift_16 : decode cX3_canShift 16 = .ok (.ifCond .lt 22, 3) := dk_155 0 22 (dk_at dksX3_canShift_0 16 rfl rfl)
theorem dX3_canShift_19 : decode cX3_canShift 19 = .ok (.aload_n 0, 1) := dk_42 (dk_at dksX3_canShift_0 19 rfl rfl)
theorem dX3_canShift_20 : decode cX3_canShift 20 = .ok (.invokevirtual 60, 3) := dk_182 0 60 (dk_at dksX3_canShift_0 20 rfl rfl)
theorem dX3_canShift_23 : decode cX3_canShift 23 = .ok (.invokevirtual 64, 3) := dk_182 0 64 (dk_at dksX3_canShift_1 0 rfl rfl)
theorem dX3_canShift_26 : decode cX3_canShift 26 = .ok (.iload_n 1, 1) := dk_27 (dk_at dksX3_canShift_1 3 rfl rfl)
theorem dX3_canShift_27 : decode cX3_canShift 27 = .ok (.iadd, 1) := dk_96 (dk_at dksX3_canShift_1 4 rfl rfl)
theorem dX3_canShift_28 : decode cX3_canShift 28 = .ok (.sipush 2880, 3) := dk_17 11 64 (dk_at dksX3_canShift_1 5 rfl rfl)
theorem dX3_canShift_31 : decode cX3_canShift 31 = .ok (.if_icmp .ge 7, 3) := dk_162 0 7 (dk_at dksX3_canShift_1 8 rfl rfl)
theorem dX3_canShift_34 : decode cX3_canShift 34 = .ok (.iconst 1, 1) := dk_4 (dk_at dksX3_canShift_1 11 rfl rfl)
theorem dX3_canShift_35 : decode cX3_canShift 35 = .ok (.goto 4, 3) := dk_167 0 4 (dk_at dksX3_canShift_1 12 rfl rfl)
theorem dX3_canShift_38 : decode cX3_canShift 38 = .ok (.iconst 0, 1) := dk_3 (dk_at dksX3_canShift_1 15 rfl rfl)
theorem dX3_canShift_39 : decode cX3_canShift 39 = .ok (.ireturn, 1) := dk_172 (dk_at dksX3_canShift_1 16 rfl rfl)
abbrev cX3_shifted : ByteArray := prog_12_method_3_code
def yX3_shifted : MethodName := ⟨RX3, "shifted", "(I)LLastbus$Trip;"⟩
def dkwX3_shifted_2 : List UInt8 := [25, 4, 27, 182, 0, 49, 182, 0, 53, 87, 167, 255, 222, 44, 176]
abbrev dktX3_shifted_2 : List UInt8 := dkwX3_shifted_2 ++ []
def dkwX3_shifted_1 : List UInt8 := [185, 0, 39, 1, 0, 153, 0, 31, 45, 185, 0, 45, 1, 0, 192, 0, 30, 58, 4, 44, 180, 0, 12]
abbrev dktX3_shifted_1 : List UInt8 := dkwX3_shifted_1 ++ dktX3_shifted_2
def dkwX3_shifted_0 : List UInt8 := [187, 0, 13, 89, 42, 180, 0, 18, 183, 0, 32, 77, 42, 180, 0, 12, 182, 0, 35, 78, 45]
abbrev dktX3_shifted_0 : List UInt8 := dkwX3_shifted_0 ++ dktX3_shifted_1
theorem dksX3_shifted_0 : cX3_shifted.data.toList.drop 0 = dktX3_shifted_0 := by decide +kernel
theorem dksX3_shifted_1 : cX3_shifted.data.toList.drop 21 = dktX3_shifted_1 := dk_seg dksX3_shifted_0 21 rfl rfl
theorem dksX3_shifted_2 : cX3_shifted.data.toList.drop 44 = dktX3_shifted_2 := dk_seg dksX3_shifted_1 23 rfl rfl
theorem dX3_shifted_0 : decode cX3_shifted 0 = .ok (.new 13, 3) := dk_187 0 13 (dk_at dksX3_shifted_0 0 rfl rfl)
theorem dX3_shifted_3 : decode cX3_shifted 3 = .ok (.dup, 1) := dk_89 (dk_at dksX3_shifted_0 3 rfl rfl)
theorem dX3_shifted_4 : decode cX3_shifted 4 = .ok (.aload_n 0, 1) := dk_42 (dk_at dksX3_shifted_0 4 rfl rfl)
theorem dX3_shifted_5 : decode cX3_shifted 5 = .ok (.getfield 18, 3) := dk_180 0 18 (dk_at dksX3_shifted_0 5 rfl rfl)
theorem dX3_shifted_8 : decode cX3_shifted 8 = .ok (.invokespecial 32, 3) := dk_183 0 32 (dk_at dksX3_shifted_0 8 rfl rfl)
theorem dX3_shifted_11 : decode cX3_shifted 11 = .ok (.astore_n 2, 1) := dk_77 (dk_at dksX3_shifted_0 11 rfl rfl)
theorem dX3_shifted_12 : decode cX3_shifted 12 = .ok (.aload_n 0, 1) := dk_42 (dk_at dksX3_shifted_0 12 rfl rfl)
theorem dX3_shifted_13 : decode cX3_shifted 13 = .ok (.getfield 12, 3) := dk_180 0 12 (dk_at dksX3_shifted_0 13 rfl rfl)
theorem dX3_shifted_16 : decode cX3_shifted 16 = .ok (.invokevirtual 35, 3) := dk_182 0 35 (dk_at dksX3_shifted_0 16 rfl rfl)
theorem dX3_shifted_19 : decode cX3_shifted 19 = .ok (.astore_n 3, 1) := dk_78 (dk_at dksX3_shifted_0 19 rfl rfl)
theorem dX3_shifted_20 : decode cX3_shifted 20 = .ok (.aload_n 3, 1) := dk_45 (dk_at dksX3_shifted_0 20 rfl rfl)
theorem dX3_shifted_21 : decode cX3_shifted 21 = .ok (.invokeinterface 39 1, 5) := by decide +kernel
theorem dX3_shifted_26 : decode cX3_shifted 26 = .ok (.ifCond .eq 31, 3) := dk_153 0 31 (dk_at dksX3_shifted_1 5 rfl rfl)
theorem dX3_shifted_29 : decode cX3_shifted 29 = .ok (.aload_n 3, 1) := dk_45 (dk_at dksX3_shifted_1 8 rfl rfl)
theorem dX3_shifted_30 : decode cX3_shifted 30 = .ok (.invokeinterface 45 1, 5) := by decide +kernel
theorem dX3_shifted_35 : decode cX3_shifted 35 = .ok (.checkcast 30, 3) := dk_192 0 30 (dk_at dksX3_shifted_1 14 rfl rfl)
theorem dX3_shifted_38 : decode cX3_shifted 38 = .ok (.astore 4, 2) := dk_58 4 (dk_at dksX3_shifted_1 17 rfl rfl)
theorem dX3_shifted_40 : decode cX3_shifted 40 = .ok (.aload_n 2, 1) := dk_44 (dk_at dksX3_shifted_1 19 rfl rfl)
theorem dX3_shifted_41 : decode cX3_shifted 41 = .ok (.getfield 12, 3) := dk_180 0 12 (dk_at dksX3_shifted_1 20 rfl rfl)
theorem dX3_shifted_44 : decode cX3_shifted 44 = .ok (.aload 4, 2) := dk_25 4 (dk_at dksX3_shifted_2 0 rfl rfl)
theorem dX3_shifted_46 : decode cX3_shifted 46 = .ok (.iload_n 1, 1) := dk_27 (dk_at dksX3_shifted_2 2 rfl rfl)
theorem dX3_shifted_47 : decode cX3_shifted 47 = .ok (.invokevirtual 49, 3) := dk_182 0 49 (dk_at dksX3_shifted_2 3 rfl rfl)
theorem dX3_shifted_50 : decode cX3_shifted 50 = .ok (.invokevirtual 53, 3) := dk_182 0 53 (dk_at dksX3_shifted_2 6 rfl rfl)
theorem dX3_shifted_53 : decode cX3_shifted 53 = .ok (.pop, 1) := dk_87 (dk_at dksX3_shifted_2 9 rfl rfl)
theorem dX3_shifted_54 : decode cX3_shifted 54 = .ok (.goto (-34), 3) := dk_167 255 222 (dk_at dksX3_shifted_2 10 rfl rfl)
theorem dX3_shifted_57 : decode cX3_shifted 57 = .ok (.aload_n 2, 1) := dk_44 (dk_at dksX3_shifted_2 13 rfl rfl)
theorem dX3_shifted_58 : decode cX3_shifted 58 = .ok (.areturn, 1) := dk_176 (dk_at dksX3_shifted_2 14 rfl rfl)
theorem q153 : (Jvm.Cond.initialized "Lastbus$Trip") ∈ lw_all := lw_g (lw_at lw_m1 31 rfl) rfl
theorem q987 : (Jvm.Cond.selects "Lastbus$Trip" ({ cls := "java/lang/Object", name := "getClass", desc := "()Ljava/lang/Class;" } : Jvm.MethodName) ({ cls := "java/lang/Object", name := "getClass", desc := "()Ljava/lang/Class;" } : Jvm.MethodName)) ∈ lw_all := lw_g (lw_at lw_m4 145 rfl) rfl
theorem q1135 : (Jvm.Cond.instantiable "Lastbus$Trip" (2 : Nat)) ∈ lw_all := lw_g (lw_at lw_m5 53 rfl) rfl
theorem q1137 : (Jvm.Cond.instanceMethod ({ cls := "Lastbus$Trip", name := "<init>", desc := "(I)V" } : Jvm.MethodName)) ∈ lw_all := lw_g (lw_at lw_m5 55 rfl) rfl
theorem q1138 : (Jvm.Cond.code ({ cls := "Lastbus$Trip", name := "<init>", desc := "(I)V" } : Jvm.MethodName) prog_12_method_1_code (2 : Nat) (Option.none : Option Jvm.ClassFile.FieldType)) ∈ lw_all := lw_g (lw_at lw_m5 56 rfl) rfl
theorem q1139 : (Jvm.Cond.methodLink "Lastbus$Trip" (3 : Nat) ({ cls := "java/lang/Object", name := "<init>", desc := "()V" } : Jvm.MethodName)) ∈ lw_all := lw_g (lw_at lw_m5 57 rfl) rfl
theorem q1140 : (Jvm.Cond.classLink "Lastbus$Trip" (9 : Nat) "java/util/ArrayList") ∈ lw_all := lw_g (lw_at lw_m5 58 rfl) rfl
theorem q1141 : (Jvm.Cond.methodLink "Lastbus$Trip" (11 : Nat) ({ cls := "java/util/ArrayList", name := "<init>", desc := "()V" } : Jvm.MethodName)) ∈ lw_all := lw_g (lw_at lw_m5 59 rfl) rfl
theorem q1142 : (Jvm.Cond.fieldLink "Lastbus$Trip" (18 : Nat) "Lastbus$Trip" "service" "I") ∈ lw_all := lw_g (lw_at lw_m5 60 rfl) rfl
theorem q1144 : (Jvm.Cond.fieldLink "Lastbus$Trip" (12 : Nat) "Lastbus$Trip" "calls" "Ljava/util/ArrayList;") ∈ lw_all := lw_g (lw_at lw_m5 62 rfl) rfl
theorem q1147 : (Jvm.Cond.laysFinal "Lastbus$Trip" "Lastbus$Trip" "service" "I") ∈ lw_all := lw_g (lw_at lw_m5 65 rfl) rfl
theorem q1148 : (Jvm.Cond.soleField "Lastbus$Trip" "service") ∈ lw_all := lw_g (lw_at lw_m5 66 rfl) rfl
theorem q1149 : (Jvm.Cond.laysFinal "Lastbus$Trip" "Lastbus$Trip" "calls" "Ljava/util/ArrayList;") ∈ lw_all := lw_g (lw_at lw_m5 67 rfl) rfl
theorem q1150 : (Jvm.Cond.soleField "Lastbus$Trip" "calls") ∈ lw_all := lw_g (lw_at lw_m5 68 rfl) rfl
theorem q1151 : (Jvm.Cond.superclass "Lastbus$Trip" "java/lang/Object") ∈ lw_all := lw_g (lw_at lw_m5 69 rfl) rfl
theorem q1185 : (Jvm.Cond.instanceMethod ({ cls := "Lastbus$Trip", name := "last", desc := "()LLastbus$Call;" } : Jvm.MethodName)) ∈ lw_all := lw_g (lw_at lw_m5 103 rfl) rfl
theorem q1186 : (Jvm.Cond.selects "Lastbus$Trip" ({ cls := "Lastbus$Trip", name := "last", desc := "()LLastbus$Call;" } : Jvm.MethodName) ({ cls := "Lastbus$Trip", name := "last", desc := "()LLastbus$Call;" } : Jvm.MethodName)) ∈ lw_all := lw_g (lw_at lw_m5 104 rfl) rfl
theorem q1187 : (Jvm.Cond.code ({ cls := "Lastbus$Trip", name := "last", desc := "()LLastbus$Call;" } : Jvm.MethodName) prog_12_method_2_code (1 : Nat) (Option.some (Jvm.ClassFile.FieldType.object "Lastbus$Call"))) ∈ lw_all := lw_g (lw_at lw_m5 105 rfl) rfl
theorem q1188 : (Jvm.Cond.methodLink "Lastbus$Trip" (22 : Nat) ({ cls := "java/util/ArrayList", name := "size", desc := "()I" } : Jvm.MethodName)) ∈ lw_all := lw_g (lw_at lw_m5 106 rfl) rfl
theorem q1189 : (Jvm.Cond.methodLink "Lastbus$Trip" (26 : Nat) ({ cls := "java/util/ArrayList", name := "get", desc := "(I)Ljava/lang/Object;" } : Jvm.MethodName)) ∈ lw_all := lw_g (lw_at lw_m5 107 rfl) rfl
theorem q1190 : (Jvm.Cond.classLink "Lastbus$Trip" (30 : Nat) "Lastbus$Call") ∈ lw_all := lw_g (lw_at lw_m5 108 rfl) rfl
theorem q1224 : (Jvm.Cond.instanceMethod ({ cls := "Lastbus$Trip", name := "canShift", desc := "(I)Z" } : Jvm.MethodName)) ∈ lw_all := lw_g (lw_at lw_m5 142 rfl) rfl
theorem q1225 : (Jvm.Cond.selects "Lastbus$Trip" ({ cls := "Lastbus$Trip", name := "canShift", desc := "(I)Z" } : Jvm.MethodName) ({ cls := "Lastbus$Trip", name := "canShift", desc := "(I)Z" } : Jvm.MethodName)) ∈ lw_all := lw_g (lw_at lw_m5 143 rfl) rfl
theorem q1226 : (Jvm.Cond.code ({ cls := "Lastbus$Trip", name := "canShift", desc := "(I)Z" } : Jvm.MethodName) prog_12_method_4_code (2 : Nat) (Option.some Jvm.ClassFile.FieldType.boolean)) ∈ lw_all := lw_g (lw_at lw_m5 144 rfl) rfl
theorem q1227 : (Jvm.Cond.methodLink "Lastbus$Trip" (57 : Nat) ({ cls := "Lastbus$Call", name := "arrival", desc := "()I" } : Jvm.MethodName)) ∈ lw_all := lw_g (lw_at lw_m5 145 rfl) rfl
theorem q1228 : (Jvm.Cond.methodLink "Lastbus$Trip" (60 : Nat) ({ cls := "Lastbus$Trip", name := "last", desc := "()LLastbus$Call;" } : Jvm.MethodName)) ∈ lw_all := lw_g (lw_at lw_m5 146 rfl) rfl
theorem q1229 : (Jvm.Cond.methodLink "Lastbus$Trip" (64 : Nat) ({ cls := "Lastbus$Call", name := "departure", desc := "()I" } : Jvm.MethodName)) ∈ lw_all := lw_g (lw_at lw_m5 147 rfl) rfl
theorem q1231 : (Jvm.Cond.instanceMethod ({ cls := "Lastbus$Trip", name := "shifted", desc := "(I)LLastbus$Trip;" } : Jvm.MethodName)) ∈ lw_all := lw_g (lw_at lw_m5 149 rfl) rfl
theorem q1232 : (Jvm.Cond.selects "Lastbus$Trip" ({ cls := "Lastbus$Trip", name := "shifted", desc := "(I)LLastbus$Trip;" } : Jvm.MethodName) ({ cls := "Lastbus$Trip", name := "shifted", desc := "(I)LLastbus$Trip;" } : Jvm.MethodName)) ∈ lw_all := lw_g (lw_at lw_m5 150 rfl) rfl
theorem q1233 : (Jvm.Cond.code ({ cls := "Lastbus$Trip", name := "shifted", desc := "(I)LLastbus$Trip;" } : Jvm.MethodName) prog_12_method_3_code (5 : Nat) (Option.some (Jvm.ClassFile.FieldType.object "Lastbus$Trip"))) ∈ lw_all := lw_g (lw_at lw_m5 151 rfl) rfl
theorem q1234 : (Jvm.Cond.classLink "Lastbus$Trip" (13 : Nat) "Lastbus$Trip") ∈ lw_all := lw_g (lw_at lw_m5 152 rfl) rfl
theorem q1235 : (Jvm.Cond.methodLink "Lastbus$Trip" (32 : Nat) ({ cls := "Lastbus$Trip", name := "<init>", desc := "(I)V" } : Jvm.MethodName)) ∈ lw_all := lw_g (lw_at lw_m5 153 rfl) rfl
theorem q1236 : (Jvm.Cond.methodLink "Lastbus$Trip" (35 : Nat) ({ cls := "java/util/ArrayList", name := "iterator", desc := "()Ljava/util/Iterator;" } : Jvm.MethodName)) ∈ lw_all := lw_g (lw_at lw_m5 154 rfl) rfl
theorem q1237 : (Jvm.Cond.interfaceEntry "Lastbus$Trip" (39 : Nat)) ∈ lw_tbl := lw_at lw_m5 155 rfl
theorem q1238 : (Jvm.Cond.methodLink "Lastbus$Trip" (39 : Nat) ({ cls := "java/util/Iterator", name := "hasNext", desc := "()Z" } : Jvm.MethodName)) ∈ lw_all := lw_g (lw_at lw_m5 156 rfl) rfl
theorem q1239 : (Jvm.Cond.interfaceEntry "Lastbus$Trip" (45 : Nat)) ∈ lw_tbl := lw_at lw_m5 157 rfl
theorem q1240 : (Jvm.Cond.methodLink "Lastbus$Trip" (45 : Nat) ({ cls := "java/util/Iterator", name := "next", desc := "()Ljava/lang/Object;" } : Jvm.MethodName)) ∈ lw_all := lw_g (lw_at lw_m5 158 rfl) rfl
theorem q1241 : (Jvm.Cond.methodLink "Lastbus$Trip" (49 : Nat) ({ cls := "Lastbus$Call", name := "shifted", desc := "(I)LLastbus$Call;" } : Jvm.MethodName)) ∈ lw_all := lw_g (lw_at lw_m5 159 rfl) rfl
theorem q1247 : (Jvm.Cond.methodLink "Lastbus$Trip" (53 : Nat) ({ cls := "java/util/ArrayList", name := "add", desc := "(Ljava/lang/Object;)Z" } : Jvm.MethodName)) ∈ lw_all := lw_g (lw_at lw_m5 165 rfl) rfl
theorem q3683 : (Jvm.Cond.castable "Lastbus$Trip" "java/lang/Object") ∈ lw_tbl := lw_at lw_m15 201 rfl
theorem in_X3 : ∀ w ∈ wsX30, w ∈ lw_all := lw_in wsX30 [1147, 1149] (by decide +kernel) (by decide +kernel)
/-! Lastbus$Call -/
set_option maxRecDepth 100000
def RX4 : String := "Lastbus$Call"
def TX4 : u_T := fun k => match k with
  | 0 => ("Lastbus$Call", "stop", "I", true)
  | 1 => ("Lastbus$Call", "arrival", "I", true)
  | _ => ("Lastbus$Call", "departure", "I", true)
def tyX4 : Nat → FieldType := fun k => match k with
  | 0 => .int
  | 1 => .int
  | _ => .int
abbrev wsX40 : List Cond := u_ws RX4 TX4 3
theorem nmX4 : ∀ a, a < 3 → ∀ b, b < 3 → a ≠ b → (TX4 a).2.1 ≠ (TX4 b).2.1 := by decide +kernel
theorem tyX4_ok : ∀ k, k < 3 → parseFieldDescriptor (TX4 k).2.2.1 = some (tyX4 k) := by decide +kernel
abbrev cX4_stop : ByteArray := prog_2_method_6_code
def yX4_stop : MethodName := ⟨RX4, "stop", "()I"⟩
theorem dX4_stop_0 : decode cX4_stop 0 = .ok (.aload_n 0, 1) := by decide +kernel
theorem dX4_stop_1 : decode cX4_stop 1 = .ok (.getfield 7, 3) := by decide +kernel
theorem dX4_stop_4 : decode cX4_stop 4 = .ok (.ireturn, 1) := by decide +kernel
abbrev cX4_arrival : ByteArray := prog_2_method_7_code
def yX4_arrival : MethodName := ⟨RX4, "arrival", "()I"⟩
theorem dX4_arrival_0 : decode cX4_arrival 0 = .ok (.aload_n 0, 1) := by decide +kernel
theorem dX4_arrival_1 : decode cX4_arrival 1 = .ok (.getfield 13, 3) := by decide +kernel
theorem dX4_arrival_4 : decode cX4_arrival 4 = .ok (.ireturn, 1) := by decide +kernel
abbrev cX4_departure : ByteArray := prog_2_method_8_code
def yX4_departure : MethodName := ⟨RX4, "departure", "()I"⟩
theorem dX4_departure_0 : decode cX4_departure 0 = .ok (.aload_n 0, 1) := by decide +kernel
theorem dX4_departure_1 : decode cX4_departure 1 = .ok (.getfield 16, 3) := by decide +kernel
theorem dX4_departure_4 : decode cX4_departure 4 = .ok (.ireturn, 1) := by decide +kernel
abbrev cX4_init : ByteArray := prog_2_method_1_code
def yX4_init : MethodName := ⟨RX4, "<init>", "(III)V"⟩
def dkwX4_init_0 : List UInt8 := [42, 183, 0, 1, 42, 27, 181, 0, 7, 42, 28, 181, 0, 13, 42, 29, 181, 0, 16, 177]
abbrev dktX4_init_0 : List UInt8 := dkwX4_init_0 ++ []
theorem dksX4_init_0 : cX4_init.data.toList.drop 0 = dktX4_init_0 := by decide +kernel
theorem dX4_init_0 : decode cX4_init 0 = .ok (.aload_n 0, 1) := dk_42 (dk_at dksX4_init_0 0 rfl rfl)
theorem dX4_init_1 : decode cX4_init 1 = .ok (.invokespecial 1, 3) := dk_183 0 1 (dk_at dksX4_init_0 1 rfl rfl)
theorem dX4_init_4 : decode cX4_init 4 = .ok (.aload_n 0, 1) := dk_42 (dk_at dksX4_init_0 4 rfl rfl)
theorem dX4_init_5 : decode cX4_init 5 = .ok (.iload_n 1, 1) := dk_27 (dk_at dksX4_init_0 5 rfl rfl)
theorem dX4_init_6 : decode cX4_init 6 = .ok (.putfield 7, 3) := dk_181 0 7 (dk_at dksX4_init_0 6 rfl rfl)
theorem dX4_init_9 : decode cX4_init 9 = .ok (.aload_n 0, 1) := dk_42 (dk_at dksX4_init_0 9 rfl rfl)
theorem dX4_init_10 : decode cX4_init 10 = .ok (.iload_n 2, 1) := dk_28 (dk_at dksX4_init_0 10 rfl rfl)
theorem dX4_init_11 : decode cX4_init 11 = .ok (.putfield 13, 3) := dk_181 0 13 (dk_at dksX4_init_0 11 rfl rfl)
theorem dX4_init_14 : decode cX4_init 14 = .ok (.aload_n 0, 1) := dk_42 (dk_at dksX4_init_0 14 rfl rfl)
theorem dX4_init_15 : decode cX4_init 15 = .ok (.iload_n 3, 1) := dk_29 (dk_at dksX4_init_0 15 rfl rfl)
theorem dX4_init_16 : decode cX4_init 16 = .ok (.putfield 16, 3) := dk_181 0 16 (dk_at dksX4_init_0 16 rfl rfl)
theorem dX4_init_19 : decode cX4_init 19 = .ok (.return_, 1) := dk_177 (dk_at dksX4_init_0 19 rfl rfl)
abbrev cX4_shifted : ByteArray := prog_2_method_2_code
def yX4_shifted : MethodName := ⟨RX4, "shifted", "(I)LLastbus$Call;"⟩
def dkwX4_shifted_0 : List UInt8 := [187, 0, 8, 89, 42, 180, 0, 7, 42, 180, 0, 13, 27, 96, 42, 180, 0, 16, 27, 96, 183, 0, 19, 176]
abbrev dktX4_shifted_0 : List UInt8 := dkwX4_shifted_0 ++ []
theorem dksX4_shifted_0 : cX4_shifted.data.toList.drop 0 = dktX4_shifted_0 := by decide +kernel
theorem dX4_shifted_0 : decode cX4_shifted 0 = .ok (.new 8, 3) := dk_187 0 8 (dk_at dksX4_shifted_0 0 rfl rfl)
theorem dX4_shifted_3 : decode cX4_shifted 3 = .ok (.dup, 1) := dk_89 (dk_at dksX4_shifted_0 3 rfl rfl)
theorem dX4_shifted_4 : decode cX4_shifted 4 = .ok (.aload_n 0, 1) := dk_42 (dk_at dksX4_shifted_0 4 rfl rfl)
theorem dX4_shifted_5 : decode cX4_shifted 5 = .ok (.getfield 7, 3) := dk_180 0 7 (dk_at dksX4_shifted_0 5 rfl rfl)
theorem dX4_shifted_8 : decode cX4_shifted 8 = .ok (.aload_n 0, 1) := dk_42 (dk_at dksX4_shifted_0 8 rfl rfl)
theorem dX4_shifted_9 : decode cX4_shifted 9 = .ok (.getfield 13, 3) := dk_180 0 13 (dk_at dksX4_shifted_0 9 rfl rfl)
theorem dX4_shifted_12 : decode cX4_shifted 12 = .ok (.iload_n 1, 1) := dk_27 (dk_at dksX4_shifted_0 12 rfl rfl)
theorem dX4_shifted_13 : decode cX4_shifted 13 = .ok (.iadd, 1) := dk_96 (dk_at dksX4_shifted_0 13 rfl rfl)
theorem dX4_shifted_14 : decode cX4_shifted 14 = .ok (.aload_n 0, 1) := dk_42 (dk_at dksX4_shifted_0 14 rfl rfl)
theorem dX4_shifted_15 : decode cX4_shifted 15 = .ok (.getfield 16, 3) := dk_180 0 16 (dk_at dksX4_shifted_0 15 rfl rfl)
theorem dX4_shifted_18 : decode cX4_shifted 18 = .ok (.iload_n 1, 1) := dk_27 (dk_at dksX4_shifted_0 18 rfl rfl)
theorem dX4_shifted_19 : decode cX4_shifted 19 = .ok (.iadd, 1) := dk_96 (dk_at dksX4_shifted_0 19 rfl rfl)
theorem dX4_shifted_20 : decode cX4_shifted 20 = .ok (.invokespecial 19, 3) := dk_183 0 19 (dk_at dksX4_shifted_0 20 rfl rfl)
theorem dX4_shifted_23 : decode cX4_shifted 23 = .ok (.areturn, 1) := dk_176 (dk_at dksX4_shifted_0 23 rfl rfl)
theorem q155 : (Jvm.Cond.initialized "Lastbus$Call") ∈ lw_all := lw_g (lw_at lw_m1 33 rfl) rfl
theorem q797 : (Jvm.Cond.instanceMethod ({ cls := "Lastbus$Call", name := "stop", desc := "()I" } : Jvm.MethodName)) ∈ lw_all := lw_g (lw_at lw_m3 195 rfl) rfl
theorem q798 : (Jvm.Cond.selects "Lastbus$Call" ({ cls := "Lastbus$Call", name := "stop", desc := "()I" } : Jvm.MethodName) ({ cls := "Lastbus$Call", name := "stop", desc := "()I" } : Jvm.MethodName)) ∈ lw_all := lw_g (lw_at lw_m3 196 rfl) rfl
theorem q799 : (Jvm.Cond.code ({ cls := "Lastbus$Call", name := "stop", desc := "()I" } : Jvm.MethodName) prog_2_method_6_code (1 : Nat) (Option.some Jvm.ClassFile.FieldType.int)) ∈ lw_all := lw_g (lw_at lw_m3 197 rfl) rfl
theorem q801 : (Jvm.Cond.instanceMethod ({ cls := "Lastbus$Call", name := "arrival", desc := "()I" } : Jvm.MethodName)) ∈ lw_all := lw_g (lw_at lw_m3 199 rfl) rfl
theorem q802 : (Jvm.Cond.selects "Lastbus$Call" ({ cls := "Lastbus$Call", name := "arrival", desc := "()I" } : Jvm.MethodName) ({ cls := "Lastbus$Call", name := "arrival", desc := "()I" } : Jvm.MethodName)) ∈ lw_all := lw_g (lw_at lw_m3 200 rfl) rfl
theorem q803 : (Jvm.Cond.code ({ cls := "Lastbus$Call", name := "arrival", desc := "()I" } : Jvm.MethodName) prog_2_method_7_code (1 : Nat) (Option.some Jvm.ClassFile.FieldType.int)) ∈ lw_all := lw_g (lw_at lw_m3 201 rfl) rfl
theorem q805 : (Jvm.Cond.instanceMethod ({ cls := "Lastbus$Call", name := "departure", desc := "()I" } : Jvm.MethodName)) ∈ lw_all := lw_g (lw_at lw_m3 203 rfl) rfl
theorem q806 : (Jvm.Cond.selects "Lastbus$Call" ({ cls := "Lastbus$Call", name := "departure", desc := "()I" } : Jvm.MethodName) ({ cls := "Lastbus$Call", name := "departure", desc := "()I" } : Jvm.MethodName)) ∈ lw_all := lw_g (lw_at lw_m3 204 rfl) rfl
theorem q807 : (Jvm.Cond.code ({ cls := "Lastbus$Call", name := "departure", desc := "()I" } : Jvm.MethodName) prog_2_method_8_code (1 : Nat) (Option.some Jvm.ClassFile.FieldType.int)) ∈ lw_all := lw_g (lw_at lw_m3 205 rfl) rfl
theorem q977 : (Jvm.Cond.selects "Lastbus$Call" ({ cls := "java/lang/Object", name := "getClass", desc := "()Ljava/lang/Class;" } : Jvm.MethodName) ({ cls := "java/lang/Object", name := "getClass", desc := "()Ljava/lang/Class;" } : Jvm.MethodName)) ∈ lw_all := lw_g (lw_at lw_m4 135 rfl) rfl
theorem q1152 : (Jvm.Cond.instantiable "Lastbus$Call" (3 : Nat)) ∈ lw_all := lw_g (lw_at lw_m5 70 rfl) rfl
theorem q1154 : (Jvm.Cond.instanceMethod ({ cls := "Lastbus$Call", name := "<init>", desc := "(III)V" } : Jvm.MethodName)) ∈ lw_all := lw_g (lw_at lw_m5 72 rfl) rfl
theorem q1155 : (Jvm.Cond.code ({ cls := "Lastbus$Call", name := "<init>", desc := "(III)V" } : Jvm.MethodName) prog_2_method_1_code (4 : Nat) (Option.none : Option Jvm.ClassFile.FieldType)) ∈ lw_all := lw_g (lw_at lw_m5 73 rfl) rfl
theorem q1156 : (Jvm.Cond.methodLink "Lastbus$Call" (1 : Nat) ({ cls := "java/lang/Record", name := "<init>", desc := "()V" } : Jvm.MethodName)) ∈ lw_all := lw_g (lw_at lw_m5 74 rfl) rfl
theorem q1160 : (Jvm.Cond.fieldLink "Lastbus$Call" (7 : Nat) "Lastbus$Call" "stop" "I") ∈ lw_all := lw_g (lw_at lw_m5 78 rfl) rfl
theorem q1161 : (Jvm.Cond.fieldLink "Lastbus$Call" (13 : Nat) "Lastbus$Call" "arrival" "I") ∈ lw_all := lw_g (lw_at lw_m5 79 rfl) rfl
theorem q1162 : (Jvm.Cond.fieldLink "Lastbus$Call" (16 : Nat) "Lastbus$Call" "departure" "I") ∈ lw_all := lw_g (lw_at lw_m5 80 rfl) rfl
theorem q1163 : (Jvm.Cond.laysFinal "Lastbus$Call" "Lastbus$Call" "stop" "I") ∈ lw_all := lw_g (lw_at lw_m5 81 rfl) rfl
theorem q1164 : (Jvm.Cond.soleField "Lastbus$Call" "stop") ∈ lw_all := lw_g (lw_at lw_m5 82 rfl) rfl
theorem q1165 : (Jvm.Cond.laysFinal "Lastbus$Call" "Lastbus$Call" "arrival" "I") ∈ lw_all := lw_g (lw_at lw_m5 83 rfl) rfl
theorem q1166 : (Jvm.Cond.soleField "Lastbus$Call" "arrival") ∈ lw_all := lw_g (lw_at lw_m5 84 rfl) rfl
theorem q1167 : (Jvm.Cond.laysFinal "Lastbus$Call" "Lastbus$Call" "departure" "I") ∈ lw_all := lw_g (lw_at lw_m5 85 rfl) rfl
theorem q1168 : (Jvm.Cond.soleField "Lastbus$Call" "departure") ∈ lw_all := lw_g (lw_at lw_m5 86 rfl) rfl
theorem q1169 : (Jvm.Cond.superclass "Lastbus$Call" "java/lang/Record") ∈ lw_all := lw_g (lw_at lw_m5 87 rfl) rfl
theorem q1242 : (Jvm.Cond.instanceMethod ({ cls := "Lastbus$Call", name := "shifted", desc := "(I)LLastbus$Call;" } : Jvm.MethodName)) ∈ lw_all := lw_g (lw_at lw_m5 160 rfl) rfl
theorem q1243 : (Jvm.Cond.selects "Lastbus$Call" ({ cls := "Lastbus$Call", name := "shifted", desc := "(I)LLastbus$Call;" } : Jvm.MethodName) ({ cls := "Lastbus$Call", name := "shifted", desc := "(I)LLastbus$Call;" } : Jvm.MethodName)) ∈ lw_all := lw_g (lw_at lw_m5 161 rfl) rfl
theorem q1244 : (Jvm.Cond.code ({ cls := "Lastbus$Call", name := "shifted", desc := "(I)LLastbus$Call;" } : Jvm.MethodName) prog_2_method_2_code (2 : Nat) (Option.some (Jvm.ClassFile.FieldType.object "Lastbus$Call"))) ∈ lw_all := lw_g (lw_at lw_m5 162 rfl) rfl
theorem q1245 : (Jvm.Cond.classLink "Lastbus$Call" (8 : Nat) "Lastbus$Call") ∈ lw_all := lw_g (lw_at lw_m5 163 rfl) rfl
theorem q1246 : (Jvm.Cond.methodLink "Lastbus$Call" (19 : Nat) ({ cls := "Lastbus$Call", name := "<init>", desc := "(III)V" } : Jvm.MethodName)) ∈ lw_all := lw_g (lw_at lw_m5 164 rfl) rfl
theorem q3684 : (Jvm.Cond.castable "Lastbus$Call" "java/lang/Object") ∈ lw_tbl := lw_at lw_m15 202 rfl
theorem in_X4 : ∀ w ∈ wsX40, w ∈ lw_all := lw_in wsX40 [1163, 1165, 1167] (by decide +kernel) (by decide +kernel)
/-! Lastbus$Reader -/
set_option maxRecDepth 100000
def RX5 : String := "Lastbus$Reader"
def TX5 : u_T := fun k => match k with
  | 0 => ("Lastbus$Reader", "row", "Ljava/lang/String;", true)
  | 1 => ("Lastbus$Reader", "at", "I", false)
  | _ => ("Lastbus$Reader", "numbers", "Ljava/util/ArrayDeque;", true)
def tyX5 : Nat → FieldType := fun k => match k with
  | 0 => .object "java/lang/String"
  | 1 => .int
  | _ => .object "java/util/ArrayDeque"
abbrev wsX50 : List Cond := u_ws RX5 TX5 3
theorem nmX5 : ∀ a, a < 3 → ∀ b, b < 3 → a ≠ b → (TX5 a).2.1 ≠ (TX5 b).2.1 := by decide +kernel
theorem tyX5_ok : ∀ k, k < 3 → parseFieldDescriptor (TX5 k).2.2.1 = some (tyX5 k) := by decide +kernel
abbrev cX5_init : ByteArray := prog_9_method_1_code
def yX5_init : MethodName := ⟨RX5, "<init>", "(Ljava/lang/String;)V"⟩
def dkwX5_init_0 : List UInt8 := [42, 183, 0, 1, 42, 187, 0, 7, 89, 183, 0, 9, 181, 0, 10, 42, 43, 181, 0, 16, 177]
abbrev dktX5_init_0 : List UInt8 := dkwX5_init_0 ++ []
theorem dksX5_init_0 : cX5_init.data.toList.drop 0 = dktX5_init_0 := by decide +kernel
theorem dX5_init_0 : decode cX5_init 0 = .ok (.aload_n 0, 1) := dk_42 (dk_at dksX5_init_0 0 rfl rfl)
theorem dX5_init_1 : decode cX5_init 1 = .ok (.invokespecial 1, 3) := dk_183 0 1 (dk_at dksX5_init_0 1 rfl rfl)
theorem dX5_init_4 : decode cX5_init 4 = .ok (.aload_n 0, 1) := dk_42 (dk_at dksX5_init_0 4 rfl rfl)
theorem dX5_init_5 : decode cX5_init 5 = .ok (.new 7, 3) := dk_187 0 7 (dk_at dksX5_init_0 5 rfl rfl)
theorem dX5_init_8 : decode cX5_init 8 = .ok (.dup, 1) := dk_89 (dk_at dksX5_init_0 8 rfl rfl)
theorem dX5_init_9 : decode cX5_init 9 = .ok (.invokespecial 9, 3) := dk_183 0 9 (dk_at dksX5_init_0 9 rfl rfl)
theorem dX5_init_12 : decode cX5_init 12 = .ok (.putfield 10, 3) := dk_181 0 10 (dk_at dksX5_init_0 12 rfl rfl)
theorem dX5_init_15 : decode cX5_init 15 = .ok (.aload_n 0, 1) := dk_42 (dk_at dksX5_init_0 15 rfl rfl)
theorem dX5_init_16 : decode cX5_init 16 = .ok (.aload_n 1, 1) := dk_43 (dk_at dksX5_init_0 16 rfl rfl)
theorem dX5_init_17 : decode cX5_init 17 = .ok (.putfield 16, 3) := dk_181 0 16 (dk_at dksX5_init_0 17 rfl rfl)
theorem dX5_init_20 : decode cX5_init 20 = .ok (.return_, 1) := dk_177 (dk_at dksX5_init_0 20 rfl rfl)
abbrev cX5_read : ByteArray := prog_9_method_6_code
def yX5_read : MethodName := ⟨RX5, "read", "()Ljava/util/ArrayDeque;"⟩
def dkwX5_read_7 : List UInt8 := [184, 0, 50, 182, 0, 56, 167, 255, 153, 42, 180, 0, 10, 176]
abbrev dktX5_read_7 : List UInt8 := dkwX5_read_7 ++ []
def dkwX5_read_6 : List UInt8 := [167, 0, 4, 3, 96, 181, 0, 20, 42, 180, 0, 10, 29, 153, 0, 10, 42, 182, 0, 47, 167, 0, 4, 28]
abbrev dktX5_read_6 : List UInt8 := dkwX5_read_6 ++ dktX5_read_7
def dkwX5_read_5 : List UInt8 := [28, 184, 0, 50, 182, 0, 56, 42, 16, 45, 182, 0, 34, 62, 42, 89, 180, 0, 20, 29, 153, 0, 7, 4]
abbrev dktX5_read_5 : List UInt8 := dkwX5_read_5 ++ dktX5_read_6
def dkwX5_read_4 : List UInt8 := [182, 0, 47, 184, 0, 50, 182, 0, 56, 42, 16, 64, 182, 0, 60, 42, 182, 0, 47, 61, 42, 180, 0, 10]
abbrev dktX5_read_4 : List UInt8 := dkwX5_read_4 ++ dktX5_read_5
def dkwX5_read_3 : List UInt8 := [180, 0, 20, 42, 180, 0, 16, 182, 0, 24, 162, 0, 95, 42, 16, 44, 182, 0, 60, 42, 180, 0, 10, 42]
abbrev dktX5_read_3 : List UInt8 := dkwX5_read_3 ++ dktX5_read_4
def dkwX5_read_2 : List UInt8 := [180, 0, 10, 27, 184, 0, 50, 182, 0, 56, 42, 180, 0, 10, 27, 184, 0, 50, 182, 0, 56, 42]
abbrev dktX5_read_2 : List UInt8 := dkwX5_read_2 ++ dktX5_read_3
def dkwX5_read_1 : List UInt8 := [42, 182, 0, 47, 184, 0, 50, 182, 0, 56, 42, 16, 64, 182, 0, 60, 42, 182, 0, 47, 60, 42]
abbrev dktX5_read_1 : List UInt8 := dkwX5_read_1 ++ dktX5_read_2
def dkwX5_read_0 : List UInt8 := [42, 180, 0, 10, 42, 182, 0, 47, 184, 0, 50, 182, 0, 56, 42, 16, 58, 182, 0, 60, 42, 180, 0, 10]
abbrev dktX5_read_0 : List UInt8 := dkwX5_read_0 ++ dktX5_read_1
theorem dksX5_read_0 : cX5_read.data.toList.drop 0 = dktX5_read_0 := by decide +kernel
theorem dksX5_read_1 : cX5_read.data.toList.drop 24 = dktX5_read_1 := dk_seg dksX5_read_0 24 rfl rfl
theorem dksX5_read_2 : cX5_read.data.toList.drop 46 = dktX5_read_2 := dk_seg dksX5_read_1 22 rfl rfl
theorem dksX5_read_3 : cX5_read.data.toList.drop 68 = dktX5_read_3 := dk_seg dksX5_read_2 22 rfl rfl
theorem dksX5_read_4 : cX5_read.data.toList.drop 92 = dktX5_read_4 := dk_seg dksX5_read_3 24 rfl rfl
theorem dksX5_read_5 : cX5_read.data.toList.drop 116 = dktX5_read_5 := dk_seg dksX5_read_4 24 rfl rfl
theorem dksX5_read_6 : cX5_read.data.toList.drop 140 = dktX5_read_6 := dk_seg dksX5_read_5 24 rfl rfl
theorem dksX5_read_7 : cX5_read.data.toList.drop 164 = dktX5_read_7 := dk_seg dksX5_read_6 24 rfl rfl
theorem dX5_read_0 : decode cX5_read 0 = .ok (.aload_n 0, 1) := dk_42 (dk_at dksX5_read_0 0 rfl rfl)
theorem dX5_read_1 : decode cX5_read 1 = .ok (.getfield 10, 3) := dk_180 0 10 (dk_at dksX5_read_0 1 rfl rfl)
theorem dX5_read_4 : decode cX5_read 4 = .ok (.aload_n 0, 1) := dk_42 (dk_at dksX5_read_0 4 rfl rfl)
theorem dX5_read_5 : decode cX5_read 5 = .ok (.invokevirtual 47, 3) := dk_182 0 47 (dk_at dksX5_read_0 5 rfl rfl)
theorem dX5_read_8 : decode cX5_read 8 = .ok (.invokestatic 50, 3) := dk_184 0 50 (dk_at dksX5_read_0 8 rfl rfl)
theorem dX5_read_11 : decode cX5_read 11 = .ok (.invokevirtual 56, 3) := dk_182 0 56 (dk_at dksX5_read_0 11 rfl rfl)
theorem dX5_read_14 : decode cX5_read 14 = .ok (.aload_n 0, 1) := dk_42 (dk_at dksX5_read_0 14 rfl rfl)
theorem dX5_read_15 : decode cX5_read 15 = .ok (.bipush 58, 2) := dk_16 58 (dk_at dksX5_read_0 15 rfl rfl)
theorem dX5_read_17 : decode cX5_read 17 = .ok (.invokevirtual 60, 3) := dk_182 0 60 (dk_at dksX5_read_0 17 rfl rfl)
theorem dX5_read_20 : decode cX5_read 20 = .ok (.aload_n 0, 1) := dk_42 (dk_at dksX5_read_0 20 rfl rfl)
theorem dX5_read_21 : decode cX5_read 21 = .ok (.getfield 10, 3) := dk_180 0 10 (dk_at dksX5_read_0 21 rfl rfl)
theorem dX5_read_24 : decode cX5_read 24 = .ok (.aload_n 0, 1) := dk_42 (dk_at dksX5_read_1 0 rfl rfl)
theorem dX5_read_25 : decode cX5_read 25 = .ok (.invokevirtual 47, 3) := dk_182 0 47 (dk_at dksX5_read_1 1 rfl rfl)
theorem dX5_read_28 : decode cX5_read 28 = .ok (.invokestatic 50, 3) := dk_184 0 50 (dk_at dksX5_read_1 4 rfl rfl)
theorem dX5_read_31 : decode cX5_read 31 = .ok (.invokevirtual 56, 3) := dk_182 0 56 (dk_at dksX5_read_1 7 rfl rfl)
theorem dX5_read_34 : decode cX5_read 34 = .ok (.aload_n 0, 1) := dk_42 (dk_at dksX5_read_1 10 rfl rfl)
theorem dX5_read_35 : decode cX5_read 35 = .ok (.bipush 64, 2) := dk_16 64 (dk_at dksX5_read_1 11 rfl rfl)
theorem dX5_read_37 : decode cX5_read 37 = .ok (.invokevirtual 60, 3) := dk_182 0 60 (dk_at dksX5_read_1 13 rfl rfl)
theorem dX5_read_40 : decode cX5_read 40 = .ok (.aload_n 0, 1) := dk_42 (dk_at dksX5_read_1 16 rfl rfl)
theorem dX5_read_41 : decode cX5_read 41 = .ok (.invokevirtual 47, 3) := dk_182 0 47 (dk_at dksX5_read_1 17 rfl rfl)
theorem dX5_read_44 : decode cX5_read 44 = .ok (.istore_n 1, 1) := dk_60 (dk_at dksX5_read_1 20 rfl rfl)
theorem dX5_read_45 : decode cX5_read 45 = .ok (.aload_n 0, 1) := dk_42 (dk_at dksX5_read_1 21 rfl rfl)
theorem dX5_read_46 : decode cX5_read 46 = .ok (.getfield 10, 3) := dk_180 0 10 (dk_at dksX5_read_2 0 rfl rfl)
theorem dX5_read_49 : decode cX5_read 49 = .ok (.iload_n 1, 1) := dk_27 (dk_at dksX5_read_2 3 rfl rfl)
theorem dX5_read_50 : decode cX5_read 50 = .ok (.invokestatic 50, 3) := dk_184 0 50 (dk_at dksX5_read_2 4 rfl rfl)
theorem dX5_read_53 : decode cX5_read 53 = .ok (.invokevirtual 56, 3) := dk_182 0 56 (dk_at dksX5_read_2 7 rfl rfl)
theorem dX5_read_56 : decode cX5_read 56 = .ok (.aload_n 0, 1) := dk_42 (dk_at dksX5_read_2 10 rfl rfl)
theorem dX5_read_57 : decode cX5_read 57 = .ok (.getfield 10, 3) := dk_180 0 10 (dk_at dksX5_read_2 11 rfl rfl)
theorem dX5_read_60 : decode cX5_read 60 = .ok (.iload_n 1, 1) := dk_27 (dk_at dksX5_read_2 14 rfl rfl)
theorem dX5_read_61 : decode cX5_read 61 = .ok (.invokestatic 50, 3) := dk_184 0 50 (dk_at dksX5_read_2 15 rfl rfl)
theorem dX5_read_64 : decode cX5_read 64 = .ok (.invokevirtual 56, 3) := dk_182 0 56 (dk_at dksX5_read_2 18 rfl rfl)
theorem dX5_read_67 : decode cX5_read 67 = .ok (.aload_n 0, 1) := dk_42 (dk_at dksX5_read_2 21 rfl rfl)
theorem dX5_read_68 : decode cX5_read 68 = .ok (.getfield 20, 3) := dk_180 0 20 (dk_at dksX5_read_3 0 rfl rfl)
theorem dX5_read_71 : decode cX5_read 71 = .ok (.aload_n 0, 1) := dk_42 (dk_at dksX5_read_3 3 rfl rfl)
theorem dX5_read_72 : decode cX5_read 72 = .ok (.getfield 16, 3) := dk_180 0 16 (dk_at dksX5_read_3 4 rfl rfl)
theorem dX5_read_75 : decode cX5_read 75 = .ok (.invokevirtual 24, 3) := dk_182 0 24 (dk_at dksX5_read_3 7 rfl rfl)
theorem dX5_read_78 : decode cX5_read 78 = .ok (.if_icmp .ge 95, 3) := dk_162 0 95 (dk_at dksX5_read_3 10 rfl rfl)
theorem dX5_read_81 : decode cX5_read 81 = .ok (.aload_n 0, 1) := dk_42 (dk_at dksX5_read_3 13 rfl rfl)
theorem dX5_read_82 : decode cX5_read 82 = .ok (.bipush 44, 2) := dk_16 44 (dk_at dksX5_read_3 14 rfl rfl)
theorem dX5_read_84 : decode cX5_read 84 = .ok (.invokevirtual 60, 3) := dk_182 0 60 (dk_at dksX5_read_3 16 rfl rfl)
theorem dX5_read_87 : decode cX5_read 87 = .ok (.aload_n 0, 1) := dk_42 (dk_at dksX5_read_3 19 rfl rfl)
theorem dX5_read_88 : decode cX5_read 88 = .ok (.getfield 10, 3) := dk_180 0 10 (dk_at dksX5_read_3 20 rfl rfl)
theorem dX5_read_91 : decode cX5_read 91 = .ok (.aload_n 0, 1) := dk_42 (dk_at dksX5_read_3 23 rfl rfl)
theorem dX5_read_92 : decode cX5_read 92 = .ok (.invokevirtual 47, 3) := dk_182 0 47 (dk_at dksX5_read_4 0 rfl rfl)
theorem dX5_read_95 : decode cX5_read 95 = .ok (.invokestatic 50, 3) := dk_184 0 50 (dk_at dksX5_read_4 3 rfl rfl)
theorem dX5_read_98 : decode cX5_read 98 = .ok (.invokevirtual 56, 3) := dk_182 0 56 (dk_at dksX5_read_4 6 rfl rfl)
theorem dX5_read_101 : decode cX5_read 101 = .ok (.aload_n 0, 1) := dk_42 (dk_at dksX5_read_4 9 rfl rfl)
theorem dX5_read_102 : decode cX5_read 102 = .ok (.bipush 64, 2) := dk_16 64 (dk_at dksX5_read_4 10 rfl rfl)
theorem dX5_read_104 : decode cX5_read 104 = .ok (.invokevirtual 60, 3) := dk_182 0 60 (dk_at dksX5_read_4 12 rfl rfl)
theorem dX5_read_107 : decode cX5_read 107 = .ok (.aload_n 0, 1) := dk_42 (dk_at dksX5_read_4 15 rfl rfl)
theorem dX5_read_108 : decode cX5_read 108 = .ok (.invokevirtual 47, 3) := dk_182 0 47 (dk_at dksX5_read_4 16 rfl rfl)
theorem dX5_read_111 : decode cX5_read 111 = .ok (.istore_n 2, 1) := dk_61 (dk_at dksX5_read_4 19 rfl rfl)
theorem dX5_read_112 : decode cX5_read 112 = .ok (.aload_n 0, 1) := dk_42 (dk_at dksX5_read_4 20 rfl rfl)
theorem dX5_read_113 : decode cX5_read 113 = .ok (.getfield 10, 3) := dk_180 0 10 (dk_at dksX5_read_4 21 rfl rfl)
theorem dX5_read_116 : decode cX5_read 116 = .ok (.iload_n 2, 1) := dk_28 (dk_at dksX5_read_5 0 rfl rfl)
theorem dX5_read_117 : decode cX5_read 117 = .ok (.invokestatic 50, 3) := dk_184 0 50 (dk_at dksX5_read_5 1 rfl rfl)
theorem dX5_read_120 : decode cX5_read 120 = .ok (.invokevirtual 56, 3) := dk_182 0 56 (dk_at dksX5_read_5 4 rfl rfl)
theorem dX5_read_123 : decode cX5_read 123 = .ok (.aload_n 0, 1) := dk_42 (dk_at dksX5_read_5 7 rfl rfl)
theorem dX5_read_124 : decode cX5_read 124 = .ok (.bipush 45, 2) := dk_16 45 (dk_at dksX5_read_5 8 rfl rfl)
theorem dX5_read_126 : decode cX5_read 126 = .ok (.invokevirtual 34, 3) := dk_182 0 34 (dk_at dksX5_read_5 10 rfl rfl)
theorem dX5_read_129 : decode cX5_read 129 = .ok (.istore_n 3, 1) := dk_62 (dk_at dksX5_read_5 13 rfl rfl)
theorem dX5_read_130 : decode cX5_read 130 = .ok (.aload_n 0, 1) := dk_42 (dk_at dksX5_read_5 14 rfl rfl)
theorem dX5_read_131 : decode cX5_read 131 = .ok (.dup, 1) := dk_89 (dk_at dksX5_read_5 15 rfl rfl)
theorem dX5_read_132 : decode cX5_read 132 = .ok (.getfield 20, 3) := dk_180 0 20 (dk_at dksX5_read_5 16 rfl rfl)
theorem dX5_read_135 : decode cX5_read 135 = .ok (.iload_n 3, 1) := dk_29 (dk_at dksX5_read_5 19 rfl rfl)
theorem dX5_read_136 : decode cX5_read 136 = .ok (.ifCond .eq 7, 3) := dk_153 0 7 (dk_at dksX5_read_5 20 rfl rfl)
theorem dX5_read_139 : decode cX5_read 139 = .ok (.iconst 1, 1) := dk_4 (dk_at dksX5_read_5 23 rfl rfl)
theorem dX5_read_140 : decode cX5_read 140 = .ok (.goto 4, 3) := dk_167 0 4 (dk_at dksX5_read_6 0 rfl rfl)
theorem dX5_read_143 : decode cX5_read 143 = .ok (.iconst 0, 1) := dk_3 (dk_at dksX5_read_6 3 rfl rfl)
theorem dX5_read_144 : decode cX5_read 144 = .ok (.iadd, 1) := dk_96 (dk_at dksX5_read_6 4 rfl rfl)
theorem dX5_read_145 : decode cX5_read 145 = .ok (.putfield 20, 3) := dk_181 0 20 (dk_at dksX5_read_6 5 rfl rfl)
theorem dX5_read_148 : decode cX5_read 148 = .ok (.aload_n 0, 1) := dk_42 (dk_at dksX5_read_6 8 rfl rfl)
theorem dX5_read_149 : decode cX5_read 149 = .ok (.getfield 10, 3) := dk_180 0 10 (dk_at dksX5_read_6 9 rfl rfl)
theorem dX5_read_152 : decode cX5_read 152 = .ok (.iload_n 3, 1) := dk_29 (dk_at dksX5_read_6 12 rfl rfl)
theorem dX5_read_153 : decode cX5_read 153 = .ok (.ifCond .eq 10, 3) := dk_153 0 10 (dk_at dksX5_read_6 13 rfl rfl)
theorem dX5_read_156 : decode cX5_read 156 = .ok (.aload_n 0, 1) := dk_42 (dk_at dksX5_read_6 16 rfl rfl)
theorem dX5_read_157 : decode cX5_read 157 = .ok (.invokevirtual 47, 3) := dk_182 0 47 (dk_at dksX5_read_6 17 rfl rfl)
theorem dX5_read_160 : decode cX5_read 160 = .ok (.goto 4, 3) := dk_167 0 4 (dk_at dksX5_read_6 20 rfl rfl)
theorem dX5_read_163 : decode cX5_read 163 = .ok (.iload_n 2, 1) := dk_28 (dk_at dksX5_read_6 23 rfl rfl)
theorem dX5_read_164 : decode cX5_read 164 = .ok (.invokestatic 50, 3) := dk_184 0 50 (dk_at dksX5_read_7 0 rfl rfl)
theorem dX5_read_167 : decode cX5_read 167 = .ok (.invokevirtual 56, 3) := dk_182 0 56 (dk_at dksX5_read_7 3 rfl rfl)
theorem dX5_read_170 : decode cX5_read 170 = .ok (.goto (-103), 3) := dk_167 255 153 (dk_at dksX5_read_7 6 rfl rfl)
theorem dX5_read_173 : decode cX5_read 173 = .ok (.aload_n 0, 1) := dk_42 (dk_at dksX5_read_7 9 rfl rfl)
theorem dX5_read_174 : decode cX5_read 174 = .ok (.getfield 10, 3) := dk_180 0 10 (dk_at dksX5_read_7 10 rfl rfl)
theorem dX5_read_177 : decode cX5_read 177 = .ok (.areturn, 1) := dk_176 (dk_at dksX5_read_7 13 rfl rfl)
abbrev cX5_number : ByteArray := prog_9_method_5_code
def yX5_number : MethodName := ⟨RX5, "number", "()I"⟩
def dkwX5_number_3 : List UInt8 := [27, 172]
abbrev dktX5_number_3 : List UInt8 := dkwX5_number_3 ++ []
def dkwX5_number_2 : List UInt8 := [182, 0, 30, 96, 16, 48, 100, 60, 42, 89, 180, 0, 20, 4, 96, 181, 0, 20, 132, 2, 1, 167, 255, 211]
abbrev dktX5_number_2 : List UInt8 := dkwX5_number_2 ++ dktX5_number_3
def dkwX5_number_1 : List UInt8 := [7, 162, 0, 46, 42, 182, 0, 43, 153, 0, 39, 16, 10, 27, 104, 42, 180, 0, 16, 42, 180, 0, 20]
abbrev dktX5_number_1 : List UInt8 := dkwX5_number_1 ++ dktX5_number_2
def dkwX5_number_0 : List UInt8 := [42, 182, 0, 43, 154, 0, 15, 187, 0, 38, 89, 42, 180, 0, 20, 183, 0, 40, 191, 3, 60, 3, 61, 28]
abbrev dktX5_number_0 : List UInt8 := dkwX5_number_0 ++ dktX5_number_1
theorem dksX5_number_0 : cX5_number.data.toList.drop 0 = dktX5_number_0 := by decide +kernel
theorem dksX5_number_1 : cX5_number.data.toList.drop 24 = dktX5_number_1 := dk_seg dksX5_number_0 24 rfl rfl
theorem dksX5_number_2 : cX5_number.data.toList.drop 47 = dktX5_number_2 := dk_seg dksX5_number_1 23 rfl rfl
theorem dksX5_number_3 : cX5_number.data.toList.drop 71 = dktX5_number_3 := dk_seg dksX5_number_2 24 rfl rfl
theorem dX5_number_0 : decode cX5_number 0 = .ok (.aload_n 0, 1) := dk_42 (dk_at dksX5_number_0 0 rfl rfl)
theorem dX5_number_1 : decode cX5_number 1 = .ok (.invokevirtual 43, 3) := dk_182 0 43 (dk_at dksX5_number_0 1 rfl rfl)
theorem dX5_number_4 : decode cX5_number 4 = .ok (.ifCond .ne 15, 3) := dk_154 0 15 (dk_at dksX5_number_0 4 rfl rfl)
theorem dX5_number_7 : decode cX5_number 7 = .ok (.new 38, 3) := dk_187 0 38 (dk_at dksX5_number_0 7 rfl rfl)
theorem dX5_number_10 : decode cX5_number 10 = .ok (.dup, 1) := dk_89 (dk_at dksX5_number_0 10 rfl rfl)
theorem dX5_number_11 : decode cX5_number 11 = .ok (.aload_n 0, 1) := dk_42 (dk_at dksX5_number_0 11 rfl rfl)
theorem dX5_number_12 : decode cX5_number 12 = .ok (.getfield 20, 3) := dk_180 0 20 (dk_at dksX5_number_0 12 rfl rfl)
theorem dX5_number_15 : decode cX5_number 15 = .ok (.invokespecial 40, 3) := dk_183 0 40 (dk_at dksX5_number_0 15 rfl rfl)
theorem dX5_number_18 : decode cX5_number 18 = .ok (.athrow, 1) := dk_191 (dk_at dksX5_number_0 18 rfl rfl)
theorem dX5_number_19 : decode cX5_number 19 = .ok (.iconst 0, 1) := dk_3 (dk_at dksX5_number_0 19 rfl rfl)
theorem dX5_number_20 : decode cX5_number 20 = .ok (.istore_n 1, 1) := dk_60 (dk_at dksX5_number_0 20 rfl rfl)
theorem dX5_number_21 : decode cX5_number 21 = .ok (.iconst 0, 1) := dk_3 (dk_at dksX5_number_0 21 rfl rfl)
theorem dX5_number_22 : decode cX5_number 22 = .ok (.istore_n 2, 1) := dk_61 (dk_at dksX5_number_0 22 rfl rfl)
theorem dX5_number_23 : decode cX5_number 23 = .ok (.iload_n 2, 1) := dk_28 (dk_at dksX5_number_0 23 rfl rfl)
theorem dX5_number_24 : decode cX5_number 24 = .ok (.iconst 4, 1) := dk_7 (dk_at dksX5_number_1 0 rfl rfl)
theorem dX5_number_25 : decode cX5_number 25 = .ok (.if_icmp .ge 46, 3) := dk_162 0 46 (dk_at dksX5_number_1 1 rfl rfl)
theorem dX5_number_28 : decode cX5_number 28 = .ok (.aload_n 0, 1) := dk_42 (dk_at dksX5_number_1 4 rfl rfl)
theorem dX5_number_29 : decode cX5_number 29 = .ok (.invokevirtual 43, 3) := dk_182 0 43 (dk_at dksX5_number_1 5 rfl rfl)
theorem dX5_number_32 : decode cX5_number 32 = .ok (.ifCond .eq 39, 3) := dk_153 0 39 (dk_at dksX5_number_1 8 rfl rfl)
theorem dX5_number_35 : decode cX5_number 35 = .ok (.bipush 10, 2) := dk_16 10 (dk_at dksX5_number_1 11 rfl rfl)
theorem dX5_number_37 : decode cX5_number 37 = .ok (.iload_n 1, 1) := dk_27 (dk_at dksX5_number_1 13 rfl rfl)
theorem dX5_number_38 : decode cX5_number 38 = .ok (.imul, 1) := dk_104 (dk_at dksX5_number_1 14 rfl rfl)
theorem dX5_number_39 : decode cX5_number 39 = .ok (.aload_n 0, 1) := dk_42 (dk_at dksX5_number_1 15 rfl rfl)
theorem dX5_number_40 : decode cX5_number 40 = .ok (.getfield 16, 3) := dk_180 0 16 (dk_at dksX5_number_1 16 rfl rfl)
theorem dX5_number_43 : decode cX5_number 43 = .ok (.aload_n 0, 1) := dk_42 (dk_at dksX5_number_1 19 rfl rfl)
theorem dX5_number_44 : decode cX5_number 44 = .ok (.getfield 20, 3) := dk_180 0 20 (dk_at dksX5_number_1 20 rfl rfl)
theorem dX5_number_47 : decode cX5_number 47 = .ok (.invokevirtual 30, 3) := dk_182 0 30 (dk_at dksX5_number_2 0 rfl rfl)
theorem dX5_number_50 : decode cX5_number 50 = .ok (.iadd, 1) := dk_96 (dk_at dksX5_number_2 3 rfl rfl)
theorem dX5_number_51 : decode cX5_number 51 = .ok (.bipush 48, 2) := dk_16 48 (dk_at dksX5_number_2 4 rfl rfl)
theorem dX5_number_53 : decode cX5_number 53 = .ok (.isub, 1) := dk_100 (dk_at dksX5_number_2 6 rfl rfl)
theorem dX5_number_54 : decode cX5_number 54 = .ok (.istore_n 1, 1) := dk_60 (dk_at dksX5_number_2 7 rfl rfl)
theorem dX5_number_55 : decode cX5_number 55 = .ok (.aload_n 0, 1) := dk_42 (dk_at dksX5_number_2 8 rfl rfl)
theorem dX5_number_56 : decode cX5_number 56 = .ok (.dup, 1) := dk_89 (dk_at dksX5_number_2 9 rfl rfl)
theorem dX5_number_57 : decode cX5_number 57 = .ok (.getfield 20, 3) := dk_180 0 20 (dk_at dksX5_number_2 10 rfl rfl)
theorem dX5_number_60 : decode cX5_number 60 = .ok (.iconst 1, 1) := dk_4 (dk_at dksX5_number_2 13 rfl rfl)
theorem dX5_number_61 : decode cX5_number 61 = .ok (.iadd, 1) := dk_96 (dk_at dksX5_number_2 14 rfl rfl)
theorem dX5_number_62 : decode cX5_number 62 = .ok (.putfield 20, 3) := dk_181 0 20 (dk_at dksX5_number_2 15 rfl rfl)
theorem dX5_number_65 : decode cX5_number 65 = .ok (.iinc 2 1, 3) := dk_132 2 1 (dk_at dksX5_number_2 18 rfl rfl)
theorem dX5_number_68 : decode cX5_number 68 = .ok (.goto (-45), 3) := dk_167 255 211 (dk_at dksX5_number_2 21 rfl rfl)
theorem dX5_number_71 : decode cX5_number 71 = .ok (.iload_n 1, 1) := dk_27 (dk_at dksX5_number_3 0 rfl rfl)
theorem dX5_number_72 : decode cX5_number 72 = .ok (.ireturn, 1) := dk_172 (dk_at dksX5_number_3 1 rfl rfl)
abbrev cX5_isDigit : ByteArray := prog_9_method_2_code
def yX5_isDigit : MethodName := ⟨RX5, "isDigit", "()Z"⟩
def dkwX5_isDigit_2 : List UInt8 := [4, 167, 0, 4, 3, 172]
abbrev dktX5_isDigit_2 : List UInt8 := dkwX5_isDigit_2 ++ []
def dkwX5_isDigit_1 : List UInt8 := [182, 0, 30, 16, 48, 161, 0, 23, 42, 180, 0, 16, 42, 180, 0, 20, 182, 0, 30, 16, 57, 163, 0, 7]
abbrev dktX5_isDigit_1 : List UInt8 := dkwX5_isDigit_1 ++ dktX5_isDigit_2
def dkwX5_isDigit_0 : List UInt8 := [42, 180, 0, 20, 42, 180, 0, 16, 182, 0, 24, 162, 0, 39, 42, 180, 0, 16, 42, 180, 0, 20]
abbrev dktX5_isDigit_0 : List UInt8 := dkwX5_isDigit_0 ++ dktX5_isDigit_1
theorem dksX5_isDigit_0 : cX5_isDigit.data.toList.drop 0 = dktX5_isDigit_0 := by decide +kernel
theorem dksX5_isDigit_1 : cX5_isDigit.data.toList.drop 22 = dktX5_isDigit_1 := dk_seg dksX5_isDigit_0 22 rfl rfl
theorem dksX5_isDigit_2 : cX5_isDigit.data.toList.drop 46 = dktX5_isDigit_2 := dk_seg dksX5_isDigit_1 24 rfl rfl
theorem dX5_isDigit_0 : decode cX5_isDigit 0 = .ok (.aload_n 0, 1) := dk_42 (dk_at dksX5_isDigit_0 0 rfl rfl)
theorem dX5_isDigit_1 : decode cX5_isDigit 1 = .ok (.getfield 20, 3) := dk_180 0 20 (dk_at dksX5_isDigit_0 1 rfl rfl)
theorem dX5_isDigit_4 : decode cX5_isDigit 4 = .ok (.aload_n 0, 1) := dk_42 (dk_at dksX5_isDigit_0 4 rfl rfl)
theorem dX5_isDigit_5 : decode cX5_isDigit 5 = .ok (.getfield 16, 3) := dk_180 0 16 (dk_at dksX5_isDigit_0 5 rfl rfl)
theorem dX5_isDigit_8 : decode cX5_isDigit 8 = .ok (.invokevirtual 24, 3) := dk_182 0 24 (dk_at dksX5_isDigit_0 8 rfl rfl)
theorem dX5_isDigit_11 : decode cX5_isDigit 11 = .ok (.if_icmp .ge 39, 3) := dk_162 0 39 (dk_at dksX5_isDigit_0 11 rfl rfl)
theorem dX5_isDigit_14 : decode cX5_isDigit 14 = .ok (.aload_n 0, 1) := dk_42 (dk_at dksX5_isDigit_0 14 rfl rfl)
theorem dX5_isDigit_15 : decode cX5_isDigit 15 = .ok (.getfield 16, 3) := dk_180 0 16 (dk_at dksX5_isDigit_0 15 rfl rfl)
theorem dX5_isDigit_18 : decode cX5_isDigit 18 = .ok (.aload_n 0, 1) := dk_42 (dk_at dksX5_isDigit_0 18 rfl rfl)
theorem dX5_isDigit_19 : decode cX5_isDigit 19 = .ok (.getfield 20, 3) := dk_180 0 20 (dk_at dksX5_isDigit_0 19 rfl rfl)
theorem dX5_isDigit_22 : decode cX5_isDigit 22 = .ok (.invokevirtual 30, 3) := dk_182 0 30 (dk_at dksX5_isDigit_1 0 rfl rfl)
theorem dX5_isDigit_25 : decode cX5_isDigit 25 = .ok (.bipush 48, 2) := dk_16 48 (dk_at dksX5_isDigit_1 3 rfl rfl)
theorem dX5_isDigit_27 : decode cX5_isDigit 27 = .ok (.if_icmp .lt 23, 3) := dk_161 0 23 (dk_at dksX5_isDigit_1 5 rfl rfl)
theorem dX5_isDigit_30 : decode cX5_isDigit 30 = .ok (.aload_n 0, 1) := dk_42 (dk_at dksX5_isDigit_1 8 rfl rfl)
theorem dX5_isDigit_31 : decode cX5_isDigit 31 = .ok (.getfield 16, 3) := dk_180 0 16 (dk_at dksX5_isDigit_1 9 rfl rfl)
theorem dX5_isDigit_34 : decode cX5_isDigit 34 = .ok (.aload_n 0, 1) := dk_42 (dk_at dksX5_isDigit_1 12 rfl rfl)
theorem dX5_isDigit_35 : decode cX5_isDigit 35 = .ok (.getfield 20, 3) := dk_180 0 20 (dk_at dksX5_isDigit_1 13 rfl rfl)
theorem dX5_isDigit_38 : decode cX5_isDigit 38 = .ok (.invokevirtual 30, 3) := dk_182 0 30 (dk_at dksX5_isDigit_1 16 rfl rfl)
theorem dX5_isDigit_41 : decode cX5_isDigit 41 = .ok (.bipush 57, 2) := dk_16 57 (dk_at dksX5_isDigit_1 19 rfl rfl)
theorem dX5_isDigit_43 : decode cX5_isDigit 43 = .ok (.if_icmp .gt 7, 3) := dk_163 0 7 (dk_at dksX5_isDigit_1 21 rfl rfl)
theorem dX5_isDigit_46 : decode cX5_isDigit 46 = .ok (.iconst 1, 1) := dk_4 (dk_at dksX5_isDigit_2 0 rfl rfl)
theorem dX5_isDigit_47 : decode cX5_isDigit 47 = .ok (.goto 4, 3) := dk_167 0 4 (dk_at dksX5_isDigit_2 1 rfl rfl)
theorem dX5_isDigit_50 : decode cX5_isDigit 50 = .ok (.iconst 0, 1) := dk_3 (dk_at dksX5_isDigit_2 4 rfl rfl)
theorem dX5_isDigit_51 : decode cX5_isDigit 51 = .ok (.ireturn, 1) := dk_172 (dk_at dksX5_isDigit_2 5 rfl rfl)
abbrev cX5_sign : ByteArray := prog_9_method_4_code
def yX5_sign : MethodName := ⟨RX5, "sign", "(C)V"⟩
def dkwX5_sign_1 : List UInt8 := [180, 0, 20, 4, 96, 181, 0, 20, 177]
abbrev dktX5_sign_1 : List UInt8 := dkwX5_sign_1 ++ []
def dkwX5_sign_0 : List UInt8 := [42, 27, 182, 0, 34, 154, 0, 15, 187, 0, 38, 89, 42, 180, 0, 20, 183, 0, 40, 191, 42, 89]
abbrev dktX5_sign_0 : List UInt8 := dkwX5_sign_0 ++ dktX5_sign_1
theorem dksX5_sign_0 : cX5_sign.data.toList.drop 0 = dktX5_sign_0 := by decide +kernel
theorem dksX5_sign_1 : cX5_sign.data.toList.drop 22 = dktX5_sign_1 := dk_seg dksX5_sign_0 22 rfl rfl
theorem dX5_sign_0 : decode cX5_sign 0 = .ok (.aload_n 0, 1) := dk_42 (dk_at dksX5_sign_0 0 rfl rfl)
theorem dX5_sign_1 : decode cX5_sign 1 = .ok (.iload_n 1, 1) := dk_27 (dk_at dksX5_sign_0 1 rfl rfl)
theorem dX5_sign_2 : decode cX5_sign 2 = .ok (.invokevirtual 34, 3) := dk_182 0 34 (dk_at dksX5_sign_0 2 rfl rfl)
theorem dX5_sign_5 : decode cX5_sign 5 = .ok (.ifCond .ne 15, 3) := dk_154 0 15 (dk_at dksX5_sign_0 5 rfl rfl)
theorem dX5_sign_8 : decode cX5_sign 8 = .ok (.new 38, 3) := dk_187 0 38 (dk_at dksX5_sign_0 8 rfl rfl)
theorem dX5_sign_11 : decode cX5_sign 11 = .ok (.dup, 1) := dk_89 (dk_at dksX5_sign_0 11 rfl rfl)
theorem dX5_sign_12 : decode cX5_sign 12 = .ok (.aload_n 0, 1) := dk_42 (dk_at dksX5_sign_0 12 rfl rfl)
theorem dX5_sign_13 : decode cX5_sign 13 = .ok (.getfield 20, 3) := dk_180 0 20 (dk_at dksX5_sign_0 13 rfl rfl)
theorem dX5_sign_16 : decode cX5_sign 16 = .ok (.invokespecial 40, 3) := dk_183 0 40 (dk_at dksX5_sign_0 16 rfl rfl)
theorem dX5_sign_19 : decode cX5_sign 19 = .ok (.athrow, 1) := dk_191 (dk_at dksX5_sign_0 19 rfl rfl)
theorem dX5_sign_20 : decode cX5_sign 20 = .ok (.aload_n 0, 1) := dk_42 (dk_at dksX5_sign_0 20 rfl rfl)
theorem dX5_sign_21 : decode cX5_sign 21 = .ok (.dup, 1) := dk_89 (dk_at dksX5_sign_0 21 rfl rfl)
theorem dX5_sign_22 : decode cX5_sign 22 = .ok (.getfield 20, 3) := dk_180 0 20 (dk_at dksX5_sign_1 0 rfl rfl)
theorem dX5_sign_25 : decode cX5_sign 25 = .ok (.iconst 1, 1) := dk_4 (dk_at dksX5_sign_1 3 rfl rfl)
theorem dX5_sign_26 : decode cX5_sign 26 = .ok (.iadd, 1) := dk_96 (dk_at dksX5_sign_1 4 rfl rfl)
theorem dX5_sign_27 : decode cX5_sign 27 = .ok (.putfield 20, 3) := dk_181 0 20 (dk_at dksX5_sign_1 5 rfl rfl)
theorem dX5_sign_30 : decode cX5_sign 30 = .ok (.return_, 1) := dk_177 (dk_at dksX5_sign_1 8 rfl rfl)
abbrev cX5_isNext : ByteArray := prog_9_method_3_code
def yX5_isNext : MethodName := ⟨RX5, "isNext", "(C)Z"⟩
def dkwX5_isNext_1 : List UInt8 := [182, 0, 30, 27, 160, 0, 7, 4, 167, 0, 4, 3, 172]
abbrev dktX5_isNext_1 : List UInt8 := dkwX5_isNext_1 ++ []
def dkwX5_isNext_0 : List UInt8 := [42, 180, 0, 20, 42, 180, 0, 16, 182, 0, 24, 162, 0, 22, 42, 180, 0, 16, 42, 180, 0, 20]
abbrev dktX5_isNext_0 : List UInt8 := dkwX5_isNext_0 ++ dktX5_isNext_1
theorem dksX5_isNext_0 : cX5_isNext.data.toList.drop 0 = dktX5_isNext_0 := by decide +kernel
theorem dksX5_isNext_1 : cX5_isNext.data.toList.drop 22 = dktX5_isNext_1 := dk_seg dksX5_isNext_0 22 rfl rfl
theorem dX5_isNext_0 : decode cX5_isNext 0 = .ok (.aload_n 0, 1) := dk_42 (dk_at dksX5_isNext_0 0 rfl rfl)
theorem dX5_isNext_1 : decode cX5_isNext 1 = .ok (.getfield 20, 3) := dk_180 0 20 (dk_at dksX5_isNext_0 1 rfl rfl)
theorem dX5_isNext_4 : decode cX5_isNext 4 = .ok (.aload_n 0, 1) := dk_42 (dk_at dksX5_isNext_0 4 rfl rfl)
theorem dX5_isNext_5 : decode cX5_isNext 5 = .ok (.getfield 16, 3) := dk_180 0 16 (dk_at dksX5_isNext_0 5 rfl rfl)
theorem dX5_isNext_8 : decode cX5_isNext 8 = .ok (.invokevirtual 24, 3) := dk_182 0 24 (dk_at dksX5_isNext_0 8 rfl rfl)
theorem dX5_isNext_11 : decode cX5_isNext 11 = .ok (.if_icmp .ge 22, 3) := dk_162 0 22 (dk_at dksX5_isNext_0 11 rfl rfl)
theorem dX5_isNext_14 : decode cX5_isNext 14 = .ok (.aload_n 0, 1) := dk_42 (dk_at dksX5_isNext_0 14 rfl rfl)
theorem dX5_isNext_15 : decode cX5_isNext 15 = .ok (.getfield 16, 3) := dk_180 0 16 (dk_at dksX5_isNext_0 15 rfl rfl)
theorem dX5_isNext_18 : decode cX5_isNext 18 = .ok (.aload_n 0, 1) := dk_42 (dk_at dksX5_isNext_0 18 rfl rfl)
theorem dX5_isNext_19 : decode cX5_isNext 19 = .ok (.getfield 20, 3) := dk_180 0 20 (dk_at dksX5_isNext_0 19 rfl rfl)
theorem dX5_isNext_22 : decode cX5_isNext 22 = .ok (.invokevirtual 30, 3) := dk_182 0 30 (dk_at dksX5_isNext_1 0 rfl rfl)
theorem dX5_isNext_25 : decode cX5_isNext 25 = .ok (.iload_n 1, 1) := dk_27 (dk_at dksX5_isNext_1 3 rfl rfl)
theorem dX5_isNext_26 : decode cX5_isNext 26 = .ok (.if_icmp .ne 7, 3) := dk_160 0 7 (dk_at dksX5_isNext_1 4 rfl rfl)
theorem dX5_isNext_29 : decode cX5_isNext 29 = .ok (.iconst 1, 1) := dk_4 (dk_at dksX5_isNext_1 7 rfl rfl)
theorem dX5_isNext_30 : decode cX5_isNext 30 = .ok (.goto 4, 3) := dk_167 0 4 (dk_at dksX5_isNext_1 8 rfl rfl)
theorem dX5_isNext_33 : decode cX5_isNext 33 = .ok (.iconst 0, 1) := dk_3 (dk_at dksX5_isNext_1 11 rfl rfl)
theorem dX5_isNext_34 : decode cX5_isNext 34 = .ok (.ireturn, 1) := dk_172 (dk_at dksX5_isNext_1 12 rfl rfl)
theorem q158 : (Jvm.Cond.initialized "Lastbus$Reader") ∈ lw_all := lw_g (lw_at lw_m1 36 rfl) rfl
theorem q984 : (Jvm.Cond.selects "Lastbus$Reader" ({ cls := "java/lang/Object", name := "getClass", desc := "()Ljava/lang/Class;" } : Jvm.MethodName) ({ cls := "java/lang/Object", name := "getClass", desc := "()Ljava/lang/Class;" } : Jvm.MethodName)) ∈ lw_all := lw_g (lw_at lw_m4 142 rfl) rfl
theorem q1297 : (Jvm.Cond.instantiable "Lastbus$Reader" (3 : Nat)) ∈ lw_all := lw_g (lw_at lw_m5 215 rfl) rfl
theorem q1300 : (Jvm.Cond.instanceMethod ({ cls := "Lastbus$Reader", name := "<init>", desc := "(Ljava/lang/String;)V" } : Jvm.MethodName)) ∈ lw_all := lw_g (lw_at lw_m5 218 rfl) rfl
theorem q1301 : (Jvm.Cond.code ({ cls := "Lastbus$Reader", name := "<init>", desc := "(Ljava/lang/String;)V" } : Jvm.MethodName) prog_9_method_1_code (2 : Nat) (Option.none : Option Jvm.ClassFile.FieldType)) ∈ lw_all := lw_g (lw_at lw_m5 219 rfl) rfl
theorem q1302 : (Jvm.Cond.methodLink "Lastbus$Reader" (1 : Nat) ({ cls := "java/lang/Object", name := "<init>", desc := "()V" } : Jvm.MethodName)) ∈ lw_all := lw_g (lw_at lw_m5 220 rfl) rfl
theorem q1303 : (Jvm.Cond.classLink "Lastbus$Reader" (7 : Nat) "java/util/ArrayDeque") ∈ lw_all := lw_g (lw_at lw_m5 221 rfl) rfl
theorem q1305 : (Jvm.Cond.methodLink "Lastbus$Reader" (9 : Nat) ({ cls := "java/util/ArrayDeque", name := "<init>", desc := "()V" } : Jvm.MethodName)) ∈ lw_all := lw_g (lw_at lw_m5 223 rfl) rfl
theorem q1320 : (Jvm.Cond.fieldLink "Lastbus$Reader" (16 : Nat) "Lastbus$Reader" "row" "Ljava/lang/String;") ∈ lw_all := lw_g (lw_at lw_m5 238 rfl) rfl
theorem q1321 : (Jvm.Cond.fieldLink "Lastbus$Reader" (20 : Nat) "Lastbus$Reader" "at" "I") ∈ lw_all := lw_g (lw_at lw_m5 239 rfl) rfl
theorem q1322 : (Jvm.Cond.fieldLink "Lastbus$Reader" (10 : Nat) "Lastbus$Reader" "numbers" "Ljava/util/ArrayDeque;") ∈ lw_all := lw_g (lw_at lw_m6 0 rfl) rfl
theorem q1323 : (Jvm.Cond.laysFinal "Lastbus$Reader" "Lastbus$Reader" "row" "Ljava/lang/String;") ∈ lw_all := lw_g (lw_at lw_m6 1 rfl) rfl
theorem q1324 : (Jvm.Cond.soleField "Lastbus$Reader" "row") ∈ lw_all := lw_g (lw_at lw_m6 2 rfl) rfl
theorem q1325 : (Jvm.Cond.lays "Lastbus$Reader" "Lastbus$Reader" "at" "I") ∈ lw_all := lw_g (lw_at lw_m6 3 rfl) rfl
theorem q1326 : (Jvm.Cond.soleField "Lastbus$Reader" "at") ∈ lw_all := lw_g (lw_at lw_m6 4 rfl) rfl
theorem q1327 : (Jvm.Cond.laysFinal "Lastbus$Reader" "Lastbus$Reader" "numbers" "Ljava/util/ArrayDeque;") ∈ lw_all := lw_g (lw_at lw_m6 5 rfl) rfl
theorem q1328 : (Jvm.Cond.soleField "Lastbus$Reader" "numbers") ∈ lw_all := lw_g (lw_at lw_m6 6 rfl) rfl
theorem q1329 : (Jvm.Cond.superclass "Lastbus$Reader" "java/lang/Object") ∈ lw_all := lw_g (lw_at lw_m6 7 rfl) rfl
theorem q1331 : (Jvm.Cond.instanceMethod ({ cls := "Lastbus$Reader", name := "read", desc := "()Ljava/util/ArrayDeque;" } : Jvm.MethodName)) ∈ lw_all := lw_g (lw_at lw_m6 9 rfl) rfl
theorem q1332 : (Jvm.Cond.selects "Lastbus$Reader" ({ cls := "Lastbus$Reader", name := "read", desc := "()Ljava/util/ArrayDeque;" } : Jvm.MethodName) ({ cls := "Lastbus$Reader", name := "read", desc := "()Ljava/util/ArrayDeque;" } : Jvm.MethodName)) ∈ lw_all := lw_g (lw_at lw_m6 10 rfl) rfl
theorem q1333 : (Jvm.Cond.code ({ cls := "Lastbus$Reader", name := "read", desc := "()Ljava/util/ArrayDeque;" } : Jvm.MethodName) prog_9_method_6_code (4 : Nat) (Option.some (Jvm.ClassFile.FieldType.object "java/util/ArrayDeque"))) ∈ lw_all := lw_g (lw_at lw_m6 11 rfl) rfl
theorem q1334 : (Jvm.Cond.methodLink "Lastbus$Reader" (47 : Nat) ({ cls := "Lastbus$Reader", name := "number", desc := "()I" } : Jvm.MethodName)) ∈ lw_all := lw_g (lw_at lw_m6 12 rfl) rfl
theorem q1335 : (Jvm.Cond.privateMethod ({ cls := "Lastbus$Reader", name := "number", desc := "()I" } : Jvm.MethodName)) ∈ lw_tbl := lw_at lw_m6 13 rfl
theorem q1336 : (Jvm.Cond.instanceMethod ({ cls := "Lastbus$Reader", name := "number", desc := "()I" } : Jvm.MethodName)) ∈ lw_all := lw_g (lw_at lw_m6 14 rfl) rfl
theorem q1337 : (Jvm.Cond.code ({ cls := "Lastbus$Reader", name := "number", desc := "()I" } : Jvm.MethodName) prog_9_method_5_code (3 : Nat) (Option.some Jvm.ClassFile.FieldType.int)) ∈ lw_all := lw_g (lw_at lw_m6 15 rfl) rfl
theorem q1338 : (Jvm.Cond.methodLink "Lastbus$Reader" (43 : Nat) ({ cls := "Lastbus$Reader", name := "isDigit", desc := "()Z" } : Jvm.MethodName)) ∈ lw_all := lw_g (lw_at lw_m6 16 rfl) rfl
theorem q1339 : (Jvm.Cond.privateMethod ({ cls := "Lastbus$Reader", name := "isDigit", desc := "()Z" } : Jvm.MethodName)) ∈ lw_tbl := lw_at lw_m6 17 rfl
theorem q1340 : (Jvm.Cond.instanceMethod ({ cls := "Lastbus$Reader", name := "isDigit", desc := "()Z" } : Jvm.MethodName)) ∈ lw_all := lw_g (lw_at lw_m6 18 rfl) rfl
theorem q1341 : (Jvm.Cond.code ({ cls := "Lastbus$Reader", name := "isDigit", desc := "()Z" } : Jvm.MethodName) prog_9_method_2_code (1 : Nat) (Option.some Jvm.ClassFile.FieldType.boolean)) ∈ lw_all := lw_g (lw_at lw_m6 19 rfl) rfl
theorem q1342 : (Jvm.Cond.methodLink "Lastbus$Reader" (24 : Nat) ({ cls := "java/lang/String", name := "length", desc := "()I" } : Jvm.MethodName)) ∈ lw_all := lw_g (lw_at lw_m6 20 rfl) rfl
theorem q1343 : (Jvm.Cond.methodLink "Lastbus$Reader" (30 : Nat) ({ cls := "java/lang/String", name := "charAt", desc := "(I)C" } : Jvm.MethodName)) ∈ lw_all := lw_g (lw_at lw_m6 21 rfl) rfl
theorem q1358 : (Jvm.Cond.classLink "Lastbus$Reader" (38 : Nat) "Lastbus$Fault") ∈ lw_all := lw_g (lw_at lw_m6 36 rfl) rfl
theorem q1367 : (Jvm.Cond.methodLink "Lastbus$Reader" (40 : Nat) ({ cls := "Lastbus$Fault", name := "<init>", desc := "(I)V" } : Jvm.MethodName)) ∈ lw_all := lw_g (lw_at lw_m6 45 rfl) rfl
theorem q1378 : (Jvm.Cond.methodLink "Lastbus$Reader" (50 : Nat) ({ cls := "java/lang/Integer", name := "valueOf", desc := "(I)Ljava/lang/Integer;" } : Jvm.MethodName)) ∈ lw_all := lw_g (lw_at lw_m6 56 rfl) rfl
theorem q1398 : (Jvm.Cond.methodLink "Lastbus$Reader" (56 : Nat) ({ cls := "java/util/ArrayDeque", name := "addLast", desc := "(Ljava/lang/Object;)V" } : Jvm.MethodName)) ∈ lw_all := lw_g (lw_at lw_m6 76 rfl) rfl
theorem q1423 : (Jvm.Cond.methodLink "Lastbus$Reader" (60 : Nat) ({ cls := "Lastbus$Reader", name := "sign", desc := "(C)V" } : Jvm.MethodName)) ∈ lw_all := lw_g (lw_at lw_m6 101 rfl) rfl
theorem q1424 : (Jvm.Cond.privateMethod ({ cls := "Lastbus$Reader", name := "sign", desc := "(C)V" } : Jvm.MethodName)) ∈ lw_tbl := lw_at lw_m6 102 rfl
theorem q1425 : (Jvm.Cond.instanceMethod ({ cls := "Lastbus$Reader", name := "sign", desc := "(C)V" } : Jvm.MethodName)) ∈ lw_all := lw_g (lw_at lw_m6 103 rfl) rfl
theorem q1426 : (Jvm.Cond.code ({ cls := "Lastbus$Reader", name := "sign", desc := "(C)V" } : Jvm.MethodName) prog_9_method_4_code (2 : Nat) (Option.none : Option Jvm.ClassFile.FieldType)) ∈ lw_all := lw_g (lw_at lw_m6 104 rfl) rfl
theorem q1427 : (Jvm.Cond.methodLink "Lastbus$Reader" (34 : Nat) ({ cls := "Lastbus$Reader", name := "isNext", desc := "(C)Z" } : Jvm.MethodName)) ∈ lw_all := lw_g (lw_at lw_m6 105 rfl) rfl
theorem q1428 : (Jvm.Cond.privateMethod ({ cls := "Lastbus$Reader", name := "isNext", desc := "(C)Z" } : Jvm.MethodName)) ∈ lw_tbl := lw_at lw_m6 106 rfl
theorem q1429 : (Jvm.Cond.instanceMethod ({ cls := "Lastbus$Reader", name := "isNext", desc := "(C)Z" } : Jvm.MethodName)) ∈ lw_all := lw_g (lw_at lw_m6 107 rfl) rfl
theorem q1430 : (Jvm.Cond.code ({ cls := "Lastbus$Reader", name := "isNext", desc := "(C)Z" } : Jvm.MethodName) prog_9_method_3_code (2 : Nat) (Option.some Jvm.ClassFile.FieldType.boolean)) ∈ lw_all := lw_g (lw_at lw_m6 108 rfl) rfl
theorem q3687 : (Jvm.Cond.castable "Lastbus$Reader" "java/lang/Object") ∈ lw_tbl := lw_at lw_m15 205 rfl
theorem in_X5 : ∀ w ∈ wsX50, w ∈ lw_all := lw_in wsX50 [1323, 1325, 1327] (by decide +kernel) (by decide +kernel)
/-! Lastbus$Fault -/
set_option maxRecDepth 100000
def RX6 : String := "Lastbus$Fault"
def TX6 : u_T := fun k => match k with
  | 0 => ("java/lang/Throwable", "cause", "Ljava/lang/Throwable;", false)
  | 1 => ("java/lang/Throwable", "stackTrace", "[Ljava/lang/StackTraceElement;", false)
  | 2 => ("java/lang/Throwable", "suppressedExceptions", "Ljava/util/List;", false)
  | 3 => ("java/lang/Throwable", "detailMessage", "Ljava/lang/String;", false)
  | 4 => ("java/lang/Throwable", "backtrace", "Ljava/lang/Object;", false)
  | 5 => ("java/lang/Throwable", "depth", "I", false)
  | _ => ("Lastbus$Fault", "place", "I", true)
def tyX6 : Nat → FieldType := fun k => match k with
  | 0 => .object "java/lang/Throwable"
  | 1 => .array (.object "java/lang/StackTraceElement")
  | 2 => .object "java/util/List"
  | 3 => .object "java/lang/String"
  | 4 => .object "java/lang/Object"
  | 5 => .int
  | _ => .int
abbrev wsX60 : List Cond := u_ws RX6 TX6 7
theorem nmX6 : ∀ a, a < 7 → ∀ b, b < 7 → a ≠ b → (TX6 a).2.1 ≠ (TX6 b).2.1 := by decide +kernel
theorem tyX6_ok : ∀ k, k < 7 → parseFieldDescriptor (TX6 k).2.2.1 = some (tyX6 k) := by decide +kernel
abbrev cX6_init : ByteArray := prog_3_method_1_code
def yX6_init : MethodName := ⟨RX6, "<init>", "(I)V"⟩
def dkwX6_init_0 : List UInt8 := [42, 18, 1, 183, 0, 3, 42, 27, 181, 0, 9, 177]
abbrev dktX6_init_0 : List UInt8 := dkwX6_init_0 ++ []
theorem dksX6_init_0 : cX6_init.data.toList.drop 0 = dktX6_init_0 := by decide +kernel
theorem dX6_init_0 : decode cX6_init 0 = .ok (.aload_n 0, 1) := dk_42 (dk_at dksX6_init_0 0 rfl rfl)
theorem dX6_init_1 : decode cX6_init 1 = .ok (.ldc 1, 2) := dk_18 1 (dk_at dksX6_init_0 1 rfl rfl)
theorem dX6_init_3 : decode cX6_init 3 = .ok (.invokespecial 3, 3) := dk_183 0 3 (dk_at dksX6_init_0 3 rfl rfl)
theorem dX6_init_6 : decode cX6_init 6 = .ok (.aload_n 0, 1) := dk_42 (dk_at dksX6_init_0 6 rfl rfl)
theorem dX6_init_7 : decode cX6_init 7 = .ok (.iload_n 1, 1) := dk_27 (dk_at dksX6_init_0 7 rfl rfl)
theorem dX6_init_8 : decode cX6_init 8 = .ok (.putfield 9, 3) := dk_181 0 9 (dk_at dksX6_init_0 8 rfl rfl)
theorem dX6_init_11 : decode cX6_init 11 = .ok (.return_, 1) := dk_177 (dk_at dksX6_init_0 11 rfl rfl)
theorem q160 : (Jvm.Cond.initialized "Lastbus$Fault") ∈ lw_all := lw_g (lw_at lw_m1 38 rfl) rfl
theorem q570 : (Jvm.Cond.selects "Lastbus$Fault" ({ cls := "java/lang/Throwable", name := "fillInStackTrace", desc := "()Ljava/lang/Throwable;" } : Jvm.MethodName) ({ cls := "java/lang/Throwable", name := "fillInStackTrace", desc := "()Ljava/lang/Throwable;" } : Jvm.MethodName)) ∈ lw_all := lw_g (lw_at lw_m2 208 rfl) rfl
theorem q978 : (Jvm.Cond.selects "Lastbus$Fault" ({ cls := "java/lang/Object", name := "getClass", desc := "()Ljava/lang/Class;" } : Jvm.MethodName) ({ cls := "java/lang/Object", name := "getClass", desc := "()Ljava/lang/Class;" } : Jvm.MethodName)) ∈ lw_all := lw_g (lw_at lw_m4 136 rfl) rfl
theorem q1359 : (Jvm.Cond.instantiable "Lastbus$Fault" (7 : Nat)) ∈ lw_all := lw_g (lw_at lw_m6 37 rfl) rfl
theorem q1360 : (Jvm.Cond.castable "Lastbus$Fault" "Lastbus$Fault") ∈ lw_tbl := lw_at lw_m6 38 rfl
theorem q1361 : (Jvm.Cond.selects "Lastbus$Fault" ({ cls := "java/lang/Throwable", name := "fillInStackTrace", desc := "(I)Ljava/lang/Throwable;" } : Jvm.MethodName) ({ cls := "java/lang/Throwable", name := "fillInStackTrace", desc := "(I)Ljava/lang/Throwable;" } : Jvm.MethodName)) ∈ lw_all := lw_g (lw_at lw_m6 39 rfl) rfl
theorem q1362 : (Jvm.Cond.lays "Lastbus$Fault" "java/lang/Throwable" "cause" "Ljava/lang/Throwable;") ∈ lw_all := lw_g (lw_at lw_m6 40 rfl) rfl
theorem q1363 : (Jvm.Cond.lays "Lastbus$Fault" "java/lang/Throwable" "stackTrace" "[Ljava/lang/StackTraceElement;") ∈ lw_all := lw_g (lw_at lw_m6 41 rfl) rfl
theorem q1364 : (Jvm.Cond.lays "Lastbus$Fault" "java/lang/Throwable" "suppressedExceptions" "Ljava/util/List;") ∈ lw_all := lw_g (lw_at lw_m6 42 rfl) rfl
theorem q1365 : (Jvm.Cond.lays "Lastbus$Fault" "java/lang/Throwable" "detailMessage" "Ljava/lang/String;") ∈ lw_all := lw_g (lw_at lw_m6 43 rfl) rfl
theorem q1366 : (Jvm.Cond.lays "Lastbus$Fault" "java/lang/Throwable" "backtrace" "Ljava/lang/Object;") ∈ lw_all := lw_g (lw_at lw_m6 44 rfl) rfl
theorem q1368 : (Jvm.Cond.instanceMethod ({ cls := "Lastbus$Fault", name := "<init>", desc := "(I)V" } : Jvm.MethodName)) ∈ lw_all := lw_g (lw_at lw_m6 46 rfl) rfl
theorem q1369 : (Jvm.Cond.code ({ cls := "Lastbus$Fault", name := "<init>", desc := "(I)V" } : Jvm.MethodName) prog_3_method_1_code (2 : Nat) (Option.none : Option Jvm.ClassFile.FieldType)) ∈ lw_all := lw_g (lw_at lw_m6 47 rfl) rfl
theorem q1370 : (Jvm.Cond.stringRef "Lastbus$Fault" (1 : Nat) "fault") ∈ lw_tbl := lw_at lw_m6 48 rfl
theorem q1371 : (Jvm.Cond.methodLink "Lastbus$Fault" (3 : Nat) ({ cls := "java/lang/Exception", name := "<init>", desc := "(Ljava/lang/String;)V" } : Jvm.MethodName)) ∈ lw_all := lw_g (lw_at lw_m6 49 rfl) rfl
theorem q1372 : (Jvm.Cond.fieldLink "Lastbus$Fault" (9 : Nat) "Lastbus$Fault" "place" "I") ∈ lw_all := lw_g (lw_at lw_m6 50 rfl) rfl
theorem q1374 : (Jvm.Cond.laysFinal "Lastbus$Fault" "Lastbus$Fault" "place" "I") ∈ lw_all := lw_g (lw_at lw_m6 52 rfl) rfl
theorem q1375 : (Jvm.Cond.soleField "Lastbus$Fault" "place") ∈ lw_all := lw_g (lw_at lw_m6 53 rfl) rfl
theorem q1376 : (Jvm.Cond.lays "Lastbus$Fault" "java/lang/Throwable" "depth" "I") ∈ lw_all := lw_g (lw_at lw_m6 54 rfl) rfl
theorem q1377 : (Jvm.Cond.superclass "Lastbus$Fault" "java/lang/Exception") ∈ lw_all := lw_g (lw_at lw_m6 55 rfl) rfl
theorem q3689 : (Jvm.Cond.castable "Lastbus$Fault" "java/lang/Object") ∈ lw_tbl := lw_at lw_m15 207 rfl
theorem in_X6 : ∀ w ∈ wsX60, w ∈ lw_all := lw_in wsX60 [1362, 1363, 1364, 1365, 1366, 1376, 1374] (by decide +kernel) (by decide +kernel)
/-! Lastbus$Late -/
set_option maxRecDepth 100000
def RX7 : String := "Lastbus$Late"
def TX7 : u_T := fun k => match k with
  | 0 => ("Lastbus$Late", "call", "I", true)
  | _ => ("Lastbus$Late", "minutes", "I", true)
def tyX7 : Nat → FieldType := fun k => match k with
  | 0 => .int
  | _ => .int
abbrev wsX70 : List Cond := u_ws RX7 TX7 2
theorem nmX7 : ∀ a, a < 2 → ∀ b, b < 2 → a ≠ b → (TX7 a).2.1 ≠ (TX7 b).2.1 := by decide +kernel
theorem tyX7_ok : ∀ k, k < 2 → parseFieldDescriptor (TX7 k).2.2.1 = some (tyX7 k) := by decide +kernel
abbrev cX7_init : ByteArray := prog_5_method_1_code
def yX7_init : MethodName := ⟨RX7, "<init>", "(II)V"⟩
def dkwX7_init_0 : List UInt8 := [42, 183, 0, 1, 42, 27, 181, 0, 7, 42, 28, 181, 0, 13, 177]
abbrev dktX7_init_0 : List UInt8 := dkwX7_init_0 ++ []
theorem dksX7_init_0 : cX7_init.data.toList.drop 0 = dktX7_init_0 := by decide +kernel
theorem dX7_init_0 : decode cX7_init 0 = .ok (.aload_n 0, 1) := dk_42 (dk_at dksX7_init_0 0 rfl rfl)
theorem dX7_init_1 : decode cX7_init 1 = .ok (.invokespecial 1, 3) := dk_183 0 1 (dk_at dksX7_init_0 1 rfl rfl)
theorem dX7_init_4 : decode cX7_init 4 = .ok (.aload_n 0, 1) := dk_42 (dk_at dksX7_init_0 4 rfl rfl)
theorem dX7_init_5 : decode cX7_init 5 = .ok (.iload_n 1, 1) := dk_27 (dk_at dksX7_init_0 5 rfl rfl)
theorem dX7_init_6 : decode cX7_init 6 = .ok (.putfield 7, 3) := dk_181 0 7 (dk_at dksX7_init_0 6 rfl rfl)
theorem dX7_init_9 : decode cX7_init 9 = .ok (.aload_n 0, 1) := dk_42 (dk_at dksX7_init_0 9 rfl rfl)
theorem dX7_init_10 : decode cX7_init 10 = .ok (.iload_n 2, 1) := dk_28 (dk_at dksX7_init_0 10 rfl rfl)
theorem dX7_init_11 : decode cX7_init 11 = .ok (.putfield 13, 3) := dk_181 0 13 (dk_at dksX7_init_0 11 rfl rfl)
theorem dX7_init_14 : decode cX7_init 14 = .ok (.return_, 1) := dk_177 (dk_at dksX7_init_0 14 rfl rfl)
abbrev cX7_minutes : ByteArray := prog_5_method_6_code
def yX7_minutes : MethodName := ⟨RX7, "minutes", "()I"⟩
theorem dX7_minutes_0 : decode cX7_minutes 0 = .ok (.aload_n 0, 1) := by decide +kernel
theorem dX7_minutes_1 : decode cX7_minutes 1 = .ok (.getfield 13, 3) := by decide +kernel
theorem dX7_minutes_4 : decode cX7_minutes 4 = .ok (.ireturn, 1) := by decide +kernel
abbrev cX7_call : ByteArray := prog_5_method_5_code
def yX7_call : MethodName := ⟨RX7, "call", "()I"⟩
theorem dX7_call_0 : decode cX7_call 0 = .ok (.aload_n 0, 1) := by decide +kernel
theorem dX7_call_1 : decode cX7_call 1 = .ok (.getfield 7, 3) := by decide +kernel
theorem dX7_call_4 : decode cX7_call 4 = .ok (.ireturn, 1) := by decide +kernel
theorem q165 : (Jvm.Cond.initialized "Lastbus$Late") ∈ lw_all := lw_g (lw_at lw_m1 43 rfl) rfl
theorem q980 : (Jvm.Cond.selects "Lastbus$Late" ({ cls := "java/lang/Object", name := "getClass", desc := "()Ljava/lang/Class;" } : Jvm.MethodName) ({ cls := "java/lang/Object", name := "getClass", desc := "()Ljava/lang/Class;" } : Jvm.MethodName)) ∈ lw_all := lw_g (lw_at lw_m4 138 rfl) rfl
theorem q1732 : (Jvm.Cond.instantiable "Lastbus$Late" (2 : Nat)) ∈ lw_all := lw_g (lw_at lw_m7 170 rfl) rfl
theorem q1734 : (Jvm.Cond.instanceMethod ({ cls := "Lastbus$Late", name := "<init>", desc := "(II)V" } : Jvm.MethodName)) ∈ lw_all := lw_g (lw_at lw_m7 172 rfl) rfl
theorem q1735 : (Jvm.Cond.code ({ cls := "Lastbus$Late", name := "<init>", desc := "(II)V" } : Jvm.MethodName) prog_5_method_1_code (3 : Nat) (Option.none : Option Jvm.ClassFile.FieldType)) ∈ lw_all := lw_g (lw_at lw_m7 173 rfl) rfl
theorem q1736 : (Jvm.Cond.methodLink "Lastbus$Late" (1 : Nat) ({ cls := "java/lang/Record", name := "<init>", desc := "()V" } : Jvm.MethodName)) ∈ lw_all := lw_g (lw_at lw_m7 174 rfl) rfl
theorem q1737 : (Jvm.Cond.fieldLink "Lastbus$Late" (7 : Nat) "Lastbus$Late" "call" "I") ∈ lw_all := lw_g (lw_at lw_m7 175 rfl) rfl
theorem q1738 : (Jvm.Cond.fieldLink "Lastbus$Late" (13 : Nat) "Lastbus$Late" "minutes" "I") ∈ lw_all := lw_g (lw_at lw_m7 176 rfl) rfl
theorem q1739 : (Jvm.Cond.laysFinal "Lastbus$Late" "Lastbus$Late" "call" "I") ∈ lw_all := lw_g (lw_at lw_m7 177 rfl) rfl
theorem q1740 : (Jvm.Cond.soleField "Lastbus$Late" "call") ∈ lw_all := lw_g (lw_at lw_m7 178 rfl) rfl
theorem q1741 : (Jvm.Cond.laysFinal "Lastbus$Late" "Lastbus$Late" "minutes" "I") ∈ lw_all := lw_g (lw_at lw_m7 179 rfl) rfl
theorem q1742 : (Jvm.Cond.soleField "Lastbus$Late" "minutes") ∈ lw_all := lw_g (lw_at lw_m7 180 rfl) rfl
theorem q1743 : (Jvm.Cond.superclass "Lastbus$Late" "java/lang/Record") ∈ lw_all := lw_g (lw_at lw_m7 181 rfl) rfl
theorem q1836 : (Jvm.Cond.instanceMethod ({ cls := "Lastbus$Late", name := "minutes", desc := "()I" } : Jvm.MethodName)) ∈ lw_all := lw_g (lw_at lw_m8 34 rfl) rfl
theorem q1837 : (Jvm.Cond.selects "Lastbus$Late" ({ cls := "Lastbus$Late", name := "minutes", desc := "()I" } : Jvm.MethodName) ({ cls := "Lastbus$Late", name := "minutes", desc := "()I" } : Jvm.MethodName)) ∈ lw_all := lw_g (lw_at lw_m8 35 rfl) rfl
theorem q1838 : (Jvm.Cond.code ({ cls := "Lastbus$Late", name := "minutes", desc := "()I" } : Jvm.MethodName) prog_5_method_6_code (1 : Nat) (Option.some Jvm.ClassFile.FieldType.int)) ∈ lw_all := lw_g (lw_at lw_m8 36 rfl) rfl
theorem q1851 : (Jvm.Cond.instanceMethod ({ cls := "Lastbus$Late", name := "call", desc := "()I" } : Jvm.MethodName)) ∈ lw_all := lw_g (lw_at lw_m8 49 rfl) rfl
theorem q1852 : (Jvm.Cond.selects "Lastbus$Late" ({ cls := "Lastbus$Late", name := "call", desc := "()I" } : Jvm.MethodName) ({ cls := "Lastbus$Late", name := "call", desc := "()I" } : Jvm.MethodName)) ∈ lw_all := lw_g (lw_at lw_m8 50 rfl) rfl
theorem q1853 : (Jvm.Cond.code ({ cls := "Lastbus$Late", name := "call", desc := "()I" } : Jvm.MethodName) prog_5_method_5_code (1 : Nat) (Option.some Jvm.ClassFile.FieldType.int)) ∈ lw_all := lw_g (lw_at lw_m8 51 rfl) rfl
theorem q3693 : (Jvm.Cond.castable "Lastbus$Late" "java/lang/Object") ∈ lw_tbl := lw_at lw_m15 211 rfl
theorem in_X7 : ∀ w ∈ wsX70, w ∈ lw_all := lw_in wsX70 [1739, 1741] (by decide +kernel) (by decide +kernel)
/-! Lastbus$Run -/
set_option maxRecDepth 100000
def RX8 : String := "Lastbus$Run"
def TX8 : u_T := fun k => match k with
  | 0 => ("Lastbus$Run", "number", "I", true)
  | 1 => ("Lastbus$Run", "trip", "I", true)
  | 2 => ("Lastbus$Run", "shift", "I", true)
  | 3 => ("Lastbus$Run", "stops", "[I", true)
  | 4 => ("Lastbus$Run", "arrivals", "[I", true)
  | _ => ("Lastbus$Run", "departures", "[I", true)
def tyX8 : Nat → FieldType := fun k => match k with
  | 0 => .int
  | 1 => .int
  | 2 => .int
  | 3 => .array .int
  | 4 => .array .int
  | _ => .array .int
abbrev wsX80 : List Cond := u_ws RX8 TX8 6
theorem nmX8 : ∀ a, a < 6 → ∀ b, b < 6 → a ≠ b → (TX8 a).2.1 ≠ (TX8 b).2.1 := by decide +kernel
theorem tyX8_ok : ∀ k, k < 6 → parseFieldDescriptor (TX8 k).2.2.1 = some (tyX8 k) := by decide +kernel
abbrev cX8_init : ByteArray := prog_11_method_1_code
def yX8_init : MethodName := ⟨RX8, "<init>", "(IIILLastbus$Trip;LLastbus$Late;)V"⟩
def dkwX8_init_8 : List UInt8 := [153, 0, 11, 25, 5, 182, 0, 60, 167, 0, 4, 3, 96, 79, 132, 7, 1, 167, 255, 109, 177]
abbrev dktX8_init_8 : List UInt8 := dkwX8_init_8 ++ []
def dkwX8_init_7 : List UInt8 := [3, 96, 79, 42, 180, 0, 40, 21, 7, 25, 8, 182, 0, 63, 17, 5, 160, 29, 104, 96, 21, 9]
abbrev dktX8_init_7 : List UInt8 := dkwX8_init_7 ++ dktX8_init_8
def dkwX8_init_6 : List UInt8 := [25, 8, 182, 0, 57, 17, 5, 160, 29, 104, 96, 21, 10, 153, 0, 11, 25, 5, 182, 0, 60, 167, 0, 4]
abbrev dktX8_init_6 : List UInt8 := dkwX8_init_6 ++ dktX8_init_7
def dkwX8_init_5 : List UInt8 := [167, 0, 4, 3, 54, 10, 42, 180, 0, 33, 21, 7, 25, 8, 182, 0, 54, 79, 42, 180, 0, 37, 21, 7]
abbrev dktX8_init_5 : List UInt8 := dkwX8_init_5 ++ dktX8_init_6
def dkwX8_init_4 : List UInt8 := [167, 0, 4, 3, 54, 9, 25, 5, 198, 0, 17, 21, 7, 25, 5, 182, 0, 49, 164, 0, 7, 4]
abbrev dktX8_init_4 : List UInt8 := dkwX8_init_4 ++ dktX8_init_5
def dkwX8_init_3 : List UInt8 := [182, 0, 43, 192, 0, 47, 58, 8, 25, 5, 198, 0, 17, 21, 7, 25, 5, 182, 0, 49, 161, 0, 7, 4]
abbrev dktX8_init_3 : List UInt8 := dkwX8_init_3 ++ dktX8_init_4
def dkwX8_init_2 : List UInt8 := [188, 10, 181, 0, 40, 3, 54, 7, 21, 7, 21, 6, 162, 0, 146, 25, 4, 180, 0, 21, 21, 7]
abbrev dktX8_init_2 : List UInt8 := dkwX8_init_2 ++ dktX8_init_3
def dkwX8_init_1 : List UInt8 := [182, 0, 27, 54, 6, 42, 21, 6, 188, 10, 181, 0, 33, 42, 21, 6, 188, 10, 181, 0, 37, 42, 21, 6]
abbrev dktX8_init_1 : List UInt8 := dkwX8_init_1 ++ dktX8_init_2
def dkwX8_init_0 : List UInt8 := [42, 183, 0, 3, 42, 27, 181, 0, 9, 42, 28, 181, 0, 15, 42, 29, 181, 0, 18, 25, 4, 180, 0, 21]
abbrev dktX8_init_0 : List UInt8 := dkwX8_init_0 ++ dktX8_init_1
theorem dksX8_init_0 : cX8_init.data.toList.drop 0 = dktX8_init_0 := by decide +kernel
theorem dksX8_init_1 : cX8_init.data.toList.drop 24 = dktX8_init_1 := dk_seg dksX8_init_0 24 rfl rfl
theorem dksX8_init_2 : cX8_init.data.toList.drop 48 = dktX8_init_2 := dk_seg dksX8_init_1 24 rfl rfl
theorem dksX8_init_3 : cX8_init.data.toList.drop 70 = dktX8_init_3 := dk_seg dksX8_init_2 22 rfl rfl
theorem dksX8_init_4 : cX8_init.data.toList.drop 94 = dktX8_init_4 := dk_seg dksX8_init_3 24 rfl rfl
theorem dksX8_init_5 : cX8_init.data.toList.drop 116 = dktX8_init_5 := dk_seg dksX8_init_4 22 rfl rfl
theorem dksX8_init_6 : cX8_init.data.toList.drop 140 = dktX8_init_6 := dk_seg dksX8_init_5 24 rfl rfl
theorem dksX8_init_7 : cX8_init.data.toList.drop 164 = dktX8_init_7 := dk_seg dksX8_init_6 24 rfl rfl
theorem dksX8_init_8 : cX8_init.data.toList.drop 186 = dktX8_init_8 := dk_seg dksX8_init_7 22 rfl rfl
theorem dX8_init_0 : decode cX8_init 0 = .ok (.aload_n 0, 1) := dk_42 (dk_at dksX8_init_0 0 rfl rfl)
theorem dX8_init_1 : decode cX8_init 1 = .ok (.invokespecial 3, 3) := dk_183 0 3 (dk_at dksX8_init_0 1 rfl rfl)
theorem dX8_init_4 : decode cX8_init 4 = .ok (.aload_n 0, 1) := dk_42 (dk_at dksX8_init_0 4 rfl rfl)
theorem dX8_init_5 : decode cX8_init 5 = .ok (.iload_n 1, 1) := dk_27 (dk_at dksX8_init_0 5 rfl rfl)
theorem dX8_init_6 : decode cX8_init 6 = .ok (.putfield 9, 3) := dk_181 0 9 (dk_at dksX8_init_0 6 rfl rfl)
theorem dX8_init_9 : decode cX8_init 9 = .ok (.aload_n 0, 1) := dk_42 (dk_at dksX8_init_0 9 rfl rfl)
theorem dX8_init_10 : decode cX8_init 10 = .ok (.iload_n 2, 1) := dk_28 (dk_at dksX8_init_0 10 rfl rfl)
theorem dX8_init_11 : decode cX8_init 11 = .ok (.putfield 15, 3) := dk_181 0 15 (dk_at dksX8_init_0 11 rfl rfl)
theorem dX8_init_14 : decode cX8_init 14 = .ok (.aload_n 0, 1) := dk_42 (dk_at dksX8_init_0 14 rfl rfl)
theorem dX8_init_15 : decode cX8_init 15 = .ok (.iload_n 3, 1) := dk_29 (dk_at dksX8_init_0 15 rfl rfl)
theorem dX8_init_16 : decode cX8_init 16 = .ok (.putfield 18, 3) := dk_181 0 18 (dk_at dksX8_init_0 16 rfl rfl)
theorem dX8_init_19 : decode cX8_init 19 = .ok (.aload 4, 2) := dk_25 4 (dk_at dksX8_init_0 19 rfl rfl)
theorem dX8_init_21 : decode cX8_init 21 = .ok (.getfield 21, 3) := dk_180 0 21 (dk_at dksX8_init_0 21 rfl rfl)
theorem dX8_init_24 : decode cX8_init 24 = .ok (.invokevirtual 27, 3) := dk_182 0 27 (dk_at dksX8_init_1 0 rfl rfl)
theorem dX8_init_27 : decode cX8_init 27 = .ok (.istore 6, 2) := dk_54 6 (dk_at dksX8_init_1 3 rfl rfl)
theorem dX8_init_29 : decode cX8_init 29 = .ok (.aload_n 0, 1) := dk_42 (dk_at dksX8_init_1 5 rfl rfl)
theorem dX8_init_30 : decode cX8_init 30 = .ok (.iload 6, 2) := dk_21 6 (dk_at dksX8_init_1 6 rfl rfl)
theorem dX8_init_32 : decode cX8_init 32 = .ok (.newarray .int, 2) := dk_188_10 (dk_at dksX8_init_1 8 rfl rfl)
theorem dX8_init_34 : decode cX8_init 34 = .ok (.putfield 33, 3) := dk_181 0 33 (dk_at dksX8_init_1 10 rfl rfl)
theorem dX8_init_37 : decode cX8_init 37 = .ok (.aload_n 0, 1) := dk_42 (dk_at dksX8_init_1 13 rfl rfl)
theorem dX8_init_38 : decode cX8_init 38 = .ok (.iload 6, 2) := dk_21 6 (dk_at dksX8_init_1 14 rfl rfl)
theorem dX8_init_40 : decode cX8_init 40 = .ok (.newarray .int, 2) := dk_188_10 (dk_at dksX8_init_1 16 rfl rfl)
theorem dX8_init_42 : decode cX8_init 42 = .ok (.putfield 37, 3) := dk_181 0 37 (dk_at dksX8_init_1 18 rfl rfl)
theorem dX8_init_45 : decode cX8_init 45 = .ok (.aload_n 0, 1) := dk_42 (dk_at dksX8_init_1 21 rfl rfl)
theorem dX8_init_46 : decode cX8_init 46 = .ok (.iload 6, 2) := dk_21 6 (dk_at dksX8_init_1 22 rfl rfl)
theorem dX8_init_48 : decode cX8_init 48 = .ok (.newarray .int, 2) := dk_188_10 (dk_at dksX8_init_2 0 rfl rfl)
theorem dX8_init_50 : decode cX8_init 50 = .ok (.putfield 40, 3) := dk_181 0 40 (dk_at dksX8_init_2 2 rfl rfl)
theorem dX8_init_53 : decode cX8_init 53 = .ok (.iconst 0, 1) := dk_3 (dk_at dksX8_init_2 5 rfl rfl)
theorem dX8_init_54 : decode cX8_init 54 = .ok (.istore 7, 2) := dk_54 7 (dk_at dksX8_init_2 6 rfl rfl)
theorem dX8_init_56 : decode cX8_init 56 = .ok (.iload 7, 2) := dk_21 7 (dk_at dksX8_init_2 8 rfl rfl)
theorem dX8_init_58 : decode cX8_init 58 = .ok (.iload 6, 2) := dk_21 6 (dk_at dksX8_init_2 10 rfl rfl)
theorem dX8_init_60 : decode cX8_init 60 = .ok (.if_icmp .ge 146, 3) := dk_162 0 146 (dk_at dksX8_init_2 12 rfl rfl)
theorem dX8_init_63 : decode cX8_init 63 = .ok (.aload 4, 2) := dk_25 4 (dk_at dksX8_init_2 15 rfl rfl)
theorem dX8_init_65 : decode cX8_init 65 = .ok (.getfield 21, 3) := dk_180 0 21 (dk_at dksX8_init_2 17 rfl rfl)
theorem dX8_init_68 : decode cX8_init 68 = .ok (.iload 7, 2) := dk_21 7 (dk_at dksX8_init_2 20 rfl rfl)
theorem dX8_init_70 : decode cX8_init 70 = .ok (.invokevirtual 43, 3) := dk_182 0 43 (dk_at dksX8_init_3 0 rfl rfl)
theorem dX8_init_73 : decode cX8_init 73 = .ok (.checkcast 47, 3) := dk_192 0 47 (dk_at dksX8_init_3 3 rfl rfl)
theorem dX8_init_76 : decode cX8_init 76 = .ok (.astore 8, 2) := dk_58 8 (dk_at dksX8_init_3 6 rfl rfl)
theorem dX8_init_78 : decode cX8_init 78 = .ok (.aload 5, 2) := dk_25 5 (dk_at dksX8_init_3 8 rfl rfl)
theorem dX8_init_80 : decode cX8_init 80 = .ok (.ifnull 17, 3) := dk_198 0 17 (dk_at dksX8_init_3 10 rfl rfl)
theorem dX8_init_83 : decode cX8_init 83 = .ok (.iload 7, 2) := dk_21 7 (dk_at dksX8_init_3 13 rfl rfl)
theorem dX8_init_85 : decode cX8_init 85 = .ok (.aload 5, 2) := dk_25 5 (dk_at dksX8_init_3 15 rfl rfl)
theorem dX8_init_87 : decode cX8_init 87 = .ok (.invokevirtual 49, 3) := dk_182 0 49 (dk_at dksX8_init_3 17 rfl rfl)
theorem dX8_init_90 : decode cX8_init 90 = .ok (.if_icmp .lt 7, 3) := dk_161 0 7 (dk_at dksX8_init_3 20 rfl rfl)
theorem dX8_init_93 : decode cX8_init 93 = .ok (.iconst 1, 1) := dk_4 (dk_at dksX8_init_3 23 rfl rfl)
theorem dX8_init_94 : decode cX8_init 94 = .ok (.goto 4, 3) := dk_167 0 4 (dk_at dksX8_init_4 0 rfl rfl)
theorem dX8_init_97 : decode cX8_init 97 = .ok (.iconst 0, 1) := dk_3 (dk_at dksX8_init_4 3 rfl rfl)
theorem dX8_init_98 : decode cX8_init 98 = .ok (.istore 9, 2) := dk_54 9 (dk_at dksX8_init_4 4 rfl rfl)
theorem dX8_init_100 : decode cX8_init 100 = .ok (.aload 5, 2) := dk_25 5 (dk_at dksX8_init_4 6 rfl rfl)
theorem dX8_init_102 : decode cX8_init 102 = .ok (.ifnull 17, 3) := dk_198 0 17 (dk_at dksX8_init_4 8 rfl rfl)
theorem dX8_init_105 : decode cX8_init 105 = .ok (.iload 7, 2) := dk_21 7 (dk_at dksX8_init_4 11 rfl rfl)
theorem dX8_init_107 : decode cX8_init 107 = .ok (.aload 5, 2) := dk_25 5 (dk_at dksX8_init_4 13 rfl rfl)
theorem dX8_init_109 : decode cX8_init 109 = .ok (.invokevirtual 49, 3) := dk_182 0 49 (dk_at dksX8_init_4 15 rfl rfl)
theorem dX8_init_112 : decode cX8_init 112 = .ok (.if_icmp .le 7, 3) := dk_164 0 7 (dk_at dksX8_init_4 18 rfl rfl)
theorem dX8_init_115 : decode cX8_init 115 = .ok (.iconst 1, 1) := dk_4 (dk_at dksX8_init_4 21 rfl rfl)
theorem dX8_init_116 : decode cX8_init 116 = .ok (.goto 4, 3) := dk_167 0 4 (dk_at dksX8_init_5 0 rfl rfl)
theorem dX8_init_119 : decode cX8_init 119 = .ok (.iconst 0, 1) := dk_3 (dk_at dksX8_init_5 3 rfl rfl)
theorem dX8_init_120 : decode cX8_init 120 = .ok (.istore 10, 2) := dk_54 10 (dk_at dksX8_init_5 4 rfl rfl)
theorem dX8_init_122 : decode cX8_init 122 = .ok (.aload_n 0, 1) := dk_42 (dk_at dksX8_init_5 6 rfl rfl)
theorem dX8_init_123 : decode cX8_init 123 = .ok (.getfield 33, 3) := dk_180 0 33 (dk_at dksX8_init_5 7 rfl rfl)
theorem dX8_init_126 : decode cX8_init 126 = .ok (.iload 7, 2) := dk_21 7 (dk_at dksX8_init_5 10 rfl rfl)
theorem dX8_init_128 : decode cX8_init 128 = .ok (.aload 8, 2) := dk_25 8 (dk_at dksX8_init_5 12 rfl rfl)
theorem dX8_init_130 : decode cX8_init 130 = .ok (.invokevirtual 54, 3) := dk_182 0 54 (dk_at dksX8_init_5 14 rfl rfl)
theorem dX8_init_133 : decode cX8_init 133 = .ok (.iastore, 1) := dk_79 (dk_at dksX8_init_5 17 rfl rfl)
theorem dX8_init_134 : decode cX8_init 134 = .ok (.aload_n 0, 1) := dk_42 (dk_at dksX8_init_5 18 rfl rfl)
theorem dX8_init_135 : decode cX8_init 135 = .ok (.getfield 37, 3) := dk_180 0 37 (dk_at dksX8_init_5 19 rfl rfl)
theorem dX8_init_138 : decode cX8_init 138 = .ok (.iload 7, 2) := dk_21 7 (dk_at dksX8_init_5 22 rfl rfl)
theorem dX8_init_140 : decode cX8_init 140 = .ok (.aload 8, 2) := dk_25 8 (dk_at dksX8_init_6 0 rfl rfl)
theorem dX8_init_142 : decode cX8_init 142 = .ok (.invokevirtual 57, 3) := dk_182 0 57 (dk_at dksX8_init_6 2 rfl rfl)
theorem dX8_init_145 : decode cX8_init 145 = .ok (.sipush 1440, 3) := dk_17 5 160 (dk_at dksX8_init_6 5 rfl rfl)
theorem dX8_init_148 : decode cX8_init 148 = .ok (.iload_n 3, 1) := dk_29 (dk_at dksX8_init_6 8 rfl rfl)
theorem dX8_init_149 : decode cX8_init 149 = .ok (.imul, 1) := dk_104 (dk_at dksX8_init_6 9 rfl rfl)
theorem dX8_init_150 : decode cX8_init 150 = .ok (.iadd, 1) := dk_96 (dk_at dksX8_init_6 10 rfl rfl)
theorem dX8_init_151 : decode cX8_init 151 = .ok (.iload 10, 2) := dk_21 10 (dk_at dksX8_init_6 11 rfl rfl)
theorem dX8_init_153 : decode cX8_init 153 = .ok (.ifCond .eq 11, 3) := dk_153 0 11 (dk_at dksX8_init_6 13 rfl rfl)
theorem dX8_init_156 : decode cX8_init 156 = .ok (.aload 5, 2) := dk_25 5 (dk_at dksX8_init_6 16 rfl rfl)
theorem dX8_init_158 : decode cX8_init 158 = .ok (.invokevirtual 60, 3) := dk_182 0 60 (dk_at dksX8_init_6 18 rfl rfl)
theorem dX8_init_161 : decode cX8_init 161 = .ok (.goto 4, 3) := dk_167 0 4 (dk_at dksX8_init_6 21 rfl rfl)
theorem dX8_init_164 : decode cX8_init 164 = .ok (.iconst 0, 1) := dk_3 (dk_at dksX8_init_7 0 rfl rfl)
theorem dX8_init_165 : decode cX8_init 165 = .ok (.iadd, 1) := dk_96 (dk_at dksX8_init_7 1 rfl rfl)
theorem dX8_init_166 : decode cX8_init 166 = .ok (.iastore, 1) := dk_79 (dk_at dksX8_init_7 2 rfl rfl)
theorem dX8_init_167 : decode cX8_init 167 = .ok (.aload_n 0, 1) := dk_42 (dk_at dksX8_init_7 3 rfl rfl)
theorem dX8_init_168 : decode cX8_init 168 = .ok (.getfield 40, 3) := dk_180 0 40 (dk_at dksX8_init_7 4 rfl rfl)
theorem dX8_init_171 : decode cX8_init 171 = .ok (.iload 7, 2) := dk_21 7 (dk_at dksX8_init_7 7 rfl rfl)
theorem dX8_init_173 : decode cX8_init 173 = .ok (.aload 8, 2) := dk_25 8 (dk_at dksX8_init_7 9 rfl rfl)
theorem dX8_init_175 : decode cX8_init 175 = .ok (.invokevirtual 63, 3) := dk_182 0 63 (dk_at dksX8_init_7 11 rfl rfl)
theorem dX8_init_178 : decode cX8_init 178 = .ok (.sipush 1440, 3) := dk_17 5 160 (dk_at dksX8_init_7 14 rfl rfl)
theorem dX8_init_181 : decode cX8_init 181 = .ok (.iload_n 3, 1) := dk_29 (dk_at dksX8_init_7 17 rfl rfl)
theorem dX8_init_182 : decode cX8_init 182 = .ok (.imul, 1) := dk_104 (dk_at dksX8_init_7 18 rfl rfl)
theorem dX8_init_183 : decode cX8_init 183 = .ok (.iadd, 1) := dk_96 (dk_at dksX8_init_7 19 rfl rfl)
theorem dX8_init_184 : decode cX8_init 184 = .ok (.iload 9, 2) := dk_21 9 (dk_at dksX8_init_7 20 rfl rfl)
theorem dX8_init_186 : decode cX8_init 186 = .ok (.ifCond .eq 11, 3) := dk_153 0 11 (dk_at dksX8_init_8 0 rfl rfl)
theorem dX8_init_189 : decode cX8_init 189 = .ok (.aload 5, 2) := dk_25 5 (dk_at dksX8_init_8 3 rfl rfl)
theorem dX8_init_191 : decode cX8_init 191 = .ok (.invokevirtual 60, 3) := dk_182 0 60 (dk_at dksX8_init_8 5 rfl rfl)
theorem dX8_init_194 : decode cX8_init 194 = .ok (.goto 4, 3) := dk_167 0 4 (dk_at dksX8_init_8 8 rfl rfl)
theorem dX8_init_197 : decode cX8_init 197 = .ok (.iconst 0, 1) := dk_3 (dk_at dksX8_init_8 11 rfl rfl)
theorem dX8_init_198 : decode cX8_init 198 = .ok (.iadd, 1) := dk_96 (dk_at dksX8_init_8 12 rfl rfl)
theorem dX8_init_199 : decode cX8_init 199 = .ok (.iastore, 1) := dk_79 (dk_at dksX8_init_8 13 rfl rfl)
theorem dX8_init_200 : decode cX8_init 200 = .ok (.iinc 7 1, 3) := dk_132 7 1 (dk_at dksX8_init_8 14 rfl rfl)
theorem dX8_init_203 : decode cX8_init 203 = .ok (.goto (-147), 3) := dk_167 255 109 (dk_at dksX8_init_8 17 rfl rfl)
theorem dX8_init_206 : decode cX8_init 206 = .ok (.return_, 1) := dk_177 (dk_at dksX8_init_8 20 rfl rfl)
abbrev cX8_many : ByteArray := prog_11_method_2_code
def yX8_many : MethodName := ⟨RX8, "many", "()I"⟩
def dkwX8_many_0 : List UInt8 := [42, 180, 0, 33, 190, 172]
abbrev dktX8_many_0 : List UInt8 := dkwX8_many_0 ++ []
theorem dksX8_many_0 : cX8_many.data.toList.drop 0 = dktX8_many_0 := by decide +kernel
theorem dX8_many_0 : decode cX8_many 0 = .ok (.aload_n 0, 1) := dk_42 (dk_at dksX8_many_0 0 rfl rfl)
theorem dX8_many_1 : decode cX8_many 1 = .ok (.getfield 33, 3) := dk_180 0 33 (dk_at dksX8_many_0 1 rfl rfl)
theorem dX8_many_4 : decode cX8_many 4 = .ok (.arraylength, 1) := dk_190 (dk_at dksX8_many_0 4 rfl rfl)
theorem dX8_many_5 : decode cX8_many 5 = .ok (.ireturn, 1) := dk_172 (dk_at dksX8_many_0 5 rfl rfl)
abbrev cX8_canGetOn : ByteArray := prog_11_method_3_code
def yX8_canGetOn : MethodName := ⟨RX8, "canGetOn", "(I)Z"⟩
def dkwX8_canGetOn_1 : List UInt8 := [172]
abbrev dktX8_canGetOn_1 : List UInt8 := dkwX8_canGetOn_1 ++ []
def dkwX8_canGetOn_0 : List UInt8 := [27, 42, 182, 0, 66, 4, 100, 162, 0, 16, 42, 180, 0, 40, 27, 46, 155, 0, 7, 4, 167, 0, 4, 3]
abbrev dktX8_canGetOn_0 : List UInt8 := dkwX8_canGetOn_0 ++ dktX8_canGetOn_1
theorem dksX8_canGetOn_0 : cX8_canGetOn.data.toList.drop 0 = dktX8_canGetOn_0 := by decide +kernel
theorem dksX8_canGetOn_1 : cX8_canGetOn.data.toList.drop 24 = dktX8_canGetOn_1 := dk_seg dksX8_canGetOn_0 24 rfl rfl
theorem dX8_canGetOn_0 : decode cX8_canGetOn 0 = .ok (.iload_n 1, 1) := dk_27 (dk_at dksX8_canGetOn_0 0 rfl rfl)
theorem dX8_canGetOn_1 : decode cX8_canGetOn 1 = .ok (.aload_n 0, 1) := dk_42 (dk_at dksX8_canGetOn_0 1 rfl rfl)
theorem dX8_canGetOn_2 : decode cX8_canGetOn 2 = .ok (.invokevirtual 66, 3) := dk_182 0 66 (dk_at dksX8_canGetOn_0 2 rfl rfl)
theorem dX8_canGetOn_5 : decode cX8_canGetOn 5 = .ok (.iconst 1, 1) := dk_4 (dk_at dksX8_canGetOn_0 5 rfl rfl)
theorem dX8_canGetOn_6 : decode cX8_canGetOn 6 = .ok (.isub, 1) := dk_100 (dk_at dksX8_canGetOn_0 6 rfl rfl)
theorem dX8_canGetOn_7 : decode cX8_canGetOn 7 = .ok (.if_icmp .ge 16, 3) := dk_162 0 16 (dk_at dksX8_canGetOn_0 7 rfl rfl)
theorem dX8_canGetOn_10 : decode cX8_canGetOn 10 = .ok (.aload_n 0, 1) := dk_42 (dk_at dksX8_canGetOn_0 10 rfl rfl)
theorem dX8_canGetOn_11 : decode cX8_canGetOn 11 = .ok (.getfield 40, 3) := dk_180 0 40 (dk_at dksX8_canGetOn_0 11 rfl rfl)
theorem dX8_canGetOn_14 : decode cX8_canGetOn 14 = .ok (.iload_n 1, 1) := dk_27 (dk_at dksX8_canGetOn_0 14 rfl rfl)
theorem dX8_canGetOn_15 : decode cX8_canGetOn 15 = .ok (.iaload, 1) := dk_46 (dk_at dksX8_canGetOn_0 15 rfl rfl)
theorem dX8_canGetOn_16 : decode cX8_canGetOn 16 = .ok (.ifCond .lt 7, 3) := dk_155 0 7 (dk_at dksX8_canGetOn_0 16 rfl rfl)
theorem dX8_canGetOn_19 : decode cX8_canGetOn 19 = .ok (.iconst 1, 1) := dk_4 (dk_at dksX8_canGetOn_0 19 rfl rfl)
theorem dX8_canGetOn_20 : decode cX8_canGetOn 20 = .ok (.goto 4, 3) := dk_167 0 4 (dk_at dksX8_canGetOn_0 20 rfl rfl)
theorem dX8_canGetOn_23 : decode cX8_canGetOn 23 = .ok (.iconst 0, 1) := dk_3 (dk_at dksX8_canGetOn_0 23 rfl rfl)
theorem dX8_canGetOn_24 : decode cX8_canGetOn 24 = .ok (.ireturn, 1) := dk_172 (dk_at dksX8_canGetOn_1 0 rfl rfl)
theorem q167 : (Jvm.Cond.initialized "Lastbus$Run") ∈ lw_all := lw_g (lw_at lw_m1 45 rfl) rfl
theorem q986 : (Jvm.Cond.selects "Lastbus$Run" ({ cls := "java/lang/Object", name := "getClass", desc := "()Ljava/lang/Class;" } : Jvm.MethodName) ({ cls := "java/lang/Object", name := "getClass", desc := "()Ljava/lang/Class;" } : Jvm.MethodName)) ∈ lw_all := lw_g (lw_at lw_m4 144 rfl) rfl
theorem q1145 : (Jvm.Cond.fieldLinkNest "Lastbus$Run" (21 : Nat) "Lastbus$Trip" "calls" "Ljava/util/ArrayList;" "Lastbus") ∈ lw_tbl := lw_at lw_m5 63 rfl
theorem q1882 : (Jvm.Cond.instantiable "Lastbus$Run" (6 : Nat)) ∈ lw_all := lw_g (lw_at lw_m8 80 rfl) rfl
theorem q1884 : (Jvm.Cond.instanceMethod ({ cls := "Lastbus$Run", name := "<init>", desc := "(IIILLastbus$Trip;LLastbus$Late;)V" } : Jvm.MethodName)) ∈ lw_all := lw_g (lw_at lw_m8 82 rfl) rfl
theorem q1885 : (Jvm.Cond.code ({ cls := "Lastbus$Run", name := "<init>", desc := "(IIILLastbus$Trip;LLastbus$Late;)V" } : Jvm.MethodName) prog_11_method_1_code (11 : Nat) (Option.none : Option Jvm.ClassFile.FieldType)) ∈ lw_all := lw_g (lw_at lw_m8 83 rfl) rfl
theorem q1886 : (Jvm.Cond.methodLink "Lastbus$Run" (3 : Nat) ({ cls := "java/lang/Object", name := "<init>", desc := "()V" } : Jvm.MethodName)) ∈ lw_all := lw_g (lw_at lw_m8 84 rfl) rfl
theorem q1887 : (Jvm.Cond.methodLink "Lastbus$Run" (27 : Nat) ({ cls := "java/util/ArrayList", name := "size", desc := "()I" } : Jvm.MethodName)) ∈ lw_all := lw_g (lw_at lw_m8 85 rfl) rfl
theorem q1888 : (Jvm.Cond.methodLink "Lastbus$Run" (43 : Nat) ({ cls := "java/util/ArrayList", name := "get", desc := "(I)Ljava/lang/Object;" } : Jvm.MethodName)) ∈ lw_all := lw_g (lw_at lw_m8 86 rfl) rfl
theorem q1889 : (Jvm.Cond.classLink "Lastbus$Run" (47 : Nat) "Lastbus$Call") ∈ lw_all := lw_g (lw_at lw_m8 87 rfl) rfl
theorem q1890 : (Jvm.Cond.methodLink "Lastbus$Run" (49 : Nat) ({ cls := "Lastbus$Late", name := "call", desc := "()I" } : Jvm.MethodName)) ∈ lw_all := lw_g (lw_at lw_m8 88 rfl) rfl
theorem q1891 : (Jvm.Cond.methodLink "Lastbus$Run" (54 : Nat) ({ cls := "Lastbus$Call", name := "stop", desc := "()I" } : Jvm.MethodName)) ∈ lw_all := lw_g (lw_at lw_m8 89 rfl) rfl
theorem q1892 : (Jvm.Cond.methodLink "Lastbus$Run" (57 : Nat) ({ cls := "Lastbus$Call", name := "arrival", desc := "()I" } : Jvm.MethodName)) ∈ lw_all := lw_g (lw_at lw_m8 90 rfl) rfl
theorem q1893 : (Jvm.Cond.methodLink "Lastbus$Run" (60 : Nat) ({ cls := "Lastbus$Late", name := "minutes", desc := "()I" } : Jvm.MethodName)) ∈ lw_all := lw_g (lw_at lw_m8 91 rfl) rfl
theorem q1894 : (Jvm.Cond.methodLink "Lastbus$Run" (63 : Nat) ({ cls := "Lastbus$Call", name := "departure", desc := "()I" } : Jvm.MethodName)) ∈ lw_all := lw_g (lw_at lw_m8 92 rfl) rfl
theorem q1895 : (Jvm.Cond.fieldLink "Lastbus$Run" (9 : Nat) "Lastbus$Run" "number" "I") ∈ lw_all := lw_g (lw_at lw_m8 93 rfl) rfl
theorem q1899 : (Jvm.Cond.fieldLink "Lastbus$Run" (15 : Nat) "Lastbus$Run" "trip" "I") ∈ lw_all := lw_g (lw_at lw_m8 97 rfl) rfl
theorem q1901 : (Jvm.Cond.fieldLink "Lastbus$Run" (18 : Nat) "Lastbus$Run" "shift" "I") ∈ lw_all := lw_g (lw_at lw_m8 99 rfl) rfl
theorem q1903 : (Jvm.Cond.fieldLink "Lastbus$Run" (33 : Nat) "Lastbus$Run" "stops" "[I") ∈ lw_all := lw_g (lw_at lw_m8 101 rfl) rfl
theorem q1907 : (Jvm.Cond.fieldLink "Lastbus$Run" (37 : Nat) "Lastbus$Run" "arrivals" "[I") ∈ lw_all := lw_g (lw_at lw_m8 105 rfl) rfl
theorem q1911 : (Jvm.Cond.fieldLink "Lastbus$Run" (40 : Nat) "Lastbus$Run" "departures" "[I") ∈ lw_all := lw_g (lw_at lw_m8 109 rfl) rfl
theorem q1915 : (Jvm.Cond.laysFinal "Lastbus$Run" "Lastbus$Run" "number" "I") ∈ lw_all := lw_g (lw_at lw_m8 113 rfl) rfl
theorem q1916 : (Jvm.Cond.soleField "Lastbus$Run" "number") ∈ lw_all := lw_g (lw_at lw_m8 114 rfl) rfl
theorem q1917 : (Jvm.Cond.laysFinal "Lastbus$Run" "Lastbus$Run" "trip" "I") ∈ lw_all := lw_g (lw_at lw_m8 115 rfl) rfl
theorem q1918 : (Jvm.Cond.soleField "Lastbus$Run" "trip") ∈ lw_all := lw_g (lw_at lw_m8 116 rfl) rfl
theorem q1919 : (Jvm.Cond.laysFinal "Lastbus$Run" "Lastbus$Run" "shift" "I") ∈ lw_all := lw_g (lw_at lw_m8 117 rfl) rfl
theorem q1920 : (Jvm.Cond.soleField "Lastbus$Run" "shift") ∈ lw_all := lw_g (lw_at lw_m8 118 rfl) rfl
theorem q1921 : (Jvm.Cond.laysFinal "Lastbus$Run" "Lastbus$Run" "stops" "[I") ∈ lw_all := lw_g (lw_at lw_m8 119 rfl) rfl
theorem q1922 : (Jvm.Cond.soleField "Lastbus$Run" "stops") ∈ lw_all := lw_g (lw_at lw_m8 120 rfl) rfl
theorem q1923 : (Jvm.Cond.laysFinal "Lastbus$Run" "Lastbus$Run" "arrivals" "[I") ∈ lw_all := lw_g (lw_at lw_m8 121 rfl) rfl
theorem q1924 : (Jvm.Cond.soleField "Lastbus$Run" "arrivals") ∈ lw_all := lw_g (lw_at lw_m8 122 rfl) rfl
theorem q1925 : (Jvm.Cond.laysFinal "Lastbus$Run" "Lastbus$Run" "departures" "[I") ∈ lw_all := lw_g (lw_at lw_m8 123 rfl) rfl
theorem q1926 : (Jvm.Cond.soleField "Lastbus$Run" "departures") ∈ lw_all := lw_g (lw_at lw_m8 124 rfl) rfl
theorem q1927 : (Jvm.Cond.superclass "Lastbus$Run" "java/lang/Object") ∈ lw_all := lw_g (lw_at lw_m8 125 rfl) rfl
theorem q1940 : (Jvm.Cond.instanceMethod ({ cls := "Lastbus$Run", name := "many", desc := "()I" } : Jvm.MethodName)) ∈ lw_all := lw_g (lw_at lw_m8 138 rfl) rfl
theorem q1941 : (Jvm.Cond.selects "Lastbus$Run" ({ cls := "Lastbus$Run", name := "many", desc := "()I" } : Jvm.MethodName) ({ cls := "Lastbus$Run", name := "many", desc := "()I" } : Jvm.MethodName)) ∈ lw_all := lw_g (lw_at lw_m8 139 rfl) rfl
theorem q1942 : (Jvm.Cond.code ({ cls := "Lastbus$Run", name := "many", desc := "()I" } : Jvm.MethodName) prog_11_method_2_code (1 : Nat) (Option.some Jvm.ClassFile.FieldType.int)) ∈ lw_all := lw_g (lw_at lw_m8 140 rfl) rfl
theorem q1944 : (Jvm.Cond.instanceMethod ({ cls := "Lastbus$Run", name := "canGetOn", desc := "(I)Z" } : Jvm.MethodName)) ∈ lw_all := lw_g (lw_at lw_m8 142 rfl) rfl
theorem q1945 : (Jvm.Cond.selects "Lastbus$Run" ({ cls := "Lastbus$Run", name := "canGetOn", desc := "(I)Z" } : Jvm.MethodName) ({ cls := "Lastbus$Run", name := "canGetOn", desc := "(I)Z" } : Jvm.MethodName)) ∈ lw_all := lw_g (lw_at lw_m8 143 rfl) rfl
theorem q1946 : (Jvm.Cond.code ({ cls := "Lastbus$Run", name := "canGetOn", desc := "(I)Z" } : Jvm.MethodName) prog_11_method_3_code (2 : Nat) (Option.some Jvm.ClassFile.FieldType.boolean)) ∈ lw_all := lw_g (lw_at lw_m8 144 rfl) rfl
theorem q1947 : (Jvm.Cond.methodLink "Lastbus$Run" (66 : Nat) ({ cls := "Lastbus$Run", name := "many", desc := "()I" } : Jvm.MethodName)) ∈ lw_all := lw_g (lw_at lw_m8 145 rfl) rfl
theorem q3695 : (Jvm.Cond.castable "Lastbus$Run" "java/lang/Object") ∈ lw_tbl := lw_at lw_m15 213 rfl
theorem in_X8 : ∀ w ∈ wsX80, w ∈ lw_all := lw_in wsX80 [1915, 1917, 1919, 1921, 1923, 1925] (by decide +kernel) (by decide +kernel)
/-! Lastbus$Ride -/
set_option maxRecDepth 100000
def RX9 : String := "Lastbus$Ride"
def TX9 : u_T := fun k => match k with
  | 0 => ("Lastbus$Ride", "run", "LLastbus$Run;", true)
  | 1 => ("Lastbus$Ride", "call", "I", true)
  | _ => ("Lastbus$Ride", "key", "I", true)
def tyX9 : Nat → FieldType := fun k => match k with
  | 0 => .object "Lastbus$Run"
  | 1 => .int
  | _ => .int
abbrev wsX90 : List Cond := u_ws RX9 TX9 3
theorem nmX9 : ∀ a, a < 3 → ∀ b, b < 3 → a ≠ b → (TX9 a).2.1 ≠ (TX9 b).2.1 := by decide +kernel
theorem tyX9_ok : ∀ k, k < 3 → parseFieldDescriptor (TX9 k).2.2.1 = some (tyX9 k) := by decide +kernel
abbrev cX9_compareTo : ByteArray := prog_10_method_7_code
def yX9_compareTo : MethodName := ⟨RX9, "compareTo", "(Ljava/lang/Object;)I"⟩
def dkwX9_compareTo_0 : List UInt8 := [42, 43, 192, 0, 8, 182, 0, 35, 172]
abbrev dktX9_compareTo_0 : List UInt8 := dkwX9_compareTo_0 ++ []
theorem dksX9_compareTo_0 : cX9_compareTo.data.toList.drop 0 = dktX9_compareTo_0 := by decide +kernel
theorem dX9_compareTo_0 : decode cX9_compareTo 0 = .ok (.aload_n 0, 1) := dk_42 (dk_at dksX9_compareTo_0 0 rfl rfl)
theorem dX9_compareTo_1 : decode cX9_compareTo 1 = .ok (.aload_n 1, 1) := dk_43 (dk_at dksX9_compareTo_0 1 rfl rfl)
theorem dX9_compareTo_2 : decode cX9_compareTo 2 = .ok (.checkcast 8, 3) := dk_192 0 8 (dk_at dksX9_compareTo_0 2 rfl rfl)
theorem dX9_compareTo_5 : decode cX9_compareTo 5 = .ok (.invokevirtual 35, 3) := dk_182 0 35 (dk_at dksX9_compareTo_0 5 rfl rfl)
theorem dX9_compareTo_8 : decode cX9_compareTo 8 = .ok (.ireturn, 1) := dk_172 (dk_at dksX9_compareTo_0 8 rfl rfl)
abbrev cX9_compareTo_2 : ByteArray := prog_10_method_6_code
def yX9_compareTo_2 : MethodName := ⟨RX9, "compareTo", "(LLastbus$Ride;)I"⟩
def dkwX9_compareTo_2_4 : List UInt8 := [164, 0, 7, 4, 167, 0, 4, 3, 172]
abbrev dktX9_compareTo_2_4 : List UInt8 := dkwX9_compareTo_2_4 ++ []
def dkwX9_compareTo_2_3 : List UInt8 := [180, 0, 13, 43, 180, 0, 13, 162, 0, 7, 2, 167, 0, 19, 42, 180, 0, 13, 43, 180, 0, 13]
abbrev dktX9_compareTo_2_3 : List UInt8 := dkwX9_compareTo_2_3 ++ dktX9_compareTo_2_4
def dkwX9_compareTo_2_2 : List UInt8 := [180, 0, 7, 180, 0, 32, 43, 180, 0, 7, 180, 0, 32, 162, 0, 7, 2, 167, 0, 4, 4, 172, 42]
abbrev dktX9_compareTo_2_2 : List UInt8 := dkwX9_compareTo_2_2 ++ dktX9_compareTo_2_3
def dkwX9_compareTo_2_1 : List UInt8 := [167, 0, 4, 4, 172, 42, 180, 0, 7, 180, 0, 32, 43, 180, 0, 7, 180, 0, 32, 159, 0, 26, 42]
abbrev dktX9_compareTo_2_1 : List UInt8 := dkwX9_compareTo_2_1 ++ dktX9_compareTo_2_2
def dkwX9_compareTo_2_0 : List UInt8 := [42, 180, 0, 17, 43, 180, 0, 17, 159, 0, 20, 42, 180, 0, 17, 43, 180, 0, 17, 162, 0, 7, 2]
abbrev dktX9_compareTo_2_0 : List UInt8 := dkwX9_compareTo_2_0 ++ dktX9_compareTo_2_1
theorem dksX9_compareTo_2_0 : cX9_compareTo_2.data.toList.drop 0 = dktX9_compareTo_2_0 := by decide +kernel
theorem dksX9_compareTo_2_1 : cX9_compareTo_2.data.toList.drop 23 = dktX9_compareTo_2_1 := dk_seg dksX9_compareTo_2_0 23 rfl rfl
theorem dksX9_compareTo_2_2 : cX9_compareTo_2.data.toList.drop 46 = dktX9_compareTo_2_2 := dk_seg dksX9_compareTo_2_1 23 rfl rfl
theorem dksX9_compareTo_2_3 : cX9_compareTo_2.data.toList.drop 69 = dktX9_compareTo_2_3 := dk_seg dksX9_compareTo_2_2 23 rfl rfl
theorem dksX9_compareTo_2_4 : cX9_compareTo_2.data.toList.drop 91 = dktX9_compareTo_2_4 := dk_seg dksX9_compareTo_2_3 22 rfl rfl
theorem dX9_compareTo_2_0 : decode cX9_compareTo_2 0 = .ok (.aload_n 0, 1) := dk_42 (dk_at dksX9_compareTo_2_0 0 rfl rfl)
theorem dX9_compareTo_2_1 : decode cX9_compareTo_2 1 = .ok (.getfield 17, 3) := dk_180 0 17 (dk_at dksX9_compareTo_2_0 1 rfl rfl)
theorem dX9_compareTo_2_4 : decode cX9_compareTo_2 4 = .ok (.aload_n 1, 1) := dk_43 (dk_at dksX9_compareTo_2_0 4 rfl rfl)
theorem dX9_compareTo_2_5 : decode cX9_compareTo_2 5 = .ok (.getfield 17, 3) := dk_180 0 17 (dk_at dksX9_compareTo_2_0 5 rfl rfl)
theorem dX9_compareTo_2_8 : decode cX9_compareTo_2 8 = .ok (.if_icmp .eq 20, 3) := dk_159 0 20 (dk_at dksX9_compareTo_2_0 8 rfl rfl)
theorem dX9_compareTo_2_11 : decode cX9_compareTo_2 11 = .ok (.aload_n 0, 1) := dk_42 (dk_at dksX9_compareTo_2_0 11 rfl rfl)
theorem dX9_compareTo_2_12 : decode cX9_compareTo_2 12 = .ok (.getfield 17, 3) := dk_180 0 17 (dk_at dksX9_compareTo_2_0 12 rfl rfl)
theorem dX9_compareTo_2_15 : decode cX9_compareTo_2 15 = .ok (.aload_n 1, 1) := dk_43 (dk_at dksX9_compareTo_2_0 15 rfl rfl)
theorem dX9_compareTo_2_16 : decode cX9_compareTo_2 16 = .ok (.getfield 17, 3) := dk_180 0 17 (dk_at dksX9_compareTo_2_0 16 rfl rfl)
theorem dX9_compareTo_2_19 : decode cX9_compareTo_2 19 = .ok (.if_icmp .ge 7, 3) := dk_162 0 7 (dk_at dksX9_compareTo_2_0 19 rfl rfl)
theorem dX9_compareTo_2_22 : decode cX9_compareTo_2 22 = .ok (.iconst (-1), 1) := dk_2 (dk_at dksX9_compareTo_2_0 22 rfl rfl)
theorem dX9_compareTo_2_23 : decode cX9_compareTo_2 23 = .ok (.goto 4, 3) := dk_167 0 4 (dk_at dksX9_compareTo_2_1 0 rfl rfl)
theorem dX9_compareTo_2_26 : decode cX9_compareTo_2 26 = .ok (.iconst 1, 1) := dk_4 (dk_at dksX9_compareTo_2_1 3 rfl rfl)
theorem dX9_compareTo_2_27 : decode cX9_compareTo_2 27 = .ok (.ireturn, 1) := dk_172 (dk_at dksX9_compareTo_2_1 4 rfl rfl)
theorem dX9_compareTo_2_28 : decode cX9_compareTo_2 28 = .ok (.aload_n 0, 1) := dk_42 (dk_at dksX9_compareTo_2_1 5 rfl rfl)
theorem dX9_compareTo_2_29 : decode cX9_compareTo_2 29 = .ok (.getfield 7, 3) := dk_180 0 7 (dk_at dksX9_compareTo_2_1 6 rfl rfl)
theorem dX9_compareTo_2_32 : decode cX9_compareTo_2 32 = .ok (.getfield 32, 3) := dk_180 0 32 (dk_at dksX9_compareTo_2_1 9 rfl rfl)
theorem dX9_compareTo_2_35 : decode cX9_compareTo_2 35 = .ok (.aload_n 1, 1) := dk_43 (dk_at dksX9_compareTo_2_1 12 rfl rfl)
theorem dX9_compareTo_2_36 : decode cX9_compareTo_2 36 = .ok (.getfield 7, 3) := dk_180 0 7 (dk_at dksX9_compareTo_2_1 13 rfl rfl)
theorem dX9_compareTo_2_39 : decode cX9_compareTo_2 39 = .ok (.getfield 32, 3) := dk_180 0 32 (dk_at dksX9_compareTo_2_1 16 rfl rfl)
theorem dX9_compareTo_2_42 : decode cX9_compareTo_2 42 = .ok (.if_icmp .eq 26, 3) := dk_159 0 26 (dk_at dksX9_compareTo_2_1 19 rfl rfl)
theorem dX9_compareTo_2_45 : decode cX9_compareTo_2 45 = .ok (.aload_n 0, 1) := dk_42 (dk_at dksX9_compareTo_2_1 22 rfl rfl)
theorem dX9_compareTo_2_46 : decode cX9_compareTo_2 46 = .ok (.getfield 7, 3) := dk_180 0 7 (dk_at dksX9_compareTo_2_2 0 rfl rfl)
theorem dX9_compareTo_2_49 : decode cX9_compareTo_2 49 = .ok (.getfield 32, 3) := dk_180 0 32 (dk_at dksX9_compareTo_2_2 3 rfl rfl)
theorem dX9_compareTo_2_52 : decode cX9_compareTo_2 52 = .ok (.aload_n 1, 1) := dk_43 (dk_at dksX9_compareTo_2_2 6 rfl rfl)
theorem dX9_compareTo_2_53 : decode cX9_compareTo_2 53 = .ok (.getfield 7, 3) := dk_180 0 7 (dk_at dksX9_compareTo_2_2 7 rfl rfl)
theorem dX9_compareTo_2_56 : decode cX9_compareTo_2 56 = .ok (.getfield 32, 3) := dk_180 0 32 (dk_at dksX9_compareTo_2_2 10 rfl rfl)
theorem dX9_compareTo_2_59 : decode cX9_compareTo_2 59 = .ok (.if_icmp .ge 7, 3) := dk_162 0 7 (dk_at dksX9_compareTo_2_2 13 rfl rfl)
theorem dX9_compareTo_2_62 : decode cX9_compareTo_2 62 = .ok (.iconst (-1), 1) := dk_2 (dk_at dksX9_compareTo_2_2 16 rfl rfl)
theorem dX9_compareTo_2_63 : decode cX9_compareTo_2 63 = .ok (.goto 4, 3) := dk_167 0 4 (dk_at dksX9_compareTo_2_2 17 rfl rfl)
theorem dX9_compareTo_2_66 : decode cX9_compareTo_2 66 = .ok (.iconst 1, 1) := dk_4 (dk_at dksX9_compareTo_2_2 20 rfl rfl)
theorem dX9_compareTo_2_67 : decode cX9_compareTo_2 67 = .ok (.ireturn, 1) := dk_172 (dk_at dksX9_compareTo_2_2 21 rfl rfl)
theorem dX9_compareTo_2_68 : decode cX9_compareTo_2 68 = .ok (.aload_n 0, 1) := dk_42 (dk_at dksX9_compareTo_2_2 22 rfl rfl)
theorem dX9_compareTo_2_69 : decode cX9_compareTo_2 69 = .ok (.getfield 13, 3) := dk_180 0 13 (dk_at dksX9_compareTo_2_3 0 rfl rfl)
theorem dX9_compareTo_2_72 : decode cX9_compareTo_2 72 = .ok (.aload_n 1, 1) := dk_43 (dk_at dksX9_compareTo_2_3 3 rfl rfl)
theorem dX9_compareTo_2_73 : decode cX9_compareTo_2 73 = .ok (.getfield 13, 3) := dk_180 0 13 (dk_at dksX9_compareTo_2_3 4 rfl rfl)
theorem dX9_compareTo_2_76 : decode cX9_compareTo_2 76 = .ok (.if_icmp .ge 7, 3) := dk_162 0 7 (dk_at dksX9_compareTo_2_3 7 rfl rfl)
theorem dX9_compareTo_2_79 : decode cX9_compareTo_2 79 = .ok (.iconst (-1), 1) := dk_2 (dk_at dksX9_compareTo_2_3 10 rfl rfl)
theorem dX9_compareTo_2_80 : decode cX9_compareTo_2 80 = .ok (.goto 19, 3) := dk_167 0 19 (dk_at dksX9_compareTo_2_3 11 rfl rfl)
theorem dX9_compareTo_2_83 : decode cX9_compareTo_2 83 = .ok (.aload_n 0, 1) := dk_42 (dk_at dksX9_compareTo_2_3 14 rfl rfl)
theorem dX9_compareTo_2_84 : decode cX9_compareTo_2 84 = .ok (.getfield 13, 3) := dk_180 0 13 (dk_at dksX9_compareTo_2_3 15 rfl rfl)
theorem dX9_compareTo_2_87 : decode cX9_compareTo_2 87 = .ok (.aload_n 1, 1) := dk_43 (dk_at dksX9_compareTo_2_3 18 rfl rfl)
theorem dX9_compareTo_2_88 : decode cX9_compareTo_2 88 = .ok (.getfield 13, 3) := dk_180 0 13 (dk_at dksX9_compareTo_2_3 19 rfl rfl)
theorem dX9_compareTo_2_91 : decode cX9_compareTo_2 91 = .ok (.if_icmp .le 7, 3) := dk_164 0 7 (dk_at dksX9_compareTo_2_4 0 rfl rfl)
theorem dX9_compareTo_2_94 : decode cX9_compareTo_2 94 = .ok (.iconst 1, 1) := dk_4 (dk_at dksX9_compareTo_2_4 3 rfl rfl)
theorem dX9_compareTo_2_95 : decode cX9_compareTo_2 95 = .ok (.goto 4, 3) := dk_167 0 4 (dk_at dksX9_compareTo_2_4 4 rfl rfl)
theorem dX9_compareTo_2_98 : decode cX9_compareTo_2 98 = .ok (.iconst 0, 1) := dk_3 (dk_at dksX9_compareTo_2_4 7 rfl rfl)
theorem dX9_compareTo_2_99 : decode cX9_compareTo_2 99 = .ok (.ireturn, 1) := dk_172 (dk_at dksX9_compareTo_2_4 8 rfl rfl)
abbrev cX9_init : ByteArray := prog_10_method_1_code
def yX9_init : MethodName := ⟨RX9, "<init>", "(LLastbus$Run;II)V"⟩
def dkwX9_init_0 : List UInt8 := [42, 183, 0, 1, 42, 43, 181, 0, 7, 42, 28, 181, 0, 13, 42, 29, 181, 0, 17, 177]
abbrev dktX9_init_0 : List UInt8 := dkwX9_init_0 ++ []
theorem dksX9_init_0 : cX9_init.data.toList.drop 0 = dktX9_init_0 := by decide +kernel
theorem dX9_init_0 : decode cX9_init 0 = .ok (.aload_n 0, 1) := dk_42 (dk_at dksX9_init_0 0 rfl rfl)
theorem dX9_init_1 : decode cX9_init 1 = .ok (.invokespecial 1, 3) := dk_183 0 1 (dk_at dksX9_init_0 1 rfl rfl)
theorem dX9_init_4 : decode cX9_init 4 = .ok (.aload_n 0, 1) := dk_42 (dk_at dksX9_init_0 4 rfl rfl)
theorem dX9_init_5 : decode cX9_init 5 = .ok (.aload_n 1, 1) := dk_43 (dk_at dksX9_init_0 5 rfl rfl)
theorem dX9_init_6 : decode cX9_init 6 = .ok (.putfield 7, 3) := dk_181 0 7 (dk_at dksX9_init_0 6 rfl rfl)
theorem dX9_init_9 : decode cX9_init 9 = .ok (.aload_n 0, 1) := dk_42 (dk_at dksX9_init_0 9 rfl rfl)
theorem dX9_init_10 : decode cX9_init 10 = .ok (.iload_n 2, 1) := dk_28 (dk_at dksX9_init_0 10 rfl rfl)
theorem dX9_init_11 : decode cX9_init 11 = .ok (.putfield 13, 3) := dk_181 0 13 (dk_at dksX9_init_0 11 rfl rfl)
theorem dX9_init_14 : decode cX9_init 14 = .ok (.aload_n 0, 1) := dk_42 (dk_at dksX9_init_0 14 rfl rfl)
theorem dX9_init_15 : decode cX9_init 15 = .ok (.iload_n 3, 1) := dk_29 (dk_at dksX9_init_0 15 rfl rfl)
theorem dX9_init_16 : decode cX9_init 16 = .ok (.putfield 17, 3) := dk_181 0 17 (dk_at dksX9_init_0 16 rfl rfl)
theorem dX9_init_19 : decode cX9_init 19 = .ok (.return_, 1) := dk_177 (dk_at dksX9_init_0 19 rfl rfl)
abbrev cX9_to : ByteArray := prog_10_method_3_code
def yX9_to : MethodName := ⟨RX9, "to", "()I"⟩
def dkwX9_to_0 : List UInt8 := [42, 180, 0, 7, 180, 0, 20, 42, 180, 0, 13, 4, 96, 46, 172]
abbrev dktX9_to_0 : List UInt8 := dkwX9_to_0 ++ []
theorem dksX9_to_0 : cX9_to.data.toList.drop 0 = dktX9_to_0 := by decide +kernel
theorem dX9_to_0 : decode cX9_to 0 = .ok (.aload_n 0, 1) := dk_42 (dk_at dksX9_to_0 0 rfl rfl)
theorem dX9_to_1 : decode cX9_to 1 = .ok (.getfield 7, 3) := dk_180 0 7 (dk_at dksX9_to_0 1 rfl rfl)
theorem dX9_to_4 : decode cX9_to 4 = .ok (.getfield 20, 3) := dk_180 0 20 (dk_at dksX9_to_0 4 rfl rfl)
theorem dX9_to_7 : decode cX9_to 7 = .ok (.aload_n 0, 1) := dk_42 (dk_at dksX9_to_0 7 rfl rfl)
theorem dX9_to_8 : decode cX9_to 8 = .ok (.getfield 13, 3) := dk_180 0 13 (dk_at dksX9_to_0 8 rfl rfl)
theorem dX9_to_11 : decode cX9_to 11 = .ok (.iconst 1, 1) := dk_4 (dk_at dksX9_to_0 11 rfl rfl)
theorem dX9_to_12 : decode cX9_to 12 = .ok (.iadd, 1) := dk_96 (dk_at dksX9_to_0 12 rfl rfl)
theorem dX9_to_13 : decode cX9_to 13 = .ok (.iaload, 1) := dk_46 (dk_at dksX9_to_0 13 rfl rfl)
theorem dX9_to_14 : decode cX9_to 14 = .ok (.ireturn, 1) := dk_172 (dk_at dksX9_to_0 14 rfl rfl)
abbrev cX9_arrival : ByteArray := prog_10_method_5_code
def yX9_arrival : MethodName := ⟨RX9, "arrival", "()I"⟩
def dkwX9_arrival_0 : List UInt8 := [42, 180, 0, 7, 180, 0, 29, 42, 180, 0, 13, 4, 96, 46, 172]
abbrev dktX9_arrival_0 : List UInt8 := dkwX9_arrival_0 ++ []
theorem dksX9_arrival_0 : cX9_arrival.data.toList.drop 0 = dktX9_arrival_0 := by decide +kernel
theorem dX9_arrival_0 : decode cX9_arrival 0 = .ok (.aload_n 0, 1) := dk_42 (dk_at dksX9_arrival_0 0 rfl rfl)
theorem dX9_arrival_1 : decode cX9_arrival 1 = .ok (.getfield 7, 3) := dk_180 0 7 (dk_at dksX9_arrival_0 1 rfl rfl)
theorem dX9_arrival_4 : decode cX9_arrival 4 = .ok (.getfield 29, 3) := dk_180 0 29 (dk_at dksX9_arrival_0 4 rfl rfl)
theorem dX9_arrival_7 : decode cX9_arrival 7 = .ok (.aload_n 0, 1) := dk_42 (dk_at dksX9_arrival_0 7 rfl rfl)
theorem dX9_arrival_8 : decode cX9_arrival 8 = .ok (.getfield 13, 3) := dk_180 0 13 (dk_at dksX9_arrival_0 8 rfl rfl)
theorem dX9_arrival_11 : decode cX9_arrival 11 = .ok (.iconst 1, 1) := dk_4 (dk_at dksX9_arrival_0 11 rfl rfl)
theorem dX9_arrival_12 : decode cX9_arrival 12 = .ok (.iadd, 1) := dk_96 (dk_at dksX9_arrival_0 12 rfl rfl)
theorem dX9_arrival_13 : decode cX9_arrival 13 = .ok (.iaload, 1) := dk_46 (dk_at dksX9_arrival_0 13 rfl rfl)
theorem dX9_arrival_14 : decode cX9_arrival 14 = .ok (.ireturn, 1) := dk_172 (dk_at dksX9_arrival_0 14 rfl rfl)
abbrev cX9_from : ByteArray := prog_10_method_2_code
def yX9_from : MethodName := ⟨RX9, "from", "()I"⟩
def dkwX9_from_0 : List UInt8 := [42, 180, 0, 7, 180, 0, 20, 42, 180, 0, 13, 46, 172]
abbrev dktX9_from_0 : List UInt8 := dkwX9_from_0 ++ []
theorem dksX9_from_0 : cX9_from.data.toList.drop 0 = dktX9_from_0 := by decide +kernel
theorem dX9_from_0 : decode cX9_from 0 = .ok (.aload_n 0, 1) := dk_42 (dk_at dksX9_from_0 0 rfl rfl)
theorem dX9_from_1 : decode cX9_from 1 = .ok (.getfield 7, 3) := dk_180 0 7 (dk_at dksX9_from_0 1 rfl rfl)
theorem dX9_from_4 : decode cX9_from 4 = .ok (.getfield 20, 3) := dk_180 0 20 (dk_at dksX9_from_0 4 rfl rfl)
theorem dX9_from_7 : decode cX9_from 7 = .ok (.aload_n 0, 1) := dk_42 (dk_at dksX9_from_0 7 rfl rfl)
theorem dX9_from_8 : decode cX9_from 8 = .ok (.getfield 13, 3) := dk_180 0 13 (dk_at dksX9_from_0 8 rfl rfl)
theorem dX9_from_11 : decode cX9_from 11 = .ok (.iaload, 1) := dk_46 (dk_at dksX9_from_0 11 rfl rfl)
theorem dX9_from_12 : decode cX9_from 12 = .ok (.ireturn, 1) := dk_172 (dk_at dksX9_from_0 12 rfl rfl)
abbrev cX9_departure : ByteArray := prog_10_method_4_code
def yX9_departure : MethodName := ⟨RX9, "departure", "()I"⟩
def dkwX9_departure_0 : List UInt8 := [42, 180, 0, 7, 180, 0, 26, 42, 180, 0, 13, 46, 172]
abbrev dktX9_departure_0 : List UInt8 := dkwX9_departure_0 ++ []
theorem dksX9_departure_0 : cX9_departure.data.toList.drop 0 = dktX9_departure_0 := by decide +kernel
theorem dX9_departure_0 : decode cX9_departure 0 = .ok (.aload_n 0, 1) := dk_42 (dk_at dksX9_departure_0 0 rfl rfl)
theorem dX9_departure_1 : decode cX9_departure 1 = .ok (.getfield 7, 3) := dk_180 0 7 (dk_at dksX9_departure_0 1 rfl rfl)
theorem dX9_departure_4 : decode cX9_departure 4 = .ok (.getfield 26, 3) := dk_180 0 26 (dk_at dksX9_departure_0 4 rfl rfl)
theorem dX9_departure_7 : decode cX9_departure 7 = .ok (.aload_n 0, 1) := dk_42 (dk_at dksX9_departure_0 7 rfl rfl)
theorem dX9_departure_8 : decode cX9_departure 8 = .ok (.getfield 13, 3) := dk_180 0 13 (dk_at dksX9_departure_0 8 rfl rfl)
theorem dX9_departure_11 : decode cX9_departure 11 = .ok (.iaload, 1) := dk_46 (dk_at dksX9_departure_0 11 rfl rfl)
theorem dX9_departure_12 : decode cX9_departure 12 = .ok (.ireturn, 1) := dk_172 (dk_at dksX9_departure_0 12 rfl rfl)
theorem q168 : (Jvm.Cond.initialized "Lastbus$Ride") ∈ lw_all := lw_g (lw_at lw_m1 46 rfl) rfl
theorem q985 : (Jvm.Cond.selects "Lastbus$Ride" ({ cls := "java/lang/Object", name := "getClass", desc := "()Ljava/lang/Class;" } : Jvm.MethodName) ({ cls := "java/lang/Object", name := "getClass", desc := "()Ljava/lang/Class;" } : Jvm.MethodName)) ∈ lw_all := lw_g (lw_at lw_m4 143 rfl) rfl
theorem q1534 : (Jvm.Cond.castable "Lastbus$Ride" "java/lang/Comparable") ∈ lw_tbl := lw_at lw_m6 212 rfl
theorem q1535 : (Jvm.Cond.selects "Lastbus$Ride" ({ cls := "java/lang/Comparable", name := "compareTo", desc := "(Ljava/lang/Object;)I" } : Jvm.MethodName) ({ cls := "Lastbus$Ride", name := "compareTo", desc := "(Ljava/lang/Object;)I" } : Jvm.MethodName)) ∈ lw_all := lw_g (lw_at lw_m6 213 rfl) rfl
theorem q1536 : (Jvm.Cond.unhidden "Lastbus$Ride" "compareTo" "(Ljava/lang/Object;)I") ∈ lw_tbl := lw_at lw_m6 214 rfl
theorem q1537 : (Jvm.Cond.instanceMethod ({ cls := "Lastbus$Ride", name := "compareTo", desc := "(Ljava/lang/Object;)I" } : Jvm.MethodName)) ∈ lw_all := lw_g (lw_at lw_m6 215 rfl) rfl
theorem q1538 : (Jvm.Cond.publicMethod ({ cls := "Lastbus$Ride", name := "compareTo", desc := "(Ljava/lang/Object;)I" } : Jvm.MethodName)) ∈ lw_tbl := lw_at lw_m6 216 rfl
theorem q1539 : (Jvm.Cond.code ({ cls := "Lastbus$Ride", name := "compareTo", desc := "(Ljava/lang/Object;)I" } : Jvm.MethodName) prog_10_method_7_code (2 : Nat) (Option.some Jvm.ClassFile.FieldType.int)) ∈ lw_all := lw_g (lw_at lw_m6 217 rfl) rfl
theorem q1540 : (Jvm.Cond.classLink "Lastbus$Ride" (8 : Nat) "Lastbus$Ride") ∈ lw_all := lw_g (lw_at lw_m6 218 rfl) rfl
theorem q1541 : (Jvm.Cond.methodLink "Lastbus$Ride" (35 : Nat) ({ cls := "Lastbus$Ride", name := "compareTo", desc := "(LLastbus$Ride;)I" } : Jvm.MethodName)) ∈ lw_all := lw_g (lw_at lw_m6 219 rfl) rfl
theorem q1542 : (Jvm.Cond.instanceMethod ({ cls := "Lastbus$Ride", name := "compareTo", desc := "(LLastbus$Ride;)I" } : Jvm.MethodName)) ∈ lw_all := lw_g (lw_at lw_m6 220 rfl) rfl
theorem q1543 : (Jvm.Cond.selects "Lastbus$Ride" ({ cls := "Lastbus$Ride", name := "compareTo", desc := "(LLastbus$Ride;)I" } : Jvm.MethodName) ({ cls := "Lastbus$Ride", name := "compareTo", desc := "(LLastbus$Ride;)I" } : Jvm.MethodName)) ∈ lw_all := lw_g (lw_at lw_m6 221 rfl) rfl
theorem q1544 : (Jvm.Cond.code ({ cls := "Lastbus$Ride", name := "compareTo", desc := "(LLastbus$Ride;)I" } : Jvm.MethodName) prog_10_method_6_code (2 : Nat) (Option.some Jvm.ClassFile.FieldType.int)) ∈ lw_all := lw_g (lw_at lw_m6 222 rfl) rfl
theorem q1897 : (Jvm.Cond.fieldLinkNest "Lastbus$Ride" (32 : Nat) "Lastbus$Run" "number" "I" "Lastbus") ∈ lw_tbl := lw_at lw_m8 95 rfl
theorem q1904 : (Jvm.Cond.fieldLinkNest "Lastbus$Ride" (20 : Nat) "Lastbus$Run" "stops" "[I" "Lastbus") ∈ lw_tbl := lw_at lw_m8 102 rfl
theorem q1908 : (Jvm.Cond.fieldLinkNest "Lastbus$Ride" (29 : Nat) "Lastbus$Run" "arrivals" "[I" "Lastbus") ∈ lw_tbl := lw_at lw_m8 106 rfl
theorem q1912 : (Jvm.Cond.fieldLinkNest "Lastbus$Ride" (26 : Nat) "Lastbus$Run" "departures" "[I" "Lastbus") ∈ lw_tbl := lw_at lw_m8 110 rfl
theorem q1949 : (Jvm.Cond.instantiable "Lastbus$Ride" (3 : Nat)) ∈ lw_all := lw_g (lw_at lw_m8 147 rfl) rfl
theorem q1951 : (Jvm.Cond.instanceMethod ({ cls := "Lastbus$Ride", name := "<init>", desc := "(LLastbus$Run;II)V" } : Jvm.MethodName)) ∈ lw_all := lw_g (lw_at lw_m8 149 rfl) rfl
theorem q1952 : (Jvm.Cond.code ({ cls := "Lastbus$Ride", name := "<init>", desc := "(LLastbus$Run;II)V" } : Jvm.MethodName) prog_10_method_1_code (4 : Nat) (Option.none : Option Jvm.ClassFile.FieldType)) ∈ lw_all := lw_g (lw_at lw_m8 150 rfl) rfl
theorem q1953 : (Jvm.Cond.methodLink "Lastbus$Ride" (1 : Nat) ({ cls := "java/lang/Object", name := "<init>", desc := "()V" } : Jvm.MethodName)) ∈ lw_all := lw_g (lw_at lw_m8 151 rfl) rfl
theorem q1954 : (Jvm.Cond.fieldLink "Lastbus$Ride" (7 : Nat) "Lastbus$Ride" "run" "LLastbus$Run;") ∈ lw_all := lw_g (lw_at lw_m8 152 rfl) rfl
theorem q1956 : (Jvm.Cond.fieldLink "Lastbus$Ride" (13 : Nat) "Lastbus$Ride" "call" "I") ∈ lw_all := lw_g (lw_at lw_m8 154 rfl) rfl
theorem q1958 : (Jvm.Cond.fieldLink "Lastbus$Ride" (17 : Nat) "Lastbus$Ride" "key" "I") ∈ lw_all := lw_g (lw_at lw_m8 156 rfl) rfl
theorem q1959 : (Jvm.Cond.laysFinal "Lastbus$Ride" "Lastbus$Ride" "run" "LLastbus$Run;") ∈ lw_all := lw_g (lw_at lw_m8 157 rfl) rfl
theorem q1960 : (Jvm.Cond.soleField "Lastbus$Ride" "run") ∈ lw_all := lw_g (lw_at lw_m8 158 rfl) rfl
theorem q1961 : (Jvm.Cond.laysFinal "Lastbus$Ride" "Lastbus$Ride" "call" "I") ∈ lw_all := lw_g (lw_at lw_m8 159 rfl) rfl
theorem q1962 : (Jvm.Cond.soleField "Lastbus$Ride" "call") ∈ lw_all := lw_g (lw_at lw_m8 160 rfl) rfl
theorem q1963 : (Jvm.Cond.laysFinal "Lastbus$Ride" "Lastbus$Ride" "key" "I") ∈ lw_all := lw_g (lw_at lw_m8 161 rfl) rfl
theorem q1964 : (Jvm.Cond.soleField "Lastbus$Ride" "key") ∈ lw_all := lw_g (lw_at lw_m8 162 rfl) rfl
theorem q1965 : (Jvm.Cond.superclass "Lastbus$Ride" "java/lang/Object") ∈ lw_all := lw_g (lw_at lw_m8 163 rfl) rfl
theorem q2353 : (Jvm.Cond.instanceMethod ({ cls := "Lastbus$Ride", name := "to", desc := "()I" } : Jvm.MethodName)) ∈ lw_all := lw_g (lw_at lw_m10 71 rfl) rfl
theorem q2354 : (Jvm.Cond.selects "Lastbus$Ride" ({ cls := "Lastbus$Ride", name := "to", desc := "()I" } : Jvm.MethodName) ({ cls := "Lastbus$Ride", name := "to", desc := "()I" } : Jvm.MethodName)) ∈ lw_all := lw_g (lw_at lw_m10 72 rfl) rfl
theorem q2355 : (Jvm.Cond.code ({ cls := "Lastbus$Ride", name := "to", desc := "()I" } : Jvm.MethodName) prog_10_method_3_code (1 : Nat) (Option.some Jvm.ClassFile.FieldType.int)) ∈ lw_all := lw_g (lw_at lw_m10 73 rfl) rfl
theorem q2357 : (Jvm.Cond.instanceMethod ({ cls := "Lastbus$Ride", name := "arrival", desc := "()I" } : Jvm.MethodName)) ∈ lw_all := lw_g (lw_at lw_m10 75 rfl) rfl
theorem q2358 : (Jvm.Cond.selects "Lastbus$Ride" ({ cls := "Lastbus$Ride", name := "arrival", desc := "()I" } : Jvm.MethodName) ({ cls := "Lastbus$Ride", name := "arrival", desc := "()I" } : Jvm.MethodName)) ∈ lw_all := lw_g (lw_at lw_m10 76 rfl) rfl
theorem q2359 : (Jvm.Cond.code ({ cls := "Lastbus$Ride", name := "arrival", desc := "()I" } : Jvm.MethodName) prog_10_method_5_code (1 : Nat) (Option.some Jvm.ClassFile.FieldType.int)) ∈ lw_all := lw_g (lw_at lw_m10 77 rfl) rfl
theorem q2361 : (Jvm.Cond.instanceMethod ({ cls := "Lastbus$Ride", name := "from", desc := "()I" } : Jvm.MethodName)) ∈ lw_all := lw_g (lw_at lw_m10 79 rfl) rfl
theorem q2362 : (Jvm.Cond.selects "Lastbus$Ride" ({ cls := "Lastbus$Ride", name := "from", desc := "()I" } : Jvm.MethodName) ({ cls := "Lastbus$Ride", name := "from", desc := "()I" } : Jvm.MethodName)) ∈ lw_all := lw_g (lw_at lw_m10 80 rfl) rfl
theorem q2363 : (Jvm.Cond.code ({ cls := "Lastbus$Ride", name := "from", desc := "()I" } : Jvm.MethodName) prog_10_method_2_code (1 : Nat) (Option.some Jvm.ClassFile.FieldType.int)) ∈ lw_all := lw_g (lw_at lw_m10 81 rfl) rfl
theorem q2365 : (Jvm.Cond.instanceMethod ({ cls := "Lastbus$Ride", name := "departure", desc := "()I" } : Jvm.MethodName)) ∈ lw_all := lw_g (lw_at lw_m10 83 rfl) rfl
theorem q2366 : (Jvm.Cond.selects "Lastbus$Ride" ({ cls := "Lastbus$Ride", name := "departure", desc := "()I" } : Jvm.MethodName) ({ cls := "Lastbus$Ride", name := "departure", desc := "()I" } : Jvm.MethodName)) ∈ lw_all := lw_g (lw_at lw_m10 84 rfl) rfl
theorem q2367 : (Jvm.Cond.code ({ cls := "Lastbus$Ride", name := "departure", desc := "()I" } : Jvm.MethodName) prog_10_method_4_code (1 : Nat) (Option.some Jvm.ClassFile.FieldType.int)) ∈ lw_all := lw_g (lw_at lw_m10 85 rfl) rfl
theorem q3696 : (Jvm.Cond.castable "Lastbus$Ride" "java/lang/Object") ∈ lw_tbl := lw_at lw_m15 214 rfl
theorem in_X9 : ∀ w ∈ wsX90, w ∈ lw_all := lw_in wsX90 [1959, 1961, 1963] (by decide +kernel) (by decide +kernel)
/-! Lastbus$Labels -/
set_option maxRecDepth 100000
def RX10 : String := "Lastbus$Labels"
def TX10 : u_T := fun k => match k with
  | 0 => ("Lastbus$Labels", "cut", "I", true)
  | 1 => ("Lastbus$Labels", "ways", "[[I", true)
  | 2 => ("Lastbus$Labels", "arrivals", "[I", true)
  | 3 => ("Lastbus$Labels", "byRide", "[I", true)
  | 4 => ("Lastbus$Labels", "ready", "[I", true)
  | 5 => ("Lastbus$Labels", "isChanged", "Z", false)
  | _ => ("Lastbus$Labels", "this$0", "LLastbus;", true)
def tyX10 : Nat → FieldType := fun k => match k with
  | 0 => .int
  | 1 => .array (.array .int)
  | 2 => .array .int
  | 3 => .array .int
  | 4 => .array .int
  | 5 => .boolean
  | _ => .object "Lastbus"
abbrev wsX100 : List Cond := u_ws RX10 TX10 7
theorem nmX10 : ∀ a, a < 7 → ∀ b, b < 7 → a ≠ b → (TX10 a).2.1 ≠ (TX10 b).2.1 := by decide +kernel
theorem tyX10_ok : ∀ k, k < 7 → parseFieldDescriptor (TX10 k).2.2.1 = some (tyX10 k) := by decide +kernel
abbrev cX10_init : ByteArray := prog_4_method_1_code
def yX10_init : MethodName := ⟨RX10, "<init>", "(LLastbus;I[[I)V"⟩
def dkwX10_init_3 : List UInt8 := [184, 0, 34, 177]
abbrev dktX10_init_3 : List UInt8 := dkwX10_init_3 ++ []
def dkwX10_init_2 : List UInt8 := [180, 0, 15, 18, 33, 184, 0, 34, 42, 180, 0, 19, 18, 33, 184, 0, 34, 42, 180, 0, 22, 18, 33]
abbrev dktX10_init_2 : List UInt8 := dkwX10_init_2 ++ dktX10_init_3
def dkwX10_init_1 : List UInt8 := [181, 0, 19, 42, 16, 12, 188, 10, 181, 0, 22, 42, 28, 181, 0, 25, 42, 45, 181, 0, 29, 42]
abbrev dktX10_init_1 : List UInt8 := dkwX10_init_1 ++ dktX10_init_2
def dkwX10_init_0 : List UInt8 := [42, 43, 181, 0, 3, 42, 183, 0, 9, 42, 16, 12, 188, 10, 181, 0, 15, 42, 16, 12, 188, 10]
abbrev dktX10_init_0 : List UInt8 := dkwX10_init_0 ++ dktX10_init_1
theorem dksX10_init_0 : cX10_init.data.toList.drop 0 = dktX10_init_0 := by decide +kernel
theorem dksX10_init_1 : cX10_init.data.toList.drop 22 = dktX10_init_1 := dk_seg dksX10_init_0 22 rfl rfl
theorem dksX10_init_2 : cX10_init.data.toList.drop 44 = dktX10_init_2 := dk_seg dksX10_init_1 22 rfl rfl
theorem dksX10_init_3 : cX10_init.data.toList.drop 67 = dktX10_init_3 := dk_seg dksX10_init_2 23 rfl rfl
theorem dX10_init_0 : decode cX10_init 0 = .ok (.aload_n 0, 1) := dk_42 (dk_at dksX10_init_0 0 rfl rfl)
theorem dX10_init_1 : decode cX10_init 1 = .ok (.aload_n 1, 1) := dk_43 (dk_at dksX10_init_0 1 rfl rfl)
theorem dX10_init_2 : decode cX10_init 2 = .ok (.putfield 3, 3) := dk_181 0 3 (dk_at dksX10_init_0 2 rfl rfl)
theorem dX10_init_5 : decode cX10_init 5 = .ok (.aload_n 0, 1) := dk_42 (dk_at dksX10_init_0 5 rfl rfl)
theorem dX10_init_6 : decode cX10_init 6 = .ok (.invokespecial 9, 3) := dk_183 0 9 (dk_at dksX10_init_0 6 rfl rfl)
theorem dX10_init_9 : decode cX10_init 9 = .ok (.aload_n 0, 1) := dk_42 (dk_at dksX10_init_0 9 rfl rfl)
theorem dX10_init_10 : decode cX10_init 10 = .ok (.bipush 12, 2) := dk_16 12 (dk_at dksX10_init_0 10 rfl rfl)
theorem dX10_init_12 : decode cX10_init 12 = .ok (.newarray .int, 2) := dk_188_10 (dk_at dksX10_init_0 12 rfl rfl)
theorem dX10_init_14 : decode cX10_init 14 = .ok (.putfield 15, 3) := dk_181 0 15 (dk_at dksX10_init_0 14 rfl rfl)
theorem dX10_init_17 : decode cX10_init 17 = .ok (.aload_n 0, 1) := dk_42 (dk_at dksX10_init_0 17 rfl rfl)
theorem dX10_init_18 : decode cX10_init 18 = .ok (.bipush 12, 2) := dk_16 12 (dk_at dksX10_init_0 18 rfl rfl)
theorem dX10_init_20 : decode cX10_init 20 = .ok (.newarray .int, 2) := dk_188_10 (dk_at dksX10_init_0 20 rfl rfl)
theorem dX10_init_22 : decode cX10_init 22 = .ok (.putfield 19, 3) := dk_181 0 19 (dk_at dksX10_init_1 0 rfl rfl)
theorem dX10_init_25 : decode cX10_init 25 = .ok (.aload_n 0, 1) := dk_42 (dk_at dksX10_init_1 3 rfl rfl)
theorem dX10_init_26 : decode cX10_init 26 = .ok (.bipush 12, 2) := dk_16 12 (dk_at dksX10_init_1 4 rfl rfl)
theorem dX10_init_28 : decode cX10_init 28 = .ok (.newarray .int, 2) := dk_188_10 (dk_at dksX10_init_1 6 rfl rfl)
theorem dX10_init_30 : decode cX10_init 30 = .ok (.putfield 22, 3) := dk_181 0 22 (dk_at dksX10_init_1 8 rfl rfl)
theorem dX10_init_33 : decode cX10_init 33 = .ok (.aload_n 0, 1) := dk_42 (dk_at dksX10_init_1 11 rfl rfl)
theorem dX10_init_34 : decode cX10_init 34 = .ok (.iload_n 2, 1) := dk_28 (dk_at dksX10_init_1 12 rfl rfl)
theorem dX10_init_35 : decode cX10_init 35 = .ok (.putfield 25, 3) := dk_181 0 25 (dk_at dksX10_init_1 13 rfl rfl)
theorem dX10_init_38 : decode cX10_init 38 = .ok (.aload_n 0, 1) := dk_42 (dk_at dksX10_init_1 16 rfl rfl)
theorem dX10_init_39 : decode cX10_init 39 = .ok (.aload_n 3, 1) := dk_45 (dk_at dksX10_init_1 17 rfl rfl)
theorem dX10_init_40 : decode cX10_init 40 = .ok (.putfield 29, 3) := dk_181 0 29 (dk_at dksX10_init_1 18 rfl rfl)
theorem dX10_init_43 : decode cX10_init 43 = .ok (.aload_n 0, 1) := dk_42 (dk_at dksX10_init_1 21 rfl rfl)
theorem dX10_init_44 : decode cX10_init 44 = .ok (.getfield 15, 3) := dk_180 0 15 (dk_at dksX10_init_2 0 rfl rfl)
theorem dX10_init_47 : decode cX10_init 47 = .ok (.ldc 33, 2) := dk_18 33 (dk_at dksX10_init_2 3 rfl rfl)
theorem dX10_init_49 : decode cX10_init 49 = .ok (.invokestatic 34, 3) := dk_184 0 34 (dk_at dksX10_init_2 5 rfl rfl)
theorem dX10_init_52 : decode cX10_init 52 = .ok (.aload_n 0, 1) := dk_42 (dk_at dksX10_init_2 8 rfl rfl)
theorem dX10_init_53 : decode cX10_init 53 = .ok (.getfield 19, 3) := dk_180 0 19 (dk_at dksX10_init_2 9 rfl rfl)
theorem dX10_init_56 : decode cX10_init 56 = .ok (.ldc 33, 2) := dk_18 33 (dk_at dksX10_init_2 12 rfl rfl)
theorem dX10_init_58 : decode cX10_init 58 = .ok (.invokestatic 34, 3) := dk_184 0 34 (dk_at dksX10_init_2 14 rfl rfl)
theorem dX10_init_61 : decode cX10_init 61 = .ok (.aload_n 0, 1) := dk_42 (dk_at dksX10_init_2 17 rfl rfl)
theorem dX10_init_62 : decode cX10_init 62 = .ok (.getfield 22, 3) := dk_180 0 22 (dk_at dksX10_init_2 18 rfl rfl)
theorem dX10_init_65 : decode cX10_init 65 = .ok (.ldc 33, 2) := dk_18 33 (dk_at dksX10_init_2 21 rfl rfl)
theorem dX10_init_67 : decode cX10_init 67 = .ok (.invokestatic 34, 3) := dk_184 0 34 (dk_at dksX10_init_3 0 rfl rfl)
theorem dX10_init_70 : decode cX10_init 70 = .ok (.return_, 1) := dk_177 (dk_at dksX10_init_3 3 rfl rfl)
abbrev cX10_begins : ByteArray := prog_4_method_5_code
def yX10_begins : MethodName := ⟨RX10, "begins", "(II)V"⟩
def dkwX10_begins_3 : List UInt8 := [177]
abbrev dktX10_begins_3 : List UInt8 := dkwX10_begins_3 ++ []
def dkwX10_begins_2 : List UInt8 := [182, 0, 62, 42, 29, 28, 42, 180, 0, 29, 27, 50, 29, 46, 96, 182, 0, 66, 132, 3, 1, 167, 255, 191]
abbrev dktX10_begins_2 : List UInt8 := dkwX10_begins_2 ++ dktX10_begins_3
def dkwX10_begins_1 : List UInt8 := [180, 0, 29, 27, 50, 29, 46, 18, 33, 162, 0, 33, 42, 29, 28, 42, 180, 0, 29, 27, 50, 29, 46, 96]
abbrev dktX10_begins_1 : List UInt8 := dkwX10_begins_1 ++ dktX10_begins_2
def dkwX10_begins_0 : List UInt8 := [3, 62, 29, 42, 180, 0, 3, 180, 0, 59, 162, 0, 60, 27, 42, 180, 0, 25, 159, 0, 46, 42]
abbrev dktX10_begins_0 : List UInt8 := dkwX10_begins_0 ++ dktX10_begins_1
theorem dksX10_begins_0 : cX10_begins.data.toList.drop 0 = dktX10_begins_0 := by decide +kernel
theorem dksX10_begins_1 : cX10_begins.data.toList.drop 22 = dktX10_begins_1 := dk_seg dksX10_begins_0 22 rfl rfl
theorem dksX10_begins_2 : cX10_begins.data.toList.drop 46 = dktX10_begins_2 := dk_seg dksX10_begins_1 24 rfl rfl
theorem dksX10_begins_3 : cX10_begins.data.toList.drop 70 = dktX10_begins_3 := dk_seg dksX10_begins_2 24 rfl rfl
theorem dX10_begins_0 : decode cX10_begins 0 = .ok (.iconst 0, 1) := dk_3 (dk_at dksX10_begins_0 0 rfl rfl)
theorem dX10_begins_1 : decode cX10_begins 1 = .ok (.istore_n 3, 1) := dk_62 (dk_at dksX10_begins_0 1 rfl rfl)
theorem dX10_begins_2 : decode cX10_begins 2 = .ok (.iload_n 3, 1) := dk_29 (dk_at dksX10_begins_0 2 rfl rfl)
theorem dX10_begins_3 : decode cX10_begins 3 = .ok (.aload_n 0, 1) := dk_42 (dk_at dksX10_begins_0 3 rfl rfl)
theorem dX10_begins_4 : decode cX10_begins 4 = .ok (.getfield 3, 3) := dk_180 0 3 (dk_at dksX10_begins_0 4 rfl rfl)
theorem dX10_begins_7 : decode cX10_begins 7 = .ok (.getfield 59, 3) := dk_180 0 59 (dk_at dksX10_begins_0 7 rfl rfl)
theorem dX10_begins_10 : decode cX10_begins 10 = .ok (.if_icmp .ge 60, 3) := dk_162 0 60 (dk_at dksX10_begins_0 10 rfl rfl)
theorem dX10_begins_13 : decode cX10_begins 13 = .ok (.iload_n 1, 1) := dk_27 (dk_at dksX10_begins_0 13 rfl rfl)
theorem dX10_begins_14 : decode cX10_begins 14 = .ok (.aload_n 0, 1) := dk_42 (dk_at dksX10_begins_0 14 rfl rfl)
theorem dX10_begins_15 : decode cX10_begins 15 = .ok (.getfield 25, 3) := dk_180 0 25 (dk_at dksX10_begins_0 15 rfl rfl)
theorem dX10_begins_18 : decode cX10_begins 18 = .ok (.if_icmp .eq 46, 3) := dk_159 0 46 (dk_at dksX10_begins_0 18 rfl rfl)
theorem dX10_begins_21 : decode cX10_begins 21 = .ok (.aload_n 0, 1) := dk_42 (dk_at dksX10_begins_0 21 rfl rfl)
theorem dX10_begins_22 : decode cX10_begins 22 = .ok (.getfield 29, 3) := dk_180 0 29 (dk_at dksX10_begins_1 0 rfl rfl)
theorem dX10_begins_25 : decode cX10_begins 25 = .ok (.iload_n 1, 1) := dk_27 (dk_at dksX10_begins_1 3 rfl rfl)
theorem dX10_begins_26 : decode cX10_begins 26 = .ok (.aaload, 1) := dk_50 (dk_at dksX10_begins_1 4 rfl rfl)
theorem dX10_begins_27 : decode cX10_begins 27 = .ok (.iload_n 3, 1) := dk_29 (dk_at dksX10_begins_1 5 rfl rfl)
theorem dX10_begins_28 : decode cX10_begins 28 = .ok (.iaload, 1) := dk_46 (dk_at dksX10_begins_1 6 rfl rfl)
theorem dX10_begins_29 : decode cX10_begins 29 = .ok (.ldc 33, 2) := dk_18 33 (dk_at dksX10_begins_1 7 rfl rfl)
theorem dX10_begins_31 : decode cX10_begins 31 = .ok (.if_icmp .ge 33, 3) := dk_162 0 33 (dk_at dksX10_begins_1 9 rfl rfl)
theorem dX10_begins_34 : decode cX10_begins 34 = .ok (.aload_n 0, 1) := dk_42 (dk_at dksX10_begins_1 12 rfl rfl)
theorem dX10_begins_35 : decode cX10_begins 35 = .ok (.iload_n 3, 1) := dk_29 (dk_at dksX10_begins_1 13 rfl rfl)
theorem dX10_begins_36 : decode cX10_begins 36 = .ok (.iload_n 2, 1) := dk_28 (dk_at dksX10_begins_1 14 rfl rfl)
theorem dX10_begins_37 : decode cX10_begins 37 = .ok (.aload_n 0, 1) := dk_42 (dk_at dksX10_begins_1 15 rfl rfl)
theorem dX10_begins_38 : decode cX10_begins 38 = .ok (.getfield 29, 3) := dk_180 0 29 (dk_at dksX10_begins_1 16 rfl rfl)
theorem dX10_begins_41 : decode cX10_begins 41 = .ok (.iload_n 1, 1) := dk_27 (dk_at dksX10_begins_1 19 rfl rfl)
theorem dX10_begins_42 : decode cX10_begins 42 = .ok (.aaload, 1) := dk_50 (dk_at dksX10_begins_1 20 rfl rfl)
theorem dX10_begins_43 : decode cX10_begins 43 = .ok (.iload_n 3, 1) := dk_29 (dk_at dksX10_begins_1 21 rfl rfl)
theorem dX10_begins_44 : decode cX10_begins 44 = .ok (.iaload, 1) := dk_46 (dk_at dksX10_begins_1 22 rfl rfl)
theorem dX10_begins_45 : decode cX10_begins 45 = .ok (.iadd, 1) := dk_96 (dk_at dksX10_begins_1 23 rfl rfl)
theorem dX10_begins_46 : decode cX10_begins 46 = .ok (.invokevirtual 62, 3) := dk_182 0 62 (dk_at dksX10_begins_2 0 rfl rfl)
theorem dX10_begins_49 : decode cX10_begins 49 = .ok (.aload_n 0, 1) := dk_42 (dk_at dksX10_begins_2 3 rfl rfl)
theorem dX10_begins_50 : decode cX10_begins 50 = .ok (.iload_n 3, 1) := dk_29 (dk_at dksX10_begins_2 4 rfl rfl)
theorem dX10_begins_51 : decode cX10_begins 51 = .ok (.iload_n 2, 1) := dk_28 (dk_at dksX10_begins_2 5 rfl rfl)
theorem dX10_begins_52 : decode cX10_begins 52 = .ok (.aload_n 0, 1) := dk_42 (dk_at dksX10_begins_2 6 rfl rfl)
theorem dX10_begins_53 : decode cX10_begins 53 = .ok (.getfield 29, 3) := dk_180 0 29 (dk_at dksX10_begins_2 7 rfl rfl)
theorem dX10_begins_56 : decode cX10_begins 56 = .ok (.iload_n 1, 1) := dk_27 (dk_at dksX10_begins_2 10 rfl rfl)
theorem dX10_begins_57 : decode cX10_begins 57 = .ok (.aaload, 1) := dk_50 (dk_at dksX10_begins_2 11 rfl rfl)
theorem dX10_begins_58 : decode cX10_begins 58 = .ok (.iload_n 3, 1) := dk_29 (dk_at dksX10_begins_2 12 rfl rfl)
theorem dX10_begins_59 : decode cX10_begins 59 = .ok (.iaload, 1) := dk_46 (dk_at dksX10_begins_2 13 rfl rfl)
theorem dX10_begins_60 : decode cX10_begins 60 = .ok (.iadd, 1) := dk_96 (dk_at dksX10_begins_2 14 rfl rfl)
theorem dX10_begins_61 : decode cX10_begins 61 = .ok (.invokevirtual 66, 3) := dk_182 0 66 (dk_at dksX10_begins_2 15 rfl rfl)
theorem dX10_begins_64 : decode cX10_begins 64 = .ok (.iinc 3 1, 3) := dk_132 3 1 (dk_at dksX10_begins_2 18 rfl rfl)
theorem dX10_begins_67 : decode cX10_begins 67 = .ok (.goto (-65), 3) := dk_167 255 191 (dk_at dksX10_begins_2 21 rfl rfl)
theorem dX10_begins_70 : decode cX10_begins 70 = .ok (.return_, 1) := dk_177 (dk_at dksX10_begins_3 0 rfl rfl)
abbrev cX10_arrives : ByteArray := prog_4_method_3_code
def yX10_arrives : MethodName := ⟨RX10, "arrives", "(II)V"⟩
def dkwX10_arrives_1 : List UInt8 := [42, 180, 0, 15, 27, 42, 180, 0, 15, 27, 46, 28, 184, 0, 53, 79, 177]
abbrev dktX10_arrives_1 : List UInt8 := dkwX10_arrives_1 ++ []
def dkwX10_arrives_0 : List UInt8 := [42, 89, 180, 0, 49, 28, 42, 180, 0, 15, 27, 46, 162, 0, 7, 4, 167, 0, 4, 3, 128, 181, 0, 49]
abbrev dktX10_arrives_0 : List UInt8 := dkwX10_arrives_0 ++ dktX10_arrives_1
theorem dksX10_arrives_0 : cX10_arrives.data.toList.drop 0 = dktX10_arrives_0 := by decide +kernel
theorem dksX10_arrives_1 : cX10_arrives.data.toList.drop 24 = dktX10_arrives_1 := dk_seg dksX10_arrives_0 24 rfl rfl
theorem dX10_arrives_0 : decode cX10_arrives 0 = .ok (.aload_n 0, 1) := dk_42 (dk_at dksX10_arrives_0 0 rfl rfl)
theorem dX10_arrives_1 : decode cX10_arrives 1 = .ok (.dup, 1) := dk_89 (dk_at dksX10_arrives_0 1 rfl rfl)
theorem dX10_arrives_2 : decode cX10_arrives 2 = .ok (.getfield 49, 3) := dk_180 0 49 (dk_at dksX10_arrives_0 2 rfl rfl)
theorem dX10_arrives_5 : decode cX10_arrives 5 = .ok (.iload_n 2, 1) := dk_28 (dk_at dksX10_arrives_0 5 rfl rfl)
theorem dX10_arrives_6 : decode cX10_arrives 6 = .ok (.aload_n 0, 1) := dk_42 (dk_at dksX10_arrives_0 6 rfl rfl)
theorem dX10_arrives_7 : decode cX10_arrives 7 = .ok (.getfield 15, 3) := dk_180 0 15 (dk_at dksX10_arrives_0 7 rfl rfl)
theorem dX10_arrives_10 : decode cX10_arrives 10 = .ok (.iload_n 1, 1) := dk_27 (dk_at dksX10_arrives_0 10 rfl rfl)
theorem dX10_arrives_11 : decode cX10_arrives 11 = .ok (.iaload, 1) := dk_46 (dk_at dksX10_arrives_0 11 rfl rfl)
theorem dX10_arrives_12 : decode cX10_arrives 12 = .ok (.if_icmp .ge 7, 3) := dk_162 0 7 (dk_at dksX10_arrives_0 12 rfl rfl)
theorem dX10_arrives_15 : decode cX10_arrives 15 = .ok (.iconst 1, 1) := dk_4 (dk_at dksX10_arrives_0 15 rfl rfl)
theorem dX10_arrives_16 : decode cX10_arrives 16 = .ok (.goto 4, 3) := dk_167 0 4 (dk_at dksX10_arrives_0 16 rfl rfl)
theorem dX10_arrives_19 : decode cX10_arrives 19 = .ok (.iconst 0, 1) := dk_3 (dk_at dksX10_arrives_0 19 rfl rfl)
theorem dX10_arrives_20 : decode cX10_arrives 20 = .ok (.ior, 1) := dk_128 (dk_at dksX10_arrives_0 20 rfl rfl)
theorem dX10_arrives_21 : decode cX10_arrives 21 = .ok (.putfield 49, 3) := dk_181 0 49 (dk_at dksX10_arrives_0 21 rfl rfl)
theorem dX10_arrives_24 : decode cX10_arrives 24 = .ok (.aload_n 0, 1) := dk_42 (dk_at dksX10_arrives_1 0 rfl rfl)
theorem dX10_arrives_25 : decode cX10_arrives 25 = .ok (.getfield 15, 3) := dk_180 0 15 (dk_at dksX10_arrives_1 1 rfl rfl)
theorem dX10_arrives_28 : decode cX10_arrives 28 = .ok (.iload_n 1, 1) := dk_27 (dk_at dksX10_arrives_1 4 rfl rfl)
theorem dX10_arrives_29 : decode cX10_arrives 29 = .ok (.aload_n 0, 1) := dk_42 (dk_at dksX10_arrives_1 5 rfl rfl)
theorem dX10_arrives_30 : decode cX10_arrives 30 = .ok (.getfield 15, 3) := dk_180 0 15 (dk_at dksX10_arrives_1 6 rfl rfl)
theorem dX10_arrives_33 : decode cX10_arrives 33 = .ok (.iload_n 1, 1) := dk_27 (dk_at dksX10_arrives_1 9 rfl rfl)
theorem dX10_arrives_34 : decode cX10_arrives 34 = .ok (.iaload, 1) := dk_46 (dk_at dksX10_arrives_1 10 rfl rfl)
theorem dX10_arrives_35 : decode cX10_arrives 35 = .ok (.iload_n 2, 1) := dk_28 (dk_at dksX10_arrives_1 11 rfl rfl)
theorem dX10_arrives_36 : decode cX10_arrives 36 = .ok (.invokestatic 53, 3) := dk_184 0 53 (dk_at dksX10_arrives_1 12 rfl rfl)
theorem dX10_arrives_39 : decode cX10_arrives 39 = .ok (.iastore, 1) := dk_79 (dk_at dksX10_arrives_1 15 rfl rfl)
theorem dX10_arrives_40 : decode cX10_arrives 40 = .ok (.return_, 1) := dk_177 (dk_at dksX10_arrives_1 16 rfl rfl)
abbrev cX10_isReady : ByteArray := prog_4_method_4_code
def yX10_isReady : MethodName := ⟨RX10, "isReady", "(II)V"⟩
def dkwX10_isReady_1 : List UInt8 := [42, 180, 0, 22, 27, 42, 180, 0, 22, 27, 46, 28, 184, 0, 53, 79, 177]
abbrev dktX10_isReady_1 : List UInt8 := dkwX10_isReady_1 ++ []
def dkwX10_isReady_0 : List UInt8 := [42, 89, 180, 0, 49, 28, 42, 180, 0, 22, 27, 46, 162, 0, 7, 4, 167, 0, 4, 3, 128, 181, 0, 49]
abbrev dktX10_isReady_0 : List UInt8 := dkwX10_isReady_0 ++ dktX10_isReady_1
theorem dksX10_isReady_0 : cX10_isReady.data.toList.drop 0 = dktX10_isReady_0 := by decide +kernel
theorem dksX10_isReady_1 : cX10_isReady.data.toList.drop 24 = dktX10_isReady_1 := dk_seg dksX10_isReady_0 24 rfl rfl
theorem dX10_isReady_0 : decode cX10_isReady 0 = .ok (.aload_n 0, 1) := dk_42 (dk_at dksX10_isReady_0 0 rfl rfl)
theorem dX10_isReady_1 : decode cX10_isReady 1 = .ok (.dup, 1) := dk_89 (dk_at dksX10_isReady_0 1 rfl rfl)
theorem dX10_isReady_2 : decode cX10_isReady 2 = .ok (.getfield 49, 3) := dk_180 0 49 (dk_at dksX10_isReady_0 2 rfl rfl)
theorem dX10_isReady_5 : decode cX10_isReady 5 = .ok (.iload_n 2, 1) := dk_28 (dk_at dksX10_isReady_0 5 rfl rfl)
theorem dX10_isReady_6 : decode cX10_isReady 6 = .ok (.aload_n 0, 1) := dk_42 (dk_at dksX10_isReady_0 6 rfl rfl)
theorem dX10_isReady_7 : decode cX10_isReady 7 = .ok (.getfield 22, 3) := dk_180 0 22 (dk_at dksX10_isReady_0 7 rfl rfl)
theorem dX10_isReady_10 : decode cX10_isReady 10 = .ok (.iload_n 1, 1) := dk_27 (dk_at dksX10_isReady_0 10 rfl rfl)
theorem dX10_isReady_11 : decode cX10_isReady 11 = .ok (.iaload, 1) := dk_46 (dk_at dksX10_isReady_0 11 rfl rfl)
theorem dX10_isReady_12 : decode cX10_isReady 12 = .ok (.if_icmp .ge 7, 3) := dk_162 0 7 (dk_at dksX10_isReady_0 12 rfl rfl)
theorem dX10_isReady_15 : decode cX10_isReady 15 = .ok (.iconst 1, 1) := dk_4 (dk_at dksX10_isReady_0 15 rfl rfl)
theorem dX10_isReady_16 : decode cX10_isReady 16 = .ok (.goto 4, 3) := dk_167 0 4 (dk_at dksX10_isReady_0 16 rfl rfl)
theorem dX10_isReady_19 : decode cX10_isReady 19 = .ok (.iconst 0, 1) := dk_3 (dk_at dksX10_isReady_0 19 rfl rfl)
theorem dX10_isReady_20 : decode cX10_isReady 20 = .ok (.ior, 1) := dk_128 (dk_at dksX10_isReady_0 20 rfl rfl)
theorem dX10_isReady_21 : decode cX10_isReady 21 = .ok (.putfield 49, 3) := dk_181 0 49 (dk_at dksX10_isReady_0 21 rfl rfl)
theorem dX10_isReady_24 : decode cX10_isReady 24 = .ok (.aload_n 0, 1) := dk_42 (dk_at dksX10_isReady_1 0 rfl rfl)
theorem dX10_isReady_25 : decode cX10_isReady 25 = .ok (.getfield 22, 3) := dk_180 0 22 (dk_at dksX10_isReady_1 1 rfl rfl)
theorem dX10_isReady_28 : decode cX10_isReady 28 = .ok (.iload_n 1, 1) := dk_27 (dk_at dksX10_isReady_1 4 rfl rfl)
theorem dX10_isReady_29 : decode cX10_isReady 29 = .ok (.aload_n 0, 1) := dk_42 (dk_at dksX10_isReady_1 5 rfl rfl)
theorem dX10_isReady_30 : decode cX10_isReady 30 = .ok (.getfield 22, 3) := dk_180 0 22 (dk_at dksX10_isReady_1 6 rfl rfl)
theorem dX10_isReady_33 : decode cX10_isReady 33 = .ok (.iload_n 1, 1) := dk_27 (dk_at dksX10_isReady_1 9 rfl rfl)
theorem dX10_isReady_34 : decode cX10_isReady 34 = .ok (.iaload, 1) := dk_46 (dk_at dksX10_isReady_1 10 rfl rfl)
theorem dX10_isReady_35 : decode cX10_isReady 35 = .ok (.iload_n 2, 1) := dk_28 (dk_at dksX10_isReady_1 11 rfl rfl)
theorem dX10_isReady_36 : decode cX10_isReady 36 = .ok (.invokestatic 53, 3) := dk_184 0 53 (dk_at dksX10_isReady_1 12 rfl rfl)
theorem dX10_isReady_39 : decode cX10_isReady 39 = .ok (.iastore, 1) := dk_79 (dk_at dksX10_isReady_1 15 rfl rfl)
theorem dX10_isReady_40 : decode cX10_isReady 40 = .ok (.return_, 1) := dk_177 (dk_at dksX10_isReady_1 16 rfl rfl)
abbrev cX10_canGetOn : ByteArray := prog_4_method_6_code
def yX10_canGetOn : MethodName := ⟨RX10, "canGetOn", "(LLastbus$Run;I)Z"⟩
def dkwX10_canGetOn_1 : List UInt8 := [180, 0, 22, 29, 46, 43, 180, 0, 77, 28, 46, 163, 0, 7, 4, 167, 0, 4, 3, 172]
abbrev dktX10_canGetOn_1 : List UInt8 := dkwX10_canGetOn_1 ++ []
def dkwX10_canGetOn_0 : List UInt8 := [43, 180, 0, 69, 28, 46, 62, 29, 42, 180, 0, 25, 159, 0, 30, 43, 28, 182, 0, 73, 153, 0, 22, 42]
abbrev dktX10_canGetOn_0 : List UInt8 := dkwX10_canGetOn_0 ++ dktX10_canGetOn_1
theorem dksX10_canGetOn_0 : cX10_canGetOn.data.toList.drop 0 = dktX10_canGetOn_0 := by decide +kernel
theorem dksX10_canGetOn_1 : cX10_canGetOn.data.toList.drop 24 = dktX10_canGetOn_1 := dk_seg dksX10_canGetOn_0 24 rfl rfl
theorem dX10_canGetOn_0 : decode cX10_canGetOn 0 = .ok (.aload_n 1, 1) := dk_43 (dk_at dksX10_canGetOn_0 0 rfl rfl)
theorem dX10_canGetOn_1 : decode cX10_canGetOn 1 = .ok (.getfield 69, 3) := dk_180 0 69 (dk_at dksX10_canGetOn_0 1 rfl rfl)
theorem dX10_canGetOn_4 : decode cX10_canGetOn 4 = .ok (.iload_n 2, 1) := dk_28 (dk_at dksX10_canGetOn_0 4 rfl rfl)
theorem dX10_canGetOn_5 : decode cX10_canGetOn 5 = .ok (.iaload, 1) := dk_46 (dk_at dksX10_canGetOn_0 5 rfl rfl)
theorem dX10_canGetOn_6 : decode cX10_canGetOn 6 = .ok (.istore_n 3, 1) := dk_62 (dk_at dksX10_canGetOn_0 6 rfl rfl)
theorem dX10_canGetOn_7 : decode cX10_canGetOn 7 = .ok (.iload_n 3, 1) := dk_29 (dk_at dksX10_canGetOn_0 7 rfl rfl)
theorem dX10_canGetOn_8 : decode cX10_canGetOn 8 = .ok (.aload_n 0, 1) := dk_42 (dk_at dksX10_canGetOn_0 8 rfl rfl)
theorem dX10_canGetOn_9 : decode cX10_canGetOn 9 = .ok (.getfield 25, 3) := dk_180 0 25 (dk_at dksX10_canGetOn_0 9 rfl rfl)
theorem dX10_canGetOn_12 : decode cX10_canGetOn 12 = .ok (.if_icmp .eq 30, 3) := dk_159 0 30 (dk_at dksX10_canGetOn_0 12 rfl rfl)
theorem dX10_canGetOn_15 : decode cX10_canGetOn 15 = .ok (.aload_n 1, 1) := dk_43 (dk_at dksX10_canGetOn_0 15 rfl rfl)
theorem dX10_canGetOn_16 : decode cX10_canGetOn 16 = .ok (.iload_n 2, 1) := dk_28 (dk_at dksX10_canGetOn_0 16 rfl rfl)
theorem dX10_canGetOn_17 : decode cX10_canGetOn 17 = .ok (.invokevirtual 73, 3) := dk_182 0 73 (dk_at dksX10_canGetOn_0 17 rfl rfl)
theorem dX10_canGetOn_20 : decode cX10_canGetOn 20 = .ok (.ifCond .eq 22, 3) := dk_153 0 22 (dk_at dksX10_canGetOn_0 20 rfl rfl)
theorem dX10_canGetOn_23 : decode cX10_canGetOn 23 = .ok (.aload_n 0, 1) := dk_42 (dk_at dksX10_canGetOn_0 23 rfl rfl)
theorem dX10_canGetOn_24 : decode cX10_canGetOn 24 = .ok (.getfield 22, 3) := dk_180 0 22 (dk_at dksX10_canGetOn_1 0 rfl rfl)
theorem dX10_canGetOn_27 : decode cX10_canGetOn 27 = .ok (.iload_n 3, 1) := dk_29 (dk_at dksX10_canGetOn_1 3 rfl rfl)
theorem dX10_canGetOn_28 : decode cX10_canGetOn 28 = .ok (.iaload, 1) := dk_46 (dk_at dksX10_canGetOn_1 4 rfl rfl)
theorem dX10_canGetOn_29 : decode cX10_canGetOn 29 = .ok (.aload_n 1, 1) := dk_43 (dk_at dksX10_canGetOn_1 5 rfl rfl)
theorem dX10_canGetOn_30 : decode cX10_canGetOn 30 = .ok (.getfield 77, 3) := dk_180 0 77 (dk_at dksX10_canGetOn_1 6 rfl rfl)
theorem dX10_canGetOn_33 : decode cX10_canGetOn 33 = .ok (.iload_n 2, 1) := dk_28 (dk_at dksX10_canGetOn_1 9 rfl rfl)
theorem dX10_canGetOn_34 : decode cX10_canGetOn 34 = .ok (.iaload, 1) := dk_46 (dk_at dksX10_canGetOn_1 10 rfl rfl)
theorem dX10_canGetOn_35 : decode cX10_canGetOn 35 = .ok (.if_icmp .gt 7, 3) := dk_163 0 7 (dk_at dksX10_canGetOn_1 11 rfl rfl)
theorem dX10_canGetOn_38 : decode cX10_canGetOn 38 = .ok (.iconst 1, 1) := dk_4 (dk_at dksX10_canGetOn_1 14 rfl rfl)
theorem dX10_canGetOn_39 : decode cX10_canGetOn 39 = .ok (.goto 4, 3) := dk_167 0 4 (dk_at dksX10_canGetOn_1 15 rfl rfl)
theorem dX10_canGetOn_42 : decode cX10_canGetOn 42 = .ok (.iconst 0, 1) := dk_3 (dk_at dksX10_canGetOn_1 18 rfl rfl)
theorem dX10_canGetOn_43 : decode cX10_canGetOn 43 = .ok (.ireturn, 1) := dk_172 (dk_at dksX10_canGetOn_1 19 rfl rfl)
abbrev cX10_comes : ByteArray := prog_4_method_7_code
def yX10_comes : MethodName := ⟨RX10, "comes", "(LLastbus$Run;I)V"⟩
def dkwX10_comes_5 : List UInt8 := [167, 0, 12, 42, 180, 0, 29, 29, 50, 21, 5, 46, 96, 182, 0, 66, 132, 5, 1, 167, 255, 144, 177]
abbrev dktX10_comes_5 : List UInt8 := dkwX10_comes_5 ++ []
def dkwX10_comes_4 : List UInt8 := [184, 0, 53, 79, 42, 21, 5, 21, 4, 21, 5, 29, 160, 0, 15, 42, 180, 0, 3, 180, 0, 81, 29, 46]
abbrev dktX10_comes_4 : List UInt8 := dkwX10_comes_4 ++ dktX10_comes_5
def dkwX10_comes_3 : List UInt8 := [180, 0, 19, 21, 5, 42, 180, 0, 19, 21, 5, 46, 21, 4, 42, 180, 0, 29, 29, 50, 21, 5, 46, 96]
abbrev dktX10_comes_3 : List UInt8 := dkwX10_comes_3 ++ dktX10_comes_4
def dkwX10_comes_2 : List UInt8 := [18, 33, 162, 0, 86, 42, 21, 5, 21, 4, 42, 180, 0, 29, 29, 50, 21, 5, 46, 96, 182, 0, 62, 42]
abbrev dktX10_comes_2 : List UInt8 := dkwX10_comes_2 ++ dktX10_comes_3
def dkwX10_comes_1 : List UInt8 := [3, 54, 5, 21, 5, 42, 180, 0, 3, 180, 0, 59, 162, 0, 106, 42, 180, 0, 29, 29, 50, 21, 5, 46]
abbrev dktX10_comes_1 : List UInt8 := dkwX10_comes_1 ++ dktX10_comes_2
def dkwX10_comes_0 : List UInt8 := [43, 180, 0, 69, 28, 46, 62, 43, 180, 0, 80, 28, 46, 54, 4, 29, 42, 180, 0, 25, 160, 0, 4, 177]
abbrev dktX10_comes_0 : List UInt8 := dkwX10_comes_0 ++ dktX10_comes_1
theorem dksX10_comes_0 : cX10_comes.data.toList.drop 0 = dktX10_comes_0 := by decide +kernel
theorem dksX10_comes_1 : cX10_comes.data.toList.drop 24 = dktX10_comes_1 := dk_seg dksX10_comes_0 24 rfl rfl
theorem dksX10_comes_2 : cX10_comes.data.toList.drop 48 = dktX10_comes_2 := dk_seg dksX10_comes_1 24 rfl rfl
theorem dksX10_comes_3 : cX10_comes.data.toList.drop 72 = dktX10_comes_3 := dk_seg dksX10_comes_2 24 rfl rfl
theorem dksX10_comes_4 : cX10_comes.data.toList.drop 96 = dktX10_comes_4 := dk_seg dksX10_comes_3 24 rfl rfl
theorem dksX10_comes_5 : cX10_comes.data.toList.drop 120 = dktX10_comes_5 := dk_seg dksX10_comes_4 24 rfl rfl
theorem dX10_comes_0 : decode cX10_comes 0 = .ok (.aload_n 1, 1) := dk_43 (dk_at dksX10_comes_0 0 rfl rfl)
theorem dX10_comes_1 : decode cX10_comes 1 = .ok (.getfield 69, 3) := dk_180 0 69 (dk_at dksX10_comes_0 1 rfl rfl)
theorem dX10_comes_4 : decode cX10_comes 4 = .ok (.iload_n 2, 1) := dk_28 (dk_at dksX10_comes_0 4 rfl rfl)
theorem dX10_comes_5 : decode cX10_comes 5 = .ok (.iaload, 1) := dk_46 (dk_at dksX10_comes_0 5 rfl rfl)
theorem dX10_comes_6 : decode cX10_comes 6 = .ok (.istore_n 3, 1) := dk_62 (dk_at dksX10_comes_0 6 rfl rfl)
theorem dX10_comes_7 : decode cX10_comes 7 = .ok (.aload_n 1, 1) := dk_43 (dk_at dksX10_comes_0 7 rfl rfl)
theorem dX10_comes_8 : decode cX10_comes 8 = .ok (.getfield 80, 3) := dk_180 0 80 (dk_at dksX10_comes_0 8 rfl rfl)
theorem dX10_comes_11 : decode cX10_comes 11 = .ok (.iload_n 2, 1) := dk_28 (dk_at dksX10_comes_0 11 rfl rfl)
theorem dX10_comes_12 : decode cX10_comes 12 = .ok (.iaload, 1) := dk_46 (dk_at dksX10_comes_0 12 rfl rfl)
theorem dX10_comes_13 : decode cX10_comes 13 = .ok (.istore 4, 2) := dk_54 4 (dk_at dksX10_comes_0 13 rfl rfl)
theorem dX10_comes_15 : decode cX10_comes 15 = .ok (.iload_n 3, 1) := dk_29 (dk_at dksX10_comes_0 15 rfl rfl)
theorem dX10_comes_16 : decode cX10_comes 16 = .ok (.aload_n 0, 1) := dk_42 (dk_at dksX10_comes_0 16 rfl rfl)
theorem dX10_comes_17 : decode cX10_comes 17 = .ok (.getfield 25, 3) := dk_180 0 25 (dk_at dksX10_comes_0 17 rfl rfl)
theorem dX10_comes_20 : decode cX10_comes 20 = .ok (.if_icmp .ne 4, 3) := dk_160 0 4 (dk_at dksX10_comes_0 20 rfl rfl)
theorem dX10_comes_23 : decode cX10_comes 23 = .ok (.return_, 1) := dk_177 (dk_at dksX10_comes_0 23 rfl rfl)
theorem dX10_comes_24 : decode cX10_comes 24 = .ok (.iconst 0, 1) := dk_3 (dk_at dksX10_comes_1 0 rfl rfl)
theorem dX10_comes_25 : decode cX10_comes 25 = .ok (.istore 5, 2) := dk_54 5 (dk_at dksX10_comes_1 1 rfl rfl)
theorem dX10_comes_27 : decode cX10_comes 27 = .ok (.iload 5, 2) := dk_21 5 (dk_at dksX10_comes_1 3 rfl rfl)
theorem dX10_comes_29 : decode cX10_comes 29 = .ok (.aload_n 0, 1) := dk_42 (dk_at dksX10_comes_1 5 rfl rfl)
theorem dX10_comes_30 : decode cX10_comes 30 = .ok (.getfield 3, 3) := dk_180 0 3 (dk_at dksX10_comes_1 6 rfl rfl)
theorem dX10_comes_33 : decode cX10_comes 33 = .ok (.getfield 59, 3) := dk_180 0 59 (dk_at dksX10_comes_1 9 rfl rfl)
theorem dX10_comes_36 : decode cX10_comes 36 = .ok (.if_icmp .ge 106, 3) := dk_162 0 106 (dk_at dksX10_comes_1 12 rfl rfl)
theorem dX10_comes_39 : decode cX10_comes 39 = .ok (.aload_n 0, 1) := dk_42 (dk_at dksX10_comes_1 15 rfl rfl)
theorem dX10_comes_40 : decode cX10_comes 40 = .ok (.getfield 29, 3) := dk_180 0 29 (dk_at dksX10_comes_1 16 rfl rfl)
theorem dX10_comes_43 : decode cX10_comes 43 = .ok (.iload_n 3, 1) := dk_29 (dk_at dksX10_comes_1 19 rfl rfl)
theorem dX10_comes_44 : decode cX10_comes 44 = .ok (.aaload, 1) := dk_50 (dk_at dksX10_comes_1 20 rfl rfl)
theorem dX10_comes_45 : decode cX10_comes 45 = .ok (.iload 5, 2) := dk_21 5 (dk_at dksX10_comes_1 21 rfl rfl)
theorem dX10_comes_47 : decode cX10_comes 47 = .ok (.iaload, 1) := dk_46 (dk_at dksX10_comes_1 23 rfl rfl)
theorem dX10_comes_48 : decode cX10_comes 48 = .ok (.ldc 33, 2) := dk_18 33 (dk_at dksX10_comes_2 0 rfl rfl)
theorem dX10_comes_50 : decode cX10_comes 50 = .ok (.if_icmp .ge 86, 3) := dk_162 0 86 (dk_at dksX10_comes_2 2 rfl rfl)
theorem dX10_comes_53 : decode cX10_comes 53 = .ok (.aload_n 0, 1) := dk_42 (dk_at dksX10_comes_2 5 rfl rfl)
theorem dX10_comes_54 : decode cX10_comes 54 = .ok (.iload 5, 2) := dk_21 5 (dk_at dksX10_comes_2 6 rfl rfl)
theorem dX10_comes_56 : decode cX10_comes 56 = .ok (.iload 4, 2) := dk_21 4 (dk_at dksX10_comes_2 8 rfl rfl)
theorem dX10_comes_58 : decode cX10_comes 58 = .ok (.aload_n 0, 1) := dk_42 (dk_at dksX10_comes_2 10 rfl rfl)
theorem dX10_comes_59 : decode cX10_comes 59 = .ok (.getfield 29, 3) := dk_180 0 29 (dk_at dksX10_comes_2 11 rfl rfl)
theorem dX10_comes_62 : decode cX10_comes 62 = .ok (.iload_n 3, 1) := dk_29 (dk_at dksX10_comes_2 14 rfl rfl)
theorem dX10_comes_63 : decode cX10_comes 63 = .ok (.aaload, 1) := dk_50 (dk_at dksX10_comes_2 15 rfl rfl)
theorem dX10_comes_64 : decode cX10_comes 64 = .ok (.iload 5, 2) := dk_21 5 (dk_at dksX10_comes_2 16 rfl rfl)
theorem dX10_comes_66 : decode cX10_comes 66 = .ok (.iaload, 1) := dk_46 (dk_at dksX10_comes_2 18 rfl rfl)
theorem dX10_comes_67 : decode cX10_comes 67 = .ok (.iadd, 1) := dk_96 (dk_at dksX10_comes_2 19 rfl rfl)
theorem dX10_comes_68 : decode cX10_comes 68 = .ok (.invokevirtual 62, 3) := dk_182 0 62 (dk_at dksX10_comes_2 20 rfl rfl)
theorem dX10_comes_71 : decode cX10_comes 71 = .ok (.aload_n 0, 1) := dk_42 (dk_at dksX10_comes_2 23 rfl rfl)
theorem dX10_comes_72 : decode cX10_comes 72 = .ok (.getfield 19, 3) := dk_180 0 19 (dk_at dksX10_comes_3 0 rfl rfl)
theorem dX10_comes_75 : decode cX10_comes 75 = .ok (.iload 5, 2) := dk_21 5 (dk_at dksX10_comes_3 3 rfl rfl)
theorem dX10_comes_77 : decode cX10_comes 77 = .ok (.aload_n 0, 1) := dk_42 (dk_at dksX10_comes_3 5 rfl rfl)
theorem dX10_comes_78 : decode cX10_comes 78 = .ok (.getfield 19, 3) := dk_180 0 19 (dk_at dksX10_comes_3 6 rfl rfl)
theorem dX10_comes_81 : decode cX10_comes 81 = .ok (.iload 5, 2) := dk_21 5 (dk_at dksX10_comes_3 9 rfl rfl)
theorem dX10_comes_83 : decode cX10_comes 83 = .ok (.iaload, 1) := dk_46 (dk_at dksX10_comes_3 11 rfl rfl)
theorem dX10_comes_84 : decode cX10_comes 84 = .ok (.iload 4, 2) := dk_21 4 (dk_at dksX10_comes_3 12 rfl rfl)
theorem dX10_comes_86 : decode cX10_comes 86 = .ok (.aload_n 0, 1) := dk_42 (dk_at dksX10_comes_3 14 rfl rfl)
theorem dX10_comes_87 : decode cX10_comes 87 = .ok (.getfield 29, 3) := dk_180 0 29 (dk_at dksX10_comes_3 15 rfl rfl)
theorem dX10_comes_90 : decode cX10_comes 90 = .ok (.iload_n 3, 1) := dk_29 (dk_at dksX10_comes_3 18 rfl rfl)
theorem dX10_comes_91 : decode cX10_comes 91 = .ok (.aaload, 1) := dk_50 (dk_at dksX10_comes_3 19 rfl rfl)
theorem dX10_comes_92 : decode cX10_comes 92 = .ok (.iload 5, 2) := dk_21 5 (dk_at dksX10_comes_3 20 rfl rfl)
theorem dX10_comes_94 : decode cX10_comes 94 = .ok (.iaload, 1) := dk_46 (dk_at dksX10_comes_3 22 rfl rfl)
theorem dX10_comes_95 : decode cX10_comes 95 = .ok (.iadd, 1) := dk_96 (dk_at dksX10_comes_3 23 rfl rfl)
theorem dX10_comes_96 : decode cX10_comes 96 = .ok (.invokestatic 53, 3) := dk_184 0 53 (dk_at dksX10_comes_4 0 rfl rfl)
theorem dX10_comes_99 : decode cX10_comes 99 = .ok (.iastore, 1) := dk_79 (dk_at dksX10_comes_4 3 rfl rfl)
theorem dX10_comes_100 : decode cX10_comes 100 = .ok (.aload_n 0, 1) := dk_42 (dk_at dksX10_comes_4 4 rfl rfl)
theorem dX10_comes_101 : decode cX10_comes 101 = .ok (.iload 5, 2) := dk_21 5 (dk_at dksX10_comes_4 5 rfl rfl)
theorem dX10_comes_103 : decode cX10_comes 103 = .ok (.iload 4, 2) := dk_21 4 (dk_at dksX10_comes_4 7 rfl rfl)
theorem dX10_comes_105 : decode cX10_comes 105 = .ok (.iload 5, 2) := dk_21 5 (dk_at dksX10_comes_4 9 rfl rfl)
theorem dX10_comes_107 : decode cX10_comes 107 = .ok (.iload_n 3, 1) := dk_29 (dk_at dksX10_comes_4 11 rfl rfl)
theorem dX10_comes_108 : decode cX10_comes 108 = .ok (.if_icmp .ne 15, 3) := dk_160 0 15 (dk_at dksX10_comes_4 12 rfl rfl)
theorem dX10_comes_111 : decode cX10_comes 111 = .ok (.aload_n 0, 1) := dk_42 (dk_at dksX10_comes_4 15 rfl rfl)
theorem dX10_comes_112 : decode cX10_comes 112 = .ok (.getfield 3, 3) := dk_180 0 3 (dk_at dksX10_comes_4 16 rfl rfl)
theorem dX10_comes_115 : decode cX10_comes 115 = .ok (.getfield 81, 3) := dk_180 0 81 (dk_at dksX10_comes_4 19 rfl rfl)
theorem dX10_comes_118 : decode cX10_comes 118 = .ok (.iload_n 3, 1) := dk_29 (dk_at dksX10_comes_4 22 rfl rfl)
theorem dX10_comes_119 : decode cX10_comes 119 = .ok (.iaload, 1) := dk_46 (dk_at dksX10_comes_4 23 rfl rfl)
theorem dX10_comes_120 : decode cX10_comes 120 = .ok (.goto 12, 3) := dk_167 0 12 (dk_at dksX10_comes_5 0 rfl rfl)
theorem dX10_comes_123 : decode cX10_comes 123 = .ok (.aload_n 0, 1) := dk_42 (dk_at dksX10_comes_5 3 rfl rfl)
theorem dX10_comes_124 : decode cX10_comes 124 = .ok (.getfield 29, 3) := dk_180 0 29 (dk_at dksX10_comes_5 4 rfl rfl)
theorem dX10_comes_127 : decode cX10_comes 127 = .ok (.iload_n 3, 1) := dk_29 (dk_at dksX10_comes_5 7 rfl rfl)
theorem dX10_comes_128 : decode cX10_comes 128 = .ok (.aaload, 1) := dk_50 (dk_at dksX10_comes_5 8 rfl rfl)
theorem dX10_comes_129 : decode cX10_comes 129 = .ok (.iload 5, 2) := dk_21 5 (dk_at dksX10_comes_5 9 rfl rfl)
theorem dX10_comes_131 : decode cX10_comes 131 = .ok (.iaload, 1) := dk_46 (dk_at dksX10_comes_5 11 rfl rfl)
theorem dX10_comes_132 : decode cX10_comes 132 = .ok (.iadd, 1) := dk_96 (dk_at dksX10_comes_5 12 rfl rfl)
theorem dX10_comes_133 : decode cX10_comes 133 = .ok (.invokevirtual 66, 3) := dk_182 0 66 (dk_at dksX10_comes_5 13 rfl rfl)
theorem dX10_comes_136 : decode cX10_comes 136 = .ok (.iinc 5 1, 3) := dk_132 5 1 (dk_at dksX10_comes_5 16 rfl rfl)
theorem dX10_comes_139 : decode cX10_comes 139 = .ok (.goto (-112), 3) := dk_167 255 144 (dk_at dksX10_comes_5 19 rfl rfl)
theorem dX10_comes_142 : decode cX10_comes 142 = .ok (.return_, 1) := dk_177 (dk_at dksX10_comes_5 22 rfl rfl)
abbrev cX10_copy : ByteArray := prog_4_method_2_code
def yX10_copy : MethodName := ⟨RX10, "copy", "()LLastbus$Labels;"⟩
def dkwX10_copy_2 : List UInt8 := [184, 0, 43, 42, 180, 0, 22, 3, 43, 180, 0, 22, 3, 16, 12, 184, 0, 43, 43, 176]
abbrev dktX10_copy_2 : List UInt8 := dkwX10_copy_2 ++ []
def dkwX10_copy_1 : List UInt8 := [3, 43, 180, 0, 15, 3, 16, 12, 184, 0, 43, 42, 180, 0, 19, 3, 43, 180, 0, 19, 3, 16, 12]
abbrev dktX10_copy_1 : List UInt8 := dkwX10_copy_1 ++ dktX10_copy_2
def dkwX10_copy_0 : List UInt8 := [187, 0, 4, 89, 42, 180, 0, 3, 42, 180, 0, 25, 42, 180, 0, 29, 183, 0, 40, 76, 42, 180, 0, 15]
abbrev dktX10_copy_0 : List UInt8 := dkwX10_copy_0 ++ dktX10_copy_1
theorem dksX10_copy_0 : cX10_copy.data.toList.drop 0 = dktX10_copy_0 := by decide +kernel
theorem dksX10_copy_1 : cX10_copy.data.toList.drop 24 = dktX10_copy_1 := dk_seg dksX10_copy_0 24 rfl rfl
theorem dksX10_copy_2 : cX10_copy.data.toList.drop 47 = dktX10_copy_2 := dk_seg dksX10_copy_1 23 rfl rfl
theorem dX10_copy_0 : decode cX10_copy 0 = .ok (.new 4, 3) := dk_187 0 4 (dk_at dksX10_copy_0 0 rfl rfl)
theorem dX10_copy_3 : decode cX10_copy 3 = .ok (.dup, 1) := dk_89 (dk_at dksX10_copy_0 3 rfl rfl)
theorem dX10_copy_4 : decode cX10_copy 4 = .ok (.aload_n 0, 1) := dk_42 (dk_at dksX10_copy_0 4 rfl rfl)
theorem dX10_copy_5 : decode cX10_copy 5 = .ok (.getfield 3, 3) := dk_180 0 3 (dk_at dksX10_copy_0 5 rfl rfl)
theorem dX10_copy_8 : decode cX10_copy 8 = .ok (.aload_n 0, 1) := dk_42 (dk_at dksX10_copy_0 8 rfl rfl)
theorem dX10_copy_9 : decode cX10_copy 9 = .ok (.getfield 25, 3) := dk_180 0 25 (dk_at dksX10_copy_0 9 rfl rfl)
theorem dX10_copy_12 : decode cX10_copy 12 = .ok (.aload_n 0, 1) := dk_42 (dk_at dksX10_copy_0 12 rfl rfl)
theorem dX10_copy_13 : decode cX10_copy 13 = .ok (.getfield 29, 3) := dk_180 0 29 (dk_at dksX10_copy_0 13 rfl rfl)
theorem dX10_copy_16 : decode cX10_copy 16 = .ok (.invokespecial 40, 3) := dk_183 0 40 (dk_at dksX10_copy_0 16 rfl rfl)
theorem dX10_copy_19 : decode cX10_copy 19 = .ok (.astore_n 1, 1) := dk_76 (dk_at dksX10_copy_0 19 rfl rfl)
theorem dX10_copy_20 : decode cX10_copy 20 = .ok (.aload_n 0, 1) := dk_42 (dk_at dksX10_copy_0 20 rfl rfl)
theorem dX10_copy_21 : decode cX10_copy 21 = .ok (.getfield 15, 3) := dk_180 0 15 (dk_at dksX10_copy_0 21 rfl rfl)
theorem dX10_copy_24 : decode cX10_copy 24 = .ok (.iconst 0, 1) := dk_3 (dk_at dksX10_copy_1 0 rfl rfl)
theorem dX10_copy_25 : decode cX10_copy 25 = .ok (.aload_n 1, 1) := dk_43 (dk_at dksX10_copy_1 1 rfl rfl)
theorem dX10_copy_26 : decode cX10_copy 26 = .ok (.getfield 15, 3) := dk_180 0 15 (dk_at dksX10_copy_1 2 rfl rfl)
theorem dX10_copy_29 : decode cX10_copy 29 = .ok (.iconst 0, 1) := dk_3 (dk_at dksX10_copy_1 5 rfl rfl)
theorem dX10_copy_30 : decode cX10_copy 30 = .ok (.bipush 12, 2) := dk_16 12 (dk_at dksX10_copy_1 6 rfl rfl)
theorem dX10_copy_32 : decode cX10_copy 32 = .ok (.invokestatic 43, 3) := dk_184 0 43 (dk_at dksX10_copy_1 8 rfl rfl)
theorem dX10_copy_35 : decode cX10_copy 35 = .ok (.aload_n 0, 1) := dk_42 (dk_at dksX10_copy_1 11 rfl rfl)
theorem dX10_copy_36 : decode cX10_copy 36 = .ok (.getfield 19, 3) := dk_180 0 19 (dk_at dksX10_copy_1 12 rfl rfl)
theorem dX10_copy_39 : decode cX10_copy 39 = .ok (.iconst 0, 1) := dk_3 (dk_at dksX10_copy_1 15 rfl rfl)
theorem dX10_copy_40 : decode cX10_copy 40 = .ok (.aload_n 1, 1) := dk_43 (dk_at dksX10_copy_1 16 rfl rfl)
theorem dX10_copy_41 : decode cX10_copy 41 = .ok (.getfield 19, 3) := dk_180 0 19 (dk_at dksX10_copy_1 17 rfl rfl)
theorem dX10_copy_44 : decode cX10_copy 44 = .ok (.iconst 0, 1) := dk_3 (dk_at dksX10_copy_1 20 rfl rfl)
theorem dX10_copy_45 : decode cX10_copy 45 = .ok (.bipush 12, 2) := dk_16 12 (dk_at dksX10_copy_1 21 rfl rfl)
theorem dX10_copy_47 : decode cX10_copy 47 = .ok (.invokestatic 43, 3) := dk_184 0 43 (dk_at dksX10_copy_2 0 rfl rfl)
theorem dX10_copy_50 : decode cX10_copy 50 = .ok (.aload_n 0, 1) := dk_42 (dk_at dksX10_copy_2 3 rfl rfl)
theorem dX10_copy_51 : decode cX10_copy 51 = .ok (.getfield 22, 3) := dk_180 0 22 (dk_at dksX10_copy_2 4 rfl rfl)
theorem dX10_copy_54 : decode cX10_copy 54 = .ok (.iconst 0, 1) := dk_3 (dk_at dksX10_copy_2 7 rfl rfl)
theorem dX10_copy_55 : decode cX10_copy 55 = .ok (.aload_n 1, 1) := dk_43 (dk_at dksX10_copy_2 8 rfl rfl)
theorem dX10_copy_56 : decode cX10_copy 56 = .ok (.getfield 22, 3) := dk_180 0 22 (dk_at dksX10_copy_2 9 rfl rfl)
theorem dX10_copy_59 : decode cX10_copy 59 = .ok (.iconst 0, 1) := dk_3 (dk_at dksX10_copy_2 12 rfl rfl)
theorem dX10_copy_60 : decode cX10_copy 60 = .ok (.bipush 12, 2) := dk_16 12 (dk_at dksX10_copy_2 13 rfl rfl)
theorem dX10_copy_62 : decode cX10_copy 62 = .ok (.invokestatic 43, 3) := dk_184 0 43 (dk_at dksX10_copy_2 15 rfl rfl)
theorem dX10_copy_65 : decode cX10_copy 65 = .ok (.aload_n 1, 1) := dk_43 (dk_at dksX10_copy_2 18 rfl rfl)
theorem dX10_copy_66 : decode cX10_copy 66 = .ok (.areturn, 1) := dk_176 (dk_at dksX10_copy_2 19 rfl rfl)
theorem q175 : (Jvm.Cond.initialized "Lastbus$Labels") ∈ lw_all := lw_g (lw_at lw_m1 53 rfl) rfl
theorem q297 : (Jvm.Cond.fieldLinkNest "Lastbus$Labels" (81 : Nat) "Lastbus" "changes" "[I" "Lastbus") ∈ lw_tbl := lw_at lw_m1 175 rfl
theorem q299 : (Jvm.Cond.fieldLinkNest "Lastbus$Labels" (59 : Nat) "Lastbus" "stops" "I" "Lastbus") ∈ lw_tbl := lw_at lw_m1 177 rfl
theorem q979 : (Jvm.Cond.selects "Lastbus$Labels" ({ cls := "java/lang/Object", name := "getClass", desc := "()Ljava/lang/Class;" } : Jvm.MethodName) ({ cls := "java/lang/Object", name := "getClass", desc := "()Ljava/lang/Class;" } : Jvm.MethodName)) ∈ lw_all := lw_g (lw_at lw_m4 137 rfl) rfl
theorem q1905 : (Jvm.Cond.fieldLinkNest "Lastbus$Labels" (69 : Nat) "Lastbus$Run" "stops" "[I" "Lastbus") ∈ lw_tbl := lw_at lw_m8 103 rfl
theorem q1909 : (Jvm.Cond.fieldLinkNest "Lastbus$Labels" (80 : Nat) "Lastbus$Run" "arrivals" "[I" "Lastbus") ∈ lw_tbl := lw_at lw_m8 107 rfl
theorem q1913 : (Jvm.Cond.fieldLinkNest "Lastbus$Labels" (77 : Nat) "Lastbus$Run" "departures" "[I" "Lastbus") ∈ lw_tbl := lw_at lw_m8 111 rfl
theorem q2101 : (Jvm.Cond.instantiable "Lastbus$Labels" (7 : Nat)) ∈ lw_all := lw_g (lw_at lw_m9 59 rfl) rfl
theorem q2103 : (Jvm.Cond.instanceMethod ({ cls := "Lastbus$Labels", name := "<init>", desc := "(LLastbus;I[[I)V" } : Jvm.MethodName)) ∈ lw_all := lw_g (lw_at lw_m9 61 rfl) rfl
theorem q2104 : (Jvm.Cond.code ({ cls := "Lastbus$Labels", name := "<init>", desc := "(LLastbus;I[[I)V" } : Jvm.MethodName) prog_4_method_1_code (4 : Nat) (Option.none : Option Jvm.ClassFile.FieldType)) ∈ lw_all := lw_g (lw_at lw_m9 62 rfl) rfl
theorem q2105 : (Jvm.Cond.methodLink "Lastbus$Labels" (9 : Nat) ({ cls := "java/lang/Object", name := "<init>", desc := "()V" } : Jvm.MethodName)) ∈ lw_all := lw_g (lw_at lw_m9 63 rfl) rfl
theorem q2106 : (Jvm.Cond.constant "Lastbus$Labels" (33 : Nat) (1000000 : Int32)) ∈ lw_all := lw_g (lw_at lw_m9 64 rfl) rfl
theorem q2107 : (Jvm.Cond.methodLink "Lastbus$Labels" (34 : Nat) ({ cls := "java/util/Arrays", name := "fill", desc := "([II)V" } : Jvm.MethodName)) ∈ lw_all := lw_g (lw_at lw_m9 65 rfl) rfl
theorem q2110 : (Jvm.Cond.fieldLink "Lastbus$Labels" (25 : Nat) "Lastbus$Labels" "cut" "I") ∈ lw_all := lw_g (lw_at lw_m9 68 rfl) rfl
theorem q2111 : (Jvm.Cond.fieldLink "Lastbus$Labels" (29 : Nat) "Lastbus$Labels" "ways" "[[I") ∈ lw_all := lw_g (lw_at lw_m9 69 rfl) rfl
theorem q2112 : (Jvm.Cond.fieldLink "Lastbus$Labels" (15 : Nat) "Lastbus$Labels" "arrivals" "[I") ∈ lw_all := lw_g (lw_at lw_m9 70 rfl) rfl
theorem q2114 : (Jvm.Cond.fieldLink "Lastbus$Labels" (19 : Nat) "Lastbus$Labels" "byRide" "[I") ∈ lw_all := lw_g (lw_at lw_m9 72 rfl) rfl
theorem q2116 : (Jvm.Cond.fieldLink "Lastbus$Labels" (22 : Nat) "Lastbus$Labels" "ready" "[I") ∈ lw_all := lw_g (lw_at lw_m9 74 rfl) rfl
theorem q2117 : (Jvm.Cond.fieldLink "Lastbus$Labels" (49 : Nat) "Lastbus$Labels" "isChanged" "Z") ∈ lw_all := lw_g (lw_at lw_m9 75 rfl) rfl
theorem q2119 : (Jvm.Cond.fieldLink "Lastbus$Labels" (3 : Nat) "Lastbus$Labels" "this$0" "LLastbus;") ∈ lw_all := lw_g (lw_at lw_m9 77 rfl) rfl
theorem q2120 : (Jvm.Cond.laysFinal "Lastbus$Labels" "Lastbus$Labels" "cut" "I") ∈ lw_all := lw_g (lw_at lw_m9 78 rfl) rfl
theorem q2121 : (Jvm.Cond.soleField "Lastbus$Labels" "cut") ∈ lw_all := lw_g (lw_at lw_m9 79 rfl) rfl
theorem q2122 : (Jvm.Cond.laysFinal "Lastbus$Labels" "Lastbus$Labels" "ways" "[[I") ∈ lw_all := lw_g (lw_at lw_m9 80 rfl) rfl
theorem q2123 : (Jvm.Cond.soleField "Lastbus$Labels" "ways") ∈ lw_all := lw_g (lw_at lw_m9 81 rfl) rfl
theorem q2124 : (Jvm.Cond.laysFinal "Lastbus$Labels" "Lastbus$Labels" "arrivals" "[I") ∈ lw_all := lw_g (lw_at lw_m9 82 rfl) rfl
theorem q2125 : (Jvm.Cond.soleField "Lastbus$Labels" "arrivals") ∈ lw_all := lw_g (lw_at lw_m9 83 rfl) rfl
theorem q2126 : (Jvm.Cond.laysFinal "Lastbus$Labels" "Lastbus$Labels" "byRide" "[I") ∈ lw_all := lw_g (lw_at lw_m9 84 rfl) rfl
theorem q2127 : (Jvm.Cond.soleField "Lastbus$Labels" "byRide") ∈ lw_all := lw_g (lw_at lw_m9 85 rfl) rfl
theorem q2128 : (Jvm.Cond.laysFinal "Lastbus$Labels" "Lastbus$Labels" "ready" "[I") ∈ lw_all := lw_g (lw_at lw_m9 86 rfl) rfl
theorem q2129 : (Jvm.Cond.soleField "Lastbus$Labels" "ready") ∈ lw_all := lw_g (lw_at lw_m9 87 rfl) rfl
theorem q2130 : (Jvm.Cond.lays "Lastbus$Labels" "Lastbus$Labels" "isChanged" "Z") ∈ lw_all := lw_g (lw_at lw_m9 88 rfl) rfl
theorem q2131 : (Jvm.Cond.soleField "Lastbus$Labels" "isChanged") ∈ lw_all := lw_g (lw_at lw_m9 89 rfl) rfl
theorem q2132 : (Jvm.Cond.laysFinal "Lastbus$Labels" "Lastbus$Labels" "this$0" "LLastbus;") ∈ lw_all := lw_g (lw_at lw_m9 90 rfl) rfl
theorem q2133 : (Jvm.Cond.soleField "Lastbus$Labels" "this$0") ∈ lw_all := lw_g (lw_at lw_m9 91 rfl) rfl
theorem q2134 : (Jvm.Cond.superclass "Lastbus$Labels" "java/lang/Object") ∈ lw_all := lw_g (lw_at lw_m9 92 rfl) rfl
theorem q2136 : (Jvm.Cond.instanceMethod ({ cls := "Lastbus$Labels", name := "begins", desc := "(II)V" } : Jvm.MethodName)) ∈ lw_all := lw_g (lw_at lw_m9 94 rfl) rfl
theorem q2137 : (Jvm.Cond.selects "Lastbus$Labels" ({ cls := "Lastbus$Labels", name := "begins", desc := "(II)V" } : Jvm.MethodName) ({ cls := "Lastbus$Labels", name := "begins", desc := "(II)V" } : Jvm.MethodName)) ∈ lw_all := lw_g (lw_at lw_m9 95 rfl) rfl
theorem q2138 : (Jvm.Cond.code ({ cls := "Lastbus$Labels", name := "begins", desc := "(II)V" } : Jvm.MethodName) prog_4_method_5_code (4 : Nat) (Option.none : Option Jvm.ClassFile.FieldType)) ∈ lw_all := lw_g (lw_at lw_m9 96 rfl) rfl
theorem q2139 : (Jvm.Cond.methodLink "Lastbus$Labels" (62 : Nat) ({ cls := "Lastbus$Labels", name := "arrives", desc := "(II)V" } : Jvm.MethodName)) ∈ lw_all := lw_g (lw_at lw_m9 97 rfl) rfl
theorem q2140 : (Jvm.Cond.privateMethod ({ cls := "Lastbus$Labels", name := "arrives", desc := "(II)V" } : Jvm.MethodName)) ∈ lw_tbl := lw_at lw_m9 98 rfl
theorem q2141 : (Jvm.Cond.instanceMethod ({ cls := "Lastbus$Labels", name := "arrives", desc := "(II)V" } : Jvm.MethodName)) ∈ lw_all := lw_g (lw_at lw_m9 99 rfl) rfl
theorem q2142 : (Jvm.Cond.code ({ cls := "Lastbus$Labels", name := "arrives", desc := "(II)V" } : Jvm.MethodName) prog_4_method_3_code (3 : Nat) (Option.none : Option Jvm.ClassFile.FieldType)) ∈ lw_all := lw_g (lw_at lw_m9 100 rfl) rfl
theorem q2143 : (Jvm.Cond.methodLink "Lastbus$Labels" (53 : Nat) ({ cls := "java/lang/Math", name := "min", desc := "(II)I" } : Jvm.MethodName)) ∈ lw_all := lw_g (lw_at lw_m9 101 rfl) rfl
theorem q2144 : (Jvm.Cond.methodLink "Lastbus$Labels" (66 : Nat) ({ cls := "Lastbus$Labels", name := "isReady", desc := "(II)V" } : Jvm.MethodName)) ∈ lw_all := lw_g (lw_at lw_m9 102 rfl) rfl
theorem q2145 : (Jvm.Cond.privateMethod ({ cls := "Lastbus$Labels", name := "isReady", desc := "(II)V" } : Jvm.MethodName)) ∈ lw_tbl := lw_at lw_m9 103 rfl
theorem q2146 : (Jvm.Cond.instanceMethod ({ cls := "Lastbus$Labels", name := "isReady", desc := "(II)V" } : Jvm.MethodName)) ∈ lw_all := lw_g (lw_at lw_m9 104 rfl) rfl
theorem q2147 : (Jvm.Cond.code ({ cls := "Lastbus$Labels", name := "isReady", desc := "(II)V" } : Jvm.MethodName) prog_4_method_4_code (3 : Nat) (Option.none : Option Jvm.ClassFile.FieldType)) ∈ lw_all := lw_g (lw_at lw_m9 105 rfl) rfl
theorem q2153 : (Jvm.Cond.instanceMethod ({ cls := "Lastbus$Labels", name := "canGetOn", desc := "(LLastbus$Run;I)Z" } : Jvm.MethodName)) ∈ lw_all := lw_g (lw_at lw_m9 111 rfl) rfl
theorem q2154 : (Jvm.Cond.selects "Lastbus$Labels" ({ cls := "Lastbus$Labels", name := "canGetOn", desc := "(LLastbus$Run;I)Z" } : Jvm.MethodName) ({ cls := "Lastbus$Labels", name := "canGetOn", desc := "(LLastbus$Run;I)Z" } : Jvm.MethodName)) ∈ lw_all := lw_g (lw_at lw_m9 112 rfl) rfl
theorem q2155 : (Jvm.Cond.code ({ cls := "Lastbus$Labels", name := "canGetOn", desc := "(LLastbus$Run;I)Z" } : Jvm.MethodName) prog_4_method_6_code (4 : Nat) (Option.some Jvm.ClassFile.FieldType.boolean)) ∈ lw_all := lw_g (lw_at lw_m9 113 rfl) rfl
theorem q2156 : (Jvm.Cond.methodLink "Lastbus$Labels" (73 : Nat) ({ cls := "Lastbus$Run", name := "canGetOn", desc := "(I)Z" } : Jvm.MethodName)) ∈ lw_all := lw_g (lw_at lw_m9 114 rfl) rfl
theorem q2158 : (Jvm.Cond.instanceMethod ({ cls := "Lastbus$Labels", name := "comes", desc := "(LLastbus$Run;I)V" } : Jvm.MethodName)) ∈ lw_all := lw_g (lw_at lw_m9 116 rfl) rfl
theorem q2159 : (Jvm.Cond.selects "Lastbus$Labels" ({ cls := "Lastbus$Labels", name := "comes", desc := "(LLastbus$Run;I)V" } : Jvm.MethodName) ({ cls := "Lastbus$Labels", name := "comes", desc := "(LLastbus$Run;I)V" } : Jvm.MethodName)) ∈ lw_all := lw_g (lw_at lw_m9 117 rfl) rfl
theorem q2160 : (Jvm.Cond.code ({ cls := "Lastbus$Labels", name := "comes", desc := "(LLastbus$Run;I)V" } : Jvm.MethodName) prog_4_method_7_code (6 : Nat) (Option.none : Option Jvm.ClassFile.FieldType)) ∈ lw_all := lw_g (lw_at lw_m9 118 rfl) rfl
theorem q2320 : (Jvm.Cond.instanceMethod ({ cls := "Lastbus$Labels", name := "copy", desc := "()LLastbus$Labels;" } : Jvm.MethodName)) ∈ lw_all := lw_g (lw_at lw_m10 38 rfl) rfl
theorem q2321 : (Jvm.Cond.selects "Lastbus$Labels" ({ cls := "Lastbus$Labels", name := "copy", desc := "()LLastbus$Labels;" } : Jvm.MethodName) ({ cls := "Lastbus$Labels", name := "copy", desc := "()LLastbus$Labels;" } : Jvm.MethodName)) ∈ lw_all := lw_g (lw_at lw_m10 39 rfl) rfl
theorem q2322 : (Jvm.Cond.code ({ cls := "Lastbus$Labels", name := "copy", desc := "()LLastbus$Labels;" } : Jvm.MethodName) prog_4_method_2_code (2 : Nat) (Option.some (Jvm.ClassFile.FieldType.object "Lastbus$Labels"))) ∈ lw_all := lw_g (lw_at lw_m10 40 rfl) rfl
theorem q2323 : (Jvm.Cond.classLink "Lastbus$Labels" (4 : Nat) "Lastbus$Labels") ∈ lw_all := lw_g (lw_at lw_m10 41 rfl) rfl
theorem q2324 : (Jvm.Cond.methodLink "Lastbus$Labels" (40 : Nat) ({ cls := "Lastbus$Labels", name := "<init>", desc := "(LLastbus;I[[I)V" } : Jvm.MethodName)) ∈ lw_all := lw_g (lw_at lw_m10 42 rfl) rfl
theorem q2325 : (Jvm.Cond.methodLink "Lastbus$Labels" (43 : Nat) ({ cls := "java/lang/System", name := "arraycopy", desc := "(Ljava/lang/Object;ILjava/lang/Object;II)V" } : Jvm.MethodName)) ∈ lw_all := lw_g (lw_at lw_m10 43 rfl) rfl
theorem q3700 : (Jvm.Cond.castable "Lastbus$Labels" "java/lang/Object") ∈ lw_tbl := lw_at lw_m15 218 rfl
theorem in_X10 : ∀ w ∈ wsX100, w ∈ lw_all := lw_in wsX100 [2120, 2122, 2124, 2126, 2128, 2130, 2132] (by decide +kernel) (by decide +kernel)
/-! Lastbus$Place -/
set_option maxRecDepth 100000
def RX11 : String := "Lastbus$Place"
def TX11 : u_T := fun k => match k with
  | 0 => ("Lastbus$Place", "minute", "I", true)
  | 1 => ("Lastbus$Place", "stop", "I", true)
  | 2 => ("Lastbus$Place", "run", "LLastbus$Run;", true)
  | _ => ("Lastbus$Place", "call", "I", true)
def tyX11 : Nat → FieldType := fun k => match k with
  | 0 => .int
  | 1 => .int
  | 2 => .object "Lastbus$Run"
  | _ => .int
abbrev wsX110 : List Cond := u_ws RX11 TX11 4
theorem nmX11 : ∀ a, a < 4 → ∀ b, b < 4 → a ≠ b → (TX11 a).2.1 ≠ (TX11 b).2.1 := by decide +kernel
theorem tyX11_ok : ∀ k, k < 4 → parseFieldDescriptor (TX11 k).2.2.1 = some (tyX11 k) := by decide +kernel
abbrev cX11_compareTo : ByteArray := prog_8_method_4_code
def yX11_compareTo : MethodName := ⟨RX11, "compareTo", "(Ljava/lang/Object;)I"⟩
def dkwX11_compareTo_0 : List UInt8 := [42, 43, 192, 0, 10, 182, 0, 34, 172]
abbrev dktX11_compareTo_0 : List UInt8 := dkwX11_compareTo_0 ++ []
theorem dksX11_compareTo_0 : cX11_compareTo.data.toList.drop 0 = dktX11_compareTo_0 := by decide +kernel
theorem dX11_compareTo_0 : decode cX11_compareTo 0 = .ok (.aload_n 0, 1) := dk_42 (dk_at dksX11_compareTo_0 0 rfl rfl)
theorem dX11_compareTo_1 : decode cX11_compareTo 1 = .ok (.aload_n 1, 1) := dk_43 (dk_at dksX11_compareTo_0 1 rfl rfl)
theorem dX11_compareTo_2 : decode cX11_compareTo 2 = .ok (.checkcast 10, 3) := dk_192 0 10 (dk_at dksX11_compareTo_0 2 rfl rfl)
theorem dX11_compareTo_5 : decode cX11_compareTo 5 = .ok (.invokevirtual 34, 3) := dk_182 0 34 (dk_at dksX11_compareTo_0 5 rfl rfl)
theorem dX11_compareTo_8 : decode cX11_compareTo 8 = .ok (.ireturn, 1) := dk_172 (dk_at dksX11_compareTo_0 8 rfl rfl)
abbrev cX11_compareTo_2 : ByteArray := prog_8_method_3_code
def yX11_compareTo_2 : MethodName := ⟨RX11, "compareTo", "(LLastbus$Place;)I"⟩
def dkwX11_compareTo_2_2 : List UInt8 := [43, 182, 0, 30, 164, 0, 7, 4, 167, 0, 4, 3, 172]
abbrev dktX11_compareTo_2_2 : List UInt8 := dkwX11_compareTo_2_2 ++ []
def dkwX11_compareTo_2_1 : List UInt8 := [167, 0, 4, 4, 172, 42, 182, 0, 30, 43, 182, 0, 30, 162, 0, 7, 2, 167, 0, 19, 42, 182, 0, 30]
abbrev dktX11_compareTo_2_1 : List UInt8 := dkwX11_compareTo_2_1 ++ dktX11_compareTo_2_2
def dkwX11_compareTo_2_0 : List UInt8 := [42, 180, 0, 9, 43, 180, 0, 9, 159, 0, 20, 42, 180, 0, 9, 43, 180, 0, 9, 162, 0, 7, 2]
abbrev dktX11_compareTo_2_0 : List UInt8 := dkwX11_compareTo_2_0 ++ dktX11_compareTo_2_1
theorem dksX11_compareTo_2_0 : cX11_compareTo_2.data.toList.drop 0 = dktX11_compareTo_2_0 := by decide +kernel
theorem dksX11_compareTo_2_1 : cX11_compareTo_2.data.toList.drop 23 = dktX11_compareTo_2_1 := dk_seg dksX11_compareTo_2_0 23 rfl rfl
theorem dksX11_compareTo_2_2 : cX11_compareTo_2.data.toList.drop 47 = dktX11_compareTo_2_2 := dk_seg dksX11_compareTo_2_1 24 rfl rfl
theorem dX11_compareTo_2_0 : decode cX11_compareTo_2 0 = .ok (.aload_n 0, 1) := dk_42 (dk_at dksX11_compareTo_2_0 0 rfl rfl)
theorem dX11_compareTo_2_1 : decode cX11_compareTo_2 1 = .ok (.getfield 9, 3) := dk_180 0 9 (dk_at dksX11_compareTo_2_0 1 rfl rfl)
theorem dX11_compareTo_2_4 : decode cX11_compareTo_2 4 = .ok (.aload_n 1, 1) := dk_43 (dk_at dksX11_compareTo_2_0 4 rfl rfl)
theorem dX11_compareTo_2_5 : decode cX11_compareTo_2 5 = .ok (.getfield 9, 3) := dk_180 0 9 (dk_at dksX11_compareTo_2_0 5 rfl rfl)
theorem dX11_compareTo_2_8 : decode cX11_compareTo_2 8 = .ok (.if_icmp .eq 20, 3) := dk_159 0 20 (dk_at dksX11_compareTo_2_0 8 rfl rfl)
theorem dX11_compareTo_2_11 : decode cX11_compareTo_2 11 = .ok (.aload_n 0, 1) := dk_42 (dk_at dksX11_compareTo_2_0 11 rfl rfl)
theorem dX11_compareTo_2_12 : decode cX11_compareTo_2 12 = .ok (.getfield 9, 3) := dk_180 0 9 (dk_at dksX11_compareTo_2_0 12 rfl rfl)
theorem dX11_compareTo_2_15 : decode cX11_compareTo_2 15 = .ok (.aload_n 1, 1) := dk_43 (dk_at dksX11_compareTo_2_0 15 rfl rfl)
theorem dX11_compareTo_2_16 : decode cX11_compareTo_2 16 = .ok (.getfield 9, 3) := dk_180 0 9 (dk_at dksX11_compareTo_2_0 16 rfl rfl)
theorem dX11_compareTo_2_19 : decode cX11_compareTo_2 19 = .ok (.if_icmp .ge 7, 3) := dk_162 0 7 (dk_at dksX11_compareTo_2_0 19 rfl rfl)
theorem dX11_compareTo_2_22 : decode cX11_compareTo_2 22 = .ok (.iconst (-1), 1) := dk_2 (dk_at dksX11_compareTo_2_0 22 rfl rfl)
theorem dX11_compareTo_2_23 : decode cX11_compareTo_2 23 = .ok (.goto 4, 3) := dk_167 0 4 (dk_at dksX11_compareTo_2_1 0 rfl rfl)
theorem dX11_compareTo_2_26 : decode cX11_compareTo_2 26 = .ok (.iconst 1, 1) := dk_4 (dk_at dksX11_compareTo_2_1 3 rfl rfl)
theorem dX11_compareTo_2_27 : decode cX11_compareTo_2 27 = .ok (.ireturn, 1) := dk_172 (dk_at dksX11_compareTo_2_1 4 rfl rfl)
theorem dX11_compareTo_2_28 : decode cX11_compareTo_2 28 = .ok (.aload_n 0, 1) := dk_42 (dk_at dksX11_compareTo_2_1 5 rfl rfl)
theorem dX11_compareTo_2_29 : decode cX11_compareTo_2 29 = .ok (.invokevirtual 30, 3) := dk_182 0 30 (dk_at dksX11_compareTo_2_1 6 rfl rfl)
theorem dX11_compareTo_2_32 : decode cX11_compareTo_2 32 = .ok (.aload_n 1, 1) := dk_43 (dk_at dksX11_compareTo_2_1 9 rfl rfl)
theorem dX11_compareTo_2_33 : decode cX11_compareTo_2 33 = .ok (.invokevirtual 30, 3) := dk_182 0 30 (dk_at dksX11_compareTo_2_1 10 rfl rfl)
theorem dX11_compareTo_2_36 : decode cX11_compareTo_2 36 = .ok (.if_icmp .ge 7, 3) := dk_162 0 7 (dk_at dksX11_compareTo_2_1 13 rfl rfl)
theorem dX11_compareTo_2_39 : decode cX11_compareTo_2 39 = .ok (.iconst (-1), 1) := dk_2 (dk_at dksX11_compareTo_2_1 16 rfl rfl)
theorem dX11_compareTo_2_40 : decode cX11_compareTo_2 40 = .ok (.goto 19, 3) := dk_167 0 19 (dk_at dksX11_compareTo_2_1 17 rfl rfl)
theorem dX11_compareTo_2_43 : decode cX11_compareTo_2 43 = .ok (.aload_n 0, 1) := dk_42 (dk_at dksX11_compareTo_2_1 20 rfl rfl)
theorem dX11_compareTo_2_44 : decode cX11_compareTo_2 44 = .ok (.invokevirtual 30, 3) := dk_182 0 30 (dk_at dksX11_compareTo_2_1 21 rfl rfl)
theorem dX11_compareTo_2_47 : decode cX11_compareTo_2 47 = .ok (.aload_n 1, 1) := dk_43 (dk_at dksX11_compareTo_2_2 0 rfl rfl)
theorem dX11_compareTo_2_48 : decode cX11_compareTo_2 48 = .ok (.invokevirtual 30, 3) := dk_182 0 30 (dk_at dksX11_compareTo_2_2 1 rfl rfl)
theorem dX11_compareTo_2_51 : decode cX11_compareTo_2 51 = .ok (.if_icmp .le 7, 3) := dk_164 0 7 (dk_at dksX11_compareTo_2_2 4 rfl rfl)
theorem dX11_compareTo_2_54 : decode cX11_compareTo_2 54 = .ok (.iconst 1, 1) := dk_4 (dk_at dksX11_compareTo_2_2 7 rfl rfl)
theorem dX11_compareTo_2_55 : decode cX11_compareTo_2 55 = .ok (.goto 4, 3) := dk_167 0 4 (dk_at dksX11_compareTo_2_2 8 rfl rfl)
theorem dX11_compareTo_2_58 : decode cX11_compareTo_2 58 = .ok (.iconst 0, 1) := dk_3 (dk_at dksX11_compareTo_2_2 11 rfl rfl)
theorem dX11_compareTo_2_59 : decode cX11_compareTo_2 59 = .ok (.ireturn, 1) := dk_172 (dk_at dksX11_compareTo_2_2 12 rfl rfl)
abbrev cX11_rank : ByteArray := prog_8_method_2_code
def yX11_rank : MethodName := ⟨RX11, "rank", "()I"⟩
def dkwX11_rank_1 : List UInt8 := [180, 0, 25, 104, 96, 42, 180, 0, 22, 96, 172]
abbrev dktX11_rank_1 : List UInt8 := dkwX11_rank_1 ++ []
def dkwX11_rank_0 : List UInt8 := [42, 180, 0, 18, 199, 0, 10, 42, 180, 0, 15, 167, 0, 21, 16, 12, 16, 8, 42, 180, 0, 18]
abbrev dktX11_rank_0 : List UInt8 := dkwX11_rank_0 ++ dktX11_rank_1
theorem dksX11_rank_0 : cX11_rank.data.toList.drop 0 = dktX11_rank_0 := by decide +kernel
theorem dksX11_rank_1 : cX11_rank.data.toList.drop 22 = dktX11_rank_1 := dk_seg dksX11_rank_0 22 rfl rfl
theorem dX11_rank_0 : decode cX11_rank 0 = .ok (.aload_n 0, 1) := dk_42 (dk_at dksX11_rank_0 0 rfl rfl)
theorem dX11_rank_1 : decode cX11_rank 1 = .ok (.getfield 18, 3) := dk_180 0 18 (dk_at dksX11_rank_0 1 rfl rfl)
theorem dX11_rank_4 : decode cX11_rank 4 = .ok (.ifnonnull 10, 3) := dk_199 0 10 (dk_at dksX11_rank_0 4 rfl rfl)
theorem dX11_rank_7 : decode cX11_rank 7 = .ok (.aload_n 0, 1) := dk_42 (dk_at dksX11_rank_0 7 rfl rfl)
theorem dX11_rank_8 : decode cX11_rank 8 = .ok (.getfield 15, 3) := dk_180 0 15 (dk_at dksX11_rank_0 8 rfl rfl)
theorem dX11_rank_11 : decode cX11_rank 11 = .ok (.goto 21, 3) := dk_167 0 21 (dk_at dksX11_rank_0 11 rfl rfl)
theorem dX11_rank_14 : decode cX11_rank 14 = .ok (.bipush 12, 2) := dk_16 12 (dk_at dksX11_rank_0 14 rfl rfl)
theorem dX11_rank_16 : decode cX11_rank 16 = .ok (.bipush 8, 2) := dk_16 8 (dk_at dksX11_rank_0 16 rfl rfl)
theorem dX11_rank_18 : decode cX11_rank 18 = .ok (.aload_n 0, 1) := dk_42 (dk_at dksX11_rank_0 18 rfl rfl)
theorem dX11_rank_19 : decode cX11_rank 19 = .ok (.getfield 18, 3) := dk_180 0 18 (dk_at dksX11_rank_0 19 rfl rfl)
theorem dX11_rank_22 : decode cX11_rank 22 = .ok (.getfield 25, 3) := dk_180 0 25 (dk_at dksX11_rank_1 0 rfl rfl)
theorem dX11_rank_25 : decode cX11_rank 25 = .ok (.imul, 1) := dk_104 (dk_at dksX11_rank_1 3 rfl rfl)
theorem dX11_rank_26 : decode cX11_rank 26 = .ok (.iadd, 1) := dk_96 (dk_at dksX11_rank_1 4 rfl rfl)
theorem dX11_rank_27 : decode cX11_rank 27 = .ok (.aload_n 0, 1) := dk_42 (dk_at dksX11_rank_1 5 rfl rfl)
theorem dX11_rank_28 : decode cX11_rank 28 = .ok (.getfield 22, 3) := dk_180 0 22 (dk_at dksX11_rank_1 6 rfl rfl)
theorem dX11_rank_31 : decode cX11_rank 31 = .ok (.iadd, 1) := dk_96 (dk_at dksX11_rank_1 9 rfl rfl)
theorem dX11_rank_32 : decode cX11_rank 32 = .ok (.ireturn, 1) := dk_172 (dk_at dksX11_rank_1 10 rfl rfl)
abbrev cX11_init : ByteArray := prog_8_method_1_code
def yX11_init : MethodName := ⟨RX11, "<init>", "(IILLastbus$Run;I)V"⟩
def dkwX11_init_1 : List UInt8 := [181, 0, 22, 177]
abbrev dktX11_init_1 : List UInt8 := dkwX11_init_1 ++ []
def dkwX11_init_0 : List UInt8 := [42, 183, 0, 3, 42, 27, 181, 0, 9, 42, 28, 181, 0, 15, 42, 45, 181, 0, 18, 42, 21, 4]
abbrev dktX11_init_0 : List UInt8 := dkwX11_init_0 ++ dktX11_init_1
theorem dksX11_init_0 : cX11_init.data.toList.drop 0 = dktX11_init_0 := by decide +kernel
theorem dksX11_init_1 : cX11_init.data.toList.drop 22 = dktX11_init_1 := dk_seg dksX11_init_0 22 rfl rfl
theorem dX11_init_0 : decode cX11_init 0 = .ok (.aload_n 0, 1) := dk_42 (dk_at dksX11_init_0 0 rfl rfl)
theorem dX11_init_1 : decode cX11_init 1 = .ok (.invokespecial 3, 3) := dk_183 0 3 (dk_at dksX11_init_0 1 rfl rfl)
theorem dX11_init_4 : decode cX11_init 4 = .ok (.aload_n 0, 1) := dk_42 (dk_at dksX11_init_0 4 rfl rfl)
theorem dX11_init_5 : decode cX11_init 5 = .ok (.iload_n 1, 1) := dk_27 (dk_at dksX11_init_0 5 rfl rfl)
theorem dX11_init_6 : decode cX11_init 6 = .ok (.putfield 9, 3) := dk_181 0 9 (dk_at dksX11_init_0 6 rfl rfl)
theorem dX11_init_9 : decode cX11_init 9 = .ok (.aload_n 0, 1) := dk_42 (dk_at dksX11_init_0 9 rfl rfl)
theorem dX11_init_10 : decode cX11_init 10 = .ok (.iload_n 2, 1) := dk_28 (dk_at dksX11_init_0 10 rfl rfl)
theorem dX11_init_11 : decode cX11_init 11 = .ok (.putfield 15, 3) := dk_181 0 15 (dk_at dksX11_init_0 11 rfl rfl)
theorem dX11_init_14 : decode cX11_init 14 = .ok (.aload_n 0, 1) := dk_42 (dk_at dksX11_init_0 14 rfl rfl)
theorem dX11_init_15 : decode cX11_init 15 = .ok (.aload_n 3, 1) := dk_45 (dk_at dksX11_init_0 15 rfl rfl)
theorem dX11_init_16 : decode cX11_init 16 = .ok (.putfield 18, 3) := dk_181 0 18 (dk_at dksX11_init_0 16 rfl rfl)
theorem dX11_init_19 : decode cX11_init 19 = .ok (.aload_n 0, 1) := dk_42 (dk_at dksX11_init_0 19 rfl rfl)
theorem dX11_init_20 : decode cX11_init 20 = .ok (.iload 4, 2) := dk_21 4 (dk_at dksX11_init_0 20 rfl rfl)
theorem dX11_init_22 : decode cX11_init 22 = .ok (.putfield 22, 3) := dk_181 0 22 (dk_at dksX11_init_1 0 rfl rfl)
theorem dX11_init_25 : decode cX11_init 25 = .ok (.return_, 1) := dk_177 (dk_at dksX11_init_1 3 rfl rfl)
theorem q178 : (Jvm.Cond.initialized "Lastbus$Place") ∈ lw_all := lw_g (lw_at lw_m1 56 rfl) rfl
theorem q983 : (Jvm.Cond.selects "Lastbus$Place" ({ cls := "java/lang/Object", name := "getClass", desc := "()Ljava/lang/Class;" } : Jvm.MethodName) ({ cls := "java/lang/Object", name := "getClass", desc := "()Ljava/lang/Class;" } : Jvm.MethodName)) ∈ lw_all := lw_g (lw_at lw_m4 141 rfl) rfl
theorem q1518 : (Jvm.Cond.castable "Lastbus$Place" "java/lang/Comparable") ∈ lw_tbl := lw_at lw_m6 196 rfl
theorem q1519 : (Jvm.Cond.selects "Lastbus$Place" ({ cls := "java/lang/Comparable", name := "compareTo", desc := "(Ljava/lang/Object;)I" } : Jvm.MethodName) ({ cls := "Lastbus$Place", name := "compareTo", desc := "(Ljava/lang/Object;)I" } : Jvm.MethodName)) ∈ lw_all := lw_g (lw_at lw_m6 197 rfl) rfl
theorem q1520 : (Jvm.Cond.unhidden "Lastbus$Place" "compareTo" "(Ljava/lang/Object;)I") ∈ lw_tbl := lw_at lw_m6 198 rfl
theorem q1521 : (Jvm.Cond.instanceMethod ({ cls := "Lastbus$Place", name := "compareTo", desc := "(Ljava/lang/Object;)I" } : Jvm.MethodName)) ∈ lw_all := lw_g (lw_at lw_m6 199 rfl) rfl
theorem q1522 : (Jvm.Cond.publicMethod ({ cls := "Lastbus$Place", name := "compareTo", desc := "(Ljava/lang/Object;)I" } : Jvm.MethodName)) ∈ lw_tbl := lw_at lw_m6 200 rfl
theorem q1523 : (Jvm.Cond.code ({ cls := "Lastbus$Place", name := "compareTo", desc := "(Ljava/lang/Object;)I" } : Jvm.MethodName) prog_8_method_4_code (2 : Nat) (Option.some Jvm.ClassFile.FieldType.int)) ∈ lw_all := lw_g (lw_at lw_m6 201 rfl) rfl
theorem q1524 : (Jvm.Cond.classLink "Lastbus$Place" (10 : Nat) "Lastbus$Place") ∈ lw_all := lw_g (lw_at lw_m6 202 rfl) rfl
theorem q1525 : (Jvm.Cond.methodLink "Lastbus$Place" (34 : Nat) ({ cls := "Lastbus$Place", name := "compareTo", desc := "(LLastbus$Place;)I" } : Jvm.MethodName)) ∈ lw_all := lw_g (lw_at lw_m6 203 rfl) rfl
theorem q1526 : (Jvm.Cond.instanceMethod ({ cls := "Lastbus$Place", name := "compareTo", desc := "(LLastbus$Place;)I" } : Jvm.MethodName)) ∈ lw_all := lw_g (lw_at lw_m6 204 rfl) rfl
theorem q1527 : (Jvm.Cond.selects "Lastbus$Place" ({ cls := "Lastbus$Place", name := "compareTo", desc := "(LLastbus$Place;)I" } : Jvm.MethodName) ({ cls := "Lastbus$Place", name := "compareTo", desc := "(LLastbus$Place;)I" } : Jvm.MethodName)) ∈ lw_all := lw_g (lw_at lw_m6 205 rfl) rfl
theorem q1528 : (Jvm.Cond.code ({ cls := "Lastbus$Place", name := "compareTo", desc := "(LLastbus$Place;)I" } : Jvm.MethodName) prog_8_method_3_code (2 : Nat) (Option.some Jvm.ClassFile.FieldType.int)) ∈ lw_all := lw_g (lw_at lw_m6 206 rfl) rfl
theorem q1529 : (Jvm.Cond.methodLink "Lastbus$Place" (30 : Nat) ({ cls := "Lastbus$Place", name := "rank", desc := "()I" } : Jvm.MethodName)) ∈ lw_all := lw_g (lw_at lw_m6 207 rfl) rfl
theorem q1530 : (Jvm.Cond.privateMethod ({ cls := "Lastbus$Place", name := "rank", desc := "()I" } : Jvm.MethodName)) ∈ lw_tbl := lw_at lw_m6 208 rfl
theorem q1531 : (Jvm.Cond.instanceMethod ({ cls := "Lastbus$Place", name := "rank", desc := "()I" } : Jvm.MethodName)) ∈ lw_all := lw_g (lw_at lw_m6 209 rfl) rfl
theorem q1532 : (Jvm.Cond.instantiable "Lastbus$Place" (4 : Nat)) ∈ lw_all := lw_g (lw_at lw_m6 210 rfl) rfl
theorem q1533 : (Jvm.Cond.code ({ cls := "Lastbus$Place", name := "rank", desc := "()I" } : Jvm.MethodName) prog_8_method_2_code (1 : Nat) (Option.some Jvm.ClassFile.FieldType.int)) ∈ lw_all := lw_g (lw_at lw_m6 211 rfl) rfl
theorem q1896 : (Jvm.Cond.fieldLinkNest "Lastbus$Place" (25 : Nat) "Lastbus$Run" "number" "I" "Lastbus") ∈ lw_tbl := lw_at lw_m8 94 rfl
theorem q2206 : (Jvm.Cond.instanceMethod ({ cls := "Lastbus$Place", name := "<init>", desc := "(IILLastbus$Run;I)V" } : Jvm.MethodName)) ∈ lw_all := lw_g (lw_at lw_m9 164 rfl) rfl
theorem q2207 : (Jvm.Cond.code ({ cls := "Lastbus$Place", name := "<init>", desc := "(IILLastbus$Run;I)V" } : Jvm.MethodName) prog_8_method_1_code (5 : Nat) (Option.none : Option Jvm.ClassFile.FieldType)) ∈ lw_all := lw_g (lw_at lw_m9 165 rfl) rfl
theorem q2208 : (Jvm.Cond.methodLink "Lastbus$Place" (3 : Nat) ({ cls := "java/lang/Object", name := "<init>", desc := "()V" } : Jvm.MethodName)) ∈ lw_all := lw_g (lw_at lw_m9 166 rfl) rfl
theorem q2209 : (Jvm.Cond.fieldLink "Lastbus$Place" (9 : Nat) "Lastbus$Place" "minute" "I") ∈ lw_all := lw_g (lw_at lw_m9 167 rfl) rfl
theorem q2211 : (Jvm.Cond.fieldLink "Lastbus$Place" (15 : Nat) "Lastbus$Place" "stop" "I") ∈ lw_all := lw_g (lw_at lw_m9 169 rfl) rfl
theorem q2213 : (Jvm.Cond.fieldLink "Lastbus$Place" (18 : Nat) "Lastbus$Place" "run" "LLastbus$Run;") ∈ lw_all := lw_g (lw_at lw_m9 171 rfl) rfl
theorem q2215 : (Jvm.Cond.fieldLink "Lastbus$Place" (22 : Nat) "Lastbus$Place" "call" "I") ∈ lw_all := lw_g (lw_at lw_m9 173 rfl) rfl
theorem q2217 : (Jvm.Cond.laysFinal "Lastbus$Place" "Lastbus$Place" "minute" "I") ∈ lw_all := lw_g (lw_at lw_m9 175 rfl) rfl
theorem q2218 : (Jvm.Cond.soleField "Lastbus$Place" "minute") ∈ lw_all := lw_g (lw_at lw_m9 176 rfl) rfl
theorem q2219 : (Jvm.Cond.laysFinal "Lastbus$Place" "Lastbus$Place" "stop" "I") ∈ lw_all := lw_g (lw_at lw_m9 177 rfl) rfl
theorem q2220 : (Jvm.Cond.soleField "Lastbus$Place" "stop") ∈ lw_all := lw_g (lw_at lw_m9 178 rfl) rfl
theorem q2221 : (Jvm.Cond.laysFinal "Lastbus$Place" "Lastbus$Place" "run" "LLastbus$Run;") ∈ lw_all := lw_g (lw_at lw_m9 179 rfl) rfl
theorem q2222 : (Jvm.Cond.soleField "Lastbus$Place" "run") ∈ lw_all := lw_g (lw_at lw_m9 180 rfl) rfl
theorem q2223 : (Jvm.Cond.laysFinal "Lastbus$Place" "Lastbus$Place" "call" "I") ∈ lw_all := lw_g (lw_at lw_m9 181 rfl) rfl
theorem q2224 : (Jvm.Cond.soleField "Lastbus$Place" "call") ∈ lw_all := lw_g (lw_at lw_m9 182 rfl) rfl
theorem q2225 : (Jvm.Cond.superclass "Lastbus$Place" "java/lang/Object") ∈ lw_all := lw_g (lw_at lw_m9 183 rfl) rfl
theorem q3702 : (Jvm.Cond.castable "Lastbus$Place" "java/lang/Object") ∈ lw_tbl := lw_at lw_m15 220 rfl
theorem in_X11 : ∀ w ∈ wsX110, w ∈ lw_all := lw_in wsX110 [2217, 2219, 2221, 2223] (by decide +kernel) (by decide +kernel)
/-! Lastbus$Leg -/
set_option maxRecDepth 100000
def RX12 : String := "Lastbus$Leg"
def TX12 : u_T := fun k => match k with
  | 0 => ("Lastbus$Leg", "trip", "I", true)
  | 1 => ("Lastbus$Leg", "shift", "I", true)
  | 2 => ("Lastbus$Leg", "on", "I", true)
  | _ => ("Lastbus$Leg", "off", "I", true)
def tyX12 : Nat → FieldType := fun k => match k with
  | 0 => .int
  | 1 => .int
  | 2 => .int
  | _ => .int
abbrev wsX120 : List Cond := u_ws RX12 TX12 4
theorem nmX12 : ∀ a, a < 4 → ∀ b, b < 4 → a ≠ b → (TX12 a).2.1 ≠ (TX12 b).2.1 := by decide +kernel
theorem tyX12_ok : ∀ k, k < 4 → parseFieldDescriptor (TX12 k).2.2.1 = some (tyX12 k) := by decide +kernel
abbrev cX12_init : ByteArray := prog_6_method_1_code
def yX12_init : MethodName := ⟨RX12, "<init>", "(IIII)V"⟩
def dkwX12_init_1 : List UInt8 := [181, 0, 19, 177]
abbrev dktX12_init_1 : List UInt8 := dkwX12_init_1 ++ []
def dkwX12_init_0 : List UInt8 := [42, 183, 0, 1, 42, 27, 181, 0, 7, 42, 28, 181, 0, 13, 42, 29, 181, 0, 16, 42, 21, 4]
abbrev dktX12_init_0 : List UInt8 := dkwX12_init_0 ++ dktX12_init_1
theorem dksX12_init_0 : cX12_init.data.toList.drop 0 = dktX12_init_0 := by decide +kernel
theorem dksX12_init_1 : cX12_init.data.toList.drop 22 = dktX12_init_1 := dk_seg dksX12_init_0 22 rfl rfl
theorem dX12_init_0 : decode cX12_init 0 = .ok (.aload_n 0, 1) := dk_42 (dk_at dksX12_init_0 0 rfl rfl)
theorem dX12_init_1 : decode cX12_init 1 = .ok (.invokespecial 1, 3) := dk_183 0 1 (dk_at dksX12_init_0 1 rfl rfl)
theorem dX12_init_4 : decode cX12_init 4 = .ok (.aload_n 0, 1) := dk_42 (dk_at dksX12_init_0 4 rfl rfl)
theorem dX12_init_5 : decode cX12_init 5 = .ok (.iload_n 1, 1) := dk_27 (dk_at dksX12_init_0 5 rfl rfl)
theorem dX12_init_6 : decode cX12_init 6 = .ok (.putfield 7, 3) := dk_181 0 7 (dk_at dksX12_init_0 6 rfl rfl)
theorem dX12_init_9 : decode cX12_init 9 = .ok (.aload_n 0, 1) := dk_42 (dk_at dksX12_init_0 9 rfl rfl)
theorem dX12_init_10 : decode cX12_init 10 = .ok (.iload_n 2, 1) := dk_28 (dk_at dksX12_init_0 10 rfl rfl)
theorem dX12_init_11 : decode cX12_init 11 = .ok (.putfield 13, 3) := dk_181 0 13 (dk_at dksX12_init_0 11 rfl rfl)
theorem dX12_init_14 : decode cX12_init 14 = .ok (.aload_n 0, 1) := dk_42 (dk_at dksX12_init_0 14 rfl rfl)
theorem dX12_init_15 : decode cX12_init 15 = .ok (.iload_n 3, 1) := dk_29 (dk_at dksX12_init_0 15 rfl rfl)
theorem dX12_init_16 : decode cX12_init 16 = .ok (.putfield 16, 3) := dk_181 0 16 (dk_at dksX12_init_0 16 rfl rfl)
theorem dX12_init_19 : decode cX12_init 19 = .ok (.aload_n 0, 1) := dk_42 (dk_at dksX12_init_0 19 rfl rfl)
theorem dX12_init_20 : decode cX12_init 20 = .ok (.iload 4, 2) := dk_21 4 (dk_at dksX12_init_0 20 rfl rfl)
theorem dX12_init_22 : decode cX12_init 22 = .ok (.putfield 19, 3) := dk_181 0 19 (dk_at dksX12_init_1 0 rfl rfl)
theorem dX12_init_25 : decode cX12_init 25 = .ok (.return_, 1) := dk_177 (dk_at dksX12_init_1 3 rfl rfl)
abbrev cX12_trip : ByteArray := prog_6_method_5_code
def yX12_trip : MethodName := ⟨RX12, "trip", "()I"⟩
theorem dX12_trip_0 : decode cX12_trip 0 = .ok (.aload_n 0, 1) := by decide +kernel
theorem dX12_trip_1 : decode cX12_trip 1 = .ok (.getfield 7, 3) := by decide +kernel
theorem dX12_trip_4 : decode cX12_trip 4 = .ok (.ireturn, 1) := by decide +kernel
abbrev cX12_shift : ByteArray := prog_6_method_6_code
def yX12_shift : MethodName := ⟨RX12, "shift", "()I"⟩
theorem dX12_shift_0 : decode cX12_shift 0 = .ok (.aload_n 0, 1) := by decide +kernel
theorem dX12_shift_1 : decode cX12_shift 1 = .ok (.getfield 13, 3) := by decide +kernel
theorem dX12_shift_4 : decode cX12_shift 4 = .ok (.ireturn, 1) := by decide +kernel
abbrev cX12_on : ByteArray := prog_6_method_7_code
def yX12_on : MethodName := ⟨RX12, "on", "()I"⟩
theorem dX12_on_0 : decode cX12_on 0 = .ok (.aload_n 0, 1) := by decide +kernel
theorem dX12_on_1 : decode cX12_on 1 = .ok (.getfield 16, 3) := by decide +kernel
theorem dX12_on_4 : decode cX12_on 4 = .ok (.ireturn, 1) := by decide +kernel
abbrev cX12_off : ByteArray := prog_6_method_8_code
def yX12_off : MethodName := ⟨RX12, "off", "()I"⟩
theorem dX12_off_0 : decode cX12_off 0 = .ok (.aload_n 0, 1) := by decide +kernel
theorem dX12_off_1 : decode cX12_off 1 = .ok (.getfield 19, 3) := by decide +kernel
theorem dX12_off_4 : decode cX12_off 4 = .ok (.ireturn, 1) := by decide +kernel
theorem q179 : (Jvm.Cond.initialized "Lastbus$Leg") ∈ lw_all := lw_g (lw_at lw_m1 57 rfl) rfl
theorem q981 : (Jvm.Cond.selects "Lastbus$Leg" ({ cls := "java/lang/Object", name := "getClass", desc := "()Ljava/lang/Class;" } : Jvm.MethodName) ({ cls := "java/lang/Object", name := "getClass", desc := "()Ljava/lang/Class;" } : Jvm.MethodName)) ∈ lw_all := lw_g (lw_at lw_m4 139 rfl) rfl
theorem q2388 : (Jvm.Cond.instantiable "Lastbus$Leg" (4 : Nat)) ∈ lw_all := lw_g (lw_at lw_m10 106 rfl) rfl
theorem q2390 : (Jvm.Cond.instanceMethod ({ cls := "Lastbus$Leg", name := "<init>", desc := "(IIII)V" } : Jvm.MethodName)) ∈ lw_all := lw_g (lw_at lw_m10 108 rfl) rfl
theorem q2391 : (Jvm.Cond.code ({ cls := "Lastbus$Leg", name := "<init>", desc := "(IIII)V" } : Jvm.MethodName) prog_6_method_1_code (5 : Nat) (Option.none : Option Jvm.ClassFile.FieldType)) ∈ lw_all := lw_g (lw_at lw_m10 109 rfl) rfl
theorem q2392 : (Jvm.Cond.methodLink "Lastbus$Leg" (1 : Nat) ({ cls := "java/lang/Record", name := "<init>", desc := "()V" } : Jvm.MethodName)) ∈ lw_all := lw_g (lw_at lw_m10 110 rfl) rfl
theorem q2393 : (Jvm.Cond.fieldLink "Lastbus$Leg" (7 : Nat) "Lastbus$Leg" "trip" "I") ∈ lw_all := lw_g (lw_at lw_m10 111 rfl) rfl
theorem q2394 : (Jvm.Cond.fieldLink "Lastbus$Leg" (13 : Nat) "Lastbus$Leg" "shift" "I") ∈ lw_all := lw_g (lw_at lw_m10 112 rfl) rfl
theorem q2395 : (Jvm.Cond.fieldLink "Lastbus$Leg" (16 : Nat) "Lastbus$Leg" "on" "I") ∈ lw_all := lw_g (lw_at lw_m10 113 rfl) rfl
theorem q2396 : (Jvm.Cond.fieldLink "Lastbus$Leg" (19 : Nat) "Lastbus$Leg" "off" "I") ∈ lw_all := lw_g (lw_at lw_m10 114 rfl) rfl
theorem q2397 : (Jvm.Cond.laysFinal "Lastbus$Leg" "Lastbus$Leg" "trip" "I") ∈ lw_all := lw_g (lw_at lw_m10 115 rfl) rfl
theorem q2398 : (Jvm.Cond.soleField "Lastbus$Leg" "trip") ∈ lw_all := lw_g (lw_at lw_m10 116 rfl) rfl
theorem q2399 : (Jvm.Cond.laysFinal "Lastbus$Leg" "Lastbus$Leg" "shift" "I") ∈ lw_all := lw_g (lw_at lw_m10 117 rfl) rfl
theorem q2400 : (Jvm.Cond.soleField "Lastbus$Leg" "shift") ∈ lw_all := lw_g (lw_at lw_m10 118 rfl) rfl
theorem q2401 : (Jvm.Cond.laysFinal "Lastbus$Leg" "Lastbus$Leg" "on" "I") ∈ lw_all := lw_g (lw_at lw_m10 119 rfl) rfl
theorem q2402 : (Jvm.Cond.soleField "Lastbus$Leg" "on") ∈ lw_all := lw_g (lw_at lw_m10 120 rfl) rfl
theorem q2403 : (Jvm.Cond.laysFinal "Lastbus$Leg" "Lastbus$Leg" "off" "I") ∈ lw_all := lw_g (lw_at lw_m10 121 rfl) rfl
theorem q2404 : (Jvm.Cond.soleField "Lastbus$Leg" "off") ∈ lw_all := lw_g (lw_at lw_m10 122 rfl) rfl
theorem q2405 : (Jvm.Cond.superclass "Lastbus$Leg" "java/lang/Record") ∈ lw_all := lw_g (lw_at lw_m10 123 rfl) rfl
theorem q2481 : (Jvm.Cond.instanceMethod ({ cls := "Lastbus$Leg", name := "trip", desc := "()I" } : Jvm.MethodName)) ∈ lw_all := lw_g (lw_at lw_m10 199 rfl) rfl
theorem q2482 : (Jvm.Cond.selects "Lastbus$Leg" ({ cls := "Lastbus$Leg", name := "trip", desc := "()I" } : Jvm.MethodName) ({ cls := "Lastbus$Leg", name := "trip", desc := "()I" } : Jvm.MethodName)) ∈ lw_all := lw_g (lw_at lw_m10 200 rfl) rfl
theorem q2483 : (Jvm.Cond.code ({ cls := "Lastbus$Leg", name := "trip", desc := "()I" } : Jvm.MethodName) prog_6_method_5_code (1 : Nat) (Option.some Jvm.ClassFile.FieldType.int)) ∈ lw_all := lw_g (lw_at lw_m10 201 rfl) rfl
theorem q2485 : (Jvm.Cond.instanceMethod ({ cls := "Lastbus$Leg", name := "shift", desc := "()I" } : Jvm.MethodName)) ∈ lw_all := lw_g (lw_at lw_m10 203 rfl) rfl
theorem q2486 : (Jvm.Cond.selects "Lastbus$Leg" ({ cls := "Lastbus$Leg", name := "shift", desc := "()I" } : Jvm.MethodName) ({ cls := "Lastbus$Leg", name := "shift", desc := "()I" } : Jvm.MethodName)) ∈ lw_all := lw_g (lw_at lw_m10 204 rfl) rfl
theorem q2487 : (Jvm.Cond.code ({ cls := "Lastbus$Leg", name := "shift", desc := "()I" } : Jvm.MethodName) prog_6_method_6_code (1 : Nat) (Option.some Jvm.ClassFile.FieldType.int)) ∈ lw_all := lw_g (lw_at lw_m10 205 rfl) rfl
theorem q2489 : (Jvm.Cond.instanceMethod ({ cls := "Lastbus$Leg", name := "on", desc := "()I" } : Jvm.MethodName)) ∈ lw_all := lw_g (lw_at lw_m10 207 rfl) rfl
theorem q2490 : (Jvm.Cond.selects "Lastbus$Leg" ({ cls := "Lastbus$Leg", name := "on", desc := "()I" } : Jvm.MethodName) ({ cls := "Lastbus$Leg", name := "on", desc := "()I" } : Jvm.MethodName)) ∈ lw_all := lw_g (lw_at lw_m10 208 rfl) rfl
theorem q2491 : (Jvm.Cond.code ({ cls := "Lastbus$Leg", name := "on", desc := "()I" } : Jvm.MethodName) prog_6_method_7_code (1 : Nat) (Option.some Jvm.ClassFile.FieldType.int)) ∈ lw_all := lw_g (lw_at lw_m10 209 rfl) rfl
theorem q2493 : (Jvm.Cond.instanceMethod ({ cls := "Lastbus$Leg", name := "off", desc := "()I" } : Jvm.MethodName)) ∈ lw_all := lw_g (lw_at lw_m10 211 rfl) rfl
theorem q2494 : (Jvm.Cond.selects "Lastbus$Leg" ({ cls := "Lastbus$Leg", name := "off", desc := "()I" } : Jvm.MethodName) ({ cls := "Lastbus$Leg", name := "off", desc := "()I" } : Jvm.MethodName)) ∈ lw_all := lw_g (lw_at lw_m10 212 rfl) rfl
theorem q2495 : (Jvm.Cond.code ({ cls := "Lastbus$Leg", name := "off", desc := "()I" } : Jvm.MethodName) prog_6_method_8_code (1 : Nat) (Option.some Jvm.ClassFile.FieldType.int)) ∈ lw_all := lw_g (lw_at lw_m10 213 rfl) rfl
theorem q3703 : (Jvm.Cond.castable "Lastbus$Leg" "java/lang/Object") ∈ lw_tbl := lw_at lw_m15 221 rfl
theorem in_X12 : ∀ w ∈ wsX120, w ∈ lw_all := lw_in wsX120 [2397, 2399, 2401, 2403] (by decide +kernel) (by decide +kernel)
/-! Lastbus$Pair -/
set_option maxRecDepth 100000
def RX13 : String := "Lastbus$Pair"
def TX13 : u_T := fun k => match k with
  | 0 => ("Lastbus$Pair", "leaves", "I", true)
  | _ => ("Lastbus$Pair", "comes", "I", true)
def tyX13 : Nat → FieldType := fun k => match k with
  | 0 => .int
  | _ => .int
abbrev wsX130 : List Cond := u_ws RX13 TX13 2
theorem nmX13 : ∀ a, a < 2 → ∀ b, b < 2 → a ≠ b → (TX13 a).2.1 ≠ (TX13 b).2.1 := by decide +kernel
theorem tyX13_ok : ∀ k, k < 2 → parseFieldDescriptor (TX13 k).2.2.1 = some (tyX13 k) := by decide +kernel
abbrev cX13_init : ByteArray := prog_7_method_1_code
def yX13_init : MethodName := ⟨RX13, "<init>", "(II)V"⟩
def dkwX13_init_0 : List UInt8 := [42, 183, 0, 1, 42, 27, 181, 0, 7, 42, 28, 181, 0, 13, 177]
abbrev dktX13_init_0 : List UInt8 := dkwX13_init_0 ++ []
theorem dksX13_init_0 : cX13_init.data.toList.drop 0 = dktX13_init_0 := by decide +kernel
theorem dX13_init_0 : decode cX13_init 0 = .ok (.aload_n 0, 1) := dk_42 (dk_at dksX13_init_0 0 rfl rfl)
theorem dX13_init_1 : decode cX13_init 1 = .ok (.invokespecial 1, 3) := dk_183 0 1 (dk_at dksX13_init_0 1 rfl rfl)
theorem dX13_init_4 : decode cX13_init 4 = .ok (.aload_n 0, 1) := dk_42 (dk_at dksX13_init_0 4 rfl rfl)
theorem dX13_init_5 : decode cX13_init 5 = .ok (.iload_n 1, 1) := dk_27 (dk_at dksX13_init_0 5 rfl rfl)
theorem dX13_init_6 : decode cX13_init 6 = .ok (.putfield 7, 3) := dk_181 0 7 (dk_at dksX13_init_0 6 rfl rfl)
theorem dX13_init_9 : decode cX13_init 9 = .ok (.aload_n 0, 1) := dk_42 (dk_at dksX13_init_0 9 rfl rfl)
theorem dX13_init_10 : decode cX13_init 10 = .ok (.iload_n 2, 1) := dk_28 (dk_at dksX13_init_0 10 rfl rfl)
theorem dX13_init_11 : decode cX13_init 11 = .ok (.putfield 13, 3) := dk_181 0 13 (dk_at dksX13_init_0 11 rfl rfl)
theorem dX13_init_14 : decode cX13_init 14 = .ok (.return_, 1) := dk_177 (dk_at dksX13_init_0 14 rfl rfl)
abbrev cX13_comes : ByteArray := prog_7_method_6_code
def yX13_comes : MethodName := ⟨RX13, "comes", "()I"⟩
theorem dX13_comes_0 : decode cX13_comes 0 = .ok (.aload_n 0, 1) := by decide +kernel
theorem dX13_comes_1 : decode cX13_comes 1 = .ok (.getfield 13, 3) := by decide +kernel
theorem dX13_comes_4 : decode cX13_comes 4 = .ok (.ireturn, 1) := by decide +kernel
abbrev cX13_leaves : ByteArray := prog_7_method_5_code
def yX13_leaves : MethodName := ⟨RX13, "leaves", "()I"⟩
theorem dX13_leaves_0 : decode cX13_leaves 0 = .ok (.aload_n 0, 1) := by decide +kernel
theorem dX13_leaves_1 : decode cX13_leaves 1 = .ok (.getfield 7, 3) := by decide +kernel
theorem dX13_leaves_4 : decode cX13_leaves 4 = .ok (.ireturn, 1) := by decide +kernel
theorem q185 : (Jvm.Cond.initialized "Lastbus$Pair") ∈ lw_all := lw_g (lw_at lw_m1 63 rfl) rfl
theorem q982 : (Jvm.Cond.selects "Lastbus$Pair" ({ cls := "java/lang/Object", name := "getClass", desc := "()Ljava/lang/Class;" } : Jvm.MethodName) ({ cls := "java/lang/Object", name := "getClass", desc := "()Ljava/lang/Class;" } : Jvm.MethodName)) ∈ lw_all := lw_g (lw_at lw_m4 140 rfl) rfl
theorem q2634 : (Jvm.Cond.instantiable "Lastbus$Pair" (2 : Nat)) ∈ lw_all := lw_g (lw_at lw_m11 112 rfl) rfl
theorem q2636 : (Jvm.Cond.instanceMethod ({ cls := "Lastbus$Pair", name := "<init>", desc := "(II)V" } : Jvm.MethodName)) ∈ lw_all := lw_g (lw_at lw_m11 114 rfl) rfl
theorem q2637 : (Jvm.Cond.code ({ cls := "Lastbus$Pair", name := "<init>", desc := "(II)V" } : Jvm.MethodName) prog_7_method_1_code (3 : Nat) (Option.none : Option Jvm.ClassFile.FieldType)) ∈ lw_all := lw_g (lw_at lw_m11 115 rfl) rfl
theorem q2638 : (Jvm.Cond.methodLink "Lastbus$Pair" (1 : Nat) ({ cls := "java/lang/Record", name := "<init>", desc := "()V" } : Jvm.MethodName)) ∈ lw_all := lw_g (lw_at lw_m11 116 rfl) rfl
theorem q2639 : (Jvm.Cond.fieldLink "Lastbus$Pair" (7 : Nat) "Lastbus$Pair" "leaves" "I") ∈ lw_all := lw_g (lw_at lw_m11 117 rfl) rfl
theorem q2640 : (Jvm.Cond.fieldLink "Lastbus$Pair" (13 : Nat) "Lastbus$Pair" "comes" "I") ∈ lw_all := lw_g (lw_at lw_m11 118 rfl) rfl
theorem q2641 : (Jvm.Cond.laysFinal "Lastbus$Pair" "Lastbus$Pair" "leaves" "I") ∈ lw_all := lw_g (lw_at lw_m11 119 rfl) rfl
theorem q2642 : (Jvm.Cond.soleField "Lastbus$Pair" "leaves") ∈ lw_all := lw_g (lw_at lw_m11 120 rfl) rfl
theorem q2643 : (Jvm.Cond.laysFinal "Lastbus$Pair" "Lastbus$Pair" "comes" "I") ∈ lw_all := lw_g (lw_at lw_m11 121 rfl) rfl
theorem q2644 : (Jvm.Cond.soleField "Lastbus$Pair" "comes") ∈ lw_all := lw_g (lw_at lw_m11 122 rfl) rfl
theorem q2645 : (Jvm.Cond.superclass "Lastbus$Pair" "java/lang/Record") ∈ lw_all := lw_g (lw_at lw_m11 123 rfl) rfl
theorem q2762 : (Jvm.Cond.instanceMethod ({ cls := "Lastbus$Pair", name := "comes", desc := "()I" } : Jvm.MethodName)) ∈ lw_all := lw_g (lw_at lw_m12 0 rfl) rfl
theorem q2763 : (Jvm.Cond.selects "Lastbus$Pair" ({ cls := "Lastbus$Pair", name := "comes", desc := "()I" } : Jvm.MethodName) ({ cls := "Lastbus$Pair", name := "comes", desc := "()I" } : Jvm.MethodName)) ∈ lw_all := lw_g (lw_at lw_m12 1 rfl) rfl
theorem q2764 : (Jvm.Cond.code ({ cls := "Lastbus$Pair", name := "comes", desc := "()I" } : Jvm.MethodName) prog_7_method_6_code (1 : Nat) (Option.some Jvm.ClassFile.FieldType.int)) ∈ lw_all := lw_g (lw_at lw_m12 2 rfl) rfl
theorem q2766 : (Jvm.Cond.instanceMethod ({ cls := "Lastbus$Pair", name := "leaves", desc := "()I" } : Jvm.MethodName)) ∈ lw_all := lw_g (lw_at lw_m12 4 rfl) rfl
theorem q2767 : (Jvm.Cond.selects "Lastbus$Pair" ({ cls := "Lastbus$Pair", name := "leaves", desc := "()I" } : Jvm.MethodName) ({ cls := "Lastbus$Pair", name := "leaves", desc := "()I" } : Jvm.MethodName)) ∈ lw_all := lw_g (lw_at lw_m12 5 rfl) rfl
theorem q2768 : (Jvm.Cond.code ({ cls := "Lastbus$Pair", name := "leaves", desc := "()I" } : Jvm.MethodName) prog_7_method_5_code (1 : Nat) (Option.some Jvm.ClassFile.FieldType.int)) ∈ lw_all := lw_g (lw_at lw_m12 6 rfl) rfl
theorem q3707 : (Jvm.Cond.castable "Lastbus$Pair" "java/lang/Object") ∈ lw_tbl := lw_at lw_m15 225 rfl
theorem in_X13 : ∀ w ∈ wsX130, w ∈ lw_all := lw_in wsX130 [2641, 2643] (by decide +kernel) (by decide +kernel)
/-! Lastbus$Wish -/
set_option maxRecDepth 100000
def RX14 : String := "Lastbus$Wish"
def TX14 : u_T := fun k => match k with
  | 0 => ("Lastbus$Wish", "trip", "I", true)
  | 1 => ("Lastbus$Wish", "call", "I", true)
  | 2 => ("Lastbus$Wish", "other", "I", true)
  | 3 => ("Lastbus$Wish", "otherCall", "I", true)
  | _ => ("Lastbus$Wish", "travellers", "I", true)
def tyX14 : Nat → FieldType := fun k => match k with
  | 0 => .int
  | 1 => .int
  | 2 => .int
  | 3 => .int
  | _ => .int
abbrev wsX140 : List Cond := u_ws RX14 TX14 5
theorem nmX14 : ∀ a, a < 5 → ∀ b, b < 5 → a ≠ b → (TX14 a).2.1 ≠ (TX14 b).2.1 := by decide +kernel
theorem tyX14_ok : ∀ k, k < 5 → parseFieldDescriptor (TX14 k).2.2.1 = some (tyX14 k) := by decide +kernel
abbrev cX14_init : ByteArray := prog_13_method_1_code
def yX14_init : MethodName := ⟨RX14, "<init>", "(IIIII)V"⟩
def dkwX14_init_1 : List UInt8 := [181, 0, 19, 42, 21, 5, 181, 0, 22, 177]
abbrev dktX14_init_1 : List UInt8 := dkwX14_init_1 ++ []
def dkwX14_init_0 : List UInt8 := [42, 183, 0, 1, 42, 27, 181, 0, 7, 42, 28, 181, 0, 13, 42, 29, 181, 0, 16, 42, 21, 4]
abbrev dktX14_init_0 : List UInt8 := dkwX14_init_0 ++ dktX14_init_1
theorem dksX14_init_0 : cX14_init.data.toList.drop 0 = dktX14_init_0 := by decide +kernel
theorem dksX14_init_1 : cX14_init.data.toList.drop 22 = dktX14_init_1 := dk_seg dksX14_init_0 22 rfl rfl
theorem dX14_init_0 : decode cX14_init 0 = .ok (.aload_n 0, 1) := dk_42 (dk_at dksX14_init_0 0 rfl rfl)
theorem dX14_init_1 : decode cX14_init 1 = .ok (.invokespecial 1, 3) := dk_183 0 1 (dk_at dksX14_init_0 1 rfl rfl)
theorem dX14_init_4 : decode cX14_init 4 = .ok (.aload_n 0, 1) := dk_42 (dk_at dksX14_init_0 4 rfl rfl)
theorem dX14_init_5 : decode cX14_init 5 = .ok (.iload_n 1, 1) := dk_27 (dk_at dksX14_init_0 5 rfl rfl)
theorem dX14_init_6 : decode cX14_init 6 = .ok (.putfield 7, 3) := dk_181 0 7 (dk_at dksX14_init_0 6 rfl rfl)
theorem dX14_init_9 : decode cX14_init 9 = .ok (.aload_n 0, 1) := dk_42 (dk_at dksX14_init_0 9 rfl rfl)
theorem dX14_init_10 : decode cX14_init 10 = .ok (.iload_n 2, 1) := dk_28 (dk_at dksX14_init_0 10 rfl rfl)
theorem dX14_init_11 : decode cX14_init 11 = .ok (.putfield 13, 3) := dk_181 0 13 (dk_at dksX14_init_0 11 rfl rfl)
theorem dX14_init_14 : decode cX14_init 14 = .ok (.aload_n 0, 1) := dk_42 (dk_at dksX14_init_0 14 rfl rfl)
theorem dX14_init_15 : decode cX14_init 15 = .ok (.iload_n 3, 1) := dk_29 (dk_at dksX14_init_0 15 rfl rfl)
theorem dX14_init_16 : decode cX14_init 16 = .ok (.putfield 16, 3) := dk_181 0 16 (dk_at dksX14_init_0 16 rfl rfl)
theorem dX14_init_19 : decode cX14_init 19 = .ok (.aload_n 0, 1) := dk_42 (dk_at dksX14_init_0 19 rfl rfl)
theorem dX14_init_20 : decode cX14_init 20 = .ok (.iload 4, 2) := dk_21 4 (dk_at dksX14_init_0 20 rfl rfl)
theorem dX14_init_22 : decode cX14_init 22 = .ok (.putfield 19, 3) := dk_181 0 19 (dk_at dksX14_init_1 0 rfl rfl)
theorem dX14_init_25 : decode cX14_init 25 = .ok (.aload_n 0, 1) := dk_42 (dk_at dksX14_init_1 3 rfl rfl)
theorem dX14_init_26 : decode cX14_init 26 = .ok (.iload 5, 2) := dk_21 5 (dk_at dksX14_init_1 4 rfl rfl)
theorem dX14_init_28 : decode cX14_init 28 = .ok (.putfield 22, 3) := dk_181 0 22 (dk_at dksX14_init_1 6 rfl rfl)
theorem dX14_init_31 : decode cX14_init 31 = .ok (.return_, 1) := dk_177 (dk_at dksX14_init_1 9 rfl rfl)
abbrev cX14_other : ByteArray := prog_13_method_7_code
def yX14_other : MethodName := ⟨RX14, "other", "()I"⟩
theorem dX14_other_0 : decode cX14_other 0 = .ok (.aload_n 0, 1) := by decide +kernel
theorem dX14_other_1 : decode cX14_other 1 = .ok (.getfield 16, 3) := by decide +kernel
theorem dX14_other_4 : decode cX14_other 4 = .ok (.ireturn, 1) := by decide +kernel
abbrev cX14_otherCall : ByteArray := prog_13_method_8_code
def yX14_otherCall : MethodName := ⟨RX14, "otherCall", "()I"⟩
theorem dX14_otherCall_0 : decode cX14_otherCall 0 = .ok (.aload_n 0, 1) := by decide +kernel
theorem dX14_otherCall_1 : decode cX14_otherCall 1 = .ok (.getfield 19, 3) := by decide +kernel
theorem dX14_otherCall_4 : decode cX14_otherCall 4 = .ok (.ireturn, 1) := by decide +kernel
abbrev cX14_trip : ByteArray := prog_13_method_5_code
def yX14_trip : MethodName := ⟨RX14, "trip", "()I"⟩
theorem dX14_trip_0 : decode cX14_trip 0 = .ok (.aload_n 0, 1) := by decide +kernel
theorem dX14_trip_1 : decode cX14_trip 1 = .ok (.getfield 7, 3) := by decide +kernel
theorem dX14_trip_4 : decode cX14_trip 4 = .ok (.ireturn, 1) := by decide +kernel
abbrev cX14_call : ByteArray := prog_13_method_6_code
def yX14_call : MethodName := ⟨RX14, "call", "()I"⟩
theorem dX14_call_0 : decode cX14_call 0 = .ok (.aload_n 0, 1) := by decide +kernel
theorem dX14_call_1 : decode cX14_call 1 = .ok (.getfield 13, 3) := by decide +kernel
theorem dX14_call_4 : decode cX14_call 4 = .ok (.ireturn, 1) := by decide +kernel
abbrev cX14_travellers : ByteArray := prog_13_method_9_code
def yX14_travellers : MethodName := ⟨RX14, "travellers", "()I"⟩
theorem dX14_travellers_0 : decode cX14_travellers 0 = .ok (.aload_n 0, 1) := by decide +kernel
theorem dX14_travellers_1 : decode cX14_travellers 1 = .ok (.getfield 22, 3) := by decide +kernel
theorem dX14_travellers_4 : decode cX14_travellers 4 = .ok (.ireturn, 1) := by decide +kernel
theorem q186 : (Jvm.Cond.initialized "Lastbus$Wish") ∈ lw_all := lw_g (lw_at lw_m1 64 rfl) rfl
theorem q988 : (Jvm.Cond.selects "Lastbus$Wish" ({ cls := "java/lang/Object", name := "getClass", desc := "()Ljava/lang/Class;" } : Jvm.MethodName) ({ cls := "java/lang/Object", name := "getClass", desc := "()Ljava/lang/Class;" } : Jvm.MethodName)) ∈ lw_all := lw_g (lw_at lw_m4 146 rfl) rfl
theorem q2824 : (Jvm.Cond.instantiable "Lastbus$Wish" (5 : Nat)) ∈ lw_all := lw_g (lw_at lw_m12 62 rfl) rfl
theorem q2826 : (Jvm.Cond.instanceMethod ({ cls := "Lastbus$Wish", name := "<init>", desc := "(IIIII)V" } : Jvm.MethodName)) ∈ lw_all := lw_g (lw_at lw_m12 64 rfl) rfl
theorem q2827 : (Jvm.Cond.code ({ cls := "Lastbus$Wish", name := "<init>", desc := "(IIIII)V" } : Jvm.MethodName) prog_13_method_1_code (6 : Nat) (Option.none : Option Jvm.ClassFile.FieldType)) ∈ lw_all := lw_g (lw_at lw_m12 65 rfl) rfl
theorem q2828 : (Jvm.Cond.methodLink "Lastbus$Wish" (1 : Nat) ({ cls := "java/lang/Record", name := "<init>", desc := "()V" } : Jvm.MethodName)) ∈ lw_all := lw_g (lw_at lw_m12 66 rfl) rfl
theorem q2829 : (Jvm.Cond.fieldLink "Lastbus$Wish" (7 : Nat) "Lastbus$Wish" "trip" "I") ∈ lw_all := lw_g (lw_at lw_m12 67 rfl) rfl
theorem q2830 : (Jvm.Cond.fieldLink "Lastbus$Wish" (13 : Nat) "Lastbus$Wish" "call" "I") ∈ lw_all := lw_g (lw_at lw_m12 68 rfl) rfl
theorem q2831 : (Jvm.Cond.fieldLink "Lastbus$Wish" (16 : Nat) "Lastbus$Wish" "other" "I") ∈ lw_all := lw_g (lw_at lw_m12 69 rfl) rfl
theorem q2832 : (Jvm.Cond.fieldLink "Lastbus$Wish" (19 : Nat) "Lastbus$Wish" "otherCall" "I") ∈ lw_all := lw_g (lw_at lw_m12 70 rfl) rfl
theorem q2833 : (Jvm.Cond.fieldLink "Lastbus$Wish" (22 : Nat) "Lastbus$Wish" "travellers" "I") ∈ lw_all := lw_g (lw_at lw_m12 71 rfl) rfl
theorem q2834 : (Jvm.Cond.laysFinal "Lastbus$Wish" "Lastbus$Wish" "trip" "I") ∈ lw_all := lw_g (lw_at lw_m12 72 rfl) rfl
theorem q2835 : (Jvm.Cond.soleField "Lastbus$Wish" "trip") ∈ lw_all := lw_g (lw_at lw_m12 73 rfl) rfl
theorem q2836 : (Jvm.Cond.laysFinal "Lastbus$Wish" "Lastbus$Wish" "call" "I") ∈ lw_all := lw_g (lw_at lw_m12 74 rfl) rfl
theorem q2837 : (Jvm.Cond.soleField "Lastbus$Wish" "call") ∈ lw_all := lw_g (lw_at lw_m12 75 rfl) rfl
theorem q2838 : (Jvm.Cond.laysFinal "Lastbus$Wish" "Lastbus$Wish" "other" "I") ∈ lw_all := lw_g (lw_at lw_m12 76 rfl) rfl
theorem q2839 : (Jvm.Cond.soleField "Lastbus$Wish" "other") ∈ lw_all := lw_g (lw_at lw_m12 77 rfl) rfl
theorem q2840 : (Jvm.Cond.laysFinal "Lastbus$Wish" "Lastbus$Wish" "otherCall" "I") ∈ lw_all := lw_g (lw_at lw_m12 78 rfl) rfl
theorem q2841 : (Jvm.Cond.soleField "Lastbus$Wish" "otherCall") ∈ lw_all := lw_g (lw_at lw_m12 79 rfl) rfl
theorem q2842 : (Jvm.Cond.laysFinal "Lastbus$Wish" "Lastbus$Wish" "travellers" "I") ∈ lw_all := lw_g (lw_at lw_m12 80 rfl) rfl
theorem q2843 : (Jvm.Cond.soleField "Lastbus$Wish" "travellers") ∈ lw_all := lw_g (lw_at lw_m12 81 rfl) rfl
theorem q2844 : (Jvm.Cond.superclass "Lastbus$Wish" "java/lang/Record") ∈ lw_all := lw_g (lw_at lw_m12 82 rfl) rfl
theorem q2865 : (Jvm.Cond.instanceMethod ({ cls := "Lastbus$Wish", name := "other", desc := "()I" } : Jvm.MethodName)) ∈ lw_all := lw_g (lw_at lw_m12 103 rfl) rfl
theorem q2866 : (Jvm.Cond.selects "Lastbus$Wish" ({ cls := "Lastbus$Wish", name := "other", desc := "()I" } : Jvm.MethodName) ({ cls := "Lastbus$Wish", name := "other", desc := "()I" } : Jvm.MethodName)) ∈ lw_all := lw_g (lw_at lw_m12 104 rfl) rfl
theorem q2867 : (Jvm.Cond.code ({ cls := "Lastbus$Wish", name := "other", desc := "()I" } : Jvm.MethodName) prog_13_method_7_code (1 : Nat) (Option.some Jvm.ClassFile.FieldType.int)) ∈ lw_all := lw_g (lw_at lw_m12 105 rfl) rfl
theorem q2869 : (Jvm.Cond.instanceMethod ({ cls := "Lastbus$Wish", name := "otherCall", desc := "()I" } : Jvm.MethodName)) ∈ lw_all := lw_g (lw_at lw_m12 107 rfl) rfl
theorem q2870 : (Jvm.Cond.selects "Lastbus$Wish" ({ cls := "Lastbus$Wish", name := "otherCall", desc := "()I" } : Jvm.MethodName) ({ cls := "Lastbus$Wish", name := "otherCall", desc := "()I" } : Jvm.MethodName)) ∈ lw_all := lw_g (lw_at lw_m12 108 rfl) rfl
theorem q2871 : (Jvm.Cond.code ({ cls := "Lastbus$Wish", name := "otherCall", desc := "()I" } : Jvm.MethodName) prog_13_method_8_code (1 : Nat) (Option.some Jvm.ClassFile.FieldType.int)) ∈ lw_all := lw_g (lw_at lw_m12 109 rfl) rfl
theorem q2880 : (Jvm.Cond.instanceMethod ({ cls := "Lastbus$Wish", name := "trip", desc := "()I" } : Jvm.MethodName)) ∈ lw_all := lw_g (lw_at lw_m12 118 rfl) rfl
theorem q2881 : (Jvm.Cond.selects "Lastbus$Wish" ({ cls := "Lastbus$Wish", name := "trip", desc := "()I" } : Jvm.MethodName) ({ cls := "Lastbus$Wish", name := "trip", desc := "()I" } : Jvm.MethodName)) ∈ lw_all := lw_g (lw_at lw_m12 119 rfl) rfl
theorem q2882 : (Jvm.Cond.code ({ cls := "Lastbus$Wish", name := "trip", desc := "()I" } : Jvm.MethodName) prog_13_method_5_code (1 : Nat) (Option.some Jvm.ClassFile.FieldType.int)) ∈ lw_all := lw_g (lw_at lw_m12 120 rfl) rfl
theorem q2888 : (Jvm.Cond.instanceMethod ({ cls := "Lastbus$Wish", name := "call", desc := "()I" } : Jvm.MethodName)) ∈ lw_all := lw_g (lw_at lw_m12 126 rfl) rfl
theorem q2889 : (Jvm.Cond.selects "Lastbus$Wish" ({ cls := "Lastbus$Wish", name := "call", desc := "()I" } : Jvm.MethodName) ({ cls := "Lastbus$Wish", name := "call", desc := "()I" } : Jvm.MethodName)) ∈ lw_all := lw_g (lw_at lw_m12 127 rfl) rfl
theorem q2890 : (Jvm.Cond.code ({ cls := "Lastbus$Wish", name := "call", desc := "()I" } : Jvm.MethodName) prog_13_method_6_code (1 : Nat) (Option.some Jvm.ClassFile.FieldType.int)) ∈ lw_all := lw_g (lw_at lw_m12 128 rfl) rfl
theorem q2896 : (Jvm.Cond.instanceMethod ({ cls := "Lastbus$Wish", name := "travellers", desc := "()I" } : Jvm.MethodName)) ∈ lw_all := lw_g (lw_at lw_m12 134 rfl) rfl
theorem q2897 : (Jvm.Cond.selects "Lastbus$Wish" ({ cls := "Lastbus$Wish", name := "travellers", desc := "()I" } : Jvm.MethodName) ({ cls := "Lastbus$Wish", name := "travellers", desc := "()I" } : Jvm.MethodName)) ∈ lw_all := lw_g (lw_at lw_m12 135 rfl) rfl
theorem q2898 : (Jvm.Cond.code ({ cls := "Lastbus$Wish", name := "travellers", desc := "()I" } : Jvm.MethodName) prog_13_method_9_code (1 : Nat) (Option.some Jvm.ClassFile.FieldType.int)) ∈ lw_all := lw_g (lw_at lw_m12 136 rfl) rfl
theorem q3708 : (Jvm.Cond.castable "Lastbus$Wish" "java/lang/Object") ∈ lw_tbl := lw_at lw_m15 226 rfl
theorem in_X14 : ∀ w ∈ wsX140, w ∈ lw_all := lw_in wsX140 [2834, 2836, 2838, 2840, 2842] (by decide +kernel) (by decide +kernel)
/-! LastbusLaw -/
set_option maxRecDepth 100000
def RX0 : String := "LastbusLaw"
abbrev cX0_stop : ByteArray := method_3_code
def yX0_stop : MethodName := ⟨RX0, "stop", "(LLastbus;I[J)I"⟩
def dkwX0_stop_0 : List UInt8 := [44, 3, 42, 27, 182, 0, 7, 133, 80, 167, 0, 9, 78, 4, 172, 78, 5, 172, 3, 172]
abbrev dktX0_stop_0 : List UInt8 := dkwX0_stop_0 ++ []
theorem dksX0_stop_0 : cX0_stop.data.toList.drop 0 = dktX0_stop_0 := by decide +kernel
theorem dX0_stop_0 : decode cX0_stop 0 = .ok (.aload_n 2, 1) := dk_44 (dk_at dksX0_stop_0 0 rfl rfl)
theorem dX0_stop_1 : decode cX0_stop 1 = .ok (.iconst 0, 1) := dk_3 (dk_at dksX0_stop_0 1 rfl rfl)
theorem dX0_stop_2 : decode cX0_stop 2 = .ok (.aload_n 0, 1) := dk_42 (dk_at dksX0_stop_0 2 rfl rfl)
theorem dX0_stop_3 : decode cX0_stop 3 = .ok (.iload_n 1, 1) := dk_27 (dk_at dksX0_stop_0 3 rfl rfl)
theorem dX0_stop_4 : decode cX0_stop 4 = .ok (.invokevirtual 7, 3) := dk_182 0 7 (dk_at dksX0_stop_0 4 rfl rfl)
theorem dX0_stop_7 : decode cX0_stop 7 = .ok (.i2l, 1) := dk_133 (dk_at dksX0_stop_0 7 rfl rfl)
theorem dX0_stop_8 : decode cX0_stop 8 = .ok (.lastore, 1) := dk_80 (dk_at dksX0_stop_0 8 rfl rfl)
theorem dX0_stop_9 : decode cX0_stop 9 = .ok (.goto 9, 3) := dk_167 0 9 (dk_at dksX0_stop_0 9 rfl rfl)
theorem dX0_stop_12 : decode cX0_stop 12 = .ok (.astore_n 3, 1) := dk_78 (dk_at dksX0_stop_0 12 rfl rfl)
theorem dX0_stop_13 : decode cX0_stop 13 = .ok (.iconst 1, 1) := dk_4 (dk_at dksX0_stop_0 13 rfl rfl)
theorem dX0_stop_14 : decode cX0_stop 14 = .ok (.ireturn, 1) := dk_172 (dk_at dksX0_stop_0 14 rfl rfl)
theorem dX0_stop_15 : decode cX0_stop 15 = .ok (.astore_n 3, 1) := dk_78 (dk_at dksX0_stop_0 15 rfl rfl)
theorem dX0_stop_16 : decode cX0_stop 16 = .ok (.iconst 2, 1) := dk_5 (dk_at dksX0_stop_0 16 rfl rfl)
theorem dX0_stop_17 : decode cX0_stop 17 = .ok (.ireturn, 1) := dk_172 (dk_at dksX0_stop_0 17 rfl rfl)
theorem dX0_stop_18 : decode cX0_stop 18 = .ok (.iconst 0, 1) := dk_3 (dk_at dksX0_stop_0 18 rfl rfl)
theorem dX0_stop_19 : decode cX0_stop 19 = .ok (.ireturn, 1) := dk_172 (dk_at dksX0_stop_0 19 rfl rfl)
abbrev cX0_setChange : ByteArray := method_4_code
def yX0_setChange : MethodName := ⟨RX0, "setChange", "(LLastbus;II[J)I"⟩
def dkwX0_setChange_0 : List UInt8 := [45, 3, 42, 27, 28, 182, 0, 17, 133, 80, 167, 0, 11, 58, 4, 4, 172, 58, 4, 5, 172, 3, 172]
abbrev dktX0_setChange_0 : List UInt8 := dkwX0_setChange_0 ++ []
theorem dksX0_setChange_0 : cX0_setChange.data.toList.drop 0 = dktX0_setChange_0 := by decide +kernel
theorem dX0_setChange_0 : decode cX0_setChange 0 = .ok (.aload_n 3, 1) := dk_45 (dk_at dksX0_setChange_0 0 rfl rfl)
theorem dX0_setChange_1 : decode cX0_setChange 1 = .ok (.iconst 0, 1) := dk_3 (dk_at dksX0_setChange_0 1 rfl rfl)
theorem dX0_setChange_2 : decode cX0_setChange 2 = .ok (.aload_n 0, 1) := dk_42 (dk_at dksX0_setChange_0 2 rfl rfl)
theorem dX0_setChange_3 : decode cX0_setChange 3 = .ok (.iload_n 1, 1) := dk_27 (dk_at dksX0_setChange_0 3 rfl rfl)
theorem dX0_setChange_4 : decode cX0_setChange 4 = .ok (.iload_n 2, 1) := dk_28 (dk_at dksX0_setChange_0 4 rfl rfl)
theorem dX0_setChange_5 : decode cX0_setChange 5 = .ok (.invokevirtual 17, 3) := dk_182 0 17 (dk_at dksX0_setChange_0 5 rfl rfl)
theorem dX0_setChange_8 : decode cX0_setChange 8 = .ok (.i2l, 1) := dk_133 (dk_at dksX0_setChange_0 8 rfl rfl)
theorem dX0_setChange_9 : decode cX0_setChange 9 = .ok (.lastore, 1) := dk_80 (dk_at dksX0_setChange_0 9 rfl rfl)
theorem dX0_setChange_10 : decode cX0_setChange 10 = .ok (.goto 11, 3) := dk_167 0 11 (dk_at dksX0_setChange_0 10 rfl rfl)
theorem dX0_setChange_13 : decode cX0_setChange 13 = .ok (.astore 4, 2) := dk_58 4 (dk_at dksX0_setChange_0 13 rfl rfl)
theorem dX0_setChange_15 : decode cX0_setChange 15 = .ok (.iconst 1, 1) := dk_4 (dk_at dksX0_setChange_0 15 rfl rfl)
theorem dX0_setChange_16 : decode cX0_setChange 16 = .ok (.ireturn, 1) := dk_172 (dk_at dksX0_setChange_0 16 rfl rfl)
theorem dX0_setChange_17 : decode cX0_setChange 17 = .ok (.astore 4, 2) := dk_58 4 (dk_at dksX0_setChange_0 17 rfl rfl)
theorem dX0_setChange_19 : decode cX0_setChange 19 = .ok (.iconst 2, 1) := dk_5 (dk_at dksX0_setChange_0 19 rfl rfl)
theorem dX0_setChange_20 : decode cX0_setChange 20 = .ok (.ireturn, 1) := dk_172 (dk_at dksX0_setChange_0 20 rfl rfl)
theorem dX0_setChange_21 : decode cX0_setChange 21 = .ok (.iconst 0, 1) := dk_3 (dk_at dksX0_setChange_0 21 rfl rfl)
theorem dX0_setChange_22 : decode cX0_setChange 22 = .ok (.ireturn, 1) := dk_172 (dk_at dksX0_setChange_0 22 rfl rfl)
abbrev cX0_walk : ByteArray := method_5_code
def yX0_walk : MethodName := ⟨RX0, "walk", "(LLastbus;III[J)I"⟩
def dkwX0_walk_1 : List UInt8 := [172]
abbrev dktX0_walk_1 : List UInt8 := dkwX0_walk_1 ++ []
def dkwX0_walk_0 : List UInt8 := [25, 4, 3, 42, 27, 28, 29, 182, 0, 23, 133, 80, 167, 0, 11, 58, 5, 4, 172, 58, 5, 5, 172, 3]
abbrev dktX0_walk_0 : List UInt8 := dkwX0_walk_0 ++ dktX0_walk_1
theorem dksX0_walk_0 : cX0_walk.data.toList.drop 0 = dktX0_walk_0 := by decide +kernel
theorem dksX0_walk_1 : cX0_walk.data.toList.drop 24 = dktX0_walk_1 := dk_seg dksX0_walk_0 24 rfl rfl
theorem dX0_walk_0 : decode cX0_walk 0 = .ok (.aload 4, 2) := dk_25 4 (dk_at dksX0_walk_0 0 rfl rfl)
theorem dX0_walk_2 : decode cX0_walk 2 = .ok (.iconst 0, 1) := dk_3 (dk_at dksX0_walk_0 2 rfl rfl)
theorem dX0_walk_3 : decode cX0_walk 3 = .ok (.aload_n 0, 1) := dk_42 (dk_at dksX0_walk_0 3 rfl rfl)
theorem dX0_walk_4 : decode cX0_walk 4 = .ok (.iload_n 1, 1) := dk_27 (dk_at dksX0_walk_0 4 rfl rfl)
theorem dX0_walk_5 : decode cX0_walk 5 = .ok (.iload_n 2, 1) := dk_28 (dk_at dksX0_walk_0 5 rfl rfl)
theorem dX0_walk_6 : decode cX0_walk 6 = .ok (.iload_n 3, 1) := dk_29 (dk_at dksX0_walk_0 6 rfl rfl)
theorem dX0_walk_7 : decode cX0_walk 7 = .ok (.invokevirtual 23, 3) := dk_182 0 23 (dk_at dksX0_walk_0 7 rfl rfl)
theorem dX0_walk_10 : decode cX0_walk 10 = .ok (.i2l, 1) := dk_133 (dk_at dksX0_walk_0 10 rfl rfl)
theorem dX0_walk_11 : decode cX0_walk 11 = .ok (.lastore, 1) := dk_80 (dk_at dksX0_walk_0 11 rfl rfl)
theorem dX0_walk_12 : decode cX0_walk 12 = .ok (.goto 11, 3) := dk_167 0 11 (dk_at dksX0_walk_0 12 rfl rfl)
theorem dX0_walk_15 : decode cX0_walk 15 = .ok (.astore 5, 2) := dk_58 5 (dk_at dksX0_walk_0 15 rfl rfl)
theorem dX0_walk_17 : decode cX0_walk 17 = .ok (.iconst 1, 1) := dk_4 (dk_at dksX0_walk_0 17 rfl rfl)
theorem dX0_walk_18 : decode cX0_walk 18 = .ok (.ireturn, 1) := dk_172 (dk_at dksX0_walk_0 18 rfl rfl)
theorem dX0_walk_19 : decode cX0_walk 19 = .ok (.astore 5, 2) := dk_58 5 (dk_at dksX0_walk_0 19 rfl rfl)
theorem dX0_walk_21 : decode cX0_walk 21 = .ok (.iconst 2, 1) := dk_5 (dk_at dksX0_walk_0 21 rfl rfl)
theorem dX0_walk_22 : decode cX0_walk 22 = .ok (.ireturn, 1) := dk_172 (dk_at dksX0_walk_0 22 rfl rfl)
theorem dX0_walk_23 : decode cX0_walk 23 = .ok (.iconst 0, 1) := dk_3 (dk_at dksX0_walk_0 23 rfl rfl)
theorem dX0_walk_24 : decode cX0_walk 24 = .ok (.ireturn, 1) := dk_172 (dk_at dksX0_walk_1 0 rfl rfl)
abbrev cX0_walkTime : ByteArray := method_6_code
def yX0_walkTime : MethodName := ⟨RX0, "walkTime", "(LLastbus;II[J)I"⟩
def dkwX0_walkTime_0 : List UInt8 := [45, 3, 42, 27, 28, 182, 0, 27, 133, 80, 167, 0, 11, 58, 4, 4, 172, 58, 4, 5, 172, 3, 172]
abbrev dktX0_walkTime_0 : List UInt8 := dkwX0_walkTime_0 ++ []
theorem dksX0_walkTime_0 : cX0_walkTime.data.toList.drop 0 = dktX0_walkTime_0 := by decide +kernel
theorem dX0_walkTime_0 : decode cX0_walkTime 0 = .ok (.aload_n 3, 1) := dk_45 (dk_at dksX0_walkTime_0 0 rfl rfl)
theorem dX0_walkTime_1 : decode cX0_walkTime 1 = .ok (.iconst 0, 1) := dk_3 (dk_at dksX0_walkTime_0 1 rfl rfl)
theorem dX0_walkTime_2 : decode cX0_walkTime 2 = .ok (.aload_n 0, 1) := dk_42 (dk_at dksX0_walkTime_0 2 rfl rfl)
theorem dX0_walkTime_3 : decode cX0_walkTime 3 = .ok (.iload_n 1, 1) := dk_27 (dk_at dksX0_walkTime_0 3 rfl rfl)
theorem dX0_walkTime_4 : decode cX0_walkTime 4 = .ok (.iload_n 2, 1) := dk_28 (dk_at dksX0_walkTime_0 4 rfl rfl)
theorem dX0_walkTime_5 : decode cX0_walkTime 5 = .ok (.invokevirtual 27, 3) := dk_182 0 27 (dk_at dksX0_walkTime_0 5 rfl rfl)
theorem dX0_walkTime_8 : decode cX0_walkTime 8 = .ok (.i2l, 1) := dk_133 (dk_at dksX0_walkTime_0 8 rfl rfl)
theorem dX0_walkTime_9 : decode cX0_walkTime 9 = .ok (.lastore, 1) := dk_80 (dk_at dksX0_walkTime_0 9 rfl rfl)
theorem dX0_walkTime_10 : decode cX0_walkTime 10 = .ok (.goto 11, 3) := dk_167 0 11 (dk_at dksX0_walkTime_0 10 rfl rfl)
theorem dX0_walkTime_13 : decode cX0_walkTime 13 = .ok (.astore 4, 2) := dk_58 4 (dk_at dksX0_walkTime_0 13 rfl rfl)
theorem dX0_walkTime_15 : decode cX0_walkTime 15 = .ok (.iconst 1, 1) := dk_4 (dk_at dksX0_walkTime_0 15 rfl rfl)
theorem dX0_walkTime_16 : decode cX0_walkTime 16 = .ok (.ireturn, 1) := dk_172 (dk_at dksX0_walkTime_0 16 rfl rfl)
theorem dX0_walkTime_17 : decode cX0_walkTime 17 = .ok (.astore 4, 2) := dk_58 4 (dk_at dksX0_walkTime_0 17 rfl rfl)
theorem dX0_walkTime_19 : decode cX0_walkTime 19 = .ok (.iconst 2, 1) := dk_5 (dk_at dksX0_walkTime_0 19 rfl rfl)
theorem dX0_walkTime_20 : decode cX0_walkTime 20 = .ok (.ireturn, 1) := dk_172 (dk_at dksX0_walkTime_0 20 rfl rfl)
theorem dX0_walkTime_21 : decode cX0_walkTime 21 = .ok (.iconst 0, 1) := dk_3 (dk_at dksX0_walkTime_0 21 rfl rfl)
theorem dX0_walkTime_22 : decode cX0_walkTime 22 = .ok (.ireturn, 1) := dk_172 (dk_at dksX0_walkTime_0 22 rfl rfl)
abbrev cX0_service : ByteArray := method_7_code
def yX0_service : MethodName := ⟨RX0, "service", "(LLastbus;[J)I"⟩
def dkwX0_service_0 : List UInt8 := [43, 3, 42, 182, 0, 32, 133, 80, 167, 0, 6, 77, 4, 172, 3, 172]
abbrev dktX0_service_0 : List UInt8 := dkwX0_service_0 ++ []
theorem dksX0_service_0 : cX0_service.data.toList.drop 0 = dktX0_service_0 := by decide +kernel
theorem dX0_service_0 : decode cX0_service 0 = .ok (.aload_n 1, 1) := dk_43 (dk_at dksX0_service_0 0 rfl rfl)
theorem dX0_service_1 : decode cX0_service 1 = .ok (.iconst 0, 1) := dk_3 (dk_at dksX0_service_0 1 rfl rfl)
theorem dX0_service_2 : decode cX0_service 2 = .ok (.aload_n 0, 1) := dk_42 (dk_at dksX0_service_0 2 rfl rfl)
theorem dX0_service_3 : decode cX0_service 3 = .ok (.invokevirtual 32, 3) := dk_182 0 32 (dk_at dksX0_service_0 3 rfl rfl)
theorem dX0_service_6 : decode cX0_service 6 = .ok (.i2l, 1) := dk_133 (dk_at dksX0_service_0 6 rfl rfl)
theorem dX0_service_7 : decode cX0_service 7 = .ok (.lastore, 1) := dk_80 (dk_at dksX0_service_0 7 rfl rfl)
theorem dX0_service_8 : decode cX0_service 8 = .ok (.goto 6, 3) := dk_167 0 6 (dk_at dksX0_service_0 8 rfl rfl)
theorem dX0_service_11 : decode cX0_service 11 = .ok (.astore_n 2, 1) := dk_77 (dk_at dksX0_service_0 11 rfl rfl)
theorem dX0_service_12 : decode cX0_service 12 = .ok (.iconst 1, 1) := dk_4 (dk_at dksX0_service_0 12 rfl rfl)
theorem dX0_service_13 : decode cX0_service 13 = .ok (.ireturn, 1) := dk_172 (dk_at dksX0_service_0 13 rfl rfl)
theorem dX0_service_14 : decode cX0_service 14 = .ok (.iconst 0, 1) := dk_3 (dk_at dksX0_service_0 14 rfl rfl)
theorem dX0_service_15 : decode cX0_service 15 = .ok (.ireturn, 1) := dk_172 (dk_at dksX0_service_0 15 rfl rfl)
abbrev cX0_week : ByteArray := method_8_code
def yX0_week : MethodName := ⟨RX0, "week", "(LLastbus;IIII[J)I"⟩
def dkwX0_week_1 : List UInt8 := [172, 3, 172]
abbrev dktX0_week_1 : List UInt8 := dkwX0_week_1 ++ []
def dkwX0_week_0 : List UInt8 := [25, 5, 3, 42, 27, 28, 29, 21, 4, 182, 0, 36, 133, 80, 167, 0, 11, 58, 6, 4, 172, 58, 6, 5]
abbrev dktX0_week_0 : List UInt8 := dkwX0_week_0 ++ dktX0_week_1
theorem dksX0_week_0 : cX0_week.data.toList.drop 0 = dktX0_week_0 := by decide +kernel
theorem dksX0_week_1 : cX0_week.data.toList.drop 24 = dktX0_week_1 := dk_seg dksX0_week_0 24 rfl rfl
theorem dX0_week_0 : decode cX0_week 0 = .ok (.aload 5, 2) := dk_25 5 (dk_at dksX0_week_0 0 rfl rfl)
theorem dX0_week_2 : decode cX0_week 2 = .ok (.iconst 0, 1) := dk_3 (dk_at dksX0_week_0 2 rfl rfl)
theorem dX0_week_3 : decode cX0_week 3 = .ok (.aload_n 0, 1) := dk_42 (dk_at dksX0_week_0 3 rfl rfl)
theorem dX0_week_4 : decode cX0_week 4 = .ok (.iload_n 1, 1) := dk_27 (dk_at dksX0_week_0 4 rfl rfl)
theorem dX0_week_5 : decode cX0_week 5 = .ok (.iload_n 2, 1) := dk_28 (dk_at dksX0_week_0 5 rfl rfl)
theorem dX0_week_6 : decode cX0_week 6 = .ok (.iload_n 3, 1) := dk_29 (dk_at dksX0_week_0 6 rfl rfl)
theorem dX0_week_7 : decode cX0_week 7 = .ok (.iload 4, 2) := dk_21 4 (dk_at dksX0_week_0 7 rfl rfl)
theorem dX0_week_9 : decode cX0_week 9 = .ok (.invokevirtual 36, 3) := dk_182 0 36 (dk_at dksX0_week_0 9 rfl rfl)
theorem dX0_week_12 : decode cX0_week 12 = .ok (.i2l, 1) := dk_133 (dk_at dksX0_week_0 12 rfl rfl)
theorem dX0_week_13 : decode cX0_week 13 = .ok (.lastore, 1) := dk_80 (dk_at dksX0_week_0 13 rfl rfl)
theorem dX0_week_14 : decode cX0_week 14 = .ok (.goto 11, 3) := dk_167 0 11 (dk_at dksX0_week_0 14 rfl rfl)
theorem dX0_week_17 : decode cX0_week 17 = .ok (.astore 6, 2) := dk_58 6 (dk_at dksX0_week_0 17 rfl rfl)
theorem dX0_week_19 : decode cX0_week 19 = .ok (.iconst 1, 1) := dk_4 (dk_at dksX0_week_0 19 rfl rfl)
theorem dX0_week_20 : decode cX0_week 20 = .ok (.ireturn, 1) := dk_172 (dk_at dksX0_week_0 20 rfl rfl)
theorem dX0_week_21 : decode cX0_week 21 = .ok (.astore 6, 2) := dk_58 6 (dk_at dksX0_week_0 21 rfl rfl)
theorem dX0_week_23 : decode cX0_week 23 = .ok (.iconst 2, 1) := dk_5 (dk_at dksX0_week_0 23 rfl rfl)
theorem dX0_week_24 : decode cX0_week 24 = .ok (.ireturn, 1) := dk_172 (dk_at dksX0_week_1 0 rfl rfl)
theorem dX0_week_25 : decode cX0_week 25 = .ok (.iconst 0, 1) := dk_3 (dk_at dksX0_week_1 1 rfl rfl)
theorem dX0_week_26 : decode cX0_week 26 = .ok (.ireturn, 1) := dk_172 (dk_at dksX0_week_1 2 rfl rfl)
abbrev cX0_putDay : ByteArray := method_9_code
def yX0_putDay : MethodName := ⟨RX0, "putDay", "(LLastbus;IIZ[J)I"⟩
def dkwX0_putDay_1 : List UInt8 := [4, 172, 58, 5, 5, 172, 3, 172]
abbrev dktX0_putDay_1 : List UInt8 := dkwX0_putDay_1 ++ []
def dkwX0_putDay_0 : List UInt8 := [25, 4, 3, 42, 27, 28, 29, 182, 0, 40, 153, 0, 7, 10, 167, 0, 4, 9, 80, 167, 0, 11, 58, 5]
abbrev dktX0_putDay_0 : List UInt8 := dkwX0_putDay_0 ++ dktX0_putDay_1
theorem dksX0_putDay_0 : cX0_putDay.data.toList.drop 0 = dktX0_putDay_0 := by decide +kernel
theorem dksX0_putDay_1 : cX0_putDay.data.toList.drop 24 = dktX0_putDay_1 := dk_seg dksX0_putDay_0 24 rfl rfl
theorem dX0_putDay_0 : decode cX0_putDay 0 = .ok (.aload 4, 2) := dk_25 4 (dk_at dksX0_putDay_0 0 rfl rfl)
theorem dX0_putDay_2 : decode cX0_putDay 2 = .ok (.iconst 0, 1) := dk_3 (dk_at dksX0_putDay_0 2 rfl rfl)
theorem dX0_putDay_3 : decode cX0_putDay 3 = .ok (.aload_n 0, 1) := dk_42 (dk_at dksX0_putDay_0 3 rfl rfl)
theorem dX0_putDay_4 : decode cX0_putDay 4 = .ok (.iload_n 1, 1) := dk_27 (dk_at dksX0_putDay_0 4 rfl rfl)
theorem dX0_putDay_5 : decode cX0_putDay 5 = .ok (.iload_n 2, 1) := dk_28 (dk_at dksX0_putDay_0 5 rfl rfl)
theorem dX0_putDay_6 : decode cX0_putDay 6 = .ok (.iload_n 3, 1) := dk_29 (dk_at dksX0_putDay_0 6 rfl rfl)
theorem dX0_putDay_7 : decode cX0_putDay 7 = .ok (.invokevirtual 40, 3) := dk_182 0 40 (dk_at dksX0_putDay_0 7 rfl rfl)
theorem dX0_putDay_10 : decode cX0_putDay 10 = .ok (.ifCond .eq 7, 3) := dk_153 0 7 (dk_at dksX0_putDay_0 10 rfl rfl)
theorem dX0_putDay_13 : decode cX0_putDay 13 = .ok (.lconst 1, 1) := dk_10 (dk_at dksX0_putDay_0 13 rfl rfl)
theorem dX0_putDay_14 : decode cX0_putDay 14 = .ok (.goto 4, 3) := dk_167 0 4 (dk_at dksX0_putDay_0 14 rfl rfl)
theorem dX0_putDay_17 : decode cX0_putDay 17 = .ok (.lconst 0, 1) := dk_9 (dk_at dksX0_putDay_0 17 rfl rfl)
theorem dX0_putDay_18 : decode cX0_putDay 18 = .ok (.lastore, 1) := dk_80 (dk_at dksX0_putDay_0 18 rfl rfl)
theorem dX0_putDay_19 : decode cX0_putDay 19 = .ok (.goto 11, 3) := dk_167 0 11 (dk_at dksX0_putDay_0 19 rfl rfl)
theorem dX0_putDay_22 : decode cX0_putDay 22 = .ok (.astore 5, 2) := dk_58 5 (dk_at dksX0_putDay_0 22 rfl rfl)
theorem dX0_putDay_24 : decode cX0_putDay 24 = .ok (.iconst 1, 1) := dk_4 (dk_at dksX0_putDay_1 0 rfl rfl)
theorem dX0_putDay_25 : decode cX0_putDay 25 = .ok (.ireturn, 1) := dk_172 (dk_at dksX0_putDay_1 1 rfl rfl)
theorem dX0_putDay_26 : decode cX0_putDay 26 = .ok (.astore 5, 2) := dk_58 5 (dk_at dksX0_putDay_1 2 rfl rfl)
theorem dX0_putDay_28 : decode cX0_putDay 28 = .ok (.iconst 2, 1) := dk_5 (dk_at dksX0_putDay_1 4 rfl rfl)
theorem dX0_putDay_29 : decode cX0_putDay 29 = .ok (.ireturn, 1) := dk_172 (dk_at dksX0_putDay_1 5 rfl rfl)
theorem dX0_putDay_30 : decode cX0_putDay 30 = .ok (.iconst 0, 1) := dk_3 (dk_at dksX0_putDay_1 6 rfl rfl)
theorem dX0_putDay_31 : decode cX0_putDay 31 = .ok (.ireturn, 1) := dk_172 (dk_at dksX0_putDay_1 7 rfl rfl)
abbrev cX0_runsOn : ByteArray := method_10_code
def yX0_runsOn : MethodName := ⟨RX0, "runsOn", "(LLastbus;II[J)I"⟩
def dkwX0_runsOn_1 : List UInt8 := [58, 4, 5, 172, 3, 172]
abbrev dktX0_runsOn_1 : List UInt8 := dkwX0_runsOn_1 ++ []
def dkwX0_runsOn_0 : List UInt8 := [45, 3, 42, 27, 28, 182, 0, 44, 153, 0, 7, 10, 167, 0, 4, 9, 80, 167, 0, 11, 58, 4, 4, 172]
abbrev dktX0_runsOn_0 : List UInt8 := dkwX0_runsOn_0 ++ dktX0_runsOn_1
theorem dksX0_runsOn_0 : cX0_runsOn.data.toList.drop 0 = dktX0_runsOn_0 := by decide +kernel
theorem dksX0_runsOn_1 : cX0_runsOn.data.toList.drop 24 = dktX0_runsOn_1 := dk_seg dksX0_runsOn_0 24 rfl rfl
theorem dX0_runsOn_0 : decode cX0_runsOn 0 = .ok (.aload_n 3, 1) := dk_45 (dk_at dksX0_runsOn_0 0 rfl rfl)
theorem dX0_runsOn_1 : decode cX0_runsOn 1 = .ok (.iconst 0, 1) := dk_3 (dk_at dksX0_runsOn_0 1 rfl rfl)
theorem dX0_runsOn_2 : decode cX0_runsOn 2 = .ok (.aload_n 0, 1) := dk_42 (dk_at dksX0_runsOn_0 2 rfl rfl)
theorem dX0_runsOn_3 : decode cX0_runsOn 3 = .ok (.iload_n 1, 1) := dk_27 (dk_at dksX0_runsOn_0 3 rfl rfl)
theorem dX0_runsOn_4 : decode cX0_runsOn 4 = .ok (.iload_n 2, 1) := dk_28 (dk_at dksX0_runsOn_0 4 rfl rfl)
theorem dX0_runsOn_5 : decode cX0_runsOn 5 = .ok (.invokevirtual 44, 3) := dk_182 0 44 (dk_at dksX0_runsOn_0 5 rfl rfl)
theorem dX0_runsOn_8 : decode cX0_runsOn 8 = .ok (.ifCond .eq 7, 3) := dk_153 0 7 (dk_at dksX0_runsOn_0 8 rfl rfl)
theorem dX0_runsOn_11 : decode cX0_runsOn 11 = .ok (.lconst 1, 1) := dk_10 (dk_at dksX0_runsOn_0 11 rfl rfl)
theorem dX0_runsOn_12 : decode cX0_runsOn 12 = .ok (.goto 4, 3) := dk_167 0 4 (dk_at dksX0_runsOn_0 12 rfl rfl)
theorem dX0_runsOn_15 : decode cX0_runsOn 15 = .ok (.lconst 0, 1) := dk_9 (dk_at dksX0_runsOn_0 15 rfl rfl)
theorem dX0_runsOn_16 : decode cX0_runsOn 16 = .ok (.lastore, 1) := dk_80 (dk_at dksX0_runsOn_0 16 rfl rfl)
theorem dX0_runsOn_17 : decode cX0_runsOn 17 = .ok (.goto 11, 3) := dk_167 0 11 (dk_at dksX0_runsOn_0 17 rfl rfl)
theorem dX0_runsOn_20 : decode cX0_runsOn 20 = .ok (.astore 4, 2) := dk_58 4 (dk_at dksX0_runsOn_0 20 rfl rfl)
theorem dX0_runsOn_22 : decode cX0_runsOn 22 = .ok (.iconst 1, 1) := dk_4 (dk_at dksX0_runsOn_0 22 rfl rfl)
theorem dX0_runsOn_23 : decode cX0_runsOn 23 = .ok (.ireturn, 1) := dk_172 (dk_at dksX0_runsOn_0 23 rfl rfl)
theorem dX0_runsOn_24 : decode cX0_runsOn 24 = .ok (.astore 4, 2) := dk_58 4 (dk_at dksX0_runsOn_1 0 rfl rfl)
theorem dX0_runsOn_26 : decode cX0_runsOn 26 = .ok (.iconst 2, 1) := dk_5 (dk_at dksX0_runsOn_1 2 rfl rfl)
theorem dX0_runsOn_27 : decode cX0_runsOn 27 = .ok (.ireturn, 1) := dk_172 (dk_at dksX0_runsOn_1 3 rfl rfl)
theorem dX0_runsOn_28 : decode cX0_runsOn 28 = .ok (.iconst 0, 1) := dk_3 (dk_at dksX0_runsOn_1 4 rfl rfl)
theorem dX0_runsOn_29 : decode cX0_runsOn 29 = .ok (.ireturn, 1) := dk_172 (dk_at dksX0_runsOn_1 5 rfl rfl)
abbrev cX0_nextDay : ByteArray := method_11_code
def yX0_nextDay : MethodName := ⟨RX0, "nextDay", "(LLastbus;II[J)I"⟩
def dkwX0_nextDay_1 : List UInt8 := [172, 3, 172]
abbrev dktX0_nextDay_1 : List UInt8 := dkwX0_nextDay_1 ++ []
def dkwX0_nextDay_0 : List UInt8 := [45, 3, 42, 27, 28, 182, 0, 48, 133, 80, 167, 0, 15, 58, 4, 4, 172, 58, 4, 5, 172, 58, 4, 6]
abbrev dktX0_nextDay_0 : List UInt8 := dkwX0_nextDay_0 ++ dktX0_nextDay_1
theorem dksX0_nextDay_0 : cX0_nextDay.data.toList.drop 0 = dktX0_nextDay_0 := by decide +kernel
theorem dksX0_nextDay_1 : cX0_nextDay.data.toList.drop 24 = dktX0_nextDay_1 := dk_seg dksX0_nextDay_0 24 rfl rfl
theorem dX0_nextDay_0 : decode cX0_nextDay 0 = .ok (.aload_n 3, 1) := dk_45 (dk_at dksX0_nextDay_0 0 rfl rfl)
theorem dX0_nextDay_1 : decode cX0_nextDay 1 = .ok (.iconst 0, 1) := dk_3 (dk_at dksX0_nextDay_0 1 rfl rfl)
theorem dX0_nextDay_2 : decode cX0_nextDay 2 = .ok (.aload_n 0, 1) := dk_42 (dk_at dksX0_nextDay_0 2 rfl rfl)
theorem dX0_nextDay_3 : decode cX0_nextDay 3 = .ok (.iload_n 1, 1) := dk_27 (dk_at dksX0_nextDay_0 3 rfl rfl)
theorem dX0_nextDay_4 : decode cX0_nextDay 4 = .ok (.iload_n 2, 1) := dk_28 (dk_at dksX0_nextDay_0 4 rfl rfl)
theorem dX0_nextDay_5 : decode cX0_nextDay 5 = .ok (.invokevirtual 48, 3) := dk_182 0 48 (dk_at dksX0_nextDay_0 5 rfl rfl)
theorem dX0_nextDay_8 : decode cX0_nextDay 8 = .ok (.i2l, 1) := dk_133 (dk_at dksX0_nextDay_0 8 rfl rfl)
theorem dX0_nextDay_9 : decode cX0_nextDay 9 = .ok (.lastore, 1) := dk_80 (dk_at dksX0_nextDay_0 9 rfl rfl)
theorem dX0_nextDay_10 : decode cX0_nextDay 10 = .ok (.goto 15, 3) := dk_167 0 15 (dk_at dksX0_nextDay_0 10 rfl rfl)
theorem dX0_nextDay_13 : decode cX0_nextDay 13 = .ok (.astore 4, 2) := dk_58 4 (dk_at dksX0_nextDay_0 13 rfl rfl)
theorem dX0_nextDay_15 : decode cX0_nextDay 15 = .ok (.iconst 1, 1) := dk_4 (dk_at dksX0_nextDay_0 15 rfl rfl)
theorem dX0_nextDay_16 : decode cX0_nextDay 16 = .ok (.ireturn, 1) := dk_172 (dk_at dksX0_nextDay_0 16 rfl rfl)
theorem dX0_nextDay_17 : decode cX0_nextDay 17 = .ok (.astore 4, 2) := dk_58 4 (dk_at dksX0_nextDay_0 17 rfl rfl)
theorem dX0_nextDay_19 : decode cX0_nextDay 19 = .ok (.iconst 2, 1) := dk_5 (dk_at dksX0_nextDay_0 19 rfl rfl)
theorem dX0_nextDay_20 : decode cX0_nextDay 20 = .ok (.ireturn, 1) := dk_172 (dk_at dksX0_nextDay_0 20 rfl rfl)
theorem dX0_nextDay_21 : decode cX0_nextDay 21 = .ok (.astore 4, 2) := dk_58 4 (dk_at dksX0_nextDay_0 21 rfl rfl)
theorem dX0_nextDay_23 : decode cX0_nextDay 23 = .ok (.iconst 3, 1) := dk_6 (dk_at dksX0_nextDay_0 23 rfl rfl)
theorem dX0_nextDay_24 : decode cX0_nextDay 24 = .ok (.ireturn, 1) := dk_172 (dk_at dksX0_nextDay_1 0 rfl rfl)
theorem dX0_nextDay_25 : decode cX0_nextDay 25 = .ok (.iconst 0, 1) := dk_3 (dk_at dksX0_nextDay_1 1 rfl rfl)
theorem dX0_nextDay_26 : decode cX0_nextDay 26 = .ok (.ireturn, 1) := dk_172 (dk_at dksX0_nextDay_1 2 rfl rfl)
abbrev cX0_trip : ByteArray := method_12_code
def yX0_trip : MethodName := ⟨RX0, "trip", "(LLastbus;III[J)I"⟩
def dkwX0_trip_1 : List UInt8 := [58, 5, 6, 172, 3, 172]
abbrev dktX0_trip_1 : List UInt8 := dkwX0_trip_1 ++ []
def dkwX0_trip_0 : List UInt8 := [25, 4, 3, 42, 27, 28, 29, 182, 0, 51, 133, 80, 167, 0, 15, 58, 5, 4, 172, 58, 5, 5, 172]
abbrev dktX0_trip_0 : List UInt8 := dkwX0_trip_0 ++ dktX0_trip_1
theorem dksX0_trip_0 : cX0_trip.data.toList.drop 0 = dktX0_trip_0 := by decide +kernel
theorem dksX0_trip_1 : cX0_trip.data.toList.drop 23 = dktX0_trip_1 := dk_seg dksX0_trip_0 23 rfl rfl
theorem dX0_trip_0 : decode cX0_trip 0 = .ok (.aload 4, 2) := dk_25 4 (dk_at dksX0_trip_0 0 rfl rfl)
theorem dX0_trip_2 : decode cX0_trip 2 = .ok (.iconst 0, 1) := dk_3 (dk_at dksX0_trip_0 2 rfl rfl)
theorem dX0_trip_3 : decode cX0_trip 3 = .ok (.aload_n 0, 1) := dk_42 (dk_at dksX0_trip_0 3 rfl rfl)
theorem dX0_trip_4 : decode cX0_trip 4 = .ok (.iload_n 1, 1) := dk_27 (dk_at dksX0_trip_0 4 rfl rfl)
theorem dX0_trip_5 : decode cX0_trip 5 = .ok (.iload_n 2, 1) := dk_28 (dk_at dksX0_trip_0 5 rfl rfl)
theorem dX0_trip_6 : decode cX0_trip 6 = .ok (.iload_n 3, 1) := dk_29 (dk_at dksX0_trip_0 6 rfl rfl)
theorem dX0_trip_7 : decode cX0_trip 7 = .ok (.invokevirtual 51, 3) := dk_182 0 51 (dk_at dksX0_trip_0 7 rfl rfl)
theorem dX0_trip_10 : decode cX0_trip 10 = .ok (.i2l, 1) := dk_133 (dk_at dksX0_trip_0 10 rfl rfl)
theorem dX0_trip_11 : decode cX0_trip 11 = .ok (.lastore, 1) := dk_80 (dk_at dksX0_trip_0 11 rfl rfl)
theorem dX0_trip_12 : decode cX0_trip 12 = .ok (.goto 15, 3) := dk_167 0 15 (dk_at dksX0_trip_0 12 rfl rfl)
theorem dX0_trip_15 : decode cX0_trip 15 = .ok (.astore 5, 2) := dk_58 5 (dk_at dksX0_trip_0 15 rfl rfl)
theorem dX0_trip_17 : decode cX0_trip 17 = .ok (.iconst 1, 1) := dk_4 (dk_at dksX0_trip_0 17 rfl rfl)
theorem dX0_trip_18 : decode cX0_trip 18 = .ok (.ireturn, 1) := dk_172 (dk_at dksX0_trip_0 18 rfl rfl)
theorem dX0_trip_19 : decode cX0_trip 19 = .ok (.astore 5, 2) := dk_58 5 (dk_at dksX0_trip_0 19 rfl rfl)
theorem dX0_trip_21 : decode cX0_trip 21 = .ok (.iconst 2, 1) := dk_5 (dk_at dksX0_trip_0 21 rfl rfl)
theorem dX0_trip_22 : decode cX0_trip 22 = .ok (.ireturn, 1) := dk_172 (dk_at dksX0_trip_0 22 rfl rfl)
theorem dX0_trip_23 : decode cX0_trip 23 = .ok (.astore 5, 2) := dk_58 5 (dk_at dksX0_trip_1 0 rfl rfl)
theorem dX0_trip_25 : decode cX0_trip 25 = .ok (.iconst 3, 1) := dk_6 (dk_at dksX0_trip_1 2 rfl rfl)
theorem dX0_trip_26 : decode cX0_trip 26 = .ok (.ireturn, 1) := dk_172 (dk_at dksX0_trip_1 3 rfl rfl)
theorem dX0_trip_27 : decode cX0_trip 27 = .ok (.iconst 0, 1) := dk_3 (dk_at dksX0_trip_1 4 rfl rfl)
theorem dX0_trip_28 : decode cX0_trip 28 = .ok (.ireturn, 1) := dk_172 (dk_at dksX0_trip_1 5 rfl rfl)
abbrev cX0_call : ByteArray := method_13_code
def yX0_call : MethodName := ⟨RX0, "call", "(LLastbus;IIII[J)I"⟩
def dkwX0_call_1 : List UInt8 := [172, 58, 6, 6, 172, 3, 172]
abbrev dktX0_call_1 : List UInt8 := dkwX0_call_1 ++ []
def dkwX0_call_0 : List UInt8 := [25, 5, 3, 42, 27, 28, 29, 21, 4, 182, 0, 54, 133, 80, 167, 0, 15, 58, 6, 4, 172, 58, 6, 5]
abbrev dktX0_call_0 : List UInt8 := dkwX0_call_0 ++ dktX0_call_1
theorem dksX0_call_0 : cX0_call.data.toList.drop 0 = dktX0_call_0 := by decide +kernel
theorem dksX0_call_1 : cX0_call.data.toList.drop 24 = dktX0_call_1 := dk_seg dksX0_call_0 24 rfl rfl
theorem dX0_call_0 : decode cX0_call 0 = .ok (.aload 5, 2) := dk_25 5 (dk_at dksX0_call_0 0 rfl rfl)
theorem dX0_call_2 : decode cX0_call 2 = .ok (.iconst 0, 1) := dk_3 (dk_at dksX0_call_0 2 rfl rfl)
theorem dX0_call_3 : decode cX0_call 3 = .ok (.aload_n 0, 1) := dk_42 (dk_at dksX0_call_0 3 rfl rfl)
theorem dX0_call_4 : decode cX0_call 4 = .ok (.iload_n 1, 1) := dk_27 (dk_at dksX0_call_0 4 rfl rfl)
theorem dX0_call_5 : decode cX0_call 5 = .ok (.iload_n 2, 1) := dk_28 (dk_at dksX0_call_0 5 rfl rfl)
theorem dX0_call_6 : decode cX0_call 6 = .ok (.iload_n 3, 1) := dk_29 (dk_at dksX0_call_0 6 rfl rfl)
theorem dX0_call_7 : decode cX0_call 7 = .ok (.iload 4, 2) := dk_21 4 (dk_at dksX0_call_0 7 rfl rfl)
theorem dX0_call_9 : decode cX0_call 9 = .ok (.invokevirtual 54, 3) := dk_182 0 54 (dk_at dksX0_call_0 9 rfl rfl)
theorem dX0_call_12 : decode cX0_call 12 = .ok (.i2l, 1) := dk_133 (dk_at dksX0_call_0 12 rfl rfl)
theorem dX0_call_13 : decode cX0_call 13 = .ok (.lastore, 1) := dk_80 (dk_at dksX0_call_0 13 rfl rfl)
theorem dX0_call_14 : decode cX0_call 14 = .ok (.goto 15, 3) := dk_167 0 15 (dk_at dksX0_call_0 14 rfl rfl)
theorem dX0_call_17 : decode cX0_call 17 = .ok (.astore 6, 2) := dk_58 6 (dk_at dksX0_call_0 17 rfl rfl)
theorem dX0_call_19 : decode cX0_call 19 = .ok (.iconst 1, 1) := dk_4 (dk_at dksX0_call_0 19 rfl rfl)
theorem dX0_call_20 : decode cX0_call 20 = .ok (.ireturn, 1) := dk_172 (dk_at dksX0_call_0 20 rfl rfl)
theorem dX0_call_21 : decode cX0_call 21 = .ok (.astore 6, 2) := dk_58 6 (dk_at dksX0_call_0 21 rfl rfl)
theorem dX0_call_23 : decode cX0_call 23 = .ok (.iconst 2, 1) := dk_5 (dk_at dksX0_call_0 23 rfl rfl)
theorem dX0_call_24 : decode cX0_call 24 = .ok (.ireturn, 1) := dk_172 (dk_at dksX0_call_1 0 rfl rfl)
theorem dX0_call_25 : decode cX0_call 25 = .ok (.astore 6, 2) := dk_58 6 (dk_at dksX0_call_1 1 rfl rfl)
theorem dX0_call_27 : decode cX0_call 27 = .ok (.iconst 3, 1) := dk_6 (dk_at dksX0_call_1 3 rfl rfl)
theorem dX0_call_28 : decode cX0_call 28 = .ok (.ireturn, 1) := dk_172 (dk_at dksX0_call_1 4 rfl rfl)
theorem dX0_call_29 : decode cX0_call 29 = .ok (.iconst 0, 1) := dk_3 (dk_at dksX0_call_1 5 rfl rfl)
theorem dX0_call_30 : decode cX0_call 30 = .ok (.ireturn, 1) := dk_172 (dk_at dksX0_call_1 6 rfl rfl)
abbrev cX0_calls : ByteArray := method_14_code
def yX0_calls : MethodName := ⟨RX0, "calls", "(LLastbus;I[J)I"⟩
def dkwX0_calls_0 : List UInt8 := [44, 3, 42, 27, 182, 0, 57, 133, 80, 167, 0, 6, 78, 4, 172, 3, 172]
abbrev dktX0_calls_0 : List UInt8 := dkwX0_calls_0 ++ []
theorem dksX0_calls_0 : cX0_calls.data.toList.drop 0 = dktX0_calls_0 := by decide +kernel
theorem dX0_calls_0 : decode cX0_calls 0 = .ok (.aload_n 2, 1) := dk_44 (dk_at dksX0_calls_0 0 rfl rfl)
theorem dX0_calls_1 : decode cX0_calls 1 = .ok (.iconst 0, 1) := dk_3 (dk_at dksX0_calls_0 1 rfl rfl)
theorem dX0_calls_2 : decode cX0_calls 2 = .ok (.aload_n 0, 1) := dk_42 (dk_at dksX0_calls_0 2 rfl rfl)
theorem dX0_calls_3 : decode cX0_calls 3 = .ok (.iload_n 1, 1) := dk_27 (dk_at dksX0_calls_0 3 rfl rfl)
theorem dX0_calls_4 : decode cX0_calls 4 = .ok (.invokevirtual 57, 3) := dk_182 0 57 (dk_at dksX0_calls_0 4 rfl rfl)
theorem dX0_calls_7 : decode cX0_calls 7 = .ok (.i2l, 1) := dk_133 (dk_at dksX0_calls_0 7 rfl rfl)
theorem dX0_calls_8 : decode cX0_calls 8 = .ok (.lastore, 1) := dk_80 (dk_at dksX0_calls_0 8 rfl rfl)
theorem dX0_calls_9 : decode cX0_calls 9 = .ok (.goto 6, 3) := dk_167 0 6 (dk_at dksX0_calls_0 9 rfl rfl)
theorem dX0_calls_12 : decode cX0_calls 12 = .ok (.astore_n 3, 1) := dk_78 (dk_at dksX0_calls_0 12 rfl rfl)
theorem dX0_calls_13 : decode cX0_calls 13 = .ok (.iconst 1, 1) := dk_4 (dk_at dksX0_calls_0 13 rfl rfl)
theorem dX0_calls_14 : decode cX0_calls 14 = .ok (.ireturn, 1) := dk_172 (dk_at dksX0_calls_0 14 rfl rfl)
theorem dX0_calls_15 : decode cX0_calls 15 = .ok (.iconst 0, 1) := dk_3 (dk_at dksX0_calls_0 15 rfl rfl)
theorem dX0_calls_16 : decode cX0_calls 16 = .ok (.ireturn, 1) := dk_172 (dk_at dksX0_calls_0 16 rfl rfl)
abbrev cX0_stopAt : ByteArray := method_15_code
def yX0_stopAt : MethodName := ⟨RX0, "stopAt", "(LLastbus;II[J)I"⟩
def dkwX0_stopAt_0 : List UInt8 := [45, 3, 42, 27, 28, 182, 0, 60, 133, 80, 167, 0, 7, 58, 4, 4, 172, 3, 172]
abbrev dktX0_stopAt_0 : List UInt8 := dkwX0_stopAt_0 ++ []
theorem dksX0_stopAt_0 : cX0_stopAt.data.toList.drop 0 = dktX0_stopAt_0 := by decide +kernel
theorem dX0_stopAt_0 : decode cX0_stopAt 0 = .ok (.aload_n 3, 1) := dk_45 (dk_at dksX0_stopAt_0 0 rfl rfl)
theorem dX0_stopAt_1 : decode cX0_stopAt 1 = .ok (.iconst 0, 1) := dk_3 (dk_at dksX0_stopAt_0 1 rfl rfl)
theorem dX0_stopAt_2 : decode cX0_stopAt 2 = .ok (.aload_n 0, 1) := dk_42 (dk_at dksX0_stopAt_0 2 rfl rfl)
theorem dX0_stopAt_3 : decode cX0_stopAt 3 = .ok (.iload_n 1, 1) := dk_27 (dk_at dksX0_stopAt_0 3 rfl rfl)
theorem dX0_stopAt_4 : decode cX0_stopAt 4 = .ok (.iload_n 2, 1) := dk_28 (dk_at dksX0_stopAt_0 4 rfl rfl)
theorem dX0_stopAt_5 : decode cX0_stopAt 5 = .ok (.invokevirtual 60, 3) := dk_182 0 60 (dk_at dksX0_stopAt_0 5 rfl rfl)
theorem dX0_stopAt_8 : decode cX0_stopAt 8 = .ok (.i2l, 1) := dk_133 (dk_at dksX0_stopAt_0 8 rfl rfl)
theorem dX0_stopAt_9 : decode cX0_stopAt 9 = .ok (.lastore, 1) := dk_80 (dk_at dksX0_stopAt_0 9 rfl rfl)
theorem dX0_stopAt_10 : decode cX0_stopAt 10 = .ok (.goto 7, 3) := dk_167 0 7 (dk_at dksX0_stopAt_0 10 rfl rfl)
theorem dX0_stopAt_13 : decode cX0_stopAt 13 = .ok (.astore 4, 2) := dk_58 4 (dk_at dksX0_stopAt_0 13 rfl rfl)
theorem dX0_stopAt_15 : decode cX0_stopAt 15 = .ok (.iconst 1, 1) := dk_4 (dk_at dksX0_stopAt_0 15 rfl rfl)
theorem dX0_stopAt_16 : decode cX0_stopAt 16 = .ok (.ireturn, 1) := dk_172 (dk_at dksX0_stopAt_0 16 rfl rfl)
theorem dX0_stopAt_17 : decode cX0_stopAt 17 = .ok (.iconst 0, 1) := dk_3 (dk_at dksX0_stopAt_0 17 rfl rfl)
theorem dX0_stopAt_18 : decode cX0_stopAt 18 = .ok (.ireturn, 1) := dk_172 (dk_at dksX0_stopAt_0 18 rfl rfl)
abbrev cX0_timeAt : ByteArray := method_16_code
def yX0_timeAt : MethodName := ⟨RX0, "timeAt", "(LLastbus;IIZ[J)I"⟩
def dkwX0_timeAt_0 : List UInt8 := [25, 4, 3, 42, 27, 28, 29, 182, 0, 63, 133, 80, 167, 0, 7, 58, 5, 4, 172, 3, 172]
abbrev dktX0_timeAt_0 : List UInt8 := dkwX0_timeAt_0 ++ []
theorem dksX0_timeAt_0 : cX0_timeAt.data.toList.drop 0 = dktX0_timeAt_0 := by decide +kernel
theorem dX0_timeAt_0 : decode cX0_timeAt 0 = .ok (.aload 4, 2) := dk_25 4 (dk_at dksX0_timeAt_0 0 rfl rfl)
theorem dX0_timeAt_2 : decode cX0_timeAt 2 = .ok (.iconst 0, 1) := dk_3 (dk_at dksX0_timeAt_0 2 rfl rfl)
theorem dX0_timeAt_3 : decode cX0_timeAt 3 = .ok (.aload_n 0, 1) := dk_42 (dk_at dksX0_timeAt_0 3 rfl rfl)
theorem dX0_timeAt_4 : decode cX0_timeAt 4 = .ok (.iload_n 1, 1) := dk_27 (dk_at dksX0_timeAt_0 4 rfl rfl)
theorem dX0_timeAt_5 : decode cX0_timeAt 5 = .ok (.iload_n 2, 1) := dk_28 (dk_at dksX0_timeAt_0 5 rfl rfl)
theorem dX0_timeAt_6 : decode cX0_timeAt 6 = .ok (.iload_n 3, 1) := dk_29 (dk_at dksX0_timeAt_0 6 rfl rfl)
theorem dX0_timeAt_7 : decode cX0_timeAt 7 = .ok (.invokevirtual 63, 3) := dk_182 0 63 (dk_at dksX0_timeAt_0 7 rfl rfl)
theorem dX0_timeAt_10 : decode cX0_timeAt 10 = .ok (.i2l, 1) := dk_133 (dk_at dksX0_timeAt_0 10 rfl rfl)
theorem dX0_timeAt_11 : decode cX0_timeAt 11 = .ok (.lastore, 1) := dk_80 (dk_at dksX0_timeAt_0 11 rfl rfl)
theorem dX0_timeAt_12 : decode cX0_timeAt 12 = .ok (.goto 7, 3) := dk_167 0 7 (dk_at dksX0_timeAt_0 12 rfl rfl)
theorem dX0_timeAt_15 : decode cX0_timeAt 15 = .ok (.astore 5, 2) := dk_58 5 (dk_at dksX0_timeAt_0 15 rfl rfl)
theorem dX0_timeAt_17 : decode cX0_timeAt 17 = .ok (.iconst 1, 1) := dk_4 (dk_at dksX0_timeAt_0 17 rfl rfl)
theorem dX0_timeAt_18 : decode cX0_timeAt 18 = .ok (.ireturn, 1) := dk_172 (dk_at dksX0_timeAt_0 18 rfl rfl)
theorem dX0_timeAt_19 : decode cX0_timeAt 19 = .ok (.iconst 0, 1) := dk_3 (dk_at dksX0_timeAt_0 19 rfl rfl)
theorem dX0_timeAt_20 : decode cX0_timeAt 20 = .ok (.ireturn, 1) := dk_172 (dk_at dksX0_timeAt_0 20 rfl rfl)
abbrev cX0_shift : ByteArray := method_17_code
def yX0_shift : MethodName := ⟨RX0, "shift", "(LLastbus;II[J)I"⟩
def dkwX0_shift_0 : List UInt8 := [45, 3, 42, 27, 28, 182, 0, 67, 133, 80, 167, 0, 11, 58, 4, 4, 172, 58, 4, 5, 172, 3, 172]
abbrev dktX0_shift_0 : List UInt8 := dkwX0_shift_0 ++ []
theorem dksX0_shift_0 : cX0_shift.data.toList.drop 0 = dktX0_shift_0 := by decide +kernel
theorem dX0_shift_0 : decode cX0_shift 0 = .ok (.aload_n 3, 1) := dk_45 (dk_at dksX0_shift_0 0 rfl rfl)
theorem dX0_shift_1 : decode cX0_shift 1 = .ok (.iconst 0, 1) := dk_3 (dk_at dksX0_shift_0 1 rfl rfl)
theorem dX0_shift_2 : decode cX0_shift 2 = .ok (.aload_n 0, 1) := dk_42 (dk_at dksX0_shift_0 2 rfl rfl)
theorem dX0_shift_3 : decode cX0_shift 3 = .ok (.iload_n 1, 1) := dk_27 (dk_at dksX0_shift_0 3 rfl rfl)
theorem dX0_shift_4 : decode cX0_shift 4 = .ok (.iload_n 2, 1) := dk_28 (dk_at dksX0_shift_0 4 rfl rfl)
theorem dX0_shift_5 : decode cX0_shift 5 = .ok (.invokevirtual 67, 3) := dk_182 0 67 (dk_at dksX0_shift_0 5 rfl rfl)
theorem dX0_shift_8 : decode cX0_shift 8 = .ok (.i2l, 1) := dk_133 (dk_at dksX0_shift_0 8 rfl rfl)
theorem dX0_shift_9 : decode cX0_shift 9 = .ok (.lastore, 1) := dk_80 (dk_at dksX0_shift_0 9 rfl rfl)
theorem dX0_shift_10 : decode cX0_shift 10 = .ok (.goto 11, 3) := dk_167 0 11 (dk_at dksX0_shift_0 10 rfl rfl)
theorem dX0_shift_13 : decode cX0_shift 13 = .ok (.astore 4, 2) := dk_58 4 (dk_at dksX0_shift_0 13 rfl rfl)
theorem dX0_shift_15 : decode cX0_shift 15 = .ok (.iconst 1, 1) := dk_4 (dk_at dksX0_shift_0 15 rfl rfl)
theorem dX0_shift_16 : decode cX0_shift 16 = .ok (.ireturn, 1) := dk_172 (dk_at dksX0_shift_0 16 rfl rfl)
theorem dX0_shift_17 : decode cX0_shift 17 = .ok (.astore 4, 2) := dk_58 4 (dk_at dksX0_shift_0 17 rfl rfl)
theorem dX0_shift_19 : decode cX0_shift 19 = .ok (.iconst 2, 1) := dk_5 (dk_at dksX0_shift_0 19 rfl rfl)
theorem dX0_shift_20 : decode cX0_shift 20 = .ok (.ireturn, 1) := dk_172 (dk_at dksX0_shift_0 20 rfl rfl)
theorem dX0_shift_21 : decode cX0_shift 21 = .ok (.iconst 0, 1) := dk_3 (dk_at dksX0_shift_0 21 rfl rfl)
theorem dX0_shift_22 : decode cX0_shift 22 = .ok (.ireturn, 1) := dk_172 (dk_at dksX0_shift_0 22 rfl rfl)
abbrev cX0_type : ByteArray := method_18_code
def yX0_type : MethodName := ⟨RX0, "type", "(LLastbus;C[J)I"⟩
def dkwX0_type_0 : List UInt8 := [44, 3, 42, 27, 182, 0, 70, 133, 80, 167, 0, 6, 78, 4, 172, 3, 172]
abbrev dktX0_type_0 : List UInt8 := dkwX0_type_0 ++ []
theorem dksX0_type_0 : cX0_type.data.toList.drop 0 = dktX0_type_0 := by decide +kernel
theorem dX0_type_0 : decode cX0_type 0 = .ok (.aload_n 2, 1) := dk_44 (dk_at dksX0_type_0 0 rfl rfl)
theorem dX0_type_1 : decode cX0_type 1 = .ok (.iconst 0, 1) := dk_3 (dk_at dksX0_type_0 1 rfl rfl)
theorem dX0_type_2 : decode cX0_type 2 = .ok (.aload_n 0, 1) := dk_42 (dk_at dksX0_type_0 2 rfl rfl)
theorem dX0_type_3 : decode cX0_type 3 = .ok (.iload_n 1, 1) := dk_27 (dk_at dksX0_type_0 3 rfl rfl)
theorem dX0_type_4 : decode cX0_type 4 = .ok (.invokevirtual 70, 3) := dk_182 0 70 (dk_at dksX0_type_0 4 rfl rfl)
theorem dX0_type_7 : decode cX0_type 7 = .ok (.i2l, 1) := dk_133 (dk_at dksX0_type_0 7 rfl rfl)
theorem dX0_type_8 : decode cX0_type 8 = .ok (.lastore, 1) := dk_80 (dk_at dksX0_type_0 8 rfl rfl)
theorem dX0_type_9 : decode cX0_type 9 = .ok (.goto 6, 3) := dk_167 0 6 (dk_at dksX0_type_0 9 rfl rfl)
theorem dX0_type_12 : decode cX0_type 12 = .ok (.astore_n 3, 1) := dk_78 (dk_at dksX0_type_0 12 rfl rfl)
theorem dX0_type_13 : decode cX0_type 13 = .ok (.iconst 1, 1) := dk_4 (dk_at dksX0_type_0 13 rfl rfl)
theorem dX0_type_14 : decode cX0_type 14 = .ok (.ireturn, 1) := dk_172 (dk_at dksX0_type_0 14 rfl rfl)
theorem dX0_type_15 : decode cX0_type 15 = .ok (.iconst 0, 1) := dk_3 (dk_at dksX0_type_0 15 rfl rfl)
theorem dX0_type_16 : decode cX0_type 16 = .ok (.ireturn, 1) := dk_172 (dk_at dksX0_type_0 16 rfl rfl)
abbrev cX0_typeNumber : ByteArray := method_19_code
def yX0_typeNumber : MethodName := ⟨RX0, "typeNumber", "(LLastbus;I[J)I"⟩
def dkwX0_typeNumber_0 : List UInt8 := [44, 3, 42, 27, 182, 0, 74, 133, 80, 167, 0, 9, 78, 4, 172, 78, 5, 172, 3, 172]
abbrev dktX0_typeNumber_0 : List UInt8 := dkwX0_typeNumber_0 ++ []
theorem dksX0_typeNumber_0 : cX0_typeNumber.data.toList.drop 0 = dktX0_typeNumber_0 := by decide +kernel
theorem dX0_typeNumber_0 : decode cX0_typeNumber 0 = .ok (.aload_n 2, 1) := dk_44 (dk_at dksX0_typeNumber_0 0 rfl rfl)
theorem dX0_typeNumber_1 : decode cX0_typeNumber 1 = .ok (.iconst 0, 1) := dk_3 (dk_at dksX0_typeNumber_0 1 rfl rfl)
theorem dX0_typeNumber_2 : decode cX0_typeNumber 2 = .ok (.aload_n 0, 1) := dk_42 (dk_at dksX0_typeNumber_0 2 rfl rfl)
theorem dX0_typeNumber_3 : decode cX0_typeNumber 3 = .ok (.iload_n 1, 1) := dk_27 (dk_at dksX0_typeNumber_0 3 rfl rfl)
theorem dX0_typeNumber_4 : decode cX0_typeNumber 4 = .ok (.invokevirtual 74, 3) := dk_182 0 74 (dk_at dksX0_typeNumber_0 4 rfl rfl)
theorem dX0_typeNumber_7 : decode cX0_typeNumber 7 = .ok (.i2l, 1) := dk_133 (dk_at dksX0_typeNumber_0 7 rfl rfl)
theorem dX0_typeNumber_8 : decode cX0_typeNumber 8 = .ok (.lastore, 1) := dk_80 (dk_at dksX0_typeNumber_0 8 rfl rfl)
theorem dX0_typeNumber_9 : decode cX0_typeNumber 9 = .ok (.goto 9, 3) := dk_167 0 9 (dk_at dksX0_typeNumber_0 9 rfl rfl)
theorem dX0_typeNumber_12 : decode cX0_typeNumber 12 = .ok (.astore_n 3, 1) := dk_78 (dk_at dksX0_typeNumber_0 12 rfl rfl)
theorem dX0_typeNumber_13 : decode cX0_typeNumber 13 = .ok (.iconst 1, 1) := dk_4 (dk_at dksX0_typeNumber_0 13 rfl rfl)
theorem dX0_typeNumber_14 : decode cX0_typeNumber 14 = .ok (.ireturn, 1) := dk_172 (dk_at dksX0_typeNumber_0 14 rfl rfl)
theorem dX0_typeNumber_15 : decode cX0_typeNumber 15 = .ok (.astore_n 3, 1) := dk_78 (dk_at dksX0_typeNumber_0 15 rfl rfl)
theorem dX0_typeNumber_16 : decode cX0_typeNumber 16 = .ok (.iconst 2, 1) := dk_5 (dk_at dksX0_typeNumber_0 16 rfl rfl)
theorem dX0_typeNumber_17 : decode cX0_typeNumber 17 = .ok (.ireturn, 1) := dk_172 (dk_at dksX0_typeNumber_0 17 rfl rfl)
theorem dX0_typeNumber_18 : decode cX0_typeNumber 18 = .ok (.iconst 0, 1) := dk_3 (dk_at dksX0_typeNumber_0 18 rfl rfl)
theorem dX0_typeNumber_19 : decode cX0_typeNumber 19 = .ok (.ireturn, 1) := dk_172 (dk_at dksX0_typeNumber_0 19 rfl rfl)
abbrev cX0_readRow : ByteArray := method_20_code
def yX0_readRow : MethodName := ⟨RX0, "readRow", "(LLastbus;[J)I"⟩
def dkwX0_readRow_0 : List UInt8 := [43, 3, 42, 182, 0, 77, 133, 80, 167, 0, 12, 77, 4, 172, 77, 5, 172, 77, 6, 172, 3, 172]
abbrev dktX0_readRow_0 : List UInt8 := dkwX0_readRow_0 ++ []
theorem dksX0_readRow_0 : cX0_readRow.data.toList.drop 0 = dktX0_readRow_0 := by decide +kernel
theorem dX0_readRow_0 : decode cX0_readRow 0 = .ok (.aload_n 1, 1) := dk_43 (dk_at dksX0_readRow_0 0 rfl rfl)
theorem dX0_readRow_1 : decode cX0_readRow 1 = .ok (.iconst 0, 1) := dk_3 (dk_at dksX0_readRow_0 1 rfl rfl)
theorem dX0_readRow_2 : decode cX0_readRow 2 = .ok (.aload_n 0, 1) := dk_42 (dk_at dksX0_readRow_0 2 rfl rfl)
theorem dX0_readRow_3 : decode cX0_readRow 3 = .ok (.invokevirtual 77, 3) := dk_182 0 77 (dk_at dksX0_readRow_0 3 rfl rfl)
theorem dX0_readRow_6 : decode cX0_readRow 6 = .ok (.i2l, 1) := dk_133 (dk_at dksX0_readRow_0 6 rfl rfl)
theorem dX0_readRow_7 : decode cX0_readRow 7 = .ok (.lastore, 1) := dk_80 (dk_at dksX0_readRow_0 7 rfl rfl)
theorem dX0_readRow_8 : decode cX0_readRow 8 = .ok (.goto 12, 3) := dk_167 0 12 (dk_at dksX0_readRow_0 8 rfl rfl)
theorem dX0_readRow_11 : decode cX0_readRow 11 = .ok (.astore_n 2, 1) := dk_77 (dk_at dksX0_readRow_0 11 rfl rfl)
theorem dX0_readRow_12 : decode cX0_readRow 12 = .ok (.iconst 1, 1) := dk_4 (dk_at dksX0_readRow_0 12 rfl rfl)
theorem dX0_readRow_13 : decode cX0_readRow 13 = .ok (.ireturn, 1) := dk_172 (dk_at dksX0_readRow_0 13 rfl rfl)
theorem dX0_readRow_14 : decode cX0_readRow 14 = .ok (.astore_n 2, 1) := dk_77 (dk_at dksX0_readRow_0 14 rfl rfl)
theorem dX0_readRow_15 : decode cX0_readRow 15 = .ok (.iconst 2, 1) := dk_5 (dk_at dksX0_readRow_0 15 rfl rfl)
theorem dX0_readRow_16 : decode cX0_readRow 16 = .ok (.ireturn, 1) := dk_172 (dk_at dksX0_readRow_0 16 rfl rfl)
theorem dX0_readRow_17 : decode cX0_readRow 17 = .ok (.astore_n 2, 1) := dk_77 (dk_at dksX0_readRow_0 17 rfl rfl)
theorem dX0_readRow_18 : decode cX0_readRow 18 = .ok (.iconst 3, 1) := dk_6 (dk_at dksX0_readRow_0 18 rfl rfl)
theorem dX0_readRow_19 : decode cX0_readRow 19 = .ok (.ireturn, 1) := dk_172 (dk_at dksX0_readRow_0 19 rfl rfl)
theorem dX0_readRow_20 : decode cX0_readRow 20 = .ok (.iconst 0, 1) := dk_3 (dk_at dksX0_readRow_0 20 rfl rfl)
theorem dX0_readRow_21 : decode cX0_readRow 21 = .ok (.ireturn, 1) := dk_172 (dk_at dksX0_readRow_0 21 rfl rfl)
abbrev cX0_faultAt : ByteArray := method_21_code
def yX0_faultAt : MethodName := ⟨RX0, "faultAt", "(LLastbus;[J)I"⟩
def dkwX0_faultAt_0 : List UInt8 := [43, 3, 42, 182, 0, 82, 133, 80, 167, 0, 6, 77, 4, 172, 3, 172]
abbrev dktX0_faultAt_0 : List UInt8 := dkwX0_faultAt_0 ++ []
theorem dksX0_faultAt_0 : cX0_faultAt.data.toList.drop 0 = dktX0_faultAt_0 := by decide +kernel
theorem dX0_faultAt_0 : decode cX0_faultAt 0 = .ok (.aload_n 1, 1) := dk_43 (dk_at dksX0_faultAt_0 0 rfl rfl)
theorem dX0_faultAt_1 : decode cX0_faultAt 1 = .ok (.iconst 0, 1) := dk_3 (dk_at dksX0_faultAt_0 1 rfl rfl)
theorem dX0_faultAt_2 : decode cX0_faultAt 2 = .ok (.aload_n 0, 1) := dk_42 (dk_at dksX0_faultAt_0 2 rfl rfl)
theorem dX0_faultAt_3 : decode cX0_faultAt 3 = .ok (.invokevirtual 82, 3) := dk_182 0 82 (dk_at dksX0_faultAt_0 3 rfl rfl)
theorem dX0_faultAt_6 : decode cX0_faultAt 6 = .ok (.i2l, 1) := dk_133 (dk_at dksX0_faultAt_0 6 rfl rfl)
theorem dX0_faultAt_7 : decode cX0_faultAt 7 = .ok (.lastore, 1) := dk_80 (dk_at dksX0_faultAt_0 7 rfl rfl)
theorem dX0_faultAt_8 : decode cX0_faultAt 8 = .ok (.goto 6, 3) := dk_167 0 6 (dk_at dksX0_faultAt_0 8 rfl rfl)
theorem dX0_faultAt_11 : decode cX0_faultAt 11 = .ok (.astore_n 2, 1) := dk_77 (dk_at dksX0_faultAt_0 11 rfl rfl)
theorem dX0_faultAt_12 : decode cX0_faultAt 12 = .ok (.iconst 1, 1) := dk_4 (dk_at dksX0_faultAt_0 12 rfl rfl)
theorem dX0_faultAt_13 : decode cX0_faultAt 13 = .ok (.ireturn, 1) := dk_172 (dk_at dksX0_faultAt_0 13 rfl rfl)
theorem dX0_faultAt_14 : decode cX0_faultAt 14 = .ok (.iconst 0, 1) := dk_3 (dk_at dksX0_faultAt_0 14 rfl rfl)
theorem dX0_faultAt_15 : decode cX0_faultAt 15 = .ok (.ireturn, 1) := dk_172 (dk_at dksX0_faultAt_0 15 rfl rfl)
abbrev cX0_late : ByteArray := method_22_code
def yX0_late : MethodName := ⟨RX0, "late", "(LLastbus;IIII[J)I"⟩
def dkwX0_late_1 : List UInt8 := [172, 58, 6, 6, 172, 3, 172]
abbrev dktX0_late_1 : List UInt8 := dkwX0_late_1 ++ []
def dkwX0_late_0 : List UInt8 := [25, 5, 3, 42, 27, 28, 29, 21, 4, 182, 0, 85, 133, 80, 167, 0, 15, 58, 6, 4, 172, 58, 6, 5]
abbrev dktX0_late_0 : List UInt8 := dkwX0_late_0 ++ dktX0_late_1
theorem dksX0_late_0 : cX0_late.data.toList.drop 0 = dktX0_late_0 := by decide +kernel
theorem dksX0_late_1 : cX0_late.data.toList.drop 24 = dktX0_late_1 := dk_seg dksX0_late_0 24 rfl rfl
theorem dX0_late_0 : decode cX0_late 0 = .ok (.aload 5, 2) := dk_25 5 (dk_at dksX0_late_0 0 rfl rfl)
theorem dX0_late_2 : decode cX0_late 2 = .ok (.iconst 0, 1) := dk_3 (dk_at dksX0_late_0 2 rfl rfl)
theorem dX0_late_3 : decode cX0_late 3 = .ok (.aload_n 0, 1) := dk_42 (dk_at dksX0_late_0 3 rfl rfl)
theorem dX0_late_4 : decode cX0_late 4 = .ok (.iload_n 1, 1) := dk_27 (dk_at dksX0_late_0 4 rfl rfl)
theorem dX0_late_5 : decode cX0_late 5 = .ok (.iload_n 2, 1) := dk_28 (dk_at dksX0_late_0 5 rfl rfl)
theorem dX0_late_6 : decode cX0_late 6 = .ok (.iload_n 3, 1) := dk_29 (dk_at dksX0_late_0 6 rfl rfl)
theorem dX0_late_7 : decode cX0_late 7 = .ok (.iload 4, 2) := dk_21 4 (dk_at dksX0_late_0 7 rfl rfl)
theorem dX0_late_9 : decode cX0_late 9 = .ok (.invokevirtual 85, 3) := dk_182 0 85 (dk_at dksX0_late_0 9 rfl rfl)
theorem dX0_late_12 : decode cX0_late 12 = .ok (.i2l, 1) := dk_133 (dk_at dksX0_late_0 12 rfl rfl)
theorem dX0_late_13 : decode cX0_late 13 = .ok (.lastore, 1) := dk_80 (dk_at dksX0_late_0 13 rfl rfl)
theorem dX0_late_14 : decode cX0_late 14 = .ok (.goto 15, 3) := dk_167 0 15 (dk_at dksX0_late_0 14 rfl rfl)
theorem dX0_late_17 : decode cX0_late 17 = .ok (.astore 6, 2) := dk_58 6 (dk_at dksX0_late_0 17 rfl rfl)
theorem dX0_late_19 : decode cX0_late 19 = .ok (.iconst 1, 1) := dk_4 (dk_at dksX0_late_0 19 rfl rfl)
theorem dX0_late_20 : decode cX0_late 20 = .ok (.ireturn, 1) := dk_172 (dk_at dksX0_late_0 20 rfl rfl)
theorem dX0_late_21 : decode cX0_late 21 = .ok (.astore 6, 2) := dk_58 6 (dk_at dksX0_late_0 21 rfl rfl)
theorem dX0_late_23 : decode cX0_late 23 = .ok (.iconst 2, 1) := dk_5 (dk_at dksX0_late_0 23 rfl rfl)
theorem dX0_late_24 : decode cX0_late 24 = .ok (.ireturn, 1) := dk_172 (dk_at dksX0_late_1 0 rfl rfl)
theorem dX0_late_25 : decode cX0_late 25 = .ok (.astore 6, 2) := dk_58 6 (dk_at dksX0_late_1 1 rfl rfl)
theorem dX0_late_27 : decode cX0_late 27 = .ok (.iconst 3, 1) := dk_6 (dk_at dksX0_late_1 3 rfl rfl)
theorem dX0_late_28 : decode cX0_late 28 = .ok (.ireturn, 1) := dk_172 (dk_at dksX0_late_1 4 rfl rfl)
theorem dX0_late_29 : decode cX0_late 29 = .ok (.iconst 0, 1) := dk_3 (dk_at dksX0_late_1 5 rfl rfl)
theorem dX0_late_30 : decode cX0_late 30 = .ok (.ireturn, 1) := dk_172 (dk_at dksX0_late_1 6 rfl rfl)
abbrev cX0_lateness : ByteArray := method_23_code
def yX0_lateness : MethodName := ⟨RX0, "lateness", "(LLastbus;III[J)I"⟩
def dkwX0_lateness_1 : List UInt8 := [172]
abbrev dktX0_lateness_1 : List UInt8 := dkwX0_lateness_1 ++ []
def dkwX0_lateness_0 : List UInt8 := [25, 4, 3, 42, 27, 28, 29, 182, 0, 88, 133, 80, 167, 0, 11, 58, 5, 4, 172, 58, 5, 5, 172, 3]
abbrev dktX0_lateness_0 : List UInt8 := dkwX0_lateness_0 ++ dktX0_lateness_1
theorem dksX0_lateness_0 : cX0_lateness.data.toList.drop 0 = dktX0_lateness_0 := by decide +kernel
theorem dksX0_lateness_1 : cX0_lateness.data.toList.drop 24 = dktX0_lateness_1 := dk_seg dksX0_lateness_0 24 rfl rfl
theorem dX0_lateness_0 : decode cX0_lateness 0 = .ok (.aload 4, 2) := dk_25 4 (dk_at dksX0_lateness_0 0 rfl rfl)
theorem dX0_lateness_2 : decode cX0_lateness 2 = .ok (.iconst 0, 1) := dk_3 (dk_at dksX0_lateness_0 2 rfl rfl)
theorem dX0_lateness_3 : decode cX0_lateness 3 = .ok (.aload_n 0, 1) := dk_42 (dk_at dksX0_lateness_0 3 rfl rfl)
theorem dX0_lateness_4 : decode cX0_lateness 4 = .ok (.iload_n 1, 1) := dk_27 (dk_at dksX0_lateness_0 4 rfl rfl)
theorem dX0_lateness_5 : decode cX0_lateness 5 = .ok (.iload_n 2, 1) := dk_28 (dk_at dksX0_lateness_0 5 rfl rfl)
theorem dX0_lateness_6 : decode cX0_lateness 6 = .ok (.iload_n 3, 1) := dk_29 (dk_at dksX0_lateness_0 6 rfl rfl)
theorem dX0_lateness_7 : decode cX0_lateness 7 = .ok (.invokevirtual 88, 3) := dk_182 0 88 (dk_at dksX0_lateness_0 7 rfl rfl)
theorem dX0_lateness_10 : decode cX0_lateness 10 = .ok (.i2l, 1) := dk_133 (dk_at dksX0_lateness_0 10 rfl rfl)
theorem dX0_lateness_11 : decode cX0_lateness 11 = .ok (.lastore, 1) := dk_80 (dk_at dksX0_lateness_0 11 rfl rfl)
theorem dX0_lateness_12 : decode cX0_lateness 12 = .ok (.goto 11, 3) := dk_167 0 11 (dk_at dksX0_lateness_0 12 rfl rfl)
theorem dX0_lateness_15 : decode cX0_lateness 15 = .ok (.astore 5, 2) := dk_58 5 (dk_at dksX0_lateness_0 15 rfl rfl)
theorem dX0_lateness_17 : decode cX0_lateness 17 = .ok (.iconst 1, 1) := dk_4 (dk_at dksX0_lateness_0 17 rfl rfl)
theorem dX0_lateness_18 : decode cX0_lateness 18 = .ok (.ireturn, 1) := dk_172 (dk_at dksX0_lateness_0 18 rfl rfl)
theorem dX0_lateness_19 : decode cX0_lateness 19 = .ok (.astore 5, 2) := dk_58 5 (dk_at dksX0_lateness_0 19 rfl rfl)
theorem dX0_lateness_21 : decode cX0_lateness 21 = .ok (.iconst 2, 1) := dk_5 (dk_at dksX0_lateness_0 21 rfl rfl)
theorem dX0_lateness_22 : decode cX0_lateness 22 = .ok (.ireturn, 1) := dk_172 (dk_at dksX0_lateness_0 22 rfl rfl)
theorem dX0_lateness_23 : decode cX0_lateness 23 = .ok (.iconst 0, 1) := dk_3 (dk_at dksX0_lateness_0 23 rfl rfl)
theorem dX0_lateness_24 : decode cX0_lateness 24 = .ok (.ireturn, 1) := dk_172 (dk_at dksX0_lateness_1 0 rfl rfl)
abbrev cX0_earliest : ByteArray := method_24_code
def yX0_earliest : MethodName := ⟨RX0, "earliest", "(LLastbus;IIII[J)I"⟩
def dkwX0_earliest_1 : List UInt8 := [172, 58, 6, 6, 172, 3, 172]
abbrev dktX0_earliest_1 : List UInt8 := dkwX0_earliest_1 ++ []
def dkwX0_earliest_0 : List UInt8 := [25, 5, 3, 42, 27, 28, 29, 21, 4, 182, 0, 91, 133, 80, 167, 0, 15, 58, 6, 4, 172, 58, 6, 5]
abbrev dktX0_earliest_0 : List UInt8 := dkwX0_earliest_0 ++ dktX0_earliest_1
theorem dksX0_earliest_0 : cX0_earliest.data.toList.drop 0 = dktX0_earliest_0 := by decide +kernel
theorem dksX0_earliest_1 : cX0_earliest.data.toList.drop 24 = dktX0_earliest_1 := dk_seg dksX0_earliest_0 24 rfl rfl
theorem dX0_earliest_0 : decode cX0_earliest 0 = .ok (.aload 5, 2) := dk_25 5 (dk_at dksX0_earliest_0 0 rfl rfl)
theorem dX0_earliest_2 : decode cX0_earliest 2 = .ok (.iconst 0, 1) := dk_3 (dk_at dksX0_earliest_0 2 rfl rfl)
theorem dX0_earliest_3 : decode cX0_earliest 3 = .ok (.aload_n 0, 1) := dk_42 (dk_at dksX0_earliest_0 3 rfl rfl)
theorem dX0_earliest_4 : decode cX0_earliest 4 = .ok (.iload_n 1, 1) := dk_27 (dk_at dksX0_earliest_0 4 rfl rfl)
theorem dX0_earliest_5 : decode cX0_earliest 5 = .ok (.iload_n 2, 1) := dk_28 (dk_at dksX0_earliest_0 5 rfl rfl)
theorem dX0_earliest_6 : decode cX0_earliest 6 = .ok (.iload_n 3, 1) := dk_29 (dk_at dksX0_earliest_0 6 rfl rfl)
theorem dX0_earliest_7 : decode cX0_earliest 7 = .ok (.iload 4, 2) := dk_21 4 (dk_at dksX0_earliest_0 7 rfl rfl)
theorem dX0_earliest_9 : decode cX0_earliest 9 = .ok (.invokevirtual 91, 3) := dk_182 0 91 (dk_at dksX0_earliest_0 9 rfl rfl)
theorem dX0_earliest_12 : decode cX0_earliest 12 = .ok (.i2l, 1) := dk_133 (dk_at dksX0_earliest_0 12 rfl rfl)
theorem dX0_earliest_13 : decode cX0_earliest 13 = .ok (.lastore, 1) := dk_80 (dk_at dksX0_earliest_0 13 rfl rfl)
theorem dX0_earliest_14 : decode cX0_earliest 14 = .ok (.goto 15, 3) := dk_167 0 15 (dk_at dksX0_earliest_0 14 rfl rfl)
theorem dX0_earliest_17 : decode cX0_earliest 17 = .ok (.astore 6, 2) := dk_58 6 (dk_at dksX0_earliest_0 17 rfl rfl)
theorem dX0_earliest_19 : decode cX0_earliest 19 = .ok (.iconst 1, 1) := dk_4 (dk_at dksX0_earliest_0 19 rfl rfl)
theorem dX0_earliest_20 : decode cX0_earliest 20 = .ok (.ireturn, 1) := dk_172 (dk_at dksX0_earliest_0 20 rfl rfl)
theorem dX0_earliest_21 : decode cX0_earliest 21 = .ok (.astore 6, 2) := dk_58 6 (dk_at dksX0_earliest_0 21 rfl rfl)
theorem dX0_earliest_23 : decode cX0_earliest 23 = .ok (.iconst 2, 1) := dk_5 (dk_at dksX0_earliest_0 23 rfl rfl)
theorem dX0_earliest_24 : decode cX0_earliest 24 = .ok (.ireturn, 1) := dk_172 (dk_at dksX0_earliest_1 0 rfl rfl)
theorem dX0_earliest_25 : decode cX0_earliest 25 = .ok (.astore 6, 2) := dk_58 6 (dk_at dksX0_earliest_1 1 rfl rfl)
theorem dX0_earliest_27 : decode cX0_earliest 27 = .ok (.iconst 3, 1) := dk_6 (dk_at dksX0_earliest_1 3 rfl rfl)
theorem dX0_earliest_28 : decode cX0_earliest 28 = .ok (.ireturn, 1) := dk_172 (dk_at dksX0_earliest_1 4 rfl rfl)
theorem dX0_earliest_29 : decode cX0_earliest 29 = .ok (.iconst 0, 1) := dk_3 (dk_at dksX0_earliest_1 5 rfl rfl)
theorem dX0_earliest_30 : decode cX0_earliest 30 = .ok (.ireturn, 1) := dk_172 (dk_at dksX0_earliest_1 6 rfl rfl)
abbrev cX0_earliestByQueue : ByteArray := method_25_code
def yX0_earliestByQueue : MethodName := ⟨RX0, "earliestByQueue", "(LLastbus;IIII[J)I"⟩
def dkwX0_earliestByQueue_1 : List UInt8 := [172, 58, 6, 6, 172, 3, 172]
abbrev dktX0_earliestByQueue_1 : List UInt8 := dkwX0_earliestByQueue_1 ++ []
def dkwX0_earliestByQueue_0 : List UInt8 := [25, 5, 3, 42, 27, 28, 29, 21, 4, 182, 0, 94, 133, 80, 167, 0, 15, 58, 6, 4, 172, 58, 6, 5]
abbrev dktX0_earliestByQueue_0 : List UInt8 := dkwX0_earliestByQueue_0 ++ dktX0_earliestByQueue_1
theorem dksX0_earliestByQueue_0 : cX0_earliestByQueue.data.toList.drop 0 = dktX0_earliestByQueue_0 := by decide +kernel
theorem dksX0_earliestByQueue_1 : cX0_earliestByQueue.data.toList.drop 24 = dktX0_earliestByQueue_1 := dk_seg dksX0_earliestByQueue_0 24 rfl rfl
theorem dX0_earliestByQueue_0 : decode cX0_earliestByQueue 0 = .ok (.aload 5, 2) := dk_25 5 (dk_at dksX0_earliestByQueue_0 0 rfl rfl)
theorem dX0_earliestByQueue_2 : decode cX0_earliestByQueue 2 = .ok (.iconst 0, 1) := dk_3 (dk_at dksX0_earliestByQueue_0 2 rfl rfl)
theorem dX0_earliestByQueue_3 : decode cX0_earliestByQueue 3 = .ok (.aload_n 0, 1) := dk_42 (dk_at dksX0_earliestByQueue_0 3 rfl rfl)
theorem dX0_earliestByQueue_4 : decode cX0_earliestByQueue 4 = .ok (.iload_n 1, 1) := dk_27 (dk_at dksX0_earliestByQueue_0 4 rfl rfl)
theorem dX0_earliestByQueue_5 : decode cX0_earliestByQueue 5 = .ok (.iload_n 2, 1) := dk_28 (dk_at dksX0_earliestByQueue_0 5 rfl rfl)
theorem dX0_earliestByQueue_6 : decode cX0_earliestByQueue 6 = .ok (.iload_n 3, 1) := dk_29 (dk_at dksX0_earliestByQueue_0 6 rfl rfl)
theorem dX0_earliestByQueue_7 : decode cX0_earliestByQueue 7 = .ok (.iload 4, 2) := dk_21 4 (dk_at dksX0_earliestByQueue_0 7 rfl rfl)
theorem dX0_earliestByQueue_9 : decode cX0_earliestByQueue 9 = .ok (.invokevirtual 94, 3) := dk_182 0 94 (dk_at dksX0_earliestByQueue_0 9 rfl rfl)
theorem dX0_earliestByQueue_12 : decode cX0_earliestByQueue 12 = .ok (.i2l, 1) := dk_133 (dk_at dksX0_earliestByQueue_0 12 rfl rfl)
theorem dX0_earliestByQueue_13 : decode cX0_earliestByQueue 13 = .ok (.lastore, 1) := dk_80 (dk_at dksX0_earliestByQueue_0 13 rfl rfl)
theorem dX0_earliestByQueue_14 : decode cX0_earliestByQueue 14 = .ok (.goto 15, 3) := dk_167 0 15 (dk_at dksX0_earliestByQueue_0 14 rfl rfl)
theorem dX0_earliestByQueue_17 : decode cX0_earliestByQueue 17 = .ok (.astore 6, 2) := dk_58 6 (dk_at dksX0_earliestByQueue_0 17 rfl rfl)
theorem dX0_earliestByQueue_19 : decode cX0_earliestByQueue 19 = .ok (.iconst 1, 1) := dk_4 (dk_at dksX0_earliestByQueue_0 19 rfl rfl)
theorem dX0_earliestByQueue_20 : decode cX0_earliestByQueue 20 = .ok (.ireturn, 1) := dk_172 (dk_at dksX0_earliestByQueue_0 20 rfl rfl)
theorem dX0_earliestByQueue_21 : decode cX0_earliestByQueue 21 = .ok (.astore 6, 2) := dk_58 6 (dk_at dksX0_earliestByQueue_0 21 rfl rfl)
theorem dX0_earliestByQueue_23 : decode cX0_earliestByQueue 23 = .ok (.iconst 2, 1) := dk_5 (dk_at dksX0_earliestByQueue_0 23 rfl rfl)
theorem dX0_earliestByQueue_24 : decode cX0_earliestByQueue 24 = .ok (.ireturn, 1) := dk_172 (dk_at dksX0_earliestByQueue_1 0 rfl rfl)
theorem dX0_earliestByQueue_25 : decode cX0_earliestByQueue 25 = .ok (.astore 6, 2) := dk_58 6 (dk_at dksX0_earliestByQueue_1 1 rfl rfl)
theorem dX0_earliestByQueue_27 : decode cX0_earliestByQueue 27 = .ok (.iconst 3, 1) := dk_6 (dk_at dksX0_earliestByQueue_1 3 rfl rfl)
theorem dX0_earliestByQueue_28 : decode cX0_earliestByQueue 28 = .ok (.ireturn, 1) := dk_172 (dk_at dksX0_earliestByQueue_1 4 rfl rfl)
theorem dX0_earliestByQueue_29 : decode cX0_earliestByQueue 29 = .ok (.iconst 0, 1) := dk_3 (dk_at dksX0_earliestByQueue_1 5 rfl rfl)
theorem dX0_earliestByQueue_30 : decode cX0_earliestByQueue 30 = .ok (.ireturn, 1) := dk_172 (dk_at dksX0_earliestByQueue_1 6 rfl rfl)
abbrev cX0_earliestByRounds : ByteArray := method_26_code
def yX0_earliestByRounds : MethodName := ⟨RX0, "earliestByRounds", "(LLastbus;IIII[J)I"⟩
def dkwX0_earliestByRounds_1 : List UInt8 := [172, 58, 6, 6, 172, 3, 172]
abbrev dktX0_earliestByRounds_1 : List UInt8 := dkwX0_earliestByRounds_1 ++ []
def dkwX0_earliestByRounds_0 : List UInt8 := [25, 5, 3, 42, 27, 28, 29, 21, 4, 182, 0, 97, 133, 80, 167, 0, 15, 58, 6, 4, 172, 58, 6, 5]
abbrev dktX0_earliestByRounds_0 : List UInt8 := dkwX0_earliestByRounds_0 ++ dktX0_earliestByRounds_1
theorem dksX0_earliestByRounds_0 : cX0_earliestByRounds.data.toList.drop 0 = dktX0_earliestByRounds_0 := by decide +kernel
theorem dksX0_earliestByRounds_1 : cX0_earliestByRounds.data.toList.drop 24 = dktX0_earliestByRounds_1 := dk_seg dksX0_earliestByRounds_0 24 rfl rfl
theorem dX0_earliestByRounds_0 : decode cX0_earliestByRounds 0 = .ok (.aload 5, 2) := dk_25 5 (dk_at dksX0_earliestByRounds_0 0 rfl rfl)
theorem dX0_earliestByRounds_2 : decode cX0_earliestByRounds 2 = .ok (.iconst 0, 1) := dk_3 (dk_at dksX0_earliestByRounds_0 2 rfl rfl)
theorem dX0_earliestByRounds_3 : decode cX0_earliestByRounds 3 = .ok (.aload_n 0, 1) := dk_42 (dk_at dksX0_earliestByRounds_0 3 rfl rfl)
theorem dX0_earliestByRounds_4 : decode cX0_earliestByRounds 4 = .ok (.iload_n 1, 1) := dk_27 (dk_at dksX0_earliestByRounds_0 4 rfl rfl)
theorem dX0_earliestByRounds_5 : decode cX0_earliestByRounds 5 = .ok (.iload_n 2, 1) := dk_28 (dk_at dksX0_earliestByRounds_0 5 rfl rfl)
theorem dX0_earliestByRounds_6 : decode cX0_earliestByRounds 6 = .ok (.iload_n 3, 1) := dk_29 (dk_at dksX0_earliestByRounds_0 6 rfl rfl)
theorem dX0_earliestByRounds_7 : decode cX0_earliestByRounds 7 = .ok (.iload 4, 2) := dk_21 4 (dk_at dksX0_earliestByRounds_0 7 rfl rfl)
theorem dX0_earliestByRounds_9 : decode cX0_earliestByRounds 9 = .ok (.invokevirtual 97, 3) := dk_182 0 97 (dk_at dksX0_earliestByRounds_0 9 rfl rfl)
theorem dX0_earliestByRounds_12 : decode cX0_earliestByRounds 12 = .ok (.i2l, 1) := dk_133 (dk_at dksX0_earliestByRounds_0 12 rfl rfl)
theorem dX0_earliestByRounds_13 : decode cX0_earliestByRounds 13 = .ok (.lastore, 1) := dk_80 (dk_at dksX0_earliestByRounds_0 13 rfl rfl)
theorem dX0_earliestByRounds_14 : decode cX0_earliestByRounds 14 = .ok (.goto 15, 3) := dk_167 0 15 (dk_at dksX0_earliestByRounds_0 14 rfl rfl)
theorem dX0_earliestByRounds_17 : decode cX0_earliestByRounds 17 = .ok (.astore 6, 2) := dk_58 6 (dk_at dksX0_earliestByRounds_0 17 rfl rfl)
theorem dX0_earliestByRounds_19 : decode cX0_earliestByRounds 19 = .ok (.iconst 1, 1) := dk_4 (dk_at dksX0_earliestByRounds_0 19 rfl rfl)
theorem dX0_earliestByRounds_20 : decode cX0_earliestByRounds 20 = .ok (.ireturn, 1) := dk_172 (dk_at dksX0_earliestByRounds_0 20 rfl rfl)
theorem dX0_earliestByRounds_21 : decode cX0_earliestByRounds 21 = .ok (.astore 6, 2) := dk_58 6 (dk_at dksX0_earliestByRounds_0 21 rfl rfl)
theorem dX0_earliestByRounds_23 : decode cX0_earliestByRounds 23 = .ok (.iconst 2, 1) := dk_5 (dk_at dksX0_earliestByRounds_0 23 rfl rfl)
theorem dX0_earliestByRounds_24 : decode cX0_earliestByRounds 24 = .ok (.ireturn, 1) := dk_172 (dk_at dksX0_earliestByRounds_1 0 rfl rfl)
theorem dX0_earliestByRounds_25 : decode cX0_earliestByRounds 25 = .ok (.astore 6, 2) := dk_58 6 (dk_at dksX0_earliestByRounds_1 1 rfl rfl)
theorem dX0_earliestByRounds_27 : decode cX0_earliestByRounds 27 = .ok (.iconst 3, 1) := dk_6 (dk_at dksX0_earliestByRounds_1 3 rfl rfl)
theorem dX0_earliestByRounds_28 : decode cX0_earliestByRounds 28 = .ok (.ireturn, 1) := dk_172 (dk_at dksX0_earliestByRounds_1 4 rfl rfl)
theorem dX0_earliestByRounds_29 : decode cX0_earliestByRounds 29 = .ok (.iconst 0, 1) := dk_3 (dk_at dksX0_earliestByRounds_1 5 rfl rfl)
theorem dX0_earliestByRounds_30 : decode cX0_earliestByRounds 30 = .ok (.ireturn, 1) := dk_172 (dk_at dksX0_earliestByRounds_1 6 rfl rfl)
abbrev cX0_wall : ByteArray := method_27_code
def yX0_wall : MethodName := ⟨RX0, "wall", "(LLastbus;IIII[J)I"⟩
def dkwX0_wall_1 : List UInt8 := [172, 3, 172]
abbrev dktX0_wall_1 : List UInt8 := dkwX0_wall_1 ++ []
def dkwX0_wall_0 : List UInt8 := [25, 5, 3, 42, 27, 28, 29, 21, 4, 182, 0, 100, 133, 80, 167, 0, 11, 58, 6, 4, 172, 58, 6, 5]
abbrev dktX0_wall_0 : List UInt8 := dkwX0_wall_0 ++ dktX0_wall_1
theorem dksX0_wall_0 : cX0_wall.data.toList.drop 0 = dktX0_wall_0 := by decide +kernel
theorem dksX0_wall_1 : cX0_wall.data.toList.drop 24 = dktX0_wall_1 := dk_seg dksX0_wall_0 24 rfl rfl
theorem dX0_wall_0 : decode cX0_wall 0 = .ok (.aload 5, 2) := dk_25 5 (dk_at dksX0_wall_0 0 rfl rfl)
theorem dX0_wall_2 : decode cX0_wall 2 = .ok (.iconst 0, 1) := dk_3 (dk_at dksX0_wall_0 2 rfl rfl)
theorem dX0_wall_3 : decode cX0_wall 3 = .ok (.aload_n 0, 1) := dk_42 (dk_at dksX0_wall_0 3 rfl rfl)
theorem dX0_wall_4 : decode cX0_wall 4 = .ok (.iload_n 1, 1) := dk_27 (dk_at dksX0_wall_0 4 rfl rfl)
theorem dX0_wall_5 : decode cX0_wall 5 = .ok (.iload_n 2, 1) := dk_28 (dk_at dksX0_wall_0 5 rfl rfl)
theorem dX0_wall_6 : decode cX0_wall 6 = .ok (.iload_n 3, 1) := dk_29 (dk_at dksX0_wall_0 6 rfl rfl)
theorem dX0_wall_7 : decode cX0_wall 7 = .ok (.iload 4, 2) := dk_21 4 (dk_at dksX0_wall_0 7 rfl rfl)
theorem dX0_wall_9 : decode cX0_wall 9 = .ok (.invokevirtual 100, 3) := dk_182 0 100 (dk_at dksX0_wall_0 9 rfl rfl)
theorem dX0_wall_12 : decode cX0_wall 12 = .ok (.i2l, 1) := dk_133 (dk_at dksX0_wall_0 12 rfl rfl)
theorem dX0_wall_13 : decode cX0_wall 13 = .ok (.lastore, 1) := dk_80 (dk_at dksX0_wall_0 13 rfl rfl)
theorem dX0_wall_14 : decode cX0_wall 14 = .ok (.goto 11, 3) := dk_167 0 11 (dk_at dksX0_wall_0 14 rfl rfl)
theorem dX0_wall_17 : decode cX0_wall 17 = .ok (.astore 6, 2) := dk_58 6 (dk_at dksX0_wall_0 17 rfl rfl)
theorem dX0_wall_19 : decode cX0_wall 19 = .ok (.iconst 1, 1) := dk_4 (dk_at dksX0_wall_0 19 rfl rfl)
theorem dX0_wall_20 : decode cX0_wall 20 = .ok (.ireturn, 1) := dk_172 (dk_at dksX0_wall_0 20 rfl rfl)
theorem dX0_wall_21 : decode cX0_wall 21 = .ok (.astore 6, 2) := dk_58 6 (dk_at dksX0_wall_0 21 rfl rfl)
theorem dX0_wall_23 : decode cX0_wall 23 = .ok (.iconst 2, 1) := dk_5 (dk_at dksX0_wall_0 23 rfl rfl)
theorem dX0_wall_24 : decode cX0_wall 24 = .ok (.ireturn, 1) := dk_172 (dk_at dksX0_wall_1 0 rfl rfl)
theorem dX0_wall_25 : decode cX0_wall 25 = .ok (.iconst 0, 1) := dk_3 (dk_at dksX0_wall_1 1 rfl rfl)
theorem dX0_wall_26 : decode cX0_wall 26 = .ok (.ireturn, 1) := dk_172 (dk_at dksX0_wall_1 2 rfl rfl)
abbrev cX0_last : ByteArray := method_28_code
def yX0_last : MethodName := ⟨RX0, "last", "(LLastbus;IIII[J)I"⟩
def dkwX0_last_1 : List UInt8 := [172, 58, 6, 6, 172, 3, 172]
abbrev dktX0_last_1 : List UInt8 := dkwX0_last_1 ++ []
def dkwX0_last_0 : List UInt8 := [25, 5, 3, 42, 27, 28, 29, 21, 4, 182, 0, 103, 133, 80, 167, 0, 15, 58, 6, 4, 172, 58, 6, 5]
abbrev dktX0_last_0 : List UInt8 := dkwX0_last_0 ++ dktX0_last_1
theorem dksX0_last_0 : cX0_last.data.toList.drop 0 = dktX0_last_0 := by decide +kernel
theorem dksX0_last_1 : cX0_last.data.toList.drop 24 = dktX0_last_1 := dk_seg dksX0_last_0 24 rfl rfl
theorem dX0_last_0 : decode cX0_last 0 = .ok (.aload 5, 2) := dk_25 5 (dk_at dksX0_last_0 0 rfl rfl)
theorem dX0_last_2 : decode cX0_last 2 = .ok (.iconst 0, 1) := dk_3 (dk_at dksX0_last_0 2 rfl rfl)
theorem dX0_last_3 : decode cX0_last 3 = .ok (.aload_n 0, 1) := dk_42 (dk_at dksX0_last_0 3 rfl rfl)
theorem dX0_last_4 : decode cX0_last 4 = .ok (.iload_n 1, 1) := dk_27 (dk_at dksX0_last_0 4 rfl rfl)
theorem dX0_last_5 : decode cX0_last 5 = .ok (.iload_n 2, 1) := dk_28 (dk_at dksX0_last_0 5 rfl rfl)
theorem dX0_last_6 : decode cX0_last 6 = .ok (.iload_n 3, 1) := dk_29 (dk_at dksX0_last_0 6 rfl rfl)
theorem dX0_last_7 : decode cX0_last 7 = .ok (.iload 4, 2) := dk_21 4 (dk_at dksX0_last_0 7 rfl rfl)
theorem dX0_last_9 : decode cX0_last 9 = .ok (.invokevirtual 103, 3) := dk_182 0 103 (dk_at dksX0_last_0 9 rfl rfl)
theorem dX0_last_12 : decode cX0_last 12 = .ok (.i2l, 1) := dk_133 (dk_at dksX0_last_0 12 rfl rfl)
theorem dX0_last_13 : decode cX0_last 13 = .ok (.lastore, 1) := dk_80 (dk_at dksX0_last_0 13 rfl rfl)
theorem dX0_last_14 : decode cX0_last 14 = .ok (.goto 15, 3) := dk_167 0 15 (dk_at dksX0_last_0 14 rfl rfl)
theorem dX0_last_17 : decode cX0_last 17 = .ok (.astore 6, 2) := dk_58 6 (dk_at dksX0_last_0 17 rfl rfl)
theorem dX0_last_19 : decode cX0_last 19 = .ok (.iconst 1, 1) := dk_4 (dk_at dksX0_last_0 19 rfl rfl)
theorem dX0_last_20 : decode cX0_last 20 = .ok (.ireturn, 1) := dk_172 (dk_at dksX0_last_0 20 rfl rfl)
theorem dX0_last_21 : decode cX0_last 21 = .ok (.astore 6, 2) := dk_58 6 (dk_at dksX0_last_0 21 rfl rfl)
theorem dX0_last_23 : decode cX0_last 23 = .ok (.iconst 2, 1) := dk_5 (dk_at dksX0_last_0 23 rfl rfl)
theorem dX0_last_24 : decode cX0_last 24 = .ok (.ireturn, 1) := dk_172 (dk_at dksX0_last_1 0 rfl rfl)
theorem dX0_last_25 : decode cX0_last 25 = .ok (.astore 6, 2) := dk_58 6 (dk_at dksX0_last_1 1 rfl rfl)
theorem dX0_last_27 : decode cX0_last 27 = .ok (.iconst 3, 1) := dk_6 (dk_at dksX0_last_1 3 rfl rfl)
theorem dX0_last_28 : decode cX0_last 28 = .ok (.ireturn, 1) := dk_172 (dk_at dksX0_last_1 4 rfl rfl)
theorem dX0_last_29 : decode cX0_last 29 = .ok (.iconst 0, 1) := dk_3 (dk_at dksX0_last_1 5 rfl rfl)
theorem dX0_last_30 : decode cX0_last 30 = .ok (.ireturn, 1) := dk_172 (dk_at dksX0_last_1 6 rfl rfl)
abbrev cX0_chain : ByteArray := method_29_code
def yX0_chain : MethodName := ⟨RX0, "chain", "(LLastbus;IIII[J)I"⟩
def dkwX0_chain_1 : List UInt8 := [172, 58, 6, 6, 172, 3, 172]
abbrev dktX0_chain_1 : List UInt8 := dkwX0_chain_1 ++ []
def dkwX0_chain_0 : List UInt8 := [25, 5, 3, 42, 27, 28, 29, 21, 4, 182, 0, 106, 133, 80, 167, 0, 15, 58, 6, 4, 172, 58, 6, 5]
abbrev dktX0_chain_0 : List UInt8 := dkwX0_chain_0 ++ dktX0_chain_1
theorem dksX0_chain_0 : cX0_chain.data.toList.drop 0 = dktX0_chain_0 := by decide +kernel
theorem dksX0_chain_1 : cX0_chain.data.toList.drop 24 = dktX0_chain_1 := dk_seg dksX0_chain_0 24 rfl rfl
theorem dX0_chain_0 : decode cX0_chain 0 = .ok (.aload 5, 2) := dk_25 5 (dk_at dksX0_chain_0 0 rfl rfl)
theorem dX0_chain_2 : decode cX0_chain 2 = .ok (.iconst 0, 1) := dk_3 (dk_at dksX0_chain_0 2 rfl rfl)
theorem dX0_chain_3 : decode cX0_chain 3 = .ok (.aload_n 0, 1) := dk_42 (dk_at dksX0_chain_0 3 rfl rfl)
theorem dX0_chain_4 : decode cX0_chain 4 = .ok (.iload_n 1, 1) := dk_27 (dk_at dksX0_chain_0 4 rfl rfl)
theorem dX0_chain_5 : decode cX0_chain 5 = .ok (.iload_n 2, 1) := dk_28 (dk_at dksX0_chain_0 5 rfl rfl)
theorem dX0_chain_6 : decode cX0_chain 6 = .ok (.iload_n 3, 1) := dk_29 (dk_at dksX0_chain_0 6 rfl rfl)
theorem dX0_chain_7 : decode cX0_chain 7 = .ok (.iload 4, 2) := dk_21 4 (dk_at dksX0_chain_0 7 rfl rfl)
theorem dX0_chain_9 : decode cX0_chain 9 = .ok (.invokevirtual 106, 3) := dk_182 0 106 (dk_at dksX0_chain_0 9 rfl rfl)
theorem dX0_chain_12 : decode cX0_chain 12 = .ok (.i2l, 1) := dk_133 (dk_at dksX0_chain_0 12 rfl rfl)
theorem dX0_chain_13 : decode cX0_chain 13 = .ok (.lastore, 1) := dk_80 (dk_at dksX0_chain_0 13 rfl rfl)
theorem dX0_chain_14 : decode cX0_chain 14 = .ok (.goto 15, 3) := dk_167 0 15 (dk_at dksX0_chain_0 14 rfl rfl)
theorem dX0_chain_17 : decode cX0_chain 17 = .ok (.astore 6, 2) := dk_58 6 (dk_at dksX0_chain_0 17 rfl rfl)
theorem dX0_chain_19 : decode cX0_chain 19 = .ok (.iconst 1, 1) := dk_4 (dk_at dksX0_chain_0 19 rfl rfl)
theorem dX0_chain_20 : decode cX0_chain 20 = .ok (.ireturn, 1) := dk_172 (dk_at dksX0_chain_0 20 rfl rfl)
theorem dX0_chain_21 : decode cX0_chain 21 = .ok (.astore 6, 2) := dk_58 6 (dk_at dksX0_chain_0 21 rfl rfl)
theorem dX0_chain_23 : decode cX0_chain 23 = .ok (.iconst 2, 1) := dk_5 (dk_at dksX0_chain_0 23 rfl rfl)
theorem dX0_chain_24 : decode cX0_chain 24 = .ok (.ireturn, 1) := dk_172 (dk_at dksX0_chain_1 0 rfl rfl)
theorem dX0_chain_25 : decode cX0_chain 25 = .ok (.astore 6, 2) := dk_58 6 (dk_at dksX0_chain_1 1 rfl rfl)
theorem dX0_chain_27 : decode cX0_chain 27 = .ok (.iconst 3, 1) := dk_6 (dk_at dksX0_chain_1 3 rfl rfl)
theorem dX0_chain_28 : decode cX0_chain 28 = .ok (.ireturn, 1) := dk_172 (dk_at dksX0_chain_1 4 rfl rfl)
theorem dX0_chain_29 : decode cX0_chain 29 = .ok (.iconst 0, 1) := dk_3 (dk_at dksX0_chain_1 5 rfl rfl)
theorem dX0_chain_30 : decode cX0_chain 30 = .ok (.ireturn, 1) := dk_172 (dk_at dksX0_chain_1 6 rfl rfl)
abbrev cX0_ride : ByteArray := method_30_code
def yX0_ride : MethodName := ⟨RX0, "ride", "(LLastbus;IC[J)I"⟩
def dkwX0_ride_0 : List UInt8 := [45, 3, 42, 27, 28, 182, 0, 109, 133, 80, 167, 0, 11, 58, 4, 4, 172, 58, 4, 5, 172, 3, 172]
abbrev dktX0_ride_0 : List UInt8 := dkwX0_ride_0 ++ []
theorem dksX0_ride_0 : cX0_ride.data.toList.drop 0 = dktX0_ride_0 := by decide +kernel
theorem dX0_ride_0 : decode cX0_ride 0 = .ok (.aload_n 3, 1) := dk_45 (dk_at dksX0_ride_0 0 rfl rfl)
theorem dX0_ride_1 : decode cX0_ride 1 = .ok (.iconst 0, 1) := dk_3 (dk_at dksX0_ride_0 1 rfl rfl)
theorem dX0_ride_2 : decode cX0_ride 2 = .ok (.aload_n 0, 1) := dk_42 (dk_at dksX0_ride_0 2 rfl rfl)
theorem dX0_ride_3 : decode cX0_ride 3 = .ok (.iload_n 1, 1) := dk_27 (dk_at dksX0_ride_0 3 rfl rfl)
theorem dX0_ride_4 : decode cX0_ride 4 = .ok (.iload_n 2, 1) := dk_28 (dk_at dksX0_ride_0 4 rfl rfl)
theorem dX0_ride_5 : decode cX0_ride 5 = .ok (.invokevirtual 109, 3) := dk_182 0 109 (dk_at dksX0_ride_0 5 rfl rfl)
theorem dX0_ride_8 : decode cX0_ride 8 = .ok (.i2l, 1) := dk_133 (dk_at dksX0_ride_0 8 rfl rfl)
theorem dX0_ride_9 : decode cX0_ride 9 = .ok (.lastore, 1) := dk_80 (dk_at dksX0_ride_0 9 rfl rfl)
theorem dX0_ride_10 : decode cX0_ride 10 = .ok (.goto 11, 3) := dk_167 0 11 (dk_at dksX0_ride_0 10 rfl rfl)
theorem dX0_ride_13 : decode cX0_ride 13 = .ok (.astore 4, 2) := dk_58 4 (dk_at dksX0_ride_0 13 rfl rfl)
theorem dX0_ride_15 : decode cX0_ride 15 = .ok (.iconst 1, 1) := dk_4 (dk_at dksX0_ride_0 15 rfl rfl)
theorem dX0_ride_16 : decode cX0_ride 16 = .ok (.ireturn, 1) := dk_172 (dk_at dksX0_ride_0 16 rfl rfl)
theorem dX0_ride_17 : decode cX0_ride 17 = .ok (.astore 4, 2) := dk_58 4 (dk_at dksX0_ride_0 17 rfl rfl)
theorem dX0_ride_19 : decode cX0_ride 19 = .ok (.iconst 2, 1) := dk_5 (dk_at dksX0_ride_0 19 rfl rfl)
theorem dX0_ride_20 : decode cX0_ride 20 = .ok (.ireturn, 1) := dk_172 (dk_at dksX0_ride_0 20 rfl rfl)
theorem dX0_ride_21 : decode cX0_ride 21 = .ok (.iconst 0, 1) := dk_3 (dk_at dksX0_ride_0 21 rfl rfl)
theorem dX0_ride_22 : decode cX0_ride 22 = .ok (.ireturn, 1) := dk_172 (dk_at dksX0_ride_0 22 rfl rfl)
abbrev cX0_onBoard : ByteArray := method_31_code
def yX0_onBoard : MethodName := ⟨RX0, "onBoard", "(LLastbus;IIII[J)I"⟩
def dkwX0_onBoard_1 : List UInt8 := [172, 58, 6, 6, 172, 58, 6, 7, 172, 3, 172]
abbrev dktX0_onBoard_1 : List UInt8 := dkwX0_onBoard_1 ++ []
def dkwX0_onBoard_0 : List UInt8 := [25, 5, 3, 42, 27, 28, 29, 21, 4, 182, 0, 113, 133, 80, 167, 0, 19, 58, 6, 4, 172, 58, 6, 5]
abbrev dktX0_onBoard_0 : List UInt8 := dkwX0_onBoard_0 ++ dktX0_onBoard_1
theorem dksX0_onBoard_0 : cX0_onBoard.data.toList.drop 0 = dktX0_onBoard_0 := by decide +kernel
theorem dksX0_onBoard_1 : cX0_onBoard.data.toList.drop 24 = dktX0_onBoard_1 := dk_seg dksX0_onBoard_0 24 rfl rfl
theorem dX0_onBoard_0 : decode cX0_onBoard 0 = .ok (.aload 5, 2) := dk_25 5 (dk_at dksX0_onBoard_0 0 rfl rfl)
theorem dX0_onBoard_2 : decode cX0_onBoard 2 = .ok (.iconst 0, 1) := dk_3 (dk_at dksX0_onBoard_0 2 rfl rfl)
theorem dX0_onBoard_3 : decode cX0_onBoard 3 = .ok (.aload_n 0, 1) := dk_42 (dk_at dksX0_onBoard_0 3 rfl rfl)
theorem dX0_onBoard_4 : decode cX0_onBoard 4 = .ok (.iload_n 1, 1) := dk_27 (dk_at dksX0_onBoard_0 4 rfl rfl)
theorem dX0_onBoard_5 : decode cX0_onBoard 5 = .ok (.iload_n 2, 1) := dk_28 (dk_at dksX0_onBoard_0 5 rfl rfl)
theorem dX0_onBoard_6 : decode cX0_onBoard 6 = .ok (.iload_n 3, 1) := dk_29 (dk_at dksX0_onBoard_0 6 rfl rfl)
theorem dX0_onBoard_7 : decode cX0_onBoard 7 = .ok (.iload 4, 2) := dk_21 4 (dk_at dksX0_onBoard_0 7 rfl rfl)
theorem dX0_onBoard_9 : decode cX0_onBoard 9 = .ok (.invokevirtual 113, 3) := dk_182 0 113 (dk_at dksX0_onBoard_0 9 rfl rfl)
theorem dX0_onBoard_12 : decode cX0_onBoard 12 = .ok (.i2l, 1) := dk_133 (dk_at dksX0_onBoard_0 12 rfl rfl)
theorem dX0_onBoard_13 : decode cX0_onBoard 13 = .ok (.lastore, 1) := dk_80 (dk_at dksX0_onBoard_0 13 rfl rfl)
theorem dX0_onBoard_14 : decode cX0_onBoard 14 = .ok (.goto 19, 3) := dk_167 0 19 (dk_at dksX0_onBoard_0 14 rfl rfl)
theorem dX0_onBoard_17 : decode cX0_onBoard 17 = .ok (.astore 6, 2) := dk_58 6 (dk_at dksX0_onBoard_0 17 rfl rfl)
theorem dX0_onBoard_19 : decode cX0_onBoard 19 = .ok (.iconst 1, 1) := dk_4 (dk_at dksX0_onBoard_0 19 rfl rfl)
theorem dX0_onBoard_20 : decode cX0_onBoard 20 = .ok (.ireturn, 1) := dk_172 (dk_at dksX0_onBoard_0 20 rfl rfl)
theorem dX0_onBoard_21 : decode cX0_onBoard 21 = .ok (.astore 6, 2) := dk_58 6 (dk_at dksX0_onBoard_0 21 rfl rfl)
theorem dX0_onBoard_23 : decode cX0_onBoard 23 = .ok (.iconst 2, 1) := dk_5 (dk_at dksX0_onBoard_0 23 rfl rfl)
theorem dX0_onBoard_24 : decode cX0_onBoard 24 = .ok (.ireturn, 1) := dk_172 (dk_at dksX0_onBoard_1 0 rfl rfl)
theorem dX0_onBoard_25 : decode cX0_onBoard 25 = .ok (.astore 6, 2) := dk_58 6 (dk_at dksX0_onBoard_1 1 rfl rfl)
theorem dX0_onBoard_27 : decode cX0_onBoard 27 = .ok (.iconst 3, 1) := dk_6 (dk_at dksX0_onBoard_1 3 rfl rfl)
theorem dX0_onBoard_28 : decode cX0_onBoard 28 = .ok (.ireturn, 1) := dk_172 (dk_at dksX0_onBoard_1 4 rfl rfl)
theorem dX0_onBoard_29 : decode cX0_onBoard 29 = .ok (.astore 6, 2) := dk_58 6 (dk_at dksX0_onBoard_1 5 rfl rfl)
theorem dX0_onBoard_31 : decode cX0_onBoard 31 = .ok (.iconst 4, 1) := dk_7 (dk_at dksX0_onBoard_1 7 rfl rfl)
theorem dX0_onBoard_32 : decode cX0_onBoard 32 = .ok (.ireturn, 1) := dk_172 (dk_at dksX0_onBoard_1 8 rfl rfl)
theorem dX0_onBoard_33 : decode cX0_onBoard 33 = .ok (.iconst 0, 1) := dk_3 (dk_at dksX0_onBoard_1 9 rfl rfl)
theorem dX0_onBoard_34 : decode cX0_onBoard 34 = .ok (.ireturn, 1) := dk_172 (dk_at dksX0_onBoard_1 10 rfl rfl)
abbrev cX0_pairs : ByteArray := method_32_code
def yX0_pairs : MethodName := ⟨RX0, "pairs", "(LLastbus;III[J)I"⟩
def dkwX0_pairs_1 : List UInt8 := [172]
abbrev dktX0_pairs_1 : List UInt8 := dkwX0_pairs_1 ++ []
def dkwX0_pairs_0 : List UInt8 := [25, 4, 3, 42, 27, 28, 29, 182, 0, 116, 133, 80, 167, 0, 11, 58, 5, 4, 172, 58, 5, 5, 172, 3]
abbrev dktX0_pairs_0 : List UInt8 := dkwX0_pairs_0 ++ dktX0_pairs_1
theorem dksX0_pairs_0 : cX0_pairs.data.toList.drop 0 = dktX0_pairs_0 := by decide +kernel
theorem dksX0_pairs_1 : cX0_pairs.data.toList.drop 24 = dktX0_pairs_1 := dk_seg dksX0_pairs_0 24 rfl rfl
theorem dX0_pairs_0 : decode cX0_pairs 0 = .ok (.aload 4, 2) := dk_25 4 (dk_at dksX0_pairs_0 0 rfl rfl)
theorem dX0_pairs_2 : decode cX0_pairs 2 = .ok (.iconst 0, 1) := dk_3 (dk_at dksX0_pairs_0 2 rfl rfl)
theorem dX0_pairs_3 : decode cX0_pairs 3 = .ok (.aload_n 0, 1) := dk_42 (dk_at dksX0_pairs_0 3 rfl rfl)
theorem dX0_pairs_4 : decode cX0_pairs 4 = .ok (.iload_n 1, 1) := dk_27 (dk_at dksX0_pairs_0 4 rfl rfl)
theorem dX0_pairs_5 : decode cX0_pairs 5 = .ok (.iload_n 2, 1) := dk_28 (dk_at dksX0_pairs_0 5 rfl rfl)
theorem dX0_pairs_6 : decode cX0_pairs 6 = .ok (.iload_n 3, 1) := dk_29 (dk_at dksX0_pairs_0 6 rfl rfl)
theorem dX0_pairs_7 : decode cX0_pairs 7 = .ok (.invokevirtual 116, 3) := dk_182 0 116 (dk_at dksX0_pairs_0 7 rfl rfl)
theorem dX0_pairs_10 : decode cX0_pairs 10 = .ok (.i2l, 1) := dk_133 (dk_at dksX0_pairs_0 10 rfl rfl)
theorem dX0_pairs_11 : decode cX0_pairs 11 = .ok (.lastore, 1) := dk_80 (dk_at dksX0_pairs_0 11 rfl rfl)
theorem dX0_pairs_12 : decode cX0_pairs 12 = .ok (.goto 11, 3) := dk_167 0 11 (dk_at dksX0_pairs_0 12 rfl rfl)
theorem dX0_pairs_15 : decode cX0_pairs 15 = .ok (.astore 5, 2) := dk_58 5 (dk_at dksX0_pairs_0 15 rfl rfl)
theorem dX0_pairs_17 : decode cX0_pairs 17 = .ok (.iconst 1, 1) := dk_4 (dk_at dksX0_pairs_0 17 rfl rfl)
theorem dX0_pairs_18 : decode cX0_pairs 18 = .ok (.ireturn, 1) := dk_172 (dk_at dksX0_pairs_0 18 rfl rfl)
theorem dX0_pairs_19 : decode cX0_pairs 19 = .ok (.astore 5, 2) := dk_58 5 (dk_at dksX0_pairs_0 19 rfl rfl)
theorem dX0_pairs_21 : decode cX0_pairs 21 = .ok (.iconst 2, 1) := dk_5 (dk_at dksX0_pairs_0 21 rfl rfl)
theorem dX0_pairs_22 : decode cX0_pairs 22 = .ok (.ireturn, 1) := dk_172 (dk_at dksX0_pairs_0 22 rfl rfl)
theorem dX0_pairs_23 : decode cX0_pairs 23 = .ok (.iconst 0, 1) := dk_3 (dk_at dksX0_pairs_0 23 rfl rfl)
theorem dX0_pairs_24 : decode cX0_pairs 24 = .ok (.ireturn, 1) := dk_172 (dk_at dksX0_pairs_1 0 rfl rfl)
abbrev cX0_pair : ByteArray := method_33_code
def yX0_pair : MethodName := ⟨RX0, "pair", "(LLastbus;IIIIZ[J)I"⟩
def dkwX0_pair_1 : List UInt8 := [58, 7, 5, 172, 58, 7, 6, 172, 3, 172]
abbrev dktX0_pair_1 : List UInt8 := dkwX0_pair_1 ++ []
def dkwX0_pair_0 : List UInt8 := [25, 6, 3, 42, 27, 28, 29, 21, 4, 21, 5, 182, 0, 119, 133, 80, 167, 0, 15, 58, 7, 4, 172]
abbrev dktX0_pair_0 : List UInt8 := dkwX0_pair_0 ++ dktX0_pair_1
theorem dksX0_pair_0 : cX0_pair.data.toList.drop 0 = dktX0_pair_0 := by decide +kernel
theorem dksX0_pair_1 : cX0_pair.data.toList.drop 23 = dktX0_pair_1 := dk_seg dksX0_pair_0 23 rfl rfl
theorem dX0_pair_0 : decode cX0_pair 0 = .ok (.aload 6, 2) := dk_25 6 (dk_at dksX0_pair_0 0 rfl rfl)
theorem dX0_pair_2 : decode cX0_pair 2 = .ok (.iconst 0, 1) := dk_3 (dk_at dksX0_pair_0 2 rfl rfl)
theorem dX0_pair_3 : decode cX0_pair 3 = .ok (.aload_n 0, 1) := dk_42 (dk_at dksX0_pair_0 3 rfl rfl)
theorem dX0_pair_4 : decode cX0_pair 4 = .ok (.iload_n 1, 1) := dk_27 (dk_at dksX0_pair_0 4 rfl rfl)
theorem dX0_pair_5 : decode cX0_pair 5 = .ok (.iload_n 2, 1) := dk_28 (dk_at dksX0_pair_0 5 rfl rfl)
theorem dX0_pair_6 : decode cX0_pair 6 = .ok (.iload_n 3, 1) := dk_29 (dk_at dksX0_pair_0 6 rfl rfl)
theorem dX0_pair_7 : decode cX0_pair 7 = .ok (.iload 4, 2) := dk_21 4 (dk_at dksX0_pair_0 7 rfl rfl)
theorem dX0_pair_9 : decode cX0_pair 9 = .ok (.iload 5, 2) := dk_21 5 (dk_at dksX0_pair_0 9 rfl rfl)
theorem dX0_pair_11 : decode cX0_pair 11 = .ok (.invokevirtual 119, 3) := dk_182 0 119 (dk_at dksX0_pair_0 11 rfl rfl)
theorem dX0_pair_14 : decode cX0_pair 14 = .ok (.i2l, 1) := dk_133 (dk_at dksX0_pair_0 14 rfl rfl)
theorem dX0_pair_15 : decode cX0_pair 15 = .ok (.lastore, 1) := dk_80 (dk_at dksX0_pair_0 15 rfl rfl)
theorem dX0_pair_16 : decode cX0_pair 16 = .ok (.goto 15, 3) := dk_167 0 15 (dk_at dksX0_pair_0 16 rfl rfl)
theorem dX0_pair_19 : decode cX0_pair 19 = .ok (.astore 7, 2) := dk_58 7 (dk_at dksX0_pair_0 19 rfl rfl)
theorem dX0_pair_21 : decode cX0_pair 21 = .ok (.iconst 1, 1) := dk_4 (dk_at dksX0_pair_0 21 rfl rfl)
theorem dX0_pair_22 : decode cX0_pair 22 = .ok (.ireturn, 1) := dk_172 (dk_at dksX0_pair_0 22 rfl rfl)
theorem dX0_pair_23 : decode cX0_pair 23 = .ok (.astore 7, 2) := dk_58 7 (dk_at dksX0_pair_1 0 rfl rfl)
theorem dX0_pair_25 : decode cX0_pair 25 = .ok (.iconst 2, 1) := dk_5 (dk_at dksX0_pair_1 2 rfl rfl)
theorem dX0_pair_26 : decode cX0_pair 26 = .ok (.ireturn, 1) := dk_172 (dk_at dksX0_pair_1 3 rfl rfl)
theorem dX0_pair_27 : decode cX0_pair 27 = .ok (.astore 7, 2) := dk_58 7 (dk_at dksX0_pair_1 4 rfl rfl)
theorem dX0_pair_29 : decode cX0_pair 29 = .ok (.iconst 3, 1) := dk_6 (dk_at dksX0_pair_1 6 rfl rfl)
theorem dX0_pair_30 : decode cX0_pair 30 = .ok (.ireturn, 1) := dk_172 (dk_at dksX0_pair_1 7 rfl rfl)
theorem dX0_pair_31 : decode cX0_pair 31 = .ok (.iconst 0, 1) := dk_3 (dk_at dksX0_pair_1 8 rfl rfl)
theorem dX0_pair_32 : decode cX0_pair 32 = .ok (.ireturn, 1) := dk_172 (dk_at dksX0_pair_1 9 rfl rfl)
abbrev cX0_byPairs : ByteArray := method_34_code
def yX0_byPairs : MethodName := ⟨RX0, "byPairs", "(LLastbus;IIII[J)I"⟩
def dkwX0_byPairs_1 : List UInt8 := [172, 58, 6, 6, 172, 3, 172]
abbrev dktX0_byPairs_1 : List UInt8 := dkwX0_byPairs_1 ++ []
def dkwX0_byPairs_0 : List UInt8 := [25, 5, 3, 42, 27, 28, 29, 21, 4, 182, 0, 123, 133, 80, 167, 0, 15, 58, 6, 4, 172, 58, 6, 5]
abbrev dktX0_byPairs_0 : List UInt8 := dkwX0_byPairs_0 ++ dktX0_byPairs_1
theorem dksX0_byPairs_0 : cX0_byPairs.data.toList.drop 0 = dktX0_byPairs_0 := by decide +kernel
theorem dksX0_byPairs_1 : cX0_byPairs.data.toList.drop 24 = dktX0_byPairs_1 := dk_seg dksX0_byPairs_0 24 rfl rfl
theorem dX0_byPairs_0 : decode cX0_byPairs 0 = .ok (.aload 5, 2) := dk_25 5 (dk_at dksX0_byPairs_0 0 rfl rfl)
theorem dX0_byPairs_2 : decode cX0_byPairs 2 = .ok (.iconst 0, 1) := dk_3 (dk_at dksX0_byPairs_0 2 rfl rfl)
theorem dX0_byPairs_3 : decode cX0_byPairs 3 = .ok (.aload_n 0, 1) := dk_42 (dk_at dksX0_byPairs_0 3 rfl rfl)
theorem dX0_byPairs_4 : decode cX0_byPairs 4 = .ok (.iload_n 1, 1) := dk_27 (dk_at dksX0_byPairs_0 4 rfl rfl)
theorem dX0_byPairs_5 : decode cX0_byPairs 5 = .ok (.iload_n 2, 1) := dk_28 (dk_at dksX0_byPairs_0 5 rfl rfl)
theorem dX0_byPairs_6 : decode cX0_byPairs 6 = .ok (.iload_n 3, 1) := dk_29 (dk_at dksX0_byPairs_0 6 rfl rfl)
theorem dX0_byPairs_7 : decode cX0_byPairs 7 = .ok (.iload 4, 2) := dk_21 4 (dk_at dksX0_byPairs_0 7 rfl rfl)
theorem dX0_byPairs_9 : decode cX0_byPairs 9 = .ok (.invokevirtual 123, 3) := dk_182 0 123 (dk_at dksX0_byPairs_0 9 rfl rfl)
theorem dX0_byPairs_12 : decode cX0_byPairs 12 = .ok (.i2l, 1) := dk_133 (dk_at dksX0_byPairs_0 12 rfl rfl)
theorem dX0_byPairs_13 : decode cX0_byPairs 13 = .ok (.lastore, 1) := dk_80 (dk_at dksX0_byPairs_0 13 rfl rfl)
theorem dX0_byPairs_14 : decode cX0_byPairs 14 = .ok (.goto 15, 3) := dk_167 0 15 (dk_at dksX0_byPairs_0 14 rfl rfl)
theorem dX0_byPairs_17 : decode cX0_byPairs 17 = .ok (.astore 6, 2) := dk_58 6 (dk_at dksX0_byPairs_0 17 rfl rfl)
theorem dX0_byPairs_19 : decode cX0_byPairs 19 = .ok (.iconst 1, 1) := dk_4 (dk_at dksX0_byPairs_0 19 rfl rfl)
theorem dX0_byPairs_20 : decode cX0_byPairs 20 = .ok (.ireturn, 1) := dk_172 (dk_at dksX0_byPairs_0 20 rfl rfl)
theorem dX0_byPairs_21 : decode cX0_byPairs 21 = .ok (.astore 6, 2) := dk_58 6 (dk_at dksX0_byPairs_0 21 rfl rfl)
theorem dX0_byPairs_23 : decode cX0_byPairs 23 = .ok (.iconst 2, 1) := dk_5 (dk_at dksX0_byPairs_0 23 rfl rfl)
theorem dX0_byPairs_24 : decode cX0_byPairs 24 = .ok (.ireturn, 1) := dk_172 (dk_at dksX0_byPairs_1 0 rfl rfl)
theorem dX0_byPairs_25 : decode cX0_byPairs 25 = .ok (.astore 6, 2) := dk_58 6 (dk_at dksX0_byPairs_1 1 rfl rfl)
theorem dX0_byPairs_27 : decode cX0_byPairs 27 = .ok (.iconst 3, 1) := dk_6 (dk_at dksX0_byPairs_1 3 rfl rfl)
theorem dX0_byPairs_28 : decode cX0_byPairs 28 = .ok (.ireturn, 1) := dk_172 (dk_at dksX0_byPairs_1 4 rfl rfl)
theorem dX0_byPairs_29 : decode cX0_byPairs 29 = .ok (.iconst 0, 1) := dk_3 (dk_at dksX0_byPairs_1 5 rfl rfl)
theorem dX0_byPairs_30 : decode cX0_byPairs 30 = .ok (.ireturn, 1) := dk_172 (dk_at dksX0_byPairs_1 6 rfl rfl)
abbrev cX0_choices : ByteArray := method_35_code
def yX0_choices : MethodName := ⟨RX0, "choices", "(LLastbus;IIII[J)I"⟩
def dkwX0_choices_1 : List UInt8 := [172, 3, 172]
abbrev dktX0_choices_1 : List UInt8 := dkwX0_choices_1 ++ []
def dkwX0_choices_0 : List UInt8 := [25, 5, 3, 42, 27, 28, 29, 21, 4, 182, 0, 126, 133, 80, 167, 0, 11, 58, 6, 4, 172, 58, 6, 5]
abbrev dktX0_choices_0 : List UInt8 := dkwX0_choices_0 ++ dktX0_choices_1
theorem dksX0_choices_0 : cX0_choices.data.toList.drop 0 = dktX0_choices_0 := by decide +kernel
theorem dksX0_choices_1 : cX0_choices.data.toList.drop 24 = dktX0_choices_1 := dk_seg dksX0_choices_0 24 rfl rfl
theorem dX0_choices_0 : decode cX0_choices 0 = .ok (.aload 5, 2) := dk_25 5 (dk_at dksX0_choices_0 0 rfl rfl)
theorem dX0_choices_2 : decode cX0_choices 2 = .ok (.iconst 0, 1) := dk_3 (dk_at dksX0_choices_0 2 rfl rfl)
theorem dX0_choices_3 : decode cX0_choices 3 = .ok (.aload_n 0, 1) := dk_42 (dk_at dksX0_choices_0 3 rfl rfl)
theorem dX0_choices_4 : decode cX0_choices 4 = .ok (.iload_n 1, 1) := dk_27 (dk_at dksX0_choices_0 4 rfl rfl)
theorem dX0_choices_5 : decode cX0_choices 5 = .ok (.iload_n 2, 1) := dk_28 (dk_at dksX0_choices_0 5 rfl rfl)
theorem dX0_choices_6 : decode cX0_choices 6 = .ok (.iload_n 3, 1) := dk_29 (dk_at dksX0_choices_0 6 rfl rfl)
theorem dX0_choices_7 : decode cX0_choices 7 = .ok (.iload 4, 2) := dk_21 4 (dk_at dksX0_choices_0 7 rfl rfl)
theorem dX0_choices_9 : decode cX0_choices 9 = .ok (.invokevirtual 126, 3) := dk_182 0 126 (dk_at dksX0_choices_0 9 rfl rfl)
theorem dX0_choices_12 : decode cX0_choices 12 = .ok (.i2l, 1) := dk_133 (dk_at dksX0_choices_0 12 rfl rfl)
theorem dX0_choices_13 : decode cX0_choices 13 = .ok (.lastore, 1) := dk_80 (dk_at dksX0_choices_0 13 rfl rfl)
theorem dX0_choices_14 : decode cX0_choices 14 = .ok (.goto 11, 3) := dk_167 0 11 (dk_at dksX0_choices_0 14 rfl rfl)
theorem dX0_choices_17 : decode cX0_choices 17 = .ok (.astore 6, 2) := dk_58 6 (dk_at dksX0_choices_0 17 rfl rfl)
theorem dX0_choices_19 : decode cX0_choices 19 = .ok (.iconst 1, 1) := dk_4 (dk_at dksX0_choices_0 19 rfl rfl)
theorem dX0_choices_20 : decode cX0_choices 20 = .ok (.ireturn, 1) := dk_172 (dk_at dksX0_choices_0 20 rfl rfl)
theorem dX0_choices_21 : decode cX0_choices 21 = .ok (.astore 6, 2) := dk_58 6 (dk_at dksX0_choices_0 21 rfl rfl)
theorem dX0_choices_23 : decode cX0_choices 23 = .ok (.iconst 2, 1) := dk_5 (dk_at dksX0_choices_0 23 rfl rfl)
theorem dX0_choices_24 : decode cX0_choices 24 = .ok (.ireturn, 1) := dk_172 (dk_at dksX0_choices_1 0 rfl rfl)
theorem dX0_choices_25 : decode cX0_choices 25 = .ok (.iconst 0, 1) := dk_3 (dk_at dksX0_choices_1 1 rfl rfl)
theorem dX0_choices_26 : decode cX0_choices 26 = .ok (.ireturn, 1) := dk_172 (dk_at dksX0_choices_1 2 rfl rfl)
abbrev cX0_choice : ByteArray := method_36_code
def yX0_choice : MethodName := ⟨RX0, "choice", "(LLastbus;IIIII[J)I"⟩
def dkwX0_choice_1 : List UInt8 := [58, 7, 5, 172, 58, 7, 6, 172, 3, 172]
abbrev dktX0_choice_1 : List UInt8 := dkwX0_choice_1 ++ []
def dkwX0_choice_0 : List UInt8 := [25, 6, 3, 42, 27, 28, 29, 21, 4, 21, 5, 182, 0, 129, 133, 80, 167, 0, 15, 58, 7, 4, 172]
abbrev dktX0_choice_0 : List UInt8 := dkwX0_choice_0 ++ dktX0_choice_1
theorem dksX0_choice_0 : cX0_choice.data.toList.drop 0 = dktX0_choice_0 := by decide +kernel
theorem dksX0_choice_1 : cX0_choice.data.toList.drop 23 = dktX0_choice_1 := dk_seg dksX0_choice_0 23 rfl rfl
theorem dX0_choice_0 : decode cX0_choice 0 = .ok (.aload 6, 2) := dk_25 6 (dk_at dksX0_choice_0 0 rfl rfl)
theorem dX0_choice_2 : decode cX0_choice 2 = .ok (.iconst 0, 1) := dk_3 (dk_at dksX0_choice_0 2 rfl rfl)
theorem dX0_choice_3 : decode cX0_choice 3 = .ok (.aload_n 0, 1) := dk_42 (dk_at dksX0_choice_0 3 rfl rfl)
theorem dX0_choice_4 : decode cX0_choice 4 = .ok (.iload_n 1, 1) := dk_27 (dk_at dksX0_choice_0 4 rfl rfl)
theorem dX0_choice_5 : decode cX0_choice 5 = .ok (.iload_n 2, 1) := dk_28 (dk_at dksX0_choice_0 5 rfl rfl)
theorem dX0_choice_6 : decode cX0_choice 6 = .ok (.iload_n 3, 1) := dk_29 (dk_at dksX0_choice_0 6 rfl rfl)
theorem dX0_choice_7 : decode cX0_choice 7 = .ok (.iload 4, 2) := dk_21 4 (dk_at dksX0_choice_0 7 rfl rfl)
theorem dX0_choice_9 : decode cX0_choice 9 = .ok (.iload 5, 2) := dk_21 5 (dk_at dksX0_choice_0 9 rfl rfl)
theorem dX0_choice_11 : decode cX0_choice 11 = .ok (.invokevirtual 129, 3) := dk_182 0 129 (dk_at dksX0_choice_0 11 rfl rfl)
theorem dX0_choice_14 : decode cX0_choice 14 = .ok (.i2l, 1) := dk_133 (dk_at dksX0_choice_0 14 rfl rfl)
theorem dX0_choice_15 : decode cX0_choice 15 = .ok (.lastore, 1) := dk_80 (dk_at dksX0_choice_0 15 rfl rfl)
theorem dX0_choice_16 : decode cX0_choice 16 = .ok (.goto 15, 3) := dk_167 0 15 (dk_at dksX0_choice_0 16 rfl rfl)
theorem dX0_choice_19 : decode cX0_choice 19 = .ok (.astore 7, 2) := dk_58 7 (dk_at dksX0_choice_0 19 rfl rfl)
theorem dX0_choice_21 : decode cX0_choice 21 = .ok (.iconst 1, 1) := dk_4 (dk_at dksX0_choice_0 21 rfl rfl)
theorem dX0_choice_22 : decode cX0_choice 22 = .ok (.ireturn, 1) := dk_172 (dk_at dksX0_choice_0 22 rfl rfl)
theorem dX0_choice_23 : decode cX0_choice 23 = .ok (.astore 7, 2) := dk_58 7 (dk_at dksX0_choice_1 0 rfl rfl)
theorem dX0_choice_25 : decode cX0_choice 25 = .ok (.iconst 2, 1) := dk_5 (dk_at dksX0_choice_1 2 rfl rfl)
theorem dX0_choice_26 : decode cX0_choice 26 = .ok (.ireturn, 1) := dk_172 (dk_at dksX0_choice_1 3 rfl rfl)
theorem dX0_choice_27 : decode cX0_choice 27 = .ok (.astore 7, 2) := dk_58 7 (dk_at dksX0_choice_1 4 rfl rfl)
theorem dX0_choice_29 : decode cX0_choice 29 = .ok (.iconst 3, 1) := dk_6 (dk_at dksX0_choice_1 6 rfl rfl)
theorem dX0_choice_30 : decode cX0_choice 30 = .ok (.ireturn, 1) := dk_172 (dk_at dksX0_choice_1 7 rfl rfl)
theorem dX0_choice_31 : decode cX0_choice 31 = .ok (.iconst 0, 1) := dk_3 (dk_at dksX0_choice_1 8 rfl rfl)
theorem dX0_choice_32 : decode cX0_choice 32 = .ok (.ireturn, 1) := dk_172 (dk_at dksX0_choice_1 9 rfl rfl)
abbrev cX0_holds : ByteArray := method_37_code
def yX0_holds : MethodName := ⟨RX0, "holds", "(LLastbus;IIIII[J)I"⟩
def dkwX0_holds_1 : List UInt8 := [167, 0, 19, 58, 7, 4, 172, 58, 7, 5, 172, 58, 7, 6, 172, 58, 7, 7, 172, 3, 172]
abbrev dktX0_holds_1 : List UInt8 := dkwX0_holds_1 ++ []
def dkwX0_holds_0 : List UInt8 := [25, 6, 3, 42, 27, 28, 29, 21, 4, 21, 5, 182, 0, 133, 153, 0, 7, 10, 167, 0, 4, 9, 80]
abbrev dktX0_holds_0 : List UInt8 := dkwX0_holds_0 ++ dktX0_holds_1
theorem dksX0_holds_0 : cX0_holds.data.toList.drop 0 = dktX0_holds_0 := by decide +kernel
theorem dksX0_holds_1 : cX0_holds.data.toList.drop 23 = dktX0_holds_1 := dk_seg dksX0_holds_0 23 rfl rfl
theorem dX0_holds_0 : decode cX0_holds 0 = .ok (.aload 6, 2) := dk_25 6 (dk_at dksX0_holds_0 0 rfl rfl)
theorem dX0_holds_2 : decode cX0_holds 2 = .ok (.iconst 0, 1) := dk_3 (dk_at dksX0_holds_0 2 rfl rfl)
theorem dX0_holds_3 : decode cX0_holds 3 = .ok (.aload_n 0, 1) := dk_42 (dk_at dksX0_holds_0 3 rfl rfl)
theorem dX0_holds_4 : decode cX0_holds 4 = .ok (.iload_n 1, 1) := dk_27 (dk_at dksX0_holds_0 4 rfl rfl)
theorem dX0_holds_5 : decode cX0_holds 5 = .ok (.iload_n 2, 1) := dk_28 (dk_at dksX0_holds_0 5 rfl rfl)
theorem dX0_holds_6 : decode cX0_holds 6 = .ok (.iload_n 3, 1) := dk_29 (dk_at dksX0_holds_0 6 rfl rfl)
theorem dX0_holds_7 : decode cX0_holds 7 = .ok (.iload 4, 2) := dk_21 4 (dk_at dksX0_holds_0 7 rfl rfl)
theorem dX0_holds_9 : decode cX0_holds 9 = .ok (.iload 5, 2) := dk_21 5 (dk_at dksX0_holds_0 9 rfl rfl)
theorem dX0_holds_11 : decode cX0_holds 11 = .ok (.invokevirtual 133, 3) := dk_182 0 133 (dk_at dksX0_holds_0 11 rfl rfl)
theorem dX0_holds_14 : decode cX0_holds 14 = .ok (.ifCond .eq 7, 3) := dk_153 0 7 (dk_at dksX0_holds_0 14 rfl rfl)
theorem dX0_holds_17 : decode cX0_holds 17 = .ok (.lconst 1, 1) := dk_10 (dk_at dksX0_holds_0 17 rfl rfl)
theorem dX0_holds_18 : decode cX0_holds 18 = .ok (.goto 4, 3) := dk_167 0 4 (dk_at dksX0_holds_0 18 rfl rfl)
theorem dX0_holds_21 : decode cX0_holds 21 = .ok (.lconst 0, 1) := dk_9 (dk_at dksX0_holds_0 21 rfl rfl)
theorem dX0_holds_22 : decode cX0_holds 22 = .ok (.lastore, 1) := dk_80 (dk_at dksX0_holds_0 22 rfl rfl)
theorem dX0_holds_23 : decode cX0_holds 23 = .ok (.goto 19, 3) := dk_167 0 19 (dk_at dksX0_holds_1 0 rfl rfl)
theorem dX0_holds_26 : decode cX0_holds 26 = .ok (.astore 7, 2) := dk_58 7 (dk_at dksX0_holds_1 3 rfl rfl)
theorem dX0_holds_28 : decode cX0_holds 28 = .ok (.iconst 1, 1) := dk_4 (dk_at dksX0_holds_1 5 rfl rfl)
theorem dX0_holds_29 : decode cX0_holds 29 = .ok (.ireturn, 1) := dk_172 (dk_at dksX0_holds_1 6 rfl rfl)
theorem dX0_holds_30 : decode cX0_holds 30 = .ok (.astore 7, 2) := dk_58 7 (dk_at dksX0_holds_1 7 rfl rfl)
theorem dX0_holds_32 : decode cX0_holds 32 = .ok (.iconst 2, 1) := dk_5 (dk_at dksX0_holds_1 9 rfl rfl)
theorem dX0_holds_33 : decode cX0_holds 33 = .ok (.ireturn, 1) := dk_172 (dk_at dksX0_holds_1 10 rfl rfl)
theorem dX0_holds_34 : decode cX0_holds 34 = .ok (.astore 7, 2) := dk_58 7 (dk_at dksX0_holds_1 11 rfl rfl)
theorem dX0_holds_36 : decode cX0_holds 36 = .ok (.iconst 3, 1) := dk_6 (dk_at dksX0_holds_1 13 rfl rfl)
theorem dX0_holds_37 : decode cX0_holds 37 = .ok (.ireturn, 1) := dk_172 (dk_at dksX0_holds_1 14 rfl rfl)
theorem dX0_holds_38 : decode cX0_holds 38 = .ok (.astore 7, 2) := dk_58 7 (dk_at dksX0_holds_1 15 rfl rfl)
theorem dX0_holds_40 : decode cX0_holds 40 = .ok (.iconst 4, 1) := dk_7 (dk_at dksX0_holds_1 17 rfl rfl)
theorem dX0_holds_41 : decode cX0_holds 41 = .ok (.ireturn, 1) := dk_172 (dk_at dksX0_holds_1 18 rfl rfl)
theorem dX0_holds_42 : decode cX0_holds 42 = .ok (.iconst 0, 1) := dk_3 (dk_at dksX0_holds_1 19 rfl rfl)
theorem dX0_holds_43 : decode cX0_holds 43 = .ok (.ireturn, 1) := dk_172 (dk_at dksX0_holds_1 20 rfl rfl)
abbrev cX0_wish : ByteArray := method_38_code
def yX0_wish : MethodName := ⟨RX0, "wish", "(LLastbus;IIIII[J)I"⟩
def dkwX0_wish_1 : List UInt8 := [58, 7, 5, 172, 58, 7, 6, 172, 58, 7, 7, 172, 3, 172]
abbrev dktX0_wish_1 : List UInt8 := dkwX0_wish_1 ++ []
def dkwX0_wish_0 : List UInt8 := [25, 6, 3, 42, 27, 28, 29, 21, 4, 21, 5, 182, 0, 137, 133, 80, 167, 0, 19, 58, 7, 4, 172]
abbrev dktX0_wish_0 : List UInt8 := dkwX0_wish_0 ++ dktX0_wish_1
theorem dksX0_wish_0 : cX0_wish.data.toList.drop 0 = dktX0_wish_0 := by decide +kernel
theorem dksX0_wish_1 : cX0_wish.data.toList.drop 23 = dktX0_wish_1 := dk_seg dksX0_wish_0 23 rfl rfl
theorem dX0_wish_0 : decode cX0_wish 0 = .ok (.aload 6, 2) := dk_25 6 (dk_at dksX0_wish_0 0 rfl rfl)
theorem dX0_wish_2 : decode cX0_wish 2 = .ok (.iconst 0, 1) := dk_3 (dk_at dksX0_wish_0 2 rfl rfl)
theorem dX0_wish_3 : decode cX0_wish 3 = .ok (.aload_n 0, 1) := dk_42 (dk_at dksX0_wish_0 3 rfl rfl)
theorem dX0_wish_4 : decode cX0_wish 4 = .ok (.iload_n 1, 1) := dk_27 (dk_at dksX0_wish_0 4 rfl rfl)
theorem dX0_wish_5 : decode cX0_wish 5 = .ok (.iload_n 2, 1) := dk_28 (dk_at dksX0_wish_0 5 rfl rfl)
theorem dX0_wish_6 : decode cX0_wish 6 = .ok (.iload_n 3, 1) := dk_29 (dk_at dksX0_wish_0 6 rfl rfl)
theorem dX0_wish_7 : decode cX0_wish 7 = .ok (.iload 4, 2) := dk_21 4 (dk_at dksX0_wish_0 7 rfl rfl)
theorem dX0_wish_9 : decode cX0_wish 9 = .ok (.iload 5, 2) := dk_21 5 (dk_at dksX0_wish_0 9 rfl rfl)
theorem dX0_wish_11 : decode cX0_wish 11 = .ok (.invokevirtual 137, 3) := dk_182 0 137 (dk_at dksX0_wish_0 11 rfl rfl)
theorem dX0_wish_14 : decode cX0_wish 14 = .ok (.i2l, 1) := dk_133 (dk_at dksX0_wish_0 14 rfl rfl)
theorem dX0_wish_15 : decode cX0_wish 15 = .ok (.lastore, 1) := dk_80 (dk_at dksX0_wish_0 15 rfl rfl)
theorem dX0_wish_16 : decode cX0_wish 16 = .ok (.goto 19, 3) := dk_167 0 19 (dk_at dksX0_wish_0 16 rfl rfl)
theorem dX0_wish_19 : decode cX0_wish 19 = .ok (.astore 7, 2) := dk_58 7 (dk_at dksX0_wish_0 19 rfl rfl)
theorem dX0_wish_21 : decode cX0_wish 21 = .ok (.iconst 1, 1) := dk_4 (dk_at dksX0_wish_0 21 rfl rfl)
theorem dX0_wish_22 : decode cX0_wish 22 = .ok (.ireturn, 1) := dk_172 (dk_at dksX0_wish_0 22 rfl rfl)
theorem dX0_wish_23 : decode cX0_wish 23 = .ok (.astore 7, 2) := dk_58 7 (dk_at dksX0_wish_1 0 rfl rfl)
theorem dX0_wish_25 : decode cX0_wish 25 = .ok (.iconst 2, 1) := dk_5 (dk_at dksX0_wish_1 2 rfl rfl)
theorem dX0_wish_26 : decode cX0_wish 26 = .ok (.ireturn, 1) := dk_172 (dk_at dksX0_wish_1 3 rfl rfl)
theorem dX0_wish_27 : decode cX0_wish 27 = .ok (.astore 7, 2) := dk_58 7 (dk_at dksX0_wish_1 4 rfl rfl)
theorem dX0_wish_29 : decode cX0_wish 29 = .ok (.iconst 3, 1) := dk_6 (dk_at dksX0_wish_1 6 rfl rfl)
theorem dX0_wish_30 : decode cX0_wish 30 = .ok (.ireturn, 1) := dk_172 (dk_at dksX0_wish_1 7 rfl rfl)
theorem dX0_wish_31 : decode cX0_wish 31 = .ok (.astore 7, 2) := dk_58 7 (dk_at dksX0_wish_1 8 rfl rfl)
theorem dX0_wish_33 : decode cX0_wish 33 = .ok (.iconst 4, 1) := dk_7 (dk_at dksX0_wish_1 10 rfl rfl)
theorem dX0_wish_34 : decode cX0_wish 34 = .ok (.ireturn, 1) := dk_172 (dk_at dksX0_wish_1 11 rfl rfl)
theorem dX0_wish_35 : decode cX0_wish 35 = .ok (.iconst 0, 1) := dk_3 (dk_at dksX0_wish_1 12 rfl rfl)
theorem dX0_wish_36 : decode cX0_wish 36 = .ok (.ireturn, 1) := dk_172 (dk_at dksX0_wish_1 13 rfl rfl)
abbrev cX0_waitCost : ByteArray := method_39_code
def yX0_waitCost : MethodName := ⟨RX0, "waitCost", "(LLastbus;II[J)I"⟩
def dkwX0_waitCost_0 : List UInt8 := [45, 3, 42, 27, 28, 182, 0, 140, 133, 80, 167, 0, 11, 58, 4, 4, 172, 58, 4, 5, 172, 3, 172]
abbrev dktX0_waitCost_0 : List UInt8 := dkwX0_waitCost_0 ++ []
theorem dksX0_waitCost_0 : cX0_waitCost.data.toList.drop 0 = dktX0_waitCost_0 := by decide +kernel
theorem dX0_waitCost_0 : decode cX0_waitCost 0 = .ok (.aload_n 3, 1) := dk_45 (dk_at dksX0_waitCost_0 0 rfl rfl)
theorem dX0_waitCost_1 : decode cX0_waitCost 1 = .ok (.iconst 0, 1) := dk_3 (dk_at dksX0_waitCost_0 1 rfl rfl)
theorem dX0_waitCost_2 : decode cX0_waitCost 2 = .ok (.aload_n 0, 1) := dk_42 (dk_at dksX0_waitCost_0 2 rfl rfl)
theorem dX0_waitCost_3 : decode cX0_waitCost 3 = .ok (.iload_n 1, 1) := dk_27 (dk_at dksX0_waitCost_0 3 rfl rfl)
theorem dX0_waitCost_4 : decode cX0_waitCost 4 = .ok (.iload_n 2, 1) := dk_28 (dk_at dksX0_waitCost_0 4 rfl rfl)
theorem dX0_waitCost_5 : decode cX0_waitCost 5 = .ok (.invokevirtual 140, 3) := dk_182 0 140 (dk_at dksX0_waitCost_0 5 rfl rfl)
theorem dX0_waitCost_8 : decode cX0_waitCost 8 = .ok (.i2l, 1) := dk_133 (dk_at dksX0_waitCost_0 8 rfl rfl)
theorem dX0_waitCost_9 : decode cX0_waitCost 9 = .ok (.lastore, 1) := dk_80 (dk_at dksX0_waitCost_0 9 rfl rfl)
theorem dX0_waitCost_10 : decode cX0_waitCost 10 = .ok (.goto 11, 3) := dk_167 0 11 (dk_at dksX0_waitCost_0 10 rfl rfl)
theorem dX0_waitCost_13 : decode cX0_waitCost 13 = .ok (.astore 4, 2) := dk_58 4 (dk_at dksX0_waitCost_0 13 rfl rfl)
theorem dX0_waitCost_15 : decode cX0_waitCost 15 = .ok (.iconst 1, 1) := dk_4 (dk_at dksX0_waitCost_0 15 rfl rfl)
theorem dX0_waitCost_16 : decode cX0_waitCost 16 = .ok (.ireturn, 1) := dk_172 (dk_at dksX0_waitCost_0 16 rfl rfl)
theorem dX0_waitCost_17 : decode cX0_waitCost 17 = .ok (.astore 4, 2) := dk_58 4 (dk_at dksX0_waitCost_0 17 rfl rfl)
theorem dX0_waitCost_19 : decode cX0_waitCost 19 = .ok (.iconst 2, 1) := dk_5 (dk_at dksX0_waitCost_0 19 rfl rfl)
theorem dX0_waitCost_20 : decode cX0_waitCost 20 = .ok (.ireturn, 1) := dk_172 (dk_at dksX0_waitCost_0 20 rfl rfl)
theorem dX0_waitCost_21 : decode cX0_waitCost 21 = .ok (.iconst 0, 1) := dk_3 (dk_at dksX0_waitCost_0 21 rfl rfl)
theorem dX0_waitCost_22 : decode cX0_waitCost 22 = .ok (.ireturn, 1) := dk_172 (dk_at dksX0_waitCost_0 22 rfl rfl)
abbrev cX0_bestWaits : ByteArray := method_40_code
def yX0_bestWaits : MethodName := ⟨RX0, "bestWaits", "(LLastbus;I[J)I"⟩
def dkwX0_bestWaits_0 : List UInt8 := [44, 3, 42, 27, 182, 0, 143, 133, 80, 167, 0, 6, 78, 4, 172, 3, 172]
abbrev dktX0_bestWaits_0 : List UInt8 := dkwX0_bestWaits_0 ++ []
theorem dksX0_bestWaits_0 : cX0_bestWaits.data.toList.drop 0 = dktX0_bestWaits_0 := by decide +kernel
theorem dX0_bestWaits_0 : decode cX0_bestWaits 0 = .ok (.aload_n 2, 1) := dk_44 (dk_at dksX0_bestWaits_0 0 rfl rfl)
theorem dX0_bestWaits_1 : decode cX0_bestWaits 1 = .ok (.iconst 0, 1) := dk_3 (dk_at dksX0_bestWaits_0 1 rfl rfl)
theorem dX0_bestWaits_2 : decode cX0_bestWaits 2 = .ok (.aload_n 0, 1) := dk_42 (dk_at dksX0_bestWaits_0 2 rfl rfl)
theorem dX0_bestWaits_3 : decode cX0_bestWaits 3 = .ok (.iload_n 1, 1) := dk_27 (dk_at dksX0_bestWaits_0 3 rfl rfl)
theorem dX0_bestWaits_4 : decode cX0_bestWaits 4 = .ok (.invokevirtual 143, 3) := dk_182 0 143 (dk_at dksX0_bestWaits_0 4 rfl rfl)
theorem dX0_bestWaits_7 : decode cX0_bestWaits 7 = .ok (.i2l, 1) := dk_133 (dk_at dksX0_bestWaits_0 7 rfl rfl)
theorem dX0_bestWaits_8 : decode cX0_bestWaits 8 = .ok (.lastore, 1) := dk_80 (dk_at dksX0_bestWaits_0 8 rfl rfl)
theorem dX0_bestWaits_9 : decode cX0_bestWaits 9 = .ok (.goto 6, 3) := dk_167 0 6 (dk_at dksX0_bestWaits_0 9 rfl rfl)
theorem dX0_bestWaits_12 : decode cX0_bestWaits 12 = .ok (.astore_n 3, 1) := dk_78 (dk_at dksX0_bestWaits_0 12 rfl rfl)
theorem dX0_bestWaits_13 : decode cX0_bestWaits 13 = .ok (.iconst 1, 1) := dk_4 (dk_at dksX0_bestWaits_0 13 rfl rfl)
theorem dX0_bestWaits_14 : decode cX0_bestWaits 14 = .ok (.ireturn, 1) := dk_172 (dk_at dksX0_bestWaits_0 14 rfl rfl)
theorem dX0_bestWaits_15 : decode cX0_bestWaits 15 = .ok (.iconst 0, 1) := dk_3 (dk_at dksX0_bestWaits_0 15 rfl rfl)
theorem dX0_bestWaits_16 : decode cX0_bestWaits 16 = .ok (.ireturn, 1) := dk_172 (dk_at dksX0_bestWaits_0 16 rfl rfl)
abbrev cX0_lost : ByteArray := method_41_code
def yX0_lost : MethodName := ⟨RX0, "lost", "(LLastbus;II[J)I"⟩
def dkwX0_lost_0 : List UInt8 := [45, 3, 42, 27, 28, 182, 0, 146, 133, 80, 167, 0, 11, 58, 4, 4, 172, 58, 4, 5, 172, 3, 172]
abbrev dktX0_lost_0 : List UInt8 := dkwX0_lost_0 ++ []
theorem dksX0_lost_0 : cX0_lost.data.toList.drop 0 = dktX0_lost_0 := by decide +kernel
theorem dX0_lost_0 : decode cX0_lost 0 = .ok (.aload_n 3, 1) := dk_45 (dk_at dksX0_lost_0 0 rfl rfl)
theorem dX0_lost_1 : decode cX0_lost 1 = .ok (.iconst 0, 1) := dk_3 (dk_at dksX0_lost_0 1 rfl rfl)
theorem dX0_lost_2 : decode cX0_lost 2 = .ok (.aload_n 0, 1) := dk_42 (dk_at dksX0_lost_0 2 rfl rfl)
theorem dX0_lost_3 : decode cX0_lost 3 = .ok (.iload_n 1, 1) := dk_27 (dk_at dksX0_lost_0 3 rfl rfl)
theorem dX0_lost_4 : decode cX0_lost 4 = .ok (.iload_n 2, 1) := dk_28 (dk_at dksX0_lost_0 4 rfl rfl)
theorem dX0_lost_5 : decode cX0_lost 5 = .ok (.invokevirtual 146, 3) := dk_182 0 146 (dk_at dksX0_lost_0 5 rfl rfl)
theorem dX0_lost_8 : decode cX0_lost 8 = .ok (.i2l, 1) := dk_133 (dk_at dksX0_lost_0 8 rfl rfl)
theorem dX0_lost_9 : decode cX0_lost 9 = .ok (.lastore, 1) := dk_80 (dk_at dksX0_lost_0 9 rfl rfl)
theorem dX0_lost_10 : decode cX0_lost 10 = .ok (.goto 11, 3) := dk_167 0 11 (dk_at dksX0_lost_0 10 rfl rfl)
theorem dX0_lost_13 : decode cX0_lost 13 = .ok (.astore 4, 2) := dk_58 4 (dk_at dksX0_lost_0 13 rfl rfl)
theorem dX0_lost_15 : decode cX0_lost 15 = .ok (.iconst 1, 1) := dk_4 (dk_at dksX0_lost_0 15 rfl rfl)
theorem dX0_lost_16 : decode cX0_lost 16 = .ok (.ireturn, 1) := dk_172 (dk_at dksX0_lost_0 16 rfl rfl)
theorem dX0_lost_17 : decode cX0_lost 17 = .ok (.astore 4, 2) := dk_58 4 (dk_at dksX0_lost_0 17 rfl rfl)
theorem dX0_lost_19 : decode cX0_lost 19 = .ok (.iconst 2, 1) := dk_5 (dk_at dksX0_lost_0 19 rfl rfl)
theorem dX0_lost_20 : decode cX0_lost 20 = .ok (.ireturn, 1) := dk_172 (dk_at dksX0_lost_0 20 rfl rfl)
theorem dX0_lost_21 : decode cX0_lost 21 = .ok (.iconst 0, 1) := dk_3 (dk_at dksX0_lost_0 21 rfl rfl)
theorem dX0_lost_22 : decode cX0_lost 22 = .ok (.ireturn, 1) := dk_172 (dk_at dksX0_lost_0 22 rfl rfl)
abbrev cX0_bridges : ByteArray := method_42_code
def yX0_bridges : MethodName := ⟨RX0, "bridges", "(LLastbus;I[J)I"⟩
def dkwX0_bridges_0 : List UInt8 := [44, 3, 42, 27, 182, 0, 149, 133, 80, 167, 0, 6, 78, 4, 172, 3, 172]
abbrev dktX0_bridges_0 : List UInt8 := dkwX0_bridges_0 ++ []
theorem dksX0_bridges_0 : cX0_bridges.data.toList.drop 0 = dktX0_bridges_0 := by decide +kernel
theorem dX0_bridges_0 : decode cX0_bridges 0 = .ok (.aload_n 2, 1) := dk_44 (dk_at dksX0_bridges_0 0 rfl rfl)
theorem dX0_bridges_1 : decode cX0_bridges 1 = .ok (.iconst 0, 1) := dk_3 (dk_at dksX0_bridges_0 1 rfl rfl)
theorem dX0_bridges_2 : decode cX0_bridges 2 = .ok (.aload_n 0, 1) := dk_42 (dk_at dksX0_bridges_0 2 rfl rfl)
theorem dX0_bridges_3 : decode cX0_bridges 3 = .ok (.iload_n 1, 1) := dk_27 (dk_at dksX0_bridges_0 3 rfl rfl)
theorem dX0_bridges_4 : decode cX0_bridges 4 = .ok (.invokevirtual 149, 3) := dk_182 0 149 (dk_at dksX0_bridges_0 4 rfl rfl)
theorem dX0_bridges_7 : decode cX0_bridges 7 = .ok (.i2l, 1) := dk_133 (dk_at dksX0_bridges_0 7 rfl rfl)
theorem dX0_bridges_8 : decode cX0_bridges 8 = .ok (.lastore, 1) := dk_80 (dk_at dksX0_bridges_0 8 rfl rfl)
theorem dX0_bridges_9 : decode cX0_bridges 9 = .ok (.goto 6, 3) := dk_167 0 6 (dk_at dksX0_bridges_0 9 rfl rfl)
theorem dX0_bridges_12 : decode cX0_bridges 12 = .ok (.astore_n 3, 1) := dk_78 (dk_at dksX0_bridges_0 12 rfl rfl)
theorem dX0_bridges_13 : decode cX0_bridges 13 = .ok (.iconst 1, 1) := dk_4 (dk_at dksX0_bridges_0 13 rfl rfl)
theorem dX0_bridges_14 : decode cX0_bridges 14 = .ok (.ireturn, 1) := dk_172 (dk_at dksX0_bridges_0 14 rfl rfl)
theorem dX0_bridges_15 : decode cX0_bridges 15 = .ok (.iconst 0, 1) := dk_3 (dk_at dksX0_bridges_0 15 rfl rfl)
theorem dX0_bridges_16 : decode cX0_bridges 16 = .ok (.ireturn, 1) := dk_172 (dk_at dksX0_bridges_0 16 rfl rfl)
abbrev cX0_vehicles : ByteArray := method_43_code
def yX0_vehicles : MethodName := ⟨RX0, "vehicles", "(LLastbus;I[J)I"⟩
def dkwX0_vehicles_0 : List UInt8 := [44, 3, 42, 27, 182, 0, 152, 133, 80, 167, 0, 6, 78, 4, 172, 3, 172]
abbrev dktX0_vehicles_0 : List UInt8 := dkwX0_vehicles_0 ++ []
theorem dksX0_vehicles_0 : cX0_vehicles.data.toList.drop 0 = dktX0_vehicles_0 := by decide +kernel
theorem dX0_vehicles_0 : decode cX0_vehicles 0 = .ok (.aload_n 2, 1) := dk_44 (dk_at dksX0_vehicles_0 0 rfl rfl)
theorem dX0_vehicles_1 : decode cX0_vehicles 1 = .ok (.iconst 0, 1) := dk_3 (dk_at dksX0_vehicles_0 1 rfl rfl)
theorem dX0_vehicles_2 : decode cX0_vehicles 2 = .ok (.aload_n 0, 1) := dk_42 (dk_at dksX0_vehicles_0 2 rfl rfl)
theorem dX0_vehicles_3 : decode cX0_vehicles 3 = .ok (.iload_n 1, 1) := dk_27 (dk_at dksX0_vehicles_0 3 rfl rfl)
theorem dX0_vehicles_4 : decode cX0_vehicles 4 = .ok (.invokevirtual 152, 3) := dk_182 0 152 (dk_at dksX0_vehicles_0 4 rfl rfl)
theorem dX0_vehicles_7 : decode cX0_vehicles 7 = .ok (.i2l, 1) := dk_133 (dk_at dksX0_vehicles_0 7 rfl rfl)
theorem dX0_vehicles_8 : decode cX0_vehicles 8 = .ok (.lastore, 1) := dk_80 (dk_at dksX0_vehicles_0 8 rfl rfl)
theorem dX0_vehicles_9 : decode cX0_vehicles 9 = .ok (.goto 6, 3) := dk_167 0 6 (dk_at dksX0_vehicles_0 9 rfl rfl)
theorem dX0_vehicles_12 : decode cX0_vehicles 12 = .ok (.astore_n 3, 1) := dk_78 (dk_at dksX0_vehicles_0 12 rfl rfl)
theorem dX0_vehicles_13 : decode cX0_vehicles 13 = .ok (.iconst 1, 1) := dk_4 (dk_at dksX0_vehicles_0 13 rfl rfl)
theorem dX0_vehicles_14 : decode cX0_vehicles 14 = .ok (.ireturn, 1) := dk_172 (dk_at dksX0_vehicles_0 14 rfl rfl)
theorem dX0_vehicles_15 : decode cX0_vehicles 15 = .ok (.iconst 0, 1) := dk_3 (dk_at dksX0_vehicles_0 15 rfl rfl)
theorem dX0_vehicles_16 : decode cX0_vehicles 16 = .ok (.ireturn, 1) := dk_172 (dk_at dksX0_vehicles_0 16 rfl rfl)
abbrev cX0_vehiclesByMatching : ByteArray := method_44_code
def yX0_vehiclesByMatching : MethodName := ⟨RX0, "vehiclesByMatching", "(LLastbus;I[J)I"⟩
def dkwX0_vehiclesByMatching_0 : List UInt8 := [44, 3, 42, 27, 182, 0, 155, 133, 80, 167, 0, 6, 78, 4, 172, 3, 172]
abbrev dktX0_vehiclesByMatching_0 : List UInt8 := dkwX0_vehiclesByMatching_0 ++ []
theorem dksX0_vehiclesByMatching_0 : cX0_vehiclesByMatching.data.toList.drop 0 = dktX0_vehiclesByMatching_0 := by decide +kernel
theorem dX0_vehiclesByMatching_0 : decode cX0_vehiclesByMatching 0 = .ok (.aload_n 2, 1) := dk_44 (dk_at dksX0_vehiclesByMatching_0 0 rfl rfl)
theorem dX0_vehiclesByMatching_1 : decode cX0_vehiclesByMatching 1 = .ok (.iconst 0, 1) := dk_3 (dk_at dksX0_vehiclesByMatching_0 1 rfl rfl)
theorem dX0_vehiclesByMatching_2 : decode cX0_vehiclesByMatching 2 = .ok (.aload_n 0, 1) := dk_42 (dk_at dksX0_vehiclesByMatching_0 2 rfl rfl)
theorem dX0_vehiclesByMatching_3 : decode cX0_vehiclesByMatching 3 = .ok (.iload_n 1, 1) := dk_27 (dk_at dksX0_vehiclesByMatching_0 3 rfl rfl)
theorem dX0_vehiclesByMatching_4 : decode cX0_vehiclesByMatching 4 = .ok (.invokevirtual 155, 3) := dk_182 0 155 (dk_at dksX0_vehiclesByMatching_0 4 rfl rfl)
theorem dX0_vehiclesByMatching_7 : decode cX0_vehiclesByMatching 7 = .ok (.i2l, 1) := dk_133 (dk_at dksX0_vehiclesByMatching_0 7 rfl rfl)
theorem dX0_vehiclesByMatching_8 : decode cX0_vehiclesByMatching 8 = .ok (.lastore, 1) := dk_80 (dk_at dksX0_vehiclesByMatching_0 8 rfl rfl)
theorem dX0_vehiclesByMatching_9 : decode cX0_vehiclesByMatching 9 = .ok (.goto 6, 3) := dk_167 0 6 (dk_at dksX0_vehiclesByMatching_0 9 rfl rfl)
theorem dX0_vehiclesByMatching_12 : decode cX0_vehiclesByMatching 12 = .ok (.astore_n 3, 1) := dk_78 (dk_at dksX0_vehiclesByMatching_0 12 rfl rfl)
theorem dX0_vehiclesByMatching_13 : decode cX0_vehiclesByMatching 13 = .ok (.iconst 1, 1) := dk_4 (dk_at dksX0_vehiclesByMatching_0 13 rfl rfl)
theorem dX0_vehiclesByMatching_14 : decode cX0_vehiclesByMatching 14 = .ok (.ireturn, 1) := dk_172 (dk_at dksX0_vehiclesByMatching_0 14 rfl rfl)
theorem dX0_vehiclesByMatching_15 : decode cX0_vehiclesByMatching 15 = .ok (.iconst 0, 1) := dk_3 (dk_at dksX0_vehiclesByMatching_0 15 rfl rfl)
theorem dX0_vehiclesByMatching_16 : decode cX0_vehiclesByMatching 16 = .ok (.ireturn, 1) := dk_172 (dk_at dksX0_vehiclesByMatching_0 16 rfl rfl)
abbrev cX0_gains : ByteArray := method_45_code
def yX0_gains : MethodName := ⟨RX0, "gains", "(LLastbus;IIII[J)I"⟩
def dkwX0_gains_1 : List UInt8 := [172, 3, 172]
abbrev dktX0_gains_1 : List UInt8 := dkwX0_gains_1 ++ []
def dkwX0_gains_0 : List UInt8 := [25, 5, 3, 42, 27, 28, 29, 21, 4, 182, 0, 158, 133, 80, 167, 0, 11, 58, 6, 4, 172, 58, 6, 5]
abbrev dktX0_gains_0 : List UInt8 := dkwX0_gains_0 ++ dktX0_gains_1
theorem dksX0_gains_0 : cX0_gains.data.toList.drop 0 = dktX0_gains_0 := by decide +kernel
theorem dksX0_gains_1 : cX0_gains.data.toList.drop 24 = dktX0_gains_1 := dk_seg dksX0_gains_0 24 rfl rfl
theorem dX0_gains_0 : decode cX0_gains 0 = .ok (.aload 5, 2) := dk_25 5 (dk_at dksX0_gains_0 0 rfl rfl)
theorem dX0_gains_2 : decode cX0_gains 2 = .ok (.iconst 0, 1) := dk_3 (dk_at dksX0_gains_0 2 rfl rfl)
theorem dX0_gains_3 : decode cX0_gains 3 = .ok (.aload_n 0, 1) := dk_42 (dk_at dksX0_gains_0 3 rfl rfl)
theorem dX0_gains_4 : decode cX0_gains 4 = .ok (.iload_n 1, 1) := dk_27 (dk_at dksX0_gains_0 4 rfl rfl)
theorem dX0_gains_5 : decode cX0_gains 5 = .ok (.iload_n 2, 1) := dk_28 (dk_at dksX0_gains_0 5 rfl rfl)
theorem dX0_gains_6 : decode cX0_gains 6 = .ok (.iload_n 3, 1) := dk_29 (dk_at dksX0_gains_0 6 rfl rfl)
theorem dX0_gains_7 : decode cX0_gains 7 = .ok (.iload 4, 2) := dk_21 4 (dk_at dksX0_gains_0 7 rfl rfl)
theorem dX0_gains_9 : decode cX0_gains 9 = .ok (.invokevirtual 158, 3) := dk_182 0 158 (dk_at dksX0_gains_0 9 rfl rfl)
theorem dX0_gains_12 : decode cX0_gains 12 = .ok (.i2l, 1) := dk_133 (dk_at dksX0_gains_0 12 rfl rfl)
theorem dX0_gains_13 : decode cX0_gains 13 = .ok (.lastore, 1) := dk_80 (dk_at dksX0_gains_0 13 rfl rfl)
theorem dX0_gains_14 : decode cX0_gains 14 = .ok (.goto 11, 3) := dk_167 0 11 (dk_at dksX0_gains_0 14 rfl rfl)
theorem dX0_gains_17 : decode cX0_gains 17 = .ok (.astore 6, 2) := dk_58 6 (dk_at dksX0_gains_0 17 rfl rfl)
theorem dX0_gains_19 : decode cX0_gains 19 = .ok (.iconst 1, 1) := dk_4 (dk_at dksX0_gains_0 19 rfl rfl)
theorem dX0_gains_20 : decode cX0_gains 20 = .ok (.ireturn, 1) := dk_172 (dk_at dksX0_gains_0 20 rfl rfl)
theorem dX0_gains_21 : decode cX0_gains 21 = .ok (.astore 6, 2) := dk_58 6 (dk_at dksX0_gains_0 21 rfl rfl)
theorem dX0_gains_23 : decode cX0_gains 23 = .ok (.iconst 2, 1) := dk_5 (dk_at dksX0_gains_0 23 rfl rfl)
theorem dX0_gains_24 : decode cX0_gains 24 = .ok (.ireturn, 1) := dk_172 (dk_at dksX0_gains_1 0 rfl rfl)
theorem dX0_gains_25 : decode cX0_gains 25 = .ok (.iconst 0, 1) := dk_3 (dk_at dksX0_gains_1 1 rfl rfl)
theorem dX0_gains_26 : decode cX0_gains 26 = .ok (.ireturn, 1) := dk_172 (dk_at dksX0_gains_1 2 rfl rfl)
abbrev cX0_loses : ByteArray := method_46_code
def yX0_loses : MethodName := ⟨RX0, "loses", "(LLastbus;IIII[J)I"⟩
def dkwX0_loses_1 : List UInt8 := [172, 3, 172]
abbrev dktX0_loses_1 : List UInt8 := dkwX0_loses_1 ++ []
def dkwX0_loses_0 : List UInt8 := [25, 5, 3, 42, 27, 28, 29, 21, 4, 182, 0, 161, 133, 80, 167, 0, 11, 58, 6, 4, 172, 58, 6, 5]
abbrev dktX0_loses_0 : List UInt8 := dkwX0_loses_0 ++ dktX0_loses_1
theorem dksX0_loses_0 : cX0_loses.data.toList.drop 0 = dktX0_loses_0 := by decide +kernel
theorem dksX0_loses_1 : cX0_loses.data.toList.drop 24 = dktX0_loses_1 := dk_seg dksX0_loses_0 24 rfl rfl
theorem dX0_loses_0 : decode cX0_loses 0 = .ok (.aload 5, 2) := dk_25 5 (dk_at dksX0_loses_0 0 rfl rfl)
theorem dX0_loses_2 : decode cX0_loses 2 = .ok (.iconst 0, 1) := dk_3 (dk_at dksX0_loses_0 2 rfl rfl)
theorem dX0_loses_3 : decode cX0_loses 3 = .ok (.aload_n 0, 1) := dk_42 (dk_at dksX0_loses_0 3 rfl rfl)
theorem dX0_loses_4 : decode cX0_loses 4 = .ok (.iload_n 1, 1) := dk_27 (dk_at dksX0_loses_0 4 rfl rfl)
theorem dX0_loses_5 : decode cX0_loses 5 = .ok (.iload_n 2, 1) := dk_28 (dk_at dksX0_loses_0 5 rfl rfl)
theorem dX0_loses_6 : decode cX0_loses 6 = .ok (.iload_n 3, 1) := dk_29 (dk_at dksX0_loses_0 6 rfl rfl)
theorem dX0_loses_7 : decode cX0_loses 7 = .ok (.iload 4, 2) := dk_21 4 (dk_at dksX0_loses_0 7 rfl rfl)
theorem dX0_loses_9 : decode cX0_loses 9 = .ok (.invokevirtual 161, 3) := dk_182 0 161 (dk_at dksX0_loses_0 9 rfl rfl)
theorem dX0_loses_12 : decode cX0_loses 12 = .ok (.i2l, 1) := dk_133 (dk_at dksX0_loses_0 12 rfl rfl)
theorem dX0_loses_13 : decode cX0_loses 13 = .ok (.lastore, 1) := dk_80 (dk_at dksX0_loses_0 13 rfl rfl)
theorem dX0_loses_14 : decode cX0_loses 14 = .ok (.goto 11, 3) := dk_167 0 11 (dk_at dksX0_loses_0 14 rfl rfl)
theorem dX0_loses_17 : decode cX0_loses 17 = .ok (.astore 6, 2) := dk_58 6 (dk_at dksX0_loses_0 17 rfl rfl)
theorem dX0_loses_19 : decode cX0_loses 19 = .ok (.iconst 1, 1) := dk_4 (dk_at dksX0_loses_0 19 rfl rfl)
theorem dX0_loses_20 : decode cX0_loses 20 = .ok (.ireturn, 1) := dk_172 (dk_at dksX0_loses_0 20 rfl rfl)
theorem dX0_loses_21 : decode cX0_loses 21 = .ok (.astore 6, 2) := dk_58 6 (dk_at dksX0_loses_0 21 rfl rfl)
theorem dX0_loses_23 : decode cX0_loses 23 = .ok (.iconst 2, 1) := dk_5 (dk_at dksX0_loses_0 23 rfl rfl)
theorem dX0_loses_24 : decode cX0_loses 24 = .ok (.ireturn, 1) := dk_172 (dk_at dksX0_loses_1 0 rfl rfl)
theorem dX0_loses_25 : decode cX0_loses 25 = .ok (.iconst 0, 1) := dk_3 (dk_at dksX0_loses_1 1 rfl rfl)
theorem dX0_loses_26 : decode cX0_loses 26 = .ok (.ireturn, 1) := dk_172 (dk_at dksX0_loses_1 2 rfl rfl)
abbrev cX0_reachShare : ByteArray := method_47_code
def yX0_reachShare : MethodName := ⟨RX0, "reachShare", "(LLastbus;I[D)I"⟩
def dkwX0_reachShare_0 : List UInt8 := [44, 3, 42, 27, 182, 0, 164, 141, 82, 167, 0, 9, 78, 4, 172, 78, 5, 172, 3, 172]
abbrev dktX0_reachShare_0 : List UInt8 := dkwX0_reachShare_0 ++ []
theorem dksX0_reachShare_0 : cX0_reachShare.data.toList.drop 0 = dktX0_reachShare_0 := by decide +kernel
theorem dX0_reachShare_0 : decode cX0_reachShare 0 = .ok (.aload_n 2, 1) := dk_44 (dk_at dksX0_reachShare_0 0 rfl rfl)
theorem dX0_reachShare_1 : decode cX0_reachShare 1 = .ok (.iconst 0, 1) := dk_3 (dk_at dksX0_reachShare_0 1 rfl rfl)
theorem dX0_reachShare_2 : decode cX0_reachShare 2 = .ok (.aload_n 0, 1) := dk_42 (dk_at dksX0_reachShare_0 2 rfl rfl)
theorem dX0_reachShare_3 : decode cX0_reachShare 3 = .ok (.iload_n 1, 1) := dk_27 (dk_at dksX0_reachShare_0 3 rfl rfl)
theorem dX0_reachShare_4 : decode cX0_reachShare 4 = .ok (.invokevirtual 164, 3) := dk_182 0 164 (dk_at dksX0_reachShare_0 4 rfl rfl)
theorem dX0_reachShare_7 : decode cX0_reachShare 7 = .ok (.f2d, 1) := dk_141 (dk_at dksX0_reachShare_0 7 rfl rfl)
theorem dX0_reachShare_8 : decode cX0_reachShare 8 = .ok (.dastore, 1) := dk_82 (dk_at dksX0_reachShare_0 8 rfl rfl)
theorem dX0_reachShare_9 : decode cX0_reachShare 9 = .ok (.goto 9, 3) := dk_167 0 9 (dk_at dksX0_reachShare_0 9 rfl rfl)
theorem dX0_reachShare_12 : decode cX0_reachShare 12 = .ok (.astore_n 3, 1) := dk_78 (dk_at dksX0_reachShare_0 12 rfl rfl)
theorem dX0_reachShare_13 : decode cX0_reachShare 13 = .ok (.iconst 1, 1) := dk_4 (dk_at dksX0_reachShare_0 13 rfl rfl)
theorem dX0_reachShare_14 : decode cX0_reachShare 14 = .ok (.ireturn, 1) := dk_172 (dk_at dksX0_reachShare_0 14 rfl rfl)
theorem dX0_reachShare_15 : decode cX0_reachShare 15 = .ok (.astore_n 3, 1) := dk_78 (dk_at dksX0_reachShare_0 15 rfl rfl)
theorem dX0_reachShare_16 : decode cX0_reachShare 16 = .ok (.iconst 2, 1) := dk_5 (dk_at dksX0_reachShare_0 16 rfl rfl)
theorem dX0_reachShare_17 : decode cX0_reachShare 17 = .ok (.ireturn, 1) := dk_172 (dk_at dksX0_reachShare_0 17 rfl rfl)
theorem dX0_reachShare_18 : decode cX0_reachShare 18 = .ok (.iconst 0, 1) := dk_3 (dk_at dksX0_reachShare_0 18 rfl rfl)
theorem dX0_reachShare_19 : decode cX0_reachShare 19 = .ok (.ireturn, 1) := dk_172 (dk_at dksX0_reachShare_0 19 rfl rfl)
abbrev cX0_meanBetween : ByteArray := method_48_code
def yX0_meanBetween : MethodName := ⟨RX0, "meanBetween", "(LLastbus;[D)I"⟩
def dkwX0_meanBetween_0 : List UInt8 := [43, 3, 42, 182, 0, 170, 82, 167, 0, 6, 77, 4, 172, 3, 172]
abbrev dktX0_meanBetween_0 : List UInt8 := dkwX0_meanBetween_0 ++ []
theorem dksX0_meanBetween_0 : cX0_meanBetween.data.toList.drop 0 = dktX0_meanBetween_0 := by decide +kernel
theorem dX0_meanBetween_0 : decode cX0_meanBetween 0 = .ok (.aload_n 1, 1) := dk_43 (dk_at dksX0_meanBetween_0 0 rfl rfl)
theorem dX0_meanBetween_1 : decode cX0_meanBetween 1 = .ok (.iconst 0, 1) := dk_3 (dk_at dksX0_meanBetween_0 1 rfl rfl)
theorem dX0_meanBetween_2 : decode cX0_meanBetween 2 = .ok (.aload_n 0, 1) := dk_42 (dk_at dksX0_meanBetween_0 2 rfl rfl)
theorem dX0_meanBetween_3 : decode cX0_meanBetween 3 = .ok (.invokevirtual 170, 3) := dk_182 0 170 (dk_at dksX0_meanBetween_0 3 rfl rfl)
theorem dX0_meanBetween_6 : decode cX0_meanBetween 6 = .ok (.dastore, 1) := dk_82 (dk_at dksX0_meanBetween_0 6 rfl rfl)
theorem dX0_meanBetween_7 : decode cX0_meanBetween 7 = .ok (.goto 6, 3) := dk_167 0 6 (dk_at dksX0_meanBetween_0 7 rfl rfl)
theorem dX0_meanBetween_10 : decode cX0_meanBetween 10 = .ok (.astore_n 2, 1) := dk_77 (dk_at dksX0_meanBetween_0 10 rfl rfl)
theorem dX0_meanBetween_11 : decode cX0_meanBetween 11 = .ok (.iconst 1, 1) := dk_4 (dk_at dksX0_meanBetween_0 11 rfl rfl)
theorem dX0_meanBetween_12 : decode cX0_meanBetween 12 = .ok (.ireturn, 1) := dk_172 (dk_at dksX0_meanBetween_0 12 rfl rfl)
theorem dX0_meanBetween_13 : decode cX0_meanBetween 13 = .ok (.iconst 0, 1) := dk_3 (dk_at dksX0_meanBetween_0 13 rfl rfl)
theorem dX0_meanBetween_14 : decode cX0_meanBetween 14 = .ok (.ireturn, 1) := dk_172 (dk_at dksX0_meanBetween_0 14 rfl rfl)
abbrev cX0_isSound : ByteArray := method_49_code
def yX0_isSound : MethodName := ⟨RX0, "isSound", "(LLastbus;I[J)I"⟩
def dkwX0_isSound_0 : List UInt8 := [44, 3, 42, 27, 182, 0, 174, 153, 0, 7, 10, 167, 0, 4, 9, 80, 167, 0, 6, 78, 4, 172, 3, 172]
abbrev dktX0_isSound_0 : List UInt8 := dkwX0_isSound_0 ++ []
theorem dksX0_isSound_0 : cX0_isSound.data.toList.drop 0 = dktX0_isSound_0 := by decide +kernel
theorem dX0_isSound_0 : decode cX0_isSound 0 = .ok (.aload_n 2, 1) := dk_44 (dk_at dksX0_isSound_0 0 rfl rfl)
theorem dX0_isSound_1 : decode cX0_isSound 1 = .ok (.iconst 0, 1) := dk_3 (dk_at dksX0_isSound_0 1 rfl rfl)
theorem dX0_isSound_2 : decode cX0_isSound 2 = .ok (.aload_n 0, 1) := dk_42 (dk_at dksX0_isSound_0 2 rfl rfl)
theorem dX0_isSound_3 : decode cX0_isSound 3 = .ok (.iload_n 1, 1) := dk_27 (dk_at dksX0_isSound_0 3 rfl rfl)
theorem dX0_isSound_4 : decode cX0_isSound 4 = .ok (.invokevirtual 174, 3) := dk_182 0 174 (dk_at dksX0_isSound_0 4 rfl rfl)
theorem dX0_isSound_7 : decode cX0_isSound 7 = .ok (.ifCond .eq 7, 3) := dk_153 0 7 (dk_at dksX0_isSound_0 7 rfl rfl)
theorem dX0_isSound_10 : decode cX0_isSound 10 = .ok (.lconst 1, 1) := dk_10 (dk_at dksX0_isSound_0 10 rfl rfl)
theorem dX0_isSound_11 : decode cX0_isSound 11 = .ok (.goto 4, 3) := dk_167 0 4 (dk_at dksX0_isSound_0 11 rfl rfl)
theorem dX0_isSound_14 : decode cX0_isSound 14 = .ok (.lconst 0, 1) := dk_9 (dk_at dksX0_isSound_0 14 rfl rfl)
theorem dX0_isSound_15 : decode cX0_isSound 15 = .ok (.lastore, 1) := dk_80 (dk_at dksX0_isSound_0 15 rfl rfl)
theorem dX0_isSound_16 : decode cX0_isSound 16 = .ok (.goto 6, 3) := dk_167 0 6 (dk_at dksX0_isSound_0 16 rfl rfl)
theorem dX0_isSound_19 : decode cX0_isSound 19 = .ok (.astore_n 3, 1) := dk_78 (dk_at dksX0_isSound_0 19 rfl rfl)
theorem dX0_isSound_20 : decode cX0_isSound 20 = .ok (.iconst 1, 1) := dk_4 (dk_at dksX0_isSound_0 20 rfl rfl)
theorem dX0_isSound_21 : decode cX0_isSound 21 = .ok (.ireturn, 1) := dk_172 (dk_at dksX0_isSound_0 21 rfl rfl)
theorem dX0_isSound_22 : decode cX0_isSound 22 = .ok (.iconst 0, 1) := dk_3 (dk_at dksX0_isSound_0 22 rfl rfl)
theorem dX0_isSound_23 : decode cX0_isSound 23 = .ok (.ireturn, 1) := dk_172 (dk_at dksX0_isSound_0 23 rfl rfl)
theorem q122 : (Jvm.Cond.initialized "LastbusLaw") ∈ lw_all := lw_g (lw_at lw_m1 0 rfl) rfl
theorem q189 : (Jvm.Cond.classLink "LastbusLaw" (8 : Nat) "Lastbus") ∈ lw_all := lw_g (lw_at lw_m1 67 rfl) rfl
theorem q191 : (Jvm.Cond.methodLink "LastbusLaw" (178 : Nat) ({ cls := "Lastbus", name := "<init>", desc := "()V" } : Jvm.MethodName)) ∈ lw_all := lw_g (lw_at lw_m1 69 rfl) rfl
theorem q329 : (Jvm.Cond.methodLink "LastbusLaw" (226 : Nat) ({ cls := "Lastbus", name := "trips", desc := "()I" } : Jvm.MethodName)) ∈ lw_all := lw_g (lw_at lw_m1 207 rfl) rfl
theorem q337 : (Jvm.Cond.methodLink "LastbusLaw" (249 : Nat) ({ cls := "Lastbus", name := "erase", desc := "()I" } : Jvm.MethodName)) ∈ lw_all := lw_g (lw_at lw_m1 215 rfl) rfl
theorem q690 : (Jvm.Cond.methodLink "LastbusLaw" (265 : Nat) ({ cls := "Lastbus", name := "onTime", desc := "()I" } : Jvm.MethodName)) ∈ lw_all := lw_g (lw_at lw_m3 88 rfl) rfl
theorem q702 : (Jvm.Cond.methodLink "LastbusLaw" (317 : Nat) ({ cls := "Lastbus", name := "dropWishes", desc := "()I" } : Jvm.MethodName)) ∈ lw_all := lw_g (lw_at lw_m3 100 rfl) rfl
theorem q710 : (Jvm.Cond.methodLink "LastbusLaw" (353 : Nat) ({ cls := "Lastbus", name := "checksum", desc := "()J" } : Jvm.MethodName)) ∈ lw_all := lw_g (lw_at lw_m3 108 rfl) rfl
theorem q841 : (Jvm.Cond.methodLink "LastbusLaw" (182 : Nat) ({ cls := "LastbusLaw", name := "stop", desc := "(LLastbus;I[J)I" } : Jvm.MethodName)) ∈ lw_all := lw_g (lw_at lw_m3 239 rfl) rfl
theorem q842 : (Jvm.Cond.static ({ cls := "LastbusLaw", name := "stop", desc := "(LLastbus;I[J)I" } : Jvm.MethodName)) ∈ lw_all := lw_g (lw_at lw_m4 0 rfl) rfl
theorem q843 : (Jvm.Cond.codeWith ({ cls := "LastbusLaw", name := "stop", desc := "(LLastbus;I[J)I" } : Jvm.MethodName) method_3_code (4 : Nat) (Option.some Jvm.ClassFile.FieldType.int) [((0 : Nat), (9 : Nat), (12 : Nat), (13 : Nat)), ((0 : Nat), (9 : Nat), (15 : Nat), (15 : Nat))]) ∈ lw_all := lw_g (lw_at lw_m4 1 rfl) rfl
theorem q844 : (Jvm.Cond.classLink "LastbusLaw" (13 : Nat) "java/lang/IllegalArgumentException") ∈ lw_all := lw_g (lw_at lw_m4 2 rfl) rfl
theorem q845 : (Jvm.Cond.classLink "LastbusLaw" (15 : Nat) "java/lang/IllegalStateException") ∈ lw_all := lw_g (lw_at lw_m4 3 rfl) rfl
theorem q846 : (Jvm.Cond.methodLink "LastbusLaw" (7 : Nat) ({ cls := "Lastbus", name := "stop", desc := "(I)I" } : Jvm.MethodName)) ∈ lw_all := lw_g (lw_at lw_m4 4 rfl) rfl
theorem q879 : (Jvm.Cond.methodLink "LastbusLaw" (191 : Nat) ({ cls := "LastbusLaw", name := "setChange", desc := "(LLastbus;II[J)I" } : Jvm.MethodName)) ∈ lw_all := lw_g (lw_at lw_m4 37 rfl) rfl
theorem q880 : (Jvm.Cond.static ({ cls := "LastbusLaw", name := "setChange", desc := "(LLastbus;II[J)I" } : Jvm.MethodName)) ∈ lw_all := lw_g (lw_at lw_m4 38 rfl) rfl
theorem q881 : (Jvm.Cond.codeWith ({ cls := "LastbusLaw", name := "setChange", desc := "(LLastbus;II[J)I" } : Jvm.MethodName) method_4_code (5 : Nat) (Option.some Jvm.ClassFile.FieldType.int) [((0 : Nat), (10 : Nat), (13 : Nat), (21 : Nat)), ((0 : Nat), (10 : Nat), (17 : Nat), (13 : Nat))]) ∈ lw_all := lw_g (lw_at lw_m4 39 rfl) rfl
theorem q882 : (Jvm.Cond.classLink "LastbusLaw" (21 : Nat) "java/lang/IndexOutOfBoundsException") ∈ lw_all := lw_g (lw_at lw_m4 40 rfl) rfl
theorem q885 : (Jvm.Cond.methodLink "LastbusLaw" (17 : Nat) ({ cls := "Lastbus", name := "setChange", desc := "(II)I" } : Jvm.MethodName)) ∈ lw_all := lw_g (lw_at lw_m4 43 rfl) rfl
theorem q901 : (Jvm.Cond.methodLink "LastbusLaw" (195 : Nat) ({ cls := "LastbusLaw", name := "walk", desc := "(LLastbus;III[J)I" } : Jvm.MethodName)) ∈ lw_all := lw_g (lw_at lw_m4 59 rfl) rfl
theorem q902 : (Jvm.Cond.static ({ cls := "LastbusLaw", name := "walk", desc := "(LLastbus;III[J)I" } : Jvm.MethodName)) ∈ lw_all := lw_g (lw_at lw_m4 60 rfl) rfl
theorem q903 : (Jvm.Cond.codeWith ({ cls := "LastbusLaw", name := "walk", desc := "(LLastbus;III[J)I" } : Jvm.MethodName) method_5_code (6 : Nat) (Option.some Jvm.ClassFile.FieldType.int) [((0 : Nat), (12 : Nat), (15 : Nat), (21 : Nat)), ((0 : Nat), (12 : Nat), (19 : Nat), (13 : Nat))]) ∈ lw_all := lw_g (lw_at lw_m4 61 rfl) rfl
theorem q904 : (Jvm.Cond.methodLink "LastbusLaw" (23 : Nat) ({ cls := "Lastbus", name := "walk", desc := "(III)I" } : Jvm.MethodName)) ∈ lw_all := lw_g (lw_at lw_m4 62 rfl) rfl
theorem q908 : (Jvm.Cond.methodLink "LastbusLaw" (199 : Nat) ({ cls := "LastbusLaw", name := "walkTime", desc := "(LLastbus;II[J)I" } : Jvm.MethodName)) ∈ lw_all := lw_g (lw_at lw_m4 66 rfl) rfl
theorem q909 : (Jvm.Cond.static ({ cls := "LastbusLaw", name := "walkTime", desc := "(LLastbus;II[J)I" } : Jvm.MethodName)) ∈ lw_all := lw_g (lw_at lw_m4 67 rfl) rfl
theorem q910 : (Jvm.Cond.codeWith ({ cls := "LastbusLaw", name := "walkTime", desc := "(LLastbus;II[J)I" } : Jvm.MethodName) method_6_code (5 : Nat) (Option.some Jvm.ClassFile.FieldType.int) [((0 : Nat), (10 : Nat), (13 : Nat), (21 : Nat)), ((0 : Nat), (10 : Nat), (17 : Nat), (30 : Nat))]) ∈ lw_all := lw_g (lw_at lw_m4 68 rfl) rfl
theorem q911 : (Jvm.Cond.classLink "LastbusLaw" (30 : Nat) "java/util/NoSuchElementException") ∈ lw_all := lw_g (lw_at lw_m4 69 rfl) rfl
theorem q912 : (Jvm.Cond.methodLink "LastbusLaw" (27 : Nat) ({ cls := "Lastbus", name := "walkTime", desc := "(II)I" } : Jvm.MethodName)) ∈ lw_all := lw_g (lw_at lw_m4 70 rfl) rfl
theorem q927 : (Jvm.Cond.methodLink "LastbusLaw" (202 : Nat) ({ cls := "LastbusLaw", name := "service", desc := "(LLastbus;[J)I" } : Jvm.MethodName)) ∈ lw_all := lw_g (lw_at lw_m4 85 rfl) rfl
theorem q928 : (Jvm.Cond.static ({ cls := "LastbusLaw", name := "service", desc := "(LLastbus;[J)I" } : Jvm.MethodName)) ∈ lw_all := lw_g (lw_at lw_m4 86 rfl) rfl
theorem q929 : (Jvm.Cond.codeWith ({ cls := "LastbusLaw", name := "service", desc := "(LLastbus;[J)I" } : Jvm.MethodName) method_7_code (3 : Nat) (Option.some Jvm.ClassFile.FieldType.int) [((0 : Nat), (8 : Nat), (11 : Nat), (15 : Nat))]) ∈ lw_all := lw_g (lw_at lw_m4 87 rfl) rfl
theorem q930 : (Jvm.Cond.methodLink "LastbusLaw" (32 : Nat) ({ cls := "Lastbus", name := "service", desc := "()I" } : Jvm.MethodName)) ∈ lw_all := lw_g (lw_at lw_m4 88 rfl) rfl
theorem q1024 : (Jvm.Cond.methodLink "LastbusLaw" (206 : Nat) ({ cls := "LastbusLaw", name := "week", desc := "(LLastbus;IIII[J)I" } : Jvm.MethodName)) ∈ lw_all := lw_g (lw_at lw_m4 182 rfl) rfl
theorem q1025 : (Jvm.Cond.static ({ cls := "LastbusLaw", name := "week", desc := "(LLastbus;IIII[J)I" } : Jvm.MethodName)) ∈ lw_all := lw_g (lw_at lw_m4 183 rfl) rfl
theorem q1026 : (Jvm.Cond.codeWith ({ cls := "LastbusLaw", name := "week", desc := "(LLastbus;IIII[J)I" } : Jvm.MethodName) method_8_code (7 : Nat) (Option.some Jvm.ClassFile.FieldType.int) [((0 : Nat), (14 : Nat), (17 : Nat), (21 : Nat)), ((0 : Nat), (14 : Nat), (21 : Nat), (13 : Nat))]) ∈ lw_all := lw_g (lw_at lw_m4 184 rfl) rfl
theorem q1027 : (Jvm.Cond.methodLink "LastbusLaw" (36 : Nat) ({ cls := "Lastbus", name := "week", desc := "(IIII)I" } : Jvm.MethodName)) ∈ lw_all := lw_g (lw_at lw_m4 185 rfl) rfl
theorem q1083 : (Jvm.Cond.methodLink "LastbusLaw" (210 : Nat) ({ cls := "LastbusLaw", name := "putDay", desc := "(LLastbus;IIZ[J)I" } : Jvm.MethodName)) ∈ lw_all := lw_g (lw_at lw_m5 1 rfl) rfl
theorem q1084 : (Jvm.Cond.static ({ cls := "LastbusLaw", name := "putDay", desc := "(LLastbus;IIZ[J)I" } : Jvm.MethodName)) ∈ lw_all := lw_g (lw_at lw_m5 2 rfl) rfl
theorem q1085 : (Jvm.Cond.codeWith ({ cls := "LastbusLaw", name := "putDay", desc := "(LLastbus;IIZ[J)I" } : Jvm.MethodName) method_9_code (6 : Nat) (Option.some Jvm.ClassFile.FieldType.int) [((0 : Nat), (19 : Nat), (22 : Nat), (21 : Nat)), ((0 : Nat), (19 : Nat), (26 : Nat), (13 : Nat))]) ∈ lw_all := lw_g (lw_at lw_m5 3 rfl) rfl
theorem q1086 : (Jvm.Cond.methodLink "LastbusLaw" (40 : Nat) ({ cls := "Lastbus", name := "putDay", desc := "(IIZ)Z" } : Jvm.MethodName)) ∈ lw_all := lw_g (lw_at lw_m5 4 rfl) rfl
theorem q1098 : (Jvm.Cond.methodLink "LastbusLaw" (214 : Nat) ({ cls := "LastbusLaw", name := "runsOn", desc := "(LLastbus;II[J)I" } : Jvm.MethodName)) ∈ lw_all := lw_g (lw_at lw_m5 16 rfl) rfl
theorem q1099 : (Jvm.Cond.static ({ cls := "LastbusLaw", name := "runsOn", desc := "(LLastbus;II[J)I" } : Jvm.MethodName)) ∈ lw_all := lw_g (lw_at lw_m5 17 rfl) rfl
theorem q1100 : (Jvm.Cond.codeWith ({ cls := "LastbusLaw", name := "runsOn", desc := "(LLastbus;II[J)I" } : Jvm.MethodName) method_10_code (5 : Nat) (Option.some Jvm.ClassFile.FieldType.int) [((0 : Nat), (17 : Nat), (20 : Nat), (21 : Nat)), ((0 : Nat), (17 : Nat), (24 : Nat), (13 : Nat))]) ∈ lw_all := lw_g (lw_at lw_m5 18 rfl) rfl
theorem q1101 : (Jvm.Cond.methodLink "LastbusLaw" (44 : Nat) ({ cls := "Lastbus", name := "runsOn", desc := "(II)Z" } : Jvm.MethodName)) ∈ lw_all := lw_g (lw_at lw_m5 19 rfl) rfl
theorem q1105 : (Jvm.Cond.methodLink "LastbusLaw" (217 : Nat) ({ cls := "LastbusLaw", name := "nextDay", desc := "(LLastbus;II[J)I" } : Jvm.MethodName)) ∈ lw_all := lw_g (lw_at lw_m5 23 rfl) rfl
theorem q1106 : (Jvm.Cond.static ({ cls := "LastbusLaw", name := "nextDay", desc := "(LLastbus;II[J)I" } : Jvm.MethodName)) ∈ lw_all := lw_g (lw_at lw_m5 24 rfl) rfl
theorem q1107 : (Jvm.Cond.codeWith ({ cls := "LastbusLaw", name := "nextDay", desc := "(LLastbus;II[J)I" } : Jvm.MethodName) method_11_code (5 : Nat) (Option.some Jvm.ClassFile.FieldType.int) [((0 : Nat), (10 : Nat), (13 : Nat), (21 : Nat)), ((0 : Nat), (10 : Nat), (17 : Nat), (13 : Nat)), ((0 : Nat), (10 : Nat), (21 : Nat), (30 : Nat))]) ∈ lw_all := lw_g (lw_at lw_m5 25 rfl) rfl
theorem q1108 : (Jvm.Cond.methodLink "LastbusLaw" (48 : Nat) ({ cls := "Lastbus", name := "nextDay", desc := "(II)I" } : Jvm.MethodName)) ∈ lw_all := lw_g (lw_at lw_m5 26 rfl) rfl
theorem q1125 : (Jvm.Cond.methodLink "LastbusLaw" (220 : Nat) ({ cls := "LastbusLaw", name := "trip", desc := "(LLastbus;III[J)I" } : Jvm.MethodName)) ∈ lw_all := lw_g (lw_at lw_m5 43 rfl) rfl
theorem q1126 : (Jvm.Cond.static ({ cls := "LastbusLaw", name := "trip", desc := "(LLastbus;III[J)I" } : Jvm.MethodName)) ∈ lw_all := lw_g (lw_at lw_m5 44 rfl) rfl
theorem q1127 : (Jvm.Cond.codeWith ({ cls := "LastbusLaw", name := "trip", desc := "(LLastbus;III[J)I" } : Jvm.MethodName) method_12_code (6 : Nat) (Option.some Jvm.ClassFile.FieldType.int) [((0 : Nat), (12 : Nat), (15 : Nat), (21 : Nat)), ((0 : Nat), (12 : Nat), (19 : Nat), (13 : Nat)), ((0 : Nat), (12 : Nat), (23 : Nat), (15 : Nat))]) ∈ lw_all := lw_g (lw_at lw_m5 45 rfl) rfl
theorem q1128 : (Jvm.Cond.methodLink "LastbusLaw" (51 : Nat) ({ cls := "Lastbus", name := "trip", desc := "(III)I" } : Jvm.MethodName)) ∈ lw_all := lw_g (lw_at lw_m5 46 rfl) rfl
theorem q1170 : (Jvm.Cond.methodLink "LastbusLaw" (223 : Nat) ({ cls := "LastbusLaw", name := "call", desc := "(LLastbus;IIII[J)I" } : Jvm.MethodName)) ∈ lw_all := lw_g (lw_at lw_m5 88 rfl) rfl
theorem q1171 : (Jvm.Cond.static ({ cls := "LastbusLaw", name := "call", desc := "(LLastbus;IIII[J)I" } : Jvm.MethodName)) ∈ lw_all := lw_g (lw_at lw_m5 89 rfl) rfl
theorem q1172 : (Jvm.Cond.codeWith ({ cls := "LastbusLaw", name := "call", desc := "(LLastbus;IIII[J)I" } : Jvm.MethodName) method_13_code (7 : Nat) (Option.some Jvm.ClassFile.FieldType.int) [((0 : Nat), (14 : Nat), (17 : Nat), (21 : Nat)), ((0 : Nat), (14 : Nat), (21 : Nat), (13 : Nat)), ((0 : Nat), (14 : Nat), (25 : Nat), (15 : Nat))]) ∈ lw_all := lw_g (lw_at lw_m5 90 rfl) rfl
theorem q1173 : (Jvm.Cond.methodLink "LastbusLaw" (54 : Nat) ({ cls := "Lastbus", name := "call", desc := "(IIII)I" } : Jvm.MethodName)) ∈ lw_all := lw_g (lw_at lw_m5 91 rfl) rfl
theorem q1191 : (Jvm.Cond.methodLink "LastbusLaw" (230 : Nat) ({ cls := "LastbusLaw", name := "calls", desc := "(LLastbus;I[J)I" } : Jvm.MethodName)) ∈ lw_all := lw_g (lw_at lw_m5 109 rfl) rfl
theorem q1192 : (Jvm.Cond.static ({ cls := "LastbusLaw", name := "calls", desc := "(LLastbus;I[J)I" } : Jvm.MethodName)) ∈ lw_all := lw_g (lw_at lw_m5 110 rfl) rfl
theorem q1193 : (Jvm.Cond.codeWith ({ cls := "LastbusLaw", name := "calls", desc := "(LLastbus;I[J)I" } : Jvm.MethodName) method_14_code (4 : Nat) (Option.some Jvm.ClassFile.FieldType.int) [((0 : Nat), (9 : Nat), (12 : Nat), (21 : Nat))]) ∈ lw_all := lw_g (lw_at lw_m5 111 rfl) rfl
theorem q1194 : (Jvm.Cond.methodLink "LastbusLaw" (57 : Nat) ({ cls := "Lastbus", name := "calls", desc := "(I)I" } : Jvm.MethodName)) ∈ lw_all := lw_g (lw_at lw_m5 112 rfl) rfl
theorem q1198 : (Jvm.Cond.methodLink "LastbusLaw" (233 : Nat) ({ cls := "LastbusLaw", name := "stopAt", desc := "(LLastbus;II[J)I" } : Jvm.MethodName)) ∈ lw_all := lw_g (lw_at lw_m5 116 rfl) rfl
theorem q1199 : (Jvm.Cond.static ({ cls := "LastbusLaw", name := "stopAt", desc := "(LLastbus;II[J)I" } : Jvm.MethodName)) ∈ lw_all := lw_g (lw_at lw_m5 117 rfl) rfl
theorem q1200 : (Jvm.Cond.codeWith ({ cls := "LastbusLaw", name := "stopAt", desc := "(LLastbus;II[J)I" } : Jvm.MethodName) method_15_code (5 : Nat) (Option.some Jvm.ClassFile.FieldType.int) [((0 : Nat), (10 : Nat), (13 : Nat), (21 : Nat))]) ∈ lw_all := lw_g (lw_at lw_m5 118 rfl) rfl
theorem q1201 : (Jvm.Cond.methodLink "LastbusLaw" (60 : Nat) ({ cls := "Lastbus", name := "stopAt", desc := "(II)I" } : Jvm.MethodName)) ∈ lw_all := lw_g (lw_at lw_m5 119 rfl) rfl
theorem q1209 : (Jvm.Cond.methodLink "LastbusLaw" (236 : Nat) ({ cls := "LastbusLaw", name := "timeAt", desc := "(LLastbus;IIZ[J)I" } : Jvm.MethodName)) ∈ lw_all := lw_g (lw_at lw_m5 127 rfl) rfl
theorem q1210 : (Jvm.Cond.static ({ cls := "LastbusLaw", name := "timeAt", desc := "(LLastbus;IIZ[J)I" } : Jvm.MethodName)) ∈ lw_all := lw_g (lw_at lw_m5 128 rfl) rfl
theorem q1211 : (Jvm.Cond.codeWith ({ cls := "LastbusLaw", name := "timeAt", desc := "(LLastbus;IIZ[J)I" } : Jvm.MethodName) method_16_code (6 : Nat) (Option.some Jvm.ClassFile.FieldType.int) [((0 : Nat), (12 : Nat), (15 : Nat), (21 : Nat))]) ∈ lw_all := lw_g (lw_at lw_m5 129 rfl) rfl
theorem q1212 : (Jvm.Cond.methodLink "LastbusLaw" (63 : Nat) ({ cls := "Lastbus", name := "timeAt", desc := "(IIZ)I" } : Jvm.MethodName)) ∈ lw_all := lw_g (lw_at lw_m5 130 rfl) rfl
theorem q1216 : (Jvm.Cond.methodLink "LastbusLaw" (239 : Nat) ({ cls := "LastbusLaw", name := "shift", desc := "(LLastbus;II[J)I" } : Jvm.MethodName)) ∈ lw_all := lw_g (lw_at lw_m5 134 rfl) rfl
theorem q1217 : (Jvm.Cond.static ({ cls := "LastbusLaw", name := "shift", desc := "(LLastbus;II[J)I" } : Jvm.MethodName)) ∈ lw_all := lw_g (lw_at lw_m5 135 rfl) rfl
theorem q1218 : (Jvm.Cond.codeWith ({ cls := "LastbusLaw", name := "shift", desc := "(LLastbus;II[J)I" } : Jvm.MethodName) method_17_code (5 : Nat) (Option.some Jvm.ClassFile.FieldType.int) [((0 : Nat), (10 : Nat), (13 : Nat), (21 : Nat)), ((0 : Nat), (10 : Nat), (17 : Nat), (13 : Nat))]) ∈ lw_all := lw_g (lw_at lw_m5 136 rfl) rfl
theorem q1219 : (Jvm.Cond.methodLink "LastbusLaw" (67 : Nat) ({ cls := "Lastbus", name := "shift", desc := "(II)I" } : Jvm.MethodName)) ∈ lw_all := lw_g (lw_at lw_m5 137 rfl) rfl
theorem q1252 : (Jvm.Cond.methodLink "LastbusLaw" (242 : Nat) ({ cls := "LastbusLaw", name := "type", desc := "(LLastbus;C[J)I" } : Jvm.MethodName)) ∈ lw_all := lw_g (lw_at lw_m5 170 rfl) rfl
theorem q1253 : (Jvm.Cond.static ({ cls := "LastbusLaw", name := "type", desc := "(LLastbus;C[J)I" } : Jvm.MethodName)) ∈ lw_all := lw_g (lw_at lw_m5 171 rfl) rfl
theorem q1254 : (Jvm.Cond.codeWith ({ cls := "LastbusLaw", name := "type", desc := "(LLastbus;C[J)I" } : Jvm.MethodName) method_18_code (4 : Nat) (Option.some Jvm.ClassFile.FieldType.int) [((0 : Nat), (9 : Nat), (12 : Nat), (15 : Nat))]) ∈ lw_all := lw_g (lw_at lw_m5 172 rfl) rfl
theorem q1255 : (Jvm.Cond.methodLink "LastbusLaw" (70 : Nat) ({ cls := "Lastbus", name := "type", desc := "(C)I" } : Jvm.MethodName)) ∈ lw_all := lw_g (lw_at lw_m5 173 rfl) rfl
theorem q1279 : (Jvm.Cond.methodLink "LastbusLaw" (246 : Nat) ({ cls := "LastbusLaw", name := "typeNumber", desc := "(LLastbus;I[J)I" } : Jvm.MethodName)) ∈ lw_all := lw_g (lw_at lw_m5 197 rfl) rfl
theorem q1280 : (Jvm.Cond.static ({ cls := "LastbusLaw", name := "typeNumber", desc := "(LLastbus;I[J)I" } : Jvm.MethodName)) ∈ lw_all := lw_g (lw_at lw_m5 198 rfl) rfl
theorem q1281 : (Jvm.Cond.codeWith ({ cls := "LastbusLaw", name := "typeNumber", desc := "(LLastbus;I[J)I" } : Jvm.MethodName) method_19_code (4 : Nat) (Option.some Jvm.ClassFile.FieldType.int) [((0 : Nat), (9 : Nat), (12 : Nat), (13 : Nat)), ((0 : Nat), (9 : Nat), (15 : Nat), (15 : Nat))]) ∈ lw_all := lw_g (lw_at lw_m5 199 rfl) rfl
theorem q1282 : (Jvm.Cond.methodLink "LastbusLaw" (74 : Nat) ({ cls := "Lastbus", name := "typeNumber", desc := "(I)I" } : Jvm.MethodName)) ∈ lw_all := lw_g (lw_at lw_m5 200 rfl) rfl
theorem q1287 : (Jvm.Cond.methodLink "LastbusLaw" (253 : Nat) ({ cls := "LastbusLaw", name := "readRow", desc := "(LLastbus;[J)I" } : Jvm.MethodName)) ∈ lw_all := lw_g (lw_at lw_m5 205 rfl) rfl
theorem q1288 : (Jvm.Cond.static ({ cls := "LastbusLaw", name := "readRow", desc := "(LLastbus;[J)I" } : Jvm.MethodName)) ∈ lw_all := lw_g (lw_at lw_m5 206 rfl) rfl
theorem q1289 : (Jvm.Cond.codeWith ({ cls := "LastbusLaw", name := "readRow", desc := "(LLastbus;[J)I" } : Jvm.MethodName) method_20_code (3 : Nat) (Option.some Jvm.ClassFile.FieldType.int) [((0 : Nat), (8 : Nat), (11 : Nat), (13 : Nat)), ((0 : Nat), (8 : Nat), (14 : Nat), (80 : Nat)), ((0 : Nat), (8 : Nat), (17 : Nat), (15 : Nat))]) ∈ lw_all := lw_g (lw_at lw_m5 207 rfl) rfl
theorem q1290 : (Jvm.Cond.classLink "LastbusLaw" (80 : Nat) "java/lang/UnsupportedOperationException") ∈ lw_all := lw_g (lw_at lw_m5 208 rfl) rfl
theorem q1291 : (Jvm.Cond.methodLink "LastbusLaw" (77 : Nat) ({ cls := "Lastbus", name := "readRow", desc := "()I" } : Jvm.MethodName)) ∈ lw_all := lw_g (lw_at lw_m5 209 rfl) rfl
theorem q1475 : (Jvm.Cond.methodLink "LastbusLaw" (256 : Nat) ({ cls := "LastbusLaw", name := "faultAt", desc := "(LLastbus;[J)I" } : Jvm.MethodName)) ∈ lw_all := lw_g (lw_at lw_m6 153 rfl) rfl
theorem q1476 : (Jvm.Cond.static ({ cls := "LastbusLaw", name := "faultAt", desc := "(LLastbus;[J)I" } : Jvm.MethodName)) ∈ lw_all := lw_g (lw_at lw_m6 154 rfl) rfl
theorem q1477 : (Jvm.Cond.codeWith ({ cls := "LastbusLaw", name := "faultAt", desc := "(LLastbus;[J)I" } : Jvm.MethodName) method_21_code (3 : Nat) (Option.some Jvm.ClassFile.FieldType.int) [((0 : Nat), (8 : Nat), (11 : Nat), (30 : Nat))]) ∈ lw_all := lw_g (lw_at lw_m6 155 rfl) rfl
theorem q1478 : (Jvm.Cond.methodLink "LastbusLaw" (82 : Nat) ({ cls := "Lastbus", name := "faultAt", desc := "()I" } : Jvm.MethodName)) ∈ lw_all := lw_g (lw_at lw_m6 156 rfl) rfl
theorem q1482 : (Jvm.Cond.methodLink "LastbusLaw" (259 : Nat) ({ cls := "LastbusLaw", name := "late", desc := "(LLastbus;IIII[J)I" } : Jvm.MethodName)) ∈ lw_all := lw_g (lw_at lw_m6 160 rfl) rfl
theorem q1483 : (Jvm.Cond.static ({ cls := "LastbusLaw", name := "late", desc := "(LLastbus;IIII[J)I" } : Jvm.MethodName)) ∈ lw_all := lw_g (lw_at lw_m6 161 rfl) rfl
theorem q1484 : (Jvm.Cond.codeWith ({ cls := "LastbusLaw", name := "late", desc := "(LLastbus;IIII[J)I" } : Jvm.MethodName) method_22_code (7 : Nat) (Option.some Jvm.ClassFile.FieldType.int) [((0 : Nat), (14 : Nat), (17 : Nat), (21 : Nat)), ((0 : Nat), (14 : Nat), (21 : Nat), (13 : Nat)), ((0 : Nat), (14 : Nat), (25 : Nat), (15 : Nat))]) ∈ lw_all := lw_g (lw_at lw_m6 162 rfl) rfl
theorem q1485 : (Jvm.Cond.methodLink "LastbusLaw" (85 : Nat) ({ cls := "Lastbus", name := "late", desc := "(IIII)I" } : Jvm.MethodName)) ∈ lw_all := lw_g (lw_at lw_m6 163 rfl) rfl
theorem q1839 : (Jvm.Cond.methodLink "LastbusLaw" (262 : Nat) ({ cls := "LastbusLaw", name := "lateness", desc := "(LLastbus;III[J)I" } : Jvm.MethodName)) ∈ lw_all := lw_g (lw_at lw_m8 37 rfl) rfl
theorem q1840 : (Jvm.Cond.static ({ cls := "LastbusLaw", name := "lateness", desc := "(LLastbus;III[J)I" } : Jvm.MethodName)) ∈ lw_all := lw_g (lw_at lw_m8 38 rfl) rfl
theorem q1841 : (Jvm.Cond.codeWith ({ cls := "LastbusLaw", name := "lateness", desc := "(LLastbus;III[J)I" } : Jvm.MethodName) method_23_code (6 : Nat) (Option.some Jvm.ClassFile.FieldType.int) [((0 : Nat), (12 : Nat), (15 : Nat), (21 : Nat)), ((0 : Nat), (12 : Nat), (19 : Nat), (13 : Nat))]) ∈ lw_all := lw_g (lw_at lw_m8 39 rfl) rfl
theorem q1842 : (Jvm.Cond.methodLink "LastbusLaw" (88 : Nat) ({ cls := "Lastbus", name := "lateness", desc := "(III)I" } : Jvm.MethodName)) ∈ lw_all := lw_g (lw_at lw_m8 40 rfl) rfl
theorem q1854 : (Jvm.Cond.methodLink "LastbusLaw" (269 : Nat) ({ cls := "LastbusLaw", name := "earliest", desc := "(LLastbus;IIII[J)I" } : Jvm.MethodName)) ∈ lw_all := lw_g (lw_at lw_m8 52 rfl) rfl
theorem q1855 : (Jvm.Cond.static ({ cls := "LastbusLaw", name := "earliest", desc := "(LLastbus;IIII[J)I" } : Jvm.MethodName)) ∈ lw_all := lw_g (lw_at lw_m8 53 rfl) rfl
theorem q1856 : (Jvm.Cond.codeWith ({ cls := "LastbusLaw", name := "earliest", desc := "(LLastbus;IIII[J)I" } : Jvm.MethodName) method_24_code (7 : Nat) (Option.some Jvm.ClassFile.FieldType.int) [((0 : Nat), (14 : Nat), (17 : Nat), (21 : Nat)), ((0 : Nat), (14 : Nat), (21 : Nat), (13 : Nat)), ((0 : Nat), (14 : Nat), (25 : Nat), (30 : Nat))]) ∈ lw_all := lw_g (lw_at lw_m8 54 rfl) rfl
theorem q1857 : (Jvm.Cond.methodLink "LastbusLaw" (91 : Nat) ({ cls := "Lastbus", name := "earliest", desc := "(IIII)I" } : Jvm.MethodName)) ∈ lw_all := lw_g (lw_at lw_m8 55 rfl) rfl
theorem q2164 : (Jvm.Cond.methodLink "LastbusLaw" (272 : Nat) ({ cls := "LastbusLaw", name := "earliestByQueue", desc := "(LLastbus;IIII[J)I" } : Jvm.MethodName)) ∈ lw_all := lw_g (lw_at lw_m9 122 rfl) rfl
theorem q2165 : (Jvm.Cond.static ({ cls := "LastbusLaw", name := "earliestByQueue", desc := "(LLastbus;IIII[J)I" } : Jvm.MethodName)) ∈ lw_all := lw_g (lw_at lw_m9 123 rfl) rfl
theorem q2166 : (Jvm.Cond.codeWith ({ cls := "LastbusLaw", name := "earliestByQueue", desc := "(LLastbus;IIII[J)I" } : Jvm.MethodName) method_25_code (7 : Nat) (Option.some Jvm.ClassFile.FieldType.int) [((0 : Nat), (14 : Nat), (17 : Nat), (21 : Nat)), ((0 : Nat), (14 : Nat), (21 : Nat), (13 : Nat)), ((0 : Nat), (14 : Nat), (25 : Nat), (30 : Nat))]) ∈ lw_all := lw_g (lw_at lw_m9 124 rfl) rfl
theorem q2167 : (Jvm.Cond.methodLink "LastbusLaw" (94 : Nat) ({ cls := "Lastbus", name := "earliestByQueue", desc := "(IIII)I" } : Jvm.MethodName)) ∈ lw_all := lw_g (lw_at lw_m9 125 rfl) rfl
theorem q2308 : (Jvm.Cond.methodLink "LastbusLaw" (275 : Nat) ({ cls := "LastbusLaw", name := "earliestByRounds", desc := "(LLastbus;IIII[J)I" } : Jvm.MethodName)) ∈ lw_all := lw_g (lw_at lw_m10 26 rfl) rfl
theorem q2309 : (Jvm.Cond.static ({ cls := "LastbusLaw", name := "earliestByRounds", desc := "(LLastbus;IIII[J)I" } : Jvm.MethodName)) ∈ lw_all := lw_g (lw_at lw_m10 27 rfl) rfl
theorem q2310 : (Jvm.Cond.codeWith ({ cls := "LastbusLaw", name := "earliestByRounds", desc := "(LLastbus;IIII[J)I" } : Jvm.MethodName) method_26_code (7 : Nat) (Option.some Jvm.ClassFile.FieldType.int) [((0 : Nat), (14 : Nat), (17 : Nat), (21 : Nat)), ((0 : Nat), (14 : Nat), (21 : Nat), (13 : Nat)), ((0 : Nat), (14 : Nat), (25 : Nat), (30 : Nat))]) ∈ lw_all := lw_g (lw_at lw_m10 28 rfl) rfl
theorem q2311 : (Jvm.Cond.methodLink "LastbusLaw" (97 : Nat) ({ cls := "Lastbus", name := "earliestByRounds", desc := "(IIII)I" } : Jvm.MethodName)) ∈ lw_all := lw_g (lw_at lw_m10 29 rfl) rfl
theorem q2326 : (Jvm.Cond.methodLink "LastbusLaw" (278 : Nat) ({ cls := "LastbusLaw", name := "wall", desc := "(LLastbus;IIII[J)I" } : Jvm.MethodName)) ∈ lw_all := lw_g (lw_at lw_m10 44 rfl) rfl
theorem q2327 : (Jvm.Cond.static ({ cls := "LastbusLaw", name := "wall", desc := "(LLastbus;IIII[J)I" } : Jvm.MethodName)) ∈ lw_all := lw_g (lw_at lw_m10 45 rfl) rfl
theorem q2328 : (Jvm.Cond.codeWith ({ cls := "LastbusLaw", name := "wall", desc := "(LLastbus;IIII[J)I" } : Jvm.MethodName) method_27_code (7 : Nat) (Option.some Jvm.ClassFile.FieldType.int) [((0 : Nat), (14 : Nat), (17 : Nat), (21 : Nat)), ((0 : Nat), (14 : Nat), (21 : Nat), (13 : Nat))]) ∈ lw_all := lw_g (lw_at lw_m10 46 rfl) rfl
theorem q2329 : (Jvm.Cond.methodLink "LastbusLaw" (100 : Nat) ({ cls := "Lastbus", name := "wall", desc := "(IIII)I" } : Jvm.MethodName)) ∈ lw_all := lw_g (lw_at lw_m10 47 rfl) rfl
theorem q2333 : (Jvm.Cond.methodLink "LastbusLaw" (281 : Nat) ({ cls := "LastbusLaw", name := "last", desc := "(LLastbus;IIII[J)I" } : Jvm.MethodName)) ∈ lw_all := lw_g (lw_at lw_m10 51 rfl) rfl
theorem q2334 : (Jvm.Cond.static ({ cls := "LastbusLaw", name := "last", desc := "(LLastbus;IIII[J)I" } : Jvm.MethodName)) ∈ lw_all := lw_g (lw_at lw_m10 52 rfl) rfl
theorem q2335 : (Jvm.Cond.codeWith ({ cls := "LastbusLaw", name := "last", desc := "(LLastbus;IIII[J)I" } : Jvm.MethodName) method_28_code (7 : Nat) (Option.some Jvm.ClassFile.FieldType.int) [((0 : Nat), (14 : Nat), (17 : Nat), (21 : Nat)), ((0 : Nat), (14 : Nat), (21 : Nat), (13 : Nat)), ((0 : Nat), (14 : Nat), (25 : Nat), (30 : Nat))]) ∈ lw_all := lw_g (lw_at lw_m10 53 rfl) rfl
theorem q2336 : (Jvm.Cond.methodLink "LastbusLaw" (103 : Nat) ({ cls := "Lastbus", name := "last", desc := "(IIII)I" } : Jvm.MethodName)) ∈ lw_all := lw_g (lw_at lw_m10 54 rfl) rfl
theorem q2369 : (Jvm.Cond.methodLink "LastbusLaw" (284 : Nat) ({ cls := "LastbusLaw", name := "chain", desc := "(LLastbus;IIII[J)I" } : Jvm.MethodName)) ∈ lw_all := lw_g (lw_at lw_m10 87 rfl) rfl
theorem q2370 : (Jvm.Cond.static ({ cls := "LastbusLaw", name := "chain", desc := "(LLastbus;IIII[J)I" } : Jvm.MethodName)) ∈ lw_all := lw_g (lw_at lw_m10 88 rfl) rfl
theorem q2371 : (Jvm.Cond.codeWith ({ cls := "LastbusLaw", name := "chain", desc := "(LLastbus;IIII[J)I" } : Jvm.MethodName) method_29_code (7 : Nat) (Option.some Jvm.ClassFile.FieldType.int) [((0 : Nat), (14 : Nat), (17 : Nat), (21 : Nat)), ((0 : Nat), (14 : Nat), (21 : Nat), (13 : Nat)), ((0 : Nat), (14 : Nat), (25 : Nat), (30 : Nat))]) ∈ lw_all := lw_g (lw_at lw_m10 89 rfl) rfl
theorem q2372 : (Jvm.Cond.methodLink "LastbusLaw" (106 : Nat) ({ cls := "Lastbus", name := "chain", desc := "(IIII)I" } : Jvm.MethodName)) ∈ lw_all := lw_g (lw_at lw_m10 90 rfl) rfl
theorem q2428 : (Jvm.Cond.methodLink "LastbusLaw" (287 : Nat) ({ cls := "LastbusLaw", name := "ride", desc := "(LLastbus;IC[J)I" } : Jvm.MethodName)) ∈ lw_all := lw_g (lw_at lw_m10 146 rfl) rfl
theorem q2429 : (Jvm.Cond.static ({ cls := "LastbusLaw", name := "ride", desc := "(LLastbus;IC[J)I" } : Jvm.MethodName)) ∈ lw_all := lw_g (lw_at lw_m10 147 rfl) rfl
theorem q2430 : (Jvm.Cond.codeWith ({ cls := "LastbusLaw", name := "ride", desc := "(LLastbus;IC[J)I" } : Jvm.MethodName) method_30_code (5 : Nat) (Option.some Jvm.ClassFile.FieldType.int) [((0 : Nat), (10 : Nat), (13 : Nat), (13 : Nat)), ((0 : Nat), (10 : Nat), (17 : Nat), (30 : Nat))]) ∈ lw_all := lw_g (lw_at lw_m10 148 rfl) rfl
theorem q2431 : (Jvm.Cond.methodLink "LastbusLaw" (109 : Nat) ({ cls := "Lastbus", name := "ride", desc := "(IC)I" } : Jvm.MethodName)) ∈ lw_all := lw_g (lw_at lw_m10 149 rfl) rfl
theorem q2496 : (Jvm.Cond.methodLink "LastbusLaw" (291 : Nat) ({ cls := "LastbusLaw", name := "onBoard", desc := "(LLastbus;IIII[J)I" } : Jvm.MethodName)) ∈ lw_all := lw_g (lw_at lw_m10 214 rfl) rfl
theorem q2497 : (Jvm.Cond.static ({ cls := "LastbusLaw", name := "onBoard", desc := "(LLastbus;IIII[J)I" } : Jvm.MethodName)) ∈ lw_all := lw_g (lw_at lw_m10 215 rfl) rfl
theorem q2498 : (Jvm.Cond.codeWith ({ cls := "LastbusLaw", name := "onBoard", desc := "(LLastbus;IIII[J)I" } : Jvm.MethodName) method_31_code (7 : Nat) (Option.some Jvm.ClassFile.FieldType.int) [((0 : Nat), (14 : Nat), (17 : Nat), (21 : Nat)), ((0 : Nat), (14 : Nat), (21 : Nat), (13 : Nat)), ((0 : Nat), (14 : Nat), (25 : Nat), (80 : Nat)), ((0 : Nat), (14 : Nat), (29 : Nat), (30 : Nat))]) ∈ lw_all := lw_g (lw_at lw_m10 216 rfl) rfl
theorem q2499 : (Jvm.Cond.methodLink "LastbusLaw" (113 : Nat) ({ cls := "Lastbus", name := "onBoard", desc := "(IIII)I" } : Jvm.MethodName)) ∈ lw_all := lw_g (lw_at lw_m10 217 rfl) rfl
theorem q2506 : (Jvm.Cond.methodLink "LastbusLaw" (294 : Nat) ({ cls := "LastbusLaw", name := "pairs", desc := "(LLastbus;III[J)I" } : Jvm.MethodName)) ∈ lw_all := lw_g (lw_at lw_m10 224 rfl) rfl
theorem q2507 : (Jvm.Cond.static ({ cls := "LastbusLaw", name := "pairs", desc := "(LLastbus;III[J)I" } : Jvm.MethodName)) ∈ lw_all := lw_g (lw_at lw_m10 225 rfl) rfl
theorem q2508 : (Jvm.Cond.codeWith ({ cls := "LastbusLaw", name := "pairs", desc := "(LLastbus;III[J)I" } : Jvm.MethodName) method_32_code (6 : Nat) (Option.some Jvm.ClassFile.FieldType.int) [((0 : Nat), (12 : Nat), (15 : Nat), (21 : Nat)), ((0 : Nat), (12 : Nat), (19 : Nat), (13 : Nat))]) ∈ lw_all := lw_g (lw_at lw_m10 226 rfl) rfl
theorem q2509 : (Jvm.Cond.methodLink "LastbusLaw" (116 : Nat) ({ cls := "Lastbus", name := "pairs", desc := "(III)I" } : Jvm.MethodName)) ∈ lw_all := lw_g (lw_at lw_m10 227 rfl) rfl
theorem q2754 : (Jvm.Cond.methodLink "LastbusLaw" (297 : Nat) ({ cls := "LastbusLaw", name := "pair", desc := "(LLastbus;IIIIZ[J)I" } : Jvm.MethodName)) ∈ lw_all := lw_g (lw_at lw_m11 232 rfl) rfl
theorem q2755 : (Jvm.Cond.static ({ cls := "LastbusLaw", name := "pair", desc := "(LLastbus;IIIIZ[J)I" } : Jvm.MethodName)) ∈ lw_all := lw_g (lw_at lw_m11 233 rfl) rfl
theorem q2756 : (Jvm.Cond.codeWith ({ cls := "LastbusLaw", name := "pair", desc := "(LLastbus;IIIIZ[J)I" } : Jvm.MethodName) method_33_code (8 : Nat) (Option.some Jvm.ClassFile.FieldType.int) [((0 : Nat), (16 : Nat), (19 : Nat), (21 : Nat)), ((0 : Nat), (16 : Nat), (23 : Nat), (13 : Nat)), ((0 : Nat), (16 : Nat), (27 : Nat), (30 : Nat))]) ∈ lw_all := lw_g (lw_at lw_m11 234 rfl) rfl
theorem q2757 : (Jvm.Cond.methodLink "LastbusLaw" (119 : Nat) ({ cls := "Lastbus", name := "pair", desc := "(IIIIZ)I" } : Jvm.MethodName)) ∈ lw_all := lw_g (lw_at lw_m11 235 rfl) rfl
theorem q2769 : (Jvm.Cond.methodLink "LastbusLaw" (301 : Nat) ({ cls := "LastbusLaw", name := "byPairs", desc := "(LLastbus;IIII[J)I" } : Jvm.MethodName)) ∈ lw_all := lw_g (lw_at lw_m12 7 rfl) rfl
theorem q2770 : (Jvm.Cond.static ({ cls := "LastbusLaw", name := "byPairs", desc := "(LLastbus;IIII[J)I" } : Jvm.MethodName)) ∈ lw_all := lw_g (lw_at lw_m12 8 rfl) rfl
theorem q2771 : (Jvm.Cond.codeWith ({ cls := "LastbusLaw", name := "byPairs", desc := "(LLastbus;IIII[J)I" } : Jvm.MethodName) method_34_code (7 : Nat) (Option.some Jvm.ClassFile.FieldType.int) [((0 : Nat), (14 : Nat), (17 : Nat), (21 : Nat)), ((0 : Nat), (14 : Nat), (21 : Nat), (13 : Nat)), ((0 : Nat), (14 : Nat), (25 : Nat), (30 : Nat))]) ∈ lw_all := lw_g (lw_at lw_m12 9 rfl) rfl
theorem q2772 : (Jvm.Cond.methodLink "LastbusLaw" (123 : Nat) ({ cls := "Lastbus", name := "byPairs", desc := "(IIII)I" } : Jvm.MethodName)) ∈ lw_all := lw_g (lw_at lw_m12 10 rfl) rfl
theorem q2787 : (Jvm.Cond.methodLink "LastbusLaw" (304 : Nat) ({ cls := "LastbusLaw", name := "choices", desc := "(LLastbus;IIII[J)I" } : Jvm.MethodName)) ∈ lw_all := lw_g (lw_at lw_m12 25 rfl) rfl
theorem q2788 : (Jvm.Cond.static ({ cls := "LastbusLaw", name := "choices", desc := "(LLastbus;IIII[J)I" } : Jvm.MethodName)) ∈ lw_all := lw_g (lw_at lw_m12 26 rfl) rfl
theorem q2789 : (Jvm.Cond.codeWith ({ cls := "LastbusLaw", name := "choices", desc := "(LLastbus;IIII[J)I" } : Jvm.MethodName) method_35_code (7 : Nat) (Option.some Jvm.ClassFile.FieldType.int) [((0 : Nat), (14 : Nat), (17 : Nat), (21 : Nat)), ((0 : Nat), (14 : Nat), (21 : Nat), (13 : Nat))]) ∈ lw_all := lw_g (lw_at lw_m12 27 rfl) rfl
theorem q2790 : (Jvm.Cond.methodLink "LastbusLaw" (126 : Nat) ({ cls := "Lastbus", name := "choices", desc := "(IIII)I" } : Jvm.MethodName)) ∈ lw_all := lw_g (lw_at lw_m12 28 rfl) rfl
theorem q2798 : (Jvm.Cond.methodLink "LastbusLaw" (307 : Nat) ({ cls := "LastbusLaw", name := "choice", desc := "(LLastbus;IIIII[J)I" } : Jvm.MethodName)) ∈ lw_all := lw_g (lw_at lw_m12 36 rfl) rfl
theorem q2799 : (Jvm.Cond.static ({ cls := "LastbusLaw", name := "choice", desc := "(LLastbus;IIIII[J)I" } : Jvm.MethodName)) ∈ lw_all := lw_g (lw_at lw_m12 37 rfl) rfl
theorem q2800 : (Jvm.Cond.codeWith ({ cls := "LastbusLaw", name := "choice", desc := "(LLastbus;IIIII[J)I" } : Jvm.MethodName) method_36_code (8 : Nat) (Option.some Jvm.ClassFile.FieldType.int) [((0 : Nat), (16 : Nat), (19 : Nat), (21 : Nat)), ((0 : Nat), (16 : Nat), (23 : Nat), (13 : Nat)), ((0 : Nat), (16 : Nat), (27 : Nat), (30 : Nat))]) ∈ lw_all := lw_g (lw_at lw_m12 38 rfl) rfl
theorem q2801 : (Jvm.Cond.methodLink "LastbusLaw" (129 : Nat) ({ cls := "Lastbus", name := "choice", desc := "(IIIII)I" } : Jvm.MethodName)) ∈ lw_all := lw_g (lw_at lw_m12 39 rfl) rfl
theorem q2805 : (Jvm.Cond.methodLink "LastbusLaw" (311 : Nat) ({ cls := "LastbusLaw", name := "holds", desc := "(LLastbus;IIIII[J)I" } : Jvm.MethodName)) ∈ lw_all := lw_g (lw_at lw_m12 43 rfl) rfl
theorem q2806 : (Jvm.Cond.static ({ cls := "LastbusLaw", name := "holds", desc := "(LLastbus;IIIII[J)I" } : Jvm.MethodName)) ∈ lw_all := lw_g (lw_at lw_m12 44 rfl) rfl
theorem q2807 : (Jvm.Cond.codeWith ({ cls := "LastbusLaw", name := "holds", desc := "(LLastbus;IIIII[J)I" } : Jvm.MethodName) method_37_code (8 : Nat) (Option.some Jvm.ClassFile.FieldType.int) [((0 : Nat), (23 : Nat), (26 : Nat), (21 : Nat)), ((0 : Nat), (23 : Nat), (30 : Nat), (13 : Nat)), ((0 : Nat), (23 : Nat), (34 : Nat), (80 : Nat)), ((0 : Nat), (23 : Nat), (38 : Nat), (30 : Nat))]) ∈ lw_all := lw_g (lw_at lw_m12 45 rfl) rfl
theorem q2808 : (Jvm.Cond.methodLink "LastbusLaw" (133 : Nat) ({ cls := "Lastbus", name := "holds", desc := "(IIIII)Z" } : Jvm.MethodName)) ∈ lw_all := lw_g (lw_at lw_m12 46 rfl) rfl
theorem q2816 : (Jvm.Cond.methodLink "LastbusLaw" (314 : Nat) ({ cls := "LastbusLaw", name := "wish", desc := "(LLastbus;IIIII[J)I" } : Jvm.MethodName)) ∈ lw_all := lw_g (lw_at lw_m12 54 rfl) rfl
theorem q2817 : (Jvm.Cond.static ({ cls := "LastbusLaw", name := "wish", desc := "(LLastbus;IIIII[J)I" } : Jvm.MethodName)) ∈ lw_all := lw_g (lw_at lw_m12 55 rfl) rfl
theorem q2818 : (Jvm.Cond.codeWith ({ cls := "LastbusLaw", name := "wish", desc := "(LLastbus;IIIII[J)I" } : Jvm.MethodName) method_38_code (8 : Nat) (Option.some Jvm.ClassFile.FieldType.int) [((0 : Nat), (16 : Nat), (19 : Nat), (21 : Nat)), ((0 : Nat), (16 : Nat), (23 : Nat), (13 : Nat)), ((0 : Nat), (16 : Nat), (27 : Nat), (80 : Nat)), ((0 : Nat), (16 : Nat), (31 : Nat), (15 : Nat))]) ∈ lw_all := lw_g (lw_at lw_m12 56 rfl) rfl
theorem q2819 : (Jvm.Cond.methodLink "LastbusLaw" (137 : Nat) ({ cls := "Lastbus", name := "wish", desc := "(IIIII)I" } : Jvm.MethodName)) ∈ lw_all := lw_g (lw_at lw_m12 57 rfl) rfl
theorem q2845 : (Jvm.Cond.methodLink "LastbusLaw" (321 : Nat) ({ cls := "LastbusLaw", name := "waitCost", desc := "(LLastbus;II[J)I" } : Jvm.MethodName)) ∈ lw_all := lw_g (lw_at lw_m12 83 rfl) rfl
theorem q2846 : (Jvm.Cond.static ({ cls := "LastbusLaw", name := "waitCost", desc := "(LLastbus;II[J)I" } : Jvm.MethodName)) ∈ lw_all := lw_g (lw_at lw_m12 84 rfl) rfl
theorem q2847 : (Jvm.Cond.codeWith ({ cls := "LastbusLaw", name := "waitCost", desc := "(LLastbus;II[J)I" } : Jvm.MethodName) method_39_code (5 : Nat) (Option.some Jvm.ClassFile.FieldType.int) [((0 : Nat), (10 : Nat), (13 : Nat), (13 : Nat)), ((0 : Nat), (10 : Nat), (17 : Nat), (30 : Nat))]) ∈ lw_all := lw_g (lw_at lw_m12 85 rfl) rfl
theorem q2848 : (Jvm.Cond.methodLink "LastbusLaw" (140 : Nat) ({ cls := "Lastbus", name := "waitCost", desc := "(II)I" } : Jvm.MethodName)) ∈ lw_all := lw_g (lw_at lw_m12 86 rfl) rfl
theorem q2899 : (Jvm.Cond.methodLink "LastbusLaw" (324 : Nat) ({ cls := "LastbusLaw", name := "bestWaits", desc := "(LLastbus;I[J)I" } : Jvm.MethodName)) ∈ lw_all := lw_g (lw_at lw_m12 137 rfl) rfl
theorem q2900 : (Jvm.Cond.static ({ cls := "LastbusLaw", name := "bestWaits", desc := "(LLastbus;I[J)I" } : Jvm.MethodName)) ∈ lw_all := lw_g (lw_at lw_m12 138 rfl) rfl
theorem q2901 : (Jvm.Cond.codeWith ({ cls := "LastbusLaw", name := "bestWaits", desc := "(LLastbus;I[J)I" } : Jvm.MethodName) method_40_code (4 : Nat) (Option.some Jvm.ClassFile.FieldType.int) [((0 : Nat), (9 : Nat), (12 : Nat), (13 : Nat))]) ∈ lw_all := lw_g (lw_at lw_m12 139 rfl) rfl
theorem q2902 : (Jvm.Cond.methodLink "LastbusLaw" (143 : Nat) ({ cls := "Lastbus", name := "bestWaits", desc := "(I)I" } : Jvm.MethodName)) ∈ lw_all := lw_g (lw_at lw_m12 140 rfl) rfl
theorem q2906 : (Jvm.Cond.methodLink "LastbusLaw" (327 : Nat) ({ cls := "LastbusLaw", name := "lost", desc := "(LLastbus;II[J)I" } : Jvm.MethodName)) ∈ lw_all := lw_g (lw_at lw_m12 144 rfl) rfl
theorem q2907 : (Jvm.Cond.static ({ cls := "LastbusLaw", name := "lost", desc := "(LLastbus;II[J)I" } : Jvm.MethodName)) ∈ lw_all := lw_g (lw_at lw_m12 145 rfl) rfl
theorem q2908 : (Jvm.Cond.codeWith ({ cls := "LastbusLaw", name := "lost", desc := "(LLastbus;II[J)I" } : Jvm.MethodName) method_41_code (5 : Nat) (Option.some Jvm.ClassFile.FieldType.int) [((0 : Nat), (10 : Nat), (13 : Nat), (21 : Nat)), ((0 : Nat), (10 : Nat), (17 : Nat), (13 : Nat))]) ∈ lw_all := lw_g (lw_at lw_m12 146 rfl) rfl
theorem q2909 : (Jvm.Cond.methodLink "LastbusLaw" (146 : Nat) ({ cls := "Lastbus", name := "lost", desc := "(II)I" } : Jvm.MethodName)) ∈ lw_all := lw_g (lw_at lw_m12 147 rfl) rfl
theorem q2935 : (Jvm.Cond.methodLink "LastbusLaw" (330 : Nat) ({ cls := "LastbusLaw", name := "bridges", desc := "(LLastbus;I[J)I" } : Jvm.MethodName)) ∈ lw_all := lw_g (lw_at lw_m12 173 rfl) rfl
theorem q2936 : (Jvm.Cond.static ({ cls := "LastbusLaw", name := "bridges", desc := "(LLastbus;I[J)I" } : Jvm.MethodName)) ∈ lw_all := lw_g (lw_at lw_m12 174 rfl) rfl
theorem q2937 : (Jvm.Cond.codeWith ({ cls := "LastbusLaw", name := "bridges", desc := "(LLastbus;I[J)I" } : Jvm.MethodName) method_42_code (4 : Nat) (Option.some Jvm.ClassFile.FieldType.int) [((0 : Nat), (9 : Nat), (12 : Nat), (13 : Nat))]) ∈ lw_all := lw_g (lw_at lw_m12 175 rfl) rfl
theorem q2938 : (Jvm.Cond.methodLink "LastbusLaw" (149 : Nat) ({ cls := "Lastbus", name := "bridges", desc := "(I)I" } : Jvm.MethodName)) ∈ lw_all := lw_g (lw_at lw_m12 176 rfl) rfl
theorem q2942 : (Jvm.Cond.methodLink "LastbusLaw" (333 : Nat) ({ cls := "LastbusLaw", name := "vehicles", desc := "(LLastbus;I[J)I" } : Jvm.MethodName)) ∈ lw_all := lw_g (lw_at lw_m12 180 rfl) rfl
theorem q2943 : (Jvm.Cond.static ({ cls := "LastbusLaw", name := "vehicles", desc := "(LLastbus;I[J)I" } : Jvm.MethodName)) ∈ lw_all := lw_g (lw_at lw_m12 181 rfl) rfl
theorem q2944 : (Jvm.Cond.codeWith ({ cls := "LastbusLaw", name := "vehicles", desc := "(LLastbus;I[J)I" } : Jvm.MethodName) method_43_code (4 : Nat) (Option.some Jvm.ClassFile.FieldType.int) [((0 : Nat), (9 : Nat), (12 : Nat), (13 : Nat))]) ∈ lw_all := lw_g (lw_at lw_m12 182 rfl) rfl
theorem q2945 : (Jvm.Cond.methodLink "LastbusLaw" (152 : Nat) ({ cls := "Lastbus", name := "vehicles", desc := "(I)I" } : Jvm.MethodName)) ∈ lw_all := lw_g (lw_at lw_m12 183 rfl) rfl
theorem q2998 : (Jvm.Cond.methodLink "LastbusLaw" (336 : Nat) ({ cls := "LastbusLaw", name := "vehiclesByMatching", desc := "(LLastbus;I[J)I" } : Jvm.MethodName)) ∈ lw_all := lw_g (lw_at lw_m12 236 rfl) rfl
theorem q2999 : (Jvm.Cond.static ({ cls := "LastbusLaw", name := "vehiclesByMatching", desc := "(LLastbus;I[J)I" } : Jvm.MethodName)) ∈ lw_all := lw_g (lw_at lw_m12 237 rfl) rfl
theorem q3000 : (Jvm.Cond.codeWith ({ cls := "LastbusLaw", name := "vehiclesByMatching", desc := "(LLastbus;I[J)I" } : Jvm.MethodName) method_44_code (4 : Nat) (Option.some Jvm.ClassFile.FieldType.int) [((0 : Nat), (9 : Nat), (12 : Nat), (13 : Nat))]) ∈ lw_all := lw_g (lw_at lw_m12 238 rfl) rfl
theorem q3001 : (Jvm.Cond.methodLink "LastbusLaw" (155 : Nat) ({ cls := "Lastbus", name := "vehiclesByMatching", desc := "(I)I" } : Jvm.MethodName)) ∈ lw_all := lw_g (lw_at lw_m12 239 rfl) rfl
theorem q3011 : (Jvm.Cond.methodLink "LastbusLaw" (339 : Nat) ({ cls := "LastbusLaw", name := "gains", desc := "(LLastbus;IIII[J)I" } : Jvm.MethodName)) ∈ lw_all := lw_g (lw_at lw_m13 9 rfl) rfl
theorem q3012 : (Jvm.Cond.static ({ cls := "LastbusLaw", name := "gains", desc := "(LLastbus;IIII[J)I" } : Jvm.MethodName)) ∈ lw_all := lw_g (lw_at lw_m13 10 rfl) rfl
theorem q3013 : (Jvm.Cond.codeWith ({ cls := "LastbusLaw", name := "gains", desc := "(LLastbus;IIII[J)I" } : Jvm.MethodName) method_45_code (7 : Nat) (Option.some Jvm.ClassFile.FieldType.int) [((0 : Nat), (14 : Nat), (17 : Nat), (21 : Nat)), ((0 : Nat), (14 : Nat), (21 : Nat), (13 : Nat))]) ∈ lw_all := lw_g (lw_at lw_m13 11 rfl) rfl
theorem q3014 : (Jvm.Cond.methodLink "LastbusLaw" (158 : Nat) ({ cls := "Lastbus", name := "gains", desc := "(IIII)I" } : Jvm.MethodName)) ∈ lw_all := lw_g (lw_at lw_m13 12 rfl) rfl
theorem q3026 : (Jvm.Cond.methodLink "LastbusLaw" (342 : Nat) ({ cls := "LastbusLaw", name := "loses", desc := "(LLastbus;IIII[J)I" } : Jvm.MethodName)) ∈ lw_all := lw_g (lw_at lw_m13 24 rfl) rfl
theorem q3027 : (Jvm.Cond.static ({ cls := "LastbusLaw", name := "loses", desc := "(LLastbus;IIII[J)I" } : Jvm.MethodName)) ∈ lw_all := lw_g (lw_at lw_m13 25 rfl) rfl
theorem q3028 : (Jvm.Cond.codeWith ({ cls := "LastbusLaw", name := "loses", desc := "(LLastbus;IIII[J)I" } : Jvm.MethodName) method_46_code (7 : Nat) (Option.some Jvm.ClassFile.FieldType.int) [((0 : Nat), (14 : Nat), (17 : Nat), (21 : Nat)), ((0 : Nat), (14 : Nat), (21 : Nat), (13 : Nat))]) ∈ lw_all := lw_g (lw_at lw_m13 26 rfl) rfl
theorem q3029 : (Jvm.Cond.methodLink "LastbusLaw" (161 : Nat) ({ cls := "Lastbus", name := "loses", desc := "(IIII)I" } : Jvm.MethodName)) ∈ lw_all := lw_g (lw_at lw_m13 27 rfl) rfl
theorem q3033 : (Jvm.Cond.methodLink "LastbusLaw" (345 : Nat) ({ cls := "LastbusLaw", name := "reachShare", desc := "(LLastbus;I[D)I" } : Jvm.MethodName)) ∈ lw_all := lw_g (lw_at lw_m13 31 rfl) rfl
theorem q3034 : (Jvm.Cond.static ({ cls := "LastbusLaw", name := "reachShare", desc := "(LLastbus;I[D)I" } : Jvm.MethodName)) ∈ lw_all := lw_g (lw_at lw_m13 32 rfl) rfl
theorem q3035 : (Jvm.Cond.codeWith ({ cls := "LastbusLaw", name := "reachShare", desc := "(LLastbus;I[D)I" } : Jvm.MethodName) method_47_code (4 : Nat) (Option.some Jvm.ClassFile.FieldType.int) [((0 : Nat), (9 : Nat), (12 : Nat), (13 : Nat)), ((0 : Nat), (9 : Nat), (15 : Nat), (168 : Nat))]) ∈ lw_all := lw_g (lw_at lw_m13 33 rfl) rfl
theorem q3036 : (Jvm.Cond.classLink "LastbusLaw" (168 : Nat) "java/lang/ArithmeticException") ∈ lw_all := lw_g (lw_at lw_m13 34 rfl) rfl
theorem q3050 : (Jvm.Cond.methodLink "LastbusLaw" (164 : Nat) ({ cls := "Lastbus", name := "reachShare", desc := "(I)F" } : Jvm.MethodName)) ∈ lw_all := lw_g (lw_at lw_m13 48 rfl) rfl
theorem q3059 : (Jvm.Cond.methodLink "LastbusLaw" (349 : Nat) ({ cls := "LastbusLaw", name := "meanBetween", desc := "(LLastbus;[D)I" } : Jvm.MethodName)) ∈ lw_all := lw_g (lw_at lw_m13 57 rfl) rfl
theorem q3060 : (Jvm.Cond.static ({ cls := "LastbusLaw", name := "meanBetween", desc := "(LLastbus;[D)I" } : Jvm.MethodName)) ∈ lw_all := lw_g (lw_at lw_m13 58 rfl) rfl
theorem q3061 : (Jvm.Cond.codeWith ({ cls := "LastbusLaw", name := "meanBetween", desc := "(LLastbus;[D)I" } : Jvm.MethodName) method_48_code (3 : Nat) (Option.some Jvm.ClassFile.FieldType.int) [((0 : Nat), (7 : Nat), (10 : Nat), (168 : Nat))]) ∈ lw_all := lw_g (lw_at lw_m13 59 rfl) rfl
theorem q3062 : (Jvm.Cond.methodLink "LastbusLaw" (170 : Nat) ({ cls := "Lastbus", name := "meanBetween", desc := "()D" } : Jvm.MethodName)) ∈ lw_all := lw_g (lw_at lw_m13 60 rfl) rfl
theorem q3066 : (Jvm.Cond.methodLink "LastbusLaw" (358 : Nat) ({ cls := "LastbusLaw", name := "isSound", desc := "(LLastbus;I[J)I" } : Jvm.MethodName)) ∈ lw_all := lw_g (lw_at lw_m13 64 rfl) rfl
theorem q3067 : (Jvm.Cond.static ({ cls := "LastbusLaw", name := "isSound", desc := "(LLastbus;I[J)I" } : Jvm.MethodName)) ∈ lw_all := lw_g (lw_at lw_m13 65 rfl) rfl
theorem q3068 : (Jvm.Cond.codeWith ({ cls := "LastbusLaw", name := "isSound", desc := "(LLastbus;I[J)I" } : Jvm.MethodName) method_49_code (4 : Nat) (Option.some Jvm.ClassFile.FieldType.int) [((0 : Nat), (16 : Nat), (19 : Nat), (13 : Nat))]) ∈ lw_all := lw_g (lw_at lw_m13 66 rfl) rfl
theorem q3069 : (Jvm.Cond.methodLink "LastbusLaw" (174 : Nat) ({ cls := "Lastbus", name := "isSound", desc := "(I)Z" } : Jvm.MethodName)) ∈ lw_all := lw_g (lw_at lw_m13 67 rfl) rfl
theorem q3087 : (Jvm.Cond.classLink "LastbusLaw" (179 : Nat) "LastbusModel") ∈ lw_all := lw_g (lw_at lw_m13 85 rfl) rfl
theorem q3089 : (Jvm.Cond.methodLink "LastbusLaw" (181 : Nat) ({ cls := "LastbusModel", name := "<init>", desc := "()V" } : Jvm.MethodName)) ∈ lw_all := lw_g (lw_at lw_m13 87 rfl) rfl
theorem q3245 : (Jvm.Cond.methodLink "LastbusLaw" (188 : Nat) ({ cls := "LastbusModel", name := "thrown", desc := "()I" } : Jvm.MethodName)) ∈ lw_all := lw_g (lw_at lw_m14 3 rfl) rfl
theorem q3249 : (Jvm.Cond.methodLink "LastbusLaw" (187 : Nat) ({ cls := "LastbusModel", name := "stop", desc := "(I)I" } : Jvm.MethodName)) ∈ lw_all := lw_g (lw_at lw_m14 7 rfl) rfl
theorem q3265 : (Jvm.Cond.methodLink "LastbusLaw" (194 : Nat) ({ cls := "LastbusModel", name := "setChange", desc := "(II)I" } : Jvm.MethodName)) ∈ lw_all := lw_g (lw_at lw_m14 23 rfl) rfl
theorem q3273 : (Jvm.Cond.methodLink "LastbusLaw" (198 : Nat) ({ cls := "LastbusModel", name := "walk", desc := "(III)I" } : Jvm.MethodName)) ∈ lw_all := lw_g (lw_at lw_m14 31 rfl) rfl
theorem q3277 : (Jvm.Cond.methodLink "LastbusLaw" (201 : Nat) ({ cls := "LastbusModel", name := "walkTime", desc := "(II)I" } : Jvm.MethodName)) ∈ lw_all := lw_g (lw_at lw_m14 35 rfl) rfl
theorem q3281 : (Jvm.Cond.methodLink "LastbusLaw" (205 : Nat) ({ cls := "LastbusModel", name := "service", desc := "()I" } : Jvm.MethodName)) ∈ lw_all := lw_g (lw_at lw_m14 39 rfl) rfl
theorem q3285 : (Jvm.Cond.methodLink "LastbusLaw" (209 : Nat) ({ cls := "LastbusModel", name := "week", desc := "(IIII)I" } : Jvm.MethodName)) ∈ lw_all := lw_g (lw_at lw_m14 43 rfl) rfl
theorem q3293 : (Jvm.Cond.methodLink "LastbusLaw" (213 : Nat) ({ cls := "LastbusModel", name := "putDay", desc := "(IIZ)Z" } : Jvm.MethodName)) ∈ lw_all := lw_g (lw_at lw_m14 51 rfl) rfl
theorem q3301 : (Jvm.Cond.methodLink "LastbusLaw" (216 : Nat) ({ cls := "LastbusModel", name := "runsOn", desc := "(II)Z" } : Jvm.MethodName)) ∈ lw_all := lw_g (lw_at lw_m14 59 rfl) rfl
theorem q3305 : (Jvm.Cond.methodLink "LastbusLaw" (219 : Nat) ({ cls := "LastbusModel", name := "nextDay", desc := "(II)I" } : Jvm.MethodName)) ∈ lw_all := lw_g (lw_at lw_m14 63 rfl) rfl
theorem q3309 : (Jvm.Cond.methodLink "LastbusLaw" (222 : Nat) ({ cls := "LastbusModel", name := "trip", desc := "(III)I" } : Jvm.MethodName)) ∈ lw_all := lw_g (lw_at lw_m14 67 rfl) rfl
theorem q3317 : (Jvm.Cond.methodLink "LastbusLaw" (225 : Nat) ({ cls := "LastbusModel", name := "call", desc := "(IIII)I" } : Jvm.MethodName)) ∈ lw_all := lw_g (lw_at lw_m14 75 rfl) rfl
theorem q3325 : (Jvm.Cond.methodLink "LastbusLaw" (229 : Nat) ({ cls := "LastbusModel", name := "trips", desc := "()I" } : Jvm.MethodName)) ∈ lw_all := lw_g (lw_at lw_m14 83 rfl) rfl
theorem q3329 : (Jvm.Cond.methodLink "LastbusLaw" (232 : Nat) ({ cls := "LastbusModel", name := "calls", desc := "(I)I" } : Jvm.MethodName)) ∈ lw_all := lw_g (lw_at lw_m14 87 rfl) rfl
theorem q3333 : (Jvm.Cond.methodLink "LastbusLaw" (235 : Nat) ({ cls := "LastbusModel", name := "stopAt", desc := "(II)I" } : Jvm.MethodName)) ∈ lw_all := lw_g (lw_at lw_m14 91 rfl) rfl
theorem q3341 : (Jvm.Cond.methodLink "LastbusLaw" (238 : Nat) ({ cls := "LastbusModel", name := "timeAt", desc := "(IIZ)I" } : Jvm.MethodName)) ∈ lw_all := lw_g (lw_at lw_m14 99 rfl) rfl
theorem q3345 : (Jvm.Cond.methodLink "LastbusLaw" (241 : Nat) ({ cls := "LastbusModel", name := "shift", desc := "(II)I" } : Jvm.MethodName)) ∈ lw_all := lw_g (lw_at lw_m14 103 rfl) rfl
theorem q3357 : (Jvm.Cond.methodLink "LastbusLaw" (245 : Nat) ({ cls := "LastbusModel", name := "type", desc := "(C)I" } : Jvm.MethodName)) ∈ lw_all := lw_g (lw_at lw_m14 115 rfl) rfl
theorem q3361 : (Jvm.Cond.methodLink "LastbusLaw" (248 : Nat) ({ cls := "LastbusModel", name := "typeNumber", desc := "(I)I" } : Jvm.MethodName)) ∈ lw_all := lw_g (lw_at lw_m14 119 rfl) rfl
theorem q3365 : (Jvm.Cond.methodLink "LastbusLaw" (252 : Nat) ({ cls := "LastbusModel", name := "erase", desc := "()I" } : Jvm.MethodName)) ∈ lw_all := lw_g (lw_at lw_m14 123 rfl) rfl
theorem q3369 : (Jvm.Cond.methodLink "LastbusLaw" (255 : Nat) ({ cls := "LastbusModel", name := "readRow", desc := "()I" } : Jvm.MethodName)) ∈ lw_all := lw_g (lw_at lw_m14 127 rfl) rfl
theorem q3385 : (Jvm.Cond.methodLink "LastbusLaw" (258 : Nat) ({ cls := "LastbusModel", name := "faultAt", desc := "()I" } : Jvm.MethodName)) ∈ lw_all := lw_g (lw_at lw_m14 143 rfl) rfl
theorem q3389 : (Jvm.Cond.methodLink "LastbusLaw" (261 : Nat) ({ cls := "LastbusModel", name := "late", desc := "(IIII)I" } : Jvm.MethodName)) ∈ lw_all := lw_g (lw_at lw_m14 147 rfl) rfl
theorem q3397 : (Jvm.Cond.methodLink "LastbusLaw" (264 : Nat) ({ cls := "LastbusModel", name := "lateness", desc := "(III)I" } : Jvm.MethodName)) ∈ lw_all := lw_g (lw_at lw_m14 155 rfl) rfl
theorem q3405 : (Jvm.Cond.methodLink "LastbusLaw" (268 : Nat) ({ cls := "LastbusModel", name := "onTime", desc := "()I" } : Jvm.MethodName)) ∈ lw_all := lw_g (lw_at lw_m14 163 rfl) rfl
theorem q3409 : (Jvm.Cond.methodLink "LastbusLaw" (271 : Nat) ({ cls := "LastbusModel", name := "earliest", desc := "(IIII)I" } : Jvm.MethodName)) ∈ lw_all := lw_g (lw_at lw_m14 167 rfl) rfl
theorem q3465 : (Jvm.Cond.methodLink "LastbusLaw" (274 : Nat) ({ cls := "LastbusModel", name := "earliestByQueue", desc := "(IIII)I" } : Jvm.MethodName)) ∈ lw_all := lw_g (lw_at lw_m14 223 rfl) rfl
theorem q3470 : (Jvm.Cond.methodLink "LastbusLaw" (277 : Nat) ({ cls := "LastbusModel", name := "earliestByRounds", desc := "(IIII)I" } : Jvm.MethodName)) ∈ lw_all := lw_g (lw_at lw_m14 228 rfl) rfl
theorem q3474 : (Jvm.Cond.methodLink "LastbusLaw" (303 : Nat) ({ cls := "LastbusModel", name := "byPairs", desc := "(IIII)I" } : Jvm.MethodName)) ∈ lw_all := lw_g (lw_at lw_m14 232 rfl) rfl
theorem q3478 : (Jvm.Cond.methodLink "LastbusLaw" (280 : Nat) ({ cls := "LastbusModel", name := "wall", desc := "(IIII)I" } : Jvm.MethodName)) ∈ lw_all := lw_g (lw_at lw_m14 236 rfl) rfl
theorem q3482 : (Jvm.Cond.methodLink "LastbusLaw" (283 : Nat) ({ cls := "LastbusModel", name := "last", desc := "(IIII)I" } : Jvm.MethodName)) ∈ lw_all := lw_g (lw_at lw_m15 0 rfl) rfl
theorem q3486 : (Jvm.Cond.methodLink "LastbusLaw" (293 : Nat) ({ cls := "LastbusModel", name := "onBoard", desc := "(IIII)I" } : Jvm.MethodName)) ∈ lw_all := lw_g (lw_at lw_m15 4 rfl) rfl
theorem q3490 : (Jvm.Cond.methodLink "LastbusLaw" (306 : Nat) ({ cls := "LastbusModel", name := "choices", desc := "(IIII)I" } : Jvm.MethodName)) ∈ lw_all := lw_g (lw_at lw_m15 8 rfl) rfl
theorem q3514 : (Jvm.Cond.methodLink "LastbusLaw" (310 : Nat) ({ cls := "LastbusModel", name := "choice", desc := "(IIIII)I" } : Jvm.MethodName)) ∈ lw_all := lw_g (lw_at lw_m15 32 rfl) rfl
theorem q3518 : (Jvm.Cond.methodLink "LastbusLaw" (286 : Nat) ({ cls := "LastbusModel", name := "chain", desc := "(IIII)I" } : Jvm.MethodName)) ∈ lw_all := lw_g (lw_at lw_m15 36 rfl) rfl
theorem q3526 : (Jvm.Cond.methodLink "LastbusLaw" (290 : Nat) ({ cls := "LastbusModel", name := "ride", desc := "(IC)I" } : Jvm.MethodName)) ∈ lw_all := lw_g (lw_at lw_m15 44 rfl) rfl
theorem q3530 : (Jvm.Cond.methodLink "LastbusLaw" (296 : Nat) ({ cls := "LastbusModel", name := "pairs", desc := "(III)I" } : Jvm.MethodName)) ∈ lw_all := lw_g (lw_at lw_m15 48 rfl) rfl
theorem q3546 : (Jvm.Cond.methodLink "LastbusLaw" (300 : Nat) ({ cls := "LastbusModel", name := "pair", desc := "(IIIIZ)I" } : Jvm.MethodName)) ∈ lw_all := lw_g (lw_at lw_m15 64 rfl) rfl
theorem q3550 : (Jvm.Cond.methodLink "LastbusLaw" (313 : Nat) ({ cls := "LastbusModel", name := "holds", desc := "(IIIII)Z" } : Jvm.MethodName)) ∈ lw_all := lw_g (lw_at lw_m15 68 rfl) rfl
theorem q3562 : (Jvm.Cond.methodLink "LastbusLaw" (316 : Nat) ({ cls := "LastbusModel", name := "wish", desc := "(IIIII)I" } : Jvm.MethodName)) ∈ lw_all := lw_g (lw_at lw_m15 80 rfl) rfl
theorem q3566 : (Jvm.Cond.methodLink "LastbusLaw" (320 : Nat) ({ cls := "LastbusModel", name := "dropWishes", desc := "()I" } : Jvm.MethodName)) ∈ lw_all := lw_g (lw_at lw_m15 84 rfl) rfl
theorem q3570 : (Jvm.Cond.methodLink "LastbusLaw" (323 : Nat) ({ cls := "LastbusModel", name := "waitCost", desc := "(II)I" } : Jvm.MethodName)) ∈ lw_all := lw_g (lw_at lw_m15 88 rfl) rfl
theorem q3586 : (Jvm.Cond.methodLink "LastbusLaw" (326 : Nat) ({ cls := "LastbusModel", name := "bestWaits", desc := "(I)I" } : Jvm.MethodName)) ∈ lw_all := lw_g (lw_at lw_m15 104 rfl) rfl
theorem q3590 : (Jvm.Cond.methodLink "LastbusLaw" (329 : Nat) ({ cls := "LastbusModel", name := "lost", desc := "(II)I" } : Jvm.MethodName)) ∈ lw_all := lw_g (lw_at lw_m15 108 rfl) rfl
theorem q3602 : (Jvm.Cond.methodLink "LastbusLaw" (332 : Nat) ({ cls := "LastbusModel", name := "bridges", desc := "(I)I" } : Jvm.MethodName)) ∈ lw_all := lw_g (lw_at lw_m15 120 rfl) rfl
theorem q3606 : (Jvm.Cond.methodLink "LastbusLaw" (335 : Nat) ({ cls := "LastbusModel", name := "vehicles", desc := "(I)I" } : Jvm.MethodName)) ∈ lw_all := lw_g (lw_at lw_m15 124 rfl) rfl
theorem q3617 : (Jvm.Cond.methodLink "LastbusLaw" (338 : Nat) ({ cls := "LastbusModel", name := "vehiclesByMatching", desc := "(I)I" } : Jvm.MethodName)) ∈ lw_all := lw_g (lw_at lw_m15 135 rfl) rfl
theorem q3622 : (Jvm.Cond.methodLink "LastbusLaw" (341 : Nat) ({ cls := "LastbusModel", name := "gains", desc := "(IIII)I" } : Jvm.MethodName)) ∈ lw_all := lw_g (lw_at lw_m15 140 rfl) rfl
theorem q3630 : (Jvm.Cond.methodLink "LastbusLaw" (344 : Nat) ({ cls := "LastbusModel", name := "loses", desc := "(IIII)I" } : Jvm.MethodName)) ∈ lw_all := lw_g (lw_at lw_m15 148 rfl) rfl
theorem q3634 : (Jvm.Cond.methodLink "LastbusLaw" (348 : Nat) ({ cls := "LastbusModel", name := "reachShare", desc := "(I)F" } : Jvm.MethodName)) ∈ lw_all := lw_g (lw_at lw_m15 152 rfl) rfl
theorem q3638 : (Jvm.Cond.methodLink "LastbusLaw" (352 : Nat) ({ cls := "LastbusModel", name := "meanBetween", desc := "()D" } : Jvm.MethodName)) ∈ lw_all := lw_g (lw_at lw_m15 156 rfl) rfl
theorem q3642 : (Jvm.Cond.methodLink "LastbusLaw" (357 : Nat) ({ cls := "LastbusModel", name := "checksum", desc := "()J" } : Jvm.MethodName)) ∈ lw_all := lw_g (lw_at lw_m15 160 rfl) rfl
theorem q3648 : (Jvm.Cond.methodLink "LastbusLaw" (360 : Nat) ({ cls := "LastbusModel", name := "isSound", desc := "(I)Z" } : Jvm.MethodName)) ∈ lw_all := lw_g (lw_at lw_m15 166 rfl) rfl
