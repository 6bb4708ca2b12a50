/-! java/util/TreeMap -/
set_option maxRecDepth 100000
def RJ4 : String := "java/util/TreeMap"
def TJ4 : u_T := fun k => match k with
  | 0 => ("java/util/AbstractMap", "keySet", "Ljava/util/Set;", false)
  | 1 => ("java/util/AbstractMap", "values", "Ljava/util/Collection;", false)
  | 2 => ("java/util/TreeMap", "comparator", "Ljava/util/Comparator;", true)
  | 3 => ("java/util/TreeMap", "root", "Ljava/util/TreeMap$Entry;", false)
  | 4 => ("java/util/TreeMap", "size", "I", false)
  | 5 => ("java/util/TreeMap", "modCount", "I", false)
  | 6 => ("java/util/TreeMap", "entrySet", "Ljava/util/TreeMap$EntrySet;", false)
  | 7 => ("java/util/TreeMap", "navigableKeySet", "Ljava/util/TreeMap$KeySet;", false)
  | _ => ("java/util/TreeMap", "descendingMap", "Ljava/util/NavigableMap;", false)
def tyJ4 : Nat → FieldType := fun k => match k with
  | 0 => .object "java/util/Set"
  | 1 => .object "java/util/Collection"
  | 2 => .object "java/util/Comparator"
  | 3 => .object "java/util/TreeMap$Entry"
  | 4 => .int
  | 5 => .int
  | 6 => .object "java/util/TreeMap$EntrySet"
  | 7 => .object "java/util/TreeMap$KeySet"
  | _ => .object "java/util/NavigableMap"
abbrev wsJ40 : List Cond := u_ws RJ4 TJ4 9
theorem nmJ4 : ∀ a, a < 9 → ∀ b, b < 9 → a ≠ b → (TJ4 a).2.1 ≠ (TJ4 b).2.1 := by decide +kernel
theorem tyJ4_ok : ∀ k, k < 9 → parseFieldDescriptor (TJ4 k).2.2.1 = some (tyJ4 k) := by decide +kernel
abbrev cJ4_init : ByteArray := prog_86_method_1_code
def yJ4_init : MethodName := ⟨RJ4, "<init>", "()V"⟩
def dkwJ4_init_0 : List UInt8 := [42, 183, 0, 1, 42, 3, 181, 0, 7, 42, 3, 181, 0, 13, 42, 1, 181, 0, 16, 177]
abbrev dktJ4_init_0 : List UInt8 := dkwJ4_init_0 ++ []
theorem dksJ4_init_0 : cJ4_init.data.toList.drop 0 = dktJ4_init_0 := by decide +kernel
theorem dJ4_init_0 : decode cJ4_init 0 = .ok (.aload_n 0, 1) := dk_42 (dk_at dksJ4_init_0 0 rfl rfl)
theorem dJ4_init_1 : decode cJ4_init 1 = .ok (.invokespecial 1, 3) := dk_183 0 1 (dk_at dksJ4_init_0 1 rfl rfl)
theorem dJ4_init_4 : decode cJ4_init 4 = .ok (.aload_n 0, 1) := dk_42 (dk_at dksJ4_init_0 4 rfl rfl)
theorem dJ4_init_5 : decode cJ4_init 5 = .ok (.iconst 0, 1) := dk_3 (dk_at dksJ4_init_0 5 rfl rfl)
theorem dJ4_init_6 : decode cJ4_init 6 = .ok (.putfield 7, 3) := dk_181 0 7 (dk_at dksJ4_init_0 6 rfl rfl)
theorem dJ4_init_9 : decode cJ4_init 9 = .ok (.aload_n 0, 1) := dk_42 (dk_at dksJ4_init_0 9 rfl rfl)
theorem dJ4_init_10 : decode cJ4_init 10 = .ok (.iconst 0, 1) := dk_3 (dk_at dksJ4_init_0 10 rfl rfl)
theorem dJ4_init_11 : decode cJ4_init 11 = .ok (.putfield 13, 3) := dk_181 0 13 (dk_at dksJ4_init_0 11 rfl rfl)
theorem dJ4_init_14 : decode cJ4_init 14 = .ok (.aload_n 0, 1) := dk_42 (dk_at dksJ4_init_0 14 rfl rfl)
theorem dJ4_init_15 : decode cJ4_init 15 = .ok (.aconst_null, 1) := dk_1 (dk_at dksJ4_init_0 15 rfl rfl)
theorem dJ4_init_16 : decode cJ4_init 16 = .ok (.putfield 16, 3) := dk_181 0 16 (dk_at dksJ4_init_0 16 rfl rfl)
theorem dJ4_init_19 : decode cJ4_init 19 = .ok (.return_, 1) := dk_177 (dk_at dksJ4_init_0 19 rfl rfl)
abbrev cJ4_size : ByteArray := prog_86_method_5_code
def yJ4_size : MethodName := ⟨RJ4, "size", "()I"⟩
theorem dJ4_size_0 : decode cJ4_size 0 = .ok (.aload_n 0, 1) := by decide +kernel
theorem dJ4_size_1 : decode cJ4_size 1 = .ok (.getfield 7, 3) := by decide +kernel
theorem dJ4_size_4 : decode cJ4_size 4 = .ok (.ireturn, 1) := by decide +kernel
abbrev cJ4_clear : ByteArray := prog_86_method_35_code
def yJ4_clear : MethodName := ⟨RJ4, "clear", "()V"⟩
def dkwJ4_clear_0 : List UInt8 := [42, 89, 180, 0, 13, 4, 96, 181, 0, 13, 42, 3, 181, 0, 7, 42, 1, 181, 0, 101, 177]
abbrev dktJ4_clear_0 : List UInt8 := dkwJ4_clear_0 ++ []
theorem dksJ4_clear_0 : cJ4_clear.data.toList.drop 0 = dktJ4_clear_0 := by decide +kernel
theorem dJ4_clear_0 : decode cJ4_clear 0 = .ok (.aload_n 0, 1) := dk_42 (dk_at dksJ4_clear_0 0 rfl rfl)
theorem dJ4_clear_1 : decode cJ4_clear 1 = .ok (.dup, 1) := dk_89 (dk_at dksJ4_clear_0 1 rfl rfl)
theorem dJ4_clear_2 : decode cJ4_clear 2 = .ok (.getfield 13, 3) := dk_180 0 13 (dk_at dksJ4_clear_0 2 rfl rfl)
theorem dJ4_clear_5 : decode cJ4_clear 5 = .ok (.iconst 1, 1) := dk_4 (dk_at dksJ4_clear_0 5 rfl rfl)
theorem dJ4_clear_6 : decode cJ4_clear 6 = .ok (.iadd, 1) := dk_96 (dk_at dksJ4_clear_0 6 rfl rfl)
theorem dJ4_clear_7 : decode cJ4_clear 7 = .ok (.putfield 13, 3) := dk_181 0 13 (dk_at dksJ4_clear_0 7 rfl rfl)
theorem dJ4_clear_10 : decode cJ4_clear 10 = .ok (.aload_n 0, 1) := dk_42 (dk_at dksJ4_clear_0 10 rfl rfl)
theorem dJ4_clear_11 : decode cJ4_clear 11 = .ok (.iconst 0, 1) := dk_3 (dk_at dksJ4_clear_0 11 rfl rfl)
theorem dJ4_clear_12 : decode cJ4_clear 12 = .ok (.putfield 7, 3) := dk_181 0 7 (dk_at dksJ4_clear_0 12 rfl rfl)
theorem dJ4_clear_15 : decode cJ4_clear 15 = .ok (.aload_n 0, 1) := dk_42 (dk_at dksJ4_clear_0 15 rfl rfl)
theorem dJ4_clear_16 : decode cJ4_clear 16 = .ok (.aconst_null, 1) := dk_1 (dk_at dksJ4_clear_0 16 rfl rfl)
theorem dJ4_clear_17 : decode cJ4_clear 17 = .ok (.putfield 101, 3) := dk_181 0 101 (dk_at dksJ4_clear_0 17 rfl rfl)
theorem dJ4_clear_20 : decode cJ4_clear 20 = .ok (.return_, 1) := dk_177 (dk_at dksJ4_clear_0 20 rfl rfl)
abbrev cJ4_get : ByteArray := prog_86_method_8_code
def yJ4_get : MethodName := ⟨RJ4, "get", "(Ljava/lang/Object;)Ljava/lang/Object;"⟩
def dkwJ4_get_0 : List UInt8 := [42, 43, 182, 0, 50, 77, 44, 199, 0, 7, 1, 167, 0, 7, 44, 180, 0, 58, 176]
abbrev dktJ4_get_0 : List UInt8 := dkwJ4_get_0 ++ []
theorem dksJ4_get_0 : cJ4_get.data.toList.drop 0 = dktJ4_get_0 := by decide +kernel
theorem dJ4_get_0 : decode cJ4_get 0 = .ok (.aload_n 0, 1) := dk_42 (dk_at dksJ4_get_0 0 rfl rfl)
theorem dJ4_get_1 : decode cJ4_get 1 = .ok (.aload_n 1, 1) := dk_43 (dk_at dksJ4_get_0 1 rfl rfl)
theorem dJ4_get_2 : decode cJ4_get 2 = .ok (.invokevirtual 50, 3) := dk_182 0 50 (dk_at dksJ4_get_0 2 rfl rfl)
theorem dJ4_get_5 : decode cJ4_get 5 = .ok (.astore_n 2, 1) := dk_77 (dk_at dksJ4_get_0 5 rfl rfl)
theorem dJ4_get_6 : decode cJ4_get 6 = .ok (.aload_n 2, 1) := dk_44 (dk_at dksJ4_get_0 6 rfl rfl)
theorem dJ4_get_7 : decode cJ4_get 7 = .ok (.ifnonnull 7, 3) := dk_199 0 7 (dk_at dksJ4_get_0 7 rfl rfl)
theorem dJ4_get_10 : decode cJ4_get 10 = .ok (.aconst_null, 1) := dk_1 (dk_at dksJ4_get_0 10 rfl rfl)
theorem dJ4_get_11 : decode cJ4_get 11 = .ok (.goto 7, 3) := dk_167 0 7 (dk_at dksJ4_get_0 11 rfl rfl)
theorem dJ4_get_14 : decode cJ4_get 14 = .ok (.aload_n 2, 1) := dk_44 (dk_at dksJ4_get_0 14 rfl rfl)
theorem dJ4_get_15 : decode cJ4_get 15 = .ok (.getfield 58, 3) := dk_180 0 58 (dk_at dksJ4_get_0 15 rfl rfl)
theorem dJ4_get_18 : decode cJ4_get 18 = .ok (.areturn, 1) := dk_176 (dk_at dksJ4_get_0 18 rfl rfl)
abbrev cJ4_getEntry : ByteArray := prog_86_method_15_code
def yJ4_getEntry : MethodName := ⟨RJ4, "getEntry", "(Ljava/lang/Object;)Ljava/util/TreeMap$Entry;"⟩
def dkwJ4_getEntry_3 : List UInt8 := [45, 176, 167, 255, 212, 1, 176]
abbrev dktJ4_getEntry_3 : List UInt8 := dkwJ4_getEntry_3 ++ []
def dkwJ4_getEntry_2 : List UInt8 := [156, 0, 11, 45, 180, 0, 111, 78, 167, 0, 18, 21, 4, 158, 0, 11, 45, 180, 0, 114, 78, 167, 0, 5]
abbrev dktJ4_getEntry_2 : List UInt8 := dkwJ4_getEntry_2 ++ dktJ4_getEntry_3
def dkwJ4_getEntry_1 : List UInt8 := [180, 0, 101, 78, 45, 198, 0, 46, 44, 45, 180, 0, 105, 185, 0, 107, 2, 0, 54, 4, 21, 4]
abbrev dktJ4_getEntry_1 : List UInt8 := dkwJ4_getEntry_1 ++ dktJ4_getEntry_2
def dkwJ4_getEntry_0 : List UInt8 := [42, 180, 0, 16, 198, 0, 9, 42, 43, 182, 0, 92, 176, 43, 184, 0, 95, 87, 43, 192, 0, 99, 77, 42]
abbrev dktJ4_getEntry_0 : List UInt8 := dkwJ4_getEntry_0 ++ dktJ4_getEntry_1
theorem dksJ4_getEntry_0 : cJ4_getEntry.data.toList.drop 0 = dktJ4_getEntry_0 := by decide +kernel
theorem dksJ4_getEntry_1 : cJ4_getEntry.data.toList.drop 24 = dktJ4_getEntry_1 := dk_seg dksJ4_getEntry_0 24 rfl rfl
theorem dksJ4_getEntry_2 : cJ4_getEntry.data.toList.drop 46 = dktJ4_getEntry_2 := dk_seg dksJ4_getEntry_1 22 rfl rfl
theorem dksJ4_getEntry_3 : cJ4_getEntry.data.toList.drop 70 = dktJ4_getEntry_3 := dk_seg dksJ4_getEntry_2 24 rfl rfl
theorem dJ4_getEntry_0 : decode cJ4_getEntry 0 = .ok (.aload_n 0, 1) := dk_42 (dk_at dksJ4_getEntry_0 0 rfl rfl)
theorem dJ4_getEntry_1 : decode cJ4_getEntry 1 = .ok (.getfield 16, 3) := dk_180 0 16 (dk_at dksJ4_getEntry_0 1 rfl rfl)
theorem dJ4_getEntry_4 : decode cJ4_getEntry 4 = .ok (.ifnull 9, 3) := dk_198 0 9 (dk_at dksJ4_getEntry_0 4 rfl rfl)
theorem dJ4_getEntry_7 : decode cJ4_getEntry 7 = .ok (.aload_n 0, 1) := dk_42 (dk_at dksJ4_getEntry_0 7 rfl rfl)
theorem dJ4_getEntry_8 : decode cJ4_getEntry 8 = .ok (.aload_n 1, 1) := dk_43 (dk_at dksJ4_getEntry_0 8 rfl rfl)
theorem dJ4_getEntry_9 : decode cJ4_getEntry 9 = .ok (.invokevirtual 92, 3) := dk_182 0 92 (dk_at dksJ4_getEntry_0 9 rfl rfl)
theorem dJ4_getEntry_12 : decode cJ4_getEntry 12 = .ok (.areturn, 1) := dk_176 (dk_at dksJ4_getEntry_0 12 rfl rfl)
theorem dJ4_getEntry_13 : decode cJ4_getEntry 13 = .ok (.aload_n 1, 1) := dk_43 (dk_at dksJ4_getEntry_0 13 rfl rfl)
theorem dJ4_getEntry_14 : decode cJ4_getEntry 14 = .ok (.invokestatic 95, 3) := dk_184 0 95 (dk_at dksJ4_getEntry_0 14 rfl rfl)
theorem dJ4_getEntry_17 : decode cJ4_getEntry 17 = .ok (.pop, 1) := dk_87 (dk_at dksJ4_getEntry_0 17 rfl rfl)
theorem dJ4_getEntry_18 : decode cJ4_getEntry 18 = .ok (.aload_n 1, 1) := dk_43 (dk_at dksJ4_getEntry_0 18 rfl rfl)
theorem dJ4_getEntry_19 : decode cJ4_getEntry 19 = .ok (.checkcast 99, 3) := dk_192 0 99 (dk_at dksJ4_getEntry_0 19 rfl rfl)
theorem dJ4_getEntry_22 : decode cJ4_getEntry 22 = .ok (.astore_n 2, 1) := dk_77 (dk_at dksJ4_getEntry_0 22 rfl rfl)
theorem dJ4_getEntry_23 : decode cJ4_getEntry 23 = .ok (.aload_n 0, 1) := dk_42 (dk_at dksJ4_getEntry_0 23 rfl rfl)
theorem dJ4_getEntry_24 : decode cJ4_getEntry 24 = .ok (.getfield 101, 3) := dk_180 0 101 (dk_at dksJ4_getEntry_1 0 rfl rfl)
theorem dJ4_getEntry_27 : decode cJ4_getEntry 27 = .ok (.astore_n 3, 1) := dk_78 (dk_at dksJ4_getEntry_1 3 rfl rfl)
theorem dJ4_getEntry_28 : decode cJ4_getEntry 28 = .ok (.aload_n 3, 1) := dk_45 (dk_at dksJ4_getEntry_1 4 rfl rfl)
theorem dJ4_getEntry_29 : decode cJ4_getEntry 29 = .ok (.ifnull 46, 3) := dk_198 0 46 (dk_at dksJ4_getEntry_1 5 rfl rfl)
theorem dJ4_getEntry_32 : decode cJ4_getEntry 32 = .ok (.aload_n 2, 1) := dk_44 (dk_at dksJ4_getEntry_1 8 rfl rfl)
theorem dJ4_getEntry_33 : decode cJ4_getEntry 33 = .ok (.aload_n 3, 1) := dk_45 (dk_at dksJ4_getEntry_1 9 rfl rfl)
theorem dJ4_getEntry_34 : decode cJ4_getEntry 34 = .ok (.getfield 105, 3) := dk_180 0 105 (dk_at dksJ4_getEntry_1 10 rfl rfl)
theorem dJ4_getEntry_37 : decode cJ4_getEntry 37 = .ok (.invokeinterface 107 2, 5) := by decide +kernel
theorem dJ4_getEntry_42 : decode cJ4_getEntry 42 = .ok (.istore 4, 2) := dk_54 4 (dk_at dksJ4_getEntry_1 18 rfl rfl)
theorem dJ4_getEntry_44 : decode cJ4_getEntry 44 = .ok (.iload 4, 2) := dk_21 4 (dk_at dksJ4_getEntry_1 20 rfl rfl)
theorem dJ4_getEntry_46 : decode cJ4_getEntry 46 = .ok (.ifCond .ge 11, 3) := dk_156 0 11 (dk_at dksJ4_getEntry_2 0 rfl rfl)
theorem dJ4_getEntry_49 : decode cJ4_getEntry 49 = .ok (.aload_n 3, 1) := dk_45 (dk_at dksJ4_getEntry_2 3 rfl rfl)
theorem dJ4_getEntry_50 : decode cJ4_getEntry 50 = .ok (.getfield 111, 3) := dk_180 0 111 (dk_at dksJ4_getEntry_2 4 rfl rfl)
theorem dJ4_getEntry_53 : decode cJ4_getEntry 53 = .ok (.astore_n 3, 1) := dk_78 (dk_at dksJ4_getEntry_2 7 rfl rfl)
theorem dJ4_getEntry_54 : decode cJ4_getEntry 54 = .ok (.goto 18, 3) := dk_167 0 18 (dk_at dksJ4_getEntry_2 8 rfl rfl)
theorem dJ4_getEntry_57 : decode cJ4_getEntry 57 = .ok (.iload 4, 2) := dk_21 4 (dk_at dksJ4_getEntry_2 11 rfl rfl)
theorem dJ4_getEntry_59 : decode cJ4_getEntry 59 = .ok (.ifCond .le 11, 3) := dk_158 0 11 (dk_at dksJ4_getEntry_2 13 rfl rfl)
theorem dJ4_getEntry_62 : decode cJ4_getEntry 62 = .ok (.aload_n 3, 1) := dk_45 (dk_at dksJ4_getEntry_2 16 rfl rfl)
theorem dJ4_getEntry_63 : decode cJ4_getEntry 63 = .ok (.getfield 114, 3) := dk_180 0 114 (dk_at dksJ4_getEntry_2 17 rfl rfl)
theorem dJ4_getEntry_66 : decode cJ4_getEntry 66 = .ok (.astore_n 3, 1) := dk_78 (dk_at dksJ4_getEntry_2 20 rfl rfl)
theorem dJ4_getEntry_67 : decode cJ4_getEntry 67 = .ok (.goto 5, 3) := dk_167 0 5 (dk_at dksJ4_getEntry_2 21 rfl rfl)
theorem dJ4_getEntry_70 : decode cJ4_getEntry 70 = .ok (.aload_n 3, 1) := dk_45 (dk_at dksJ4_getEntry_3 0 rfl rfl)
theorem dJ4_getEntry_71 : decode cJ4_getEntry 71 = .ok (.areturn, 1) := dk_176 (dk_at dksJ4_getEntry_3 1 rfl rfl)
theorem dJ4_getEntry_72 : decode cJ4_getEntry 72 = .ok (.goto (-44), 3) := dk_167 255 212 (dk_at dksJ4_getEntry_3 2 rfl rfl)
theorem dJ4_getEntry_75 : decode cJ4_getEntry 75 = .ok (.aconst_null, 1) := dk_1 (dk_at dksJ4_getEntry_3 5 rfl rfl)
theorem dJ4_getEntry_76 : decode cJ4_getEntry 76 = .ok (.areturn, 1) := dk_176 (dk_at dksJ4_getEntry_3 6 rfl rfl)
abbrev cJ4_getEntryUsingComparator : ByteArray := prog_86_method_16_code
def yJ4_getEntryUsingComparator : MethodName := ⟨RJ4, "getEntryUsingComparator", "(Ljava/lang/Object;)Ljava/util/TreeMap$Entry;"⟩
def dkwJ4_getEntryUsingComparator_3 : List UInt8 := [1, 176]
abbrev dktJ4_getEntryUsingComparator_3 : List UInt8 := dkwJ4_getEntryUsingComparator_3 ++ []
def dkwJ4_getEntryUsingComparator_2 : List UInt8 := [167, 0, 21, 21, 5, 158, 0, 13, 25, 4, 180, 0, 114, 58, 4, 167, 0, 6, 25, 4, 176, 167, 255, 204]
abbrev dktJ4_getEntryUsingComparator_2 : List UInt8 := dkwJ4_getEntryUsingComparator_2 ++ dktJ4_getEntryUsingComparator_3
def dkwJ4_getEntryUsingComparator_1 : List UInt8 := [25, 4, 180, 0, 105, 185, 0, 117, 3, 0, 54, 5, 21, 5, 156, 0, 13, 25, 4, 180, 0, 111, 58, 4]
abbrev dktJ4_getEntryUsingComparator_1 : List UInt8 := dkwJ4_getEntryUsingComparator_1 ++ dktJ4_getEntryUsingComparator_2
def dkwJ4_getEntryUsingComparator_0 : List UInt8 := [43, 77, 42, 180, 0, 16, 78, 45, 198, 0, 64, 42, 180, 0, 101, 58, 4, 25, 4, 198, 0, 53, 45, 44]
abbrev dktJ4_getEntryUsingComparator_0 : List UInt8 := dkwJ4_getEntryUsingComparator_0 ++ dktJ4_getEntryUsingComparator_1
theorem dksJ4_getEntryUsingComparator_0 : cJ4_getEntryUsingComparator.data.toList.drop 0 = dktJ4_getEntryUsingComparator_0 := by decide +kernel
theorem dksJ4_getEntryUsingComparator_1 : cJ4_getEntryUsingComparator.data.toList.drop 24 = dktJ4_getEntryUsingComparator_1 := dk_seg dksJ4_getEntryUsingComparator_0 24 rfl rfl
theorem dksJ4_getEntryUsingComparator_2 : cJ4_getEntryUsingComparator.data.toList.drop 48 = dktJ4_getEntryUsingComparator_2 := dk_seg dksJ4_getEntryUsingComparator_1 24 rfl rfl
theorem dksJ4_getEntryUsingComparator_3 : cJ4_getEntryUsingComparator.data.toList.drop 72 = dktJ4_getEntryUsingComparator_3 := dk_seg dksJ4_getEntryUsingComparator_2 24 rfl rfl
theorem dJ4_getEntryUsingComparator_0 : decode cJ4_getEntryUsingComparator 0 = .ok (.aload_n 1, 1) := dk_43 (dk_at dksJ4_getEntryUsingComparator_0 0 rfl rfl)
theorem dJ4_getEntryUsingComparator_1 : decode cJ4_getEntryUsingComparator 1 = .ok (.astore_n 2, 1) := dk_77 (dk_at dksJ4_getEntryUsingComparator_0 1 rfl rfl)
theorem dJ4_getEntryUsingComparator_2 : decode cJ4_getEntryUsingComparator 2 = .ok (.aload_n 0, 1) := dk_42 (dk_at dksJ4_getEntryUsingComparator_0 2 rfl rfl)
theorem dJ4_getEntryUsingComparator_3 : decode cJ4_getEntryUsingComparator 3 = .ok (.getfield 16, 3) := dk_180 0 16 (dk_at dksJ4_getEntryUsingComparator_0 3 rfl rfl)
theorem dJ4_getEntryUsingComparator_6 : decode cJ4_getEntryUsingComparator 6 = .ok (.astore_n 3, 1) := dk_78 (dk_at dksJ4_getEntryUsingComparator_0 6 rfl rfl)
theorem dJ4_getEntryUsingComparator_7 : decode cJ4_getEntryUsingComparator 7 = .ok (.aload_n 3, 1) := dk_45 (dk_at dksJ4_getEntryUsingComparator_0 7 rfl rfl)
theorem dJ4_getEntryUsingComparator_8 : decode cJ4_getEntryUsingComparator 8 = .ok (.ifnull 64, 3) := dk_198 0 64 (dk_at dksJ4_getEntryUsingComparator_0 8 rfl rfl)
theorem dJ4_getEntryUsingComparator_11 : decode cJ4_getEntryUsingComparator 11 = .ok (.aload_n 0, 1) := dk_42 (dk_at dksJ4_getEntryUsingComparator_0 11 rfl rfl)
theorem dJ4_getEntryUsingComparator_12 : decode cJ4_getEntryUsingComparator 12 = .ok (.getfield 101, 3) := dk_180 0 101 (dk_at dksJ4_getEntryUsingComparator_0 12 rfl rfl)
theorem dJ4_getEntryUsingComparator_15 : decode cJ4_getEntryUsingComparator 15 = .ok (.astore 4, 2) := dk_58 4 (dk_at dksJ4_getEntryUsingComparator_0 15 rfl rfl)
theorem dJ4_getEntryUsingComparator_17 : decode cJ4_getEntryUsingComparator 17 = .ok (.aload 4, 2) := dk_25 4 (dk_at dksJ4_getEntryUsingComparator_0 17 rfl rfl)
theorem dJ4_getEntryUsingComparator_19 : decode cJ4_getEntryUsingComparator 19 = .ok (.ifnull 53, 3) := dk_198 0 53 (dk_at dksJ4_getEntryUsingComparator_0 19 rfl rfl)
theorem dJ4_getEntryUsingComparator_22 : decode cJ4_getEntryUsingComparator 22 = .ok (.aload_n 3, 1) := dk_45 (dk_at dksJ4_getEntryUsingComparator_0 22 rfl rfl)
theorem dJ4_getEntryUsingComparator_23 : decode cJ4_getEntryUsingComparator 23 = .ok (.aload_n 2, 1) := dk_44 (dk_at dksJ4_getEntryUsingComparator_0 23 rfl rfl)
theorem dJ4_getEntryUsingComparator_24 : decode cJ4_getEntryUsingComparator 24 = .ok (.aload 4, 2) := dk_25 4 (dk_at dksJ4_getEntryUsingComparator_1 0 rfl rfl)
theorem dJ4_getEntryUsingComparator_26 : decode cJ4_getEntryUsingComparator 26 = .ok (.getfield 105, 3) := dk_180 0 105 (dk_at dksJ4_getEntryUsingComparator_1 2 rfl rfl)
theorem dJ4_getEntryUsingComparator_29 : decode cJ4_getEntryUsingComparator 29 = .ok (.invokeinterface 117 3, 5) := by decide +kernel
theorem dJ4_getEntryUsingComparator_34 : decode cJ4_getEntryUsingComparator 34 = .ok (.istore 5, 2) := dk_54 5 (dk_at dksJ4_getEntryUsingComparator_1 10 rfl rfl)
theorem dJ4_getEntryUsingComparator_36 : decode cJ4_getEntryUsingComparator 36 = .ok (.iload 5, 2) := dk_21 5 (dk_at dksJ4_getEntryUsingComparator_1 12 rfl rfl)
theorem dJ4_getEntryUsingComparator_38 : decode cJ4_getEntryUsingComparator 38 = .ok (.ifCond .ge 13, 3) := dk_156 0 13 (dk_at dksJ4_getEntryUsingComparator_1 14 rfl rfl)
theorem dJ4_getEntryUsingComparator_41 : decode cJ4_getEntryUsingComparator 41 = .ok (.aload 4, 2) := dk_25 4 (dk_at dksJ4_getEntryUsingComparator_1 17 rfl rfl)
theorem dJ4_getEntryUsingComparator_43 : decode cJ4_getEntryUsingComparator 43 = .ok (.getfield 111, 3) := dk_180 0 111 (dk_at dksJ4_getEntryUsingComparator_1 19 rfl rfl)
theorem dJ4_getEntryUsingComparator_46 : decode cJ4_getEntryUsingComparator 46 = .ok (.astore 4, 2) := dk_58 4 (dk_at dksJ4_getEntryUsingComparator_1 22 rfl rfl)
theorem dJ4_getEntryUsingComparator_48 : decode cJ4_getEntryUsingComparator 48 = .ok (.goto 21, 3) := dk_167 0 21 (dk_at dksJ4_getEntryUsingComparator_2 0 rfl rfl)
theorem dJ4_getEntryUsingComparator_51 : decode cJ4_getEntryUsingComparator 51 = .ok (.iload 5, 2) := dk_21 5 (dk_at dksJ4_getEntryUsingComparator_2 3 rfl rfl)
theorem dJ4_getEntryUsingComparator_53 : decode cJ4_getEntryUsingComparator 53 = .ok (.ifCond .le 13, 3) := dk_158 0 13 (dk_at dksJ4_getEntryUsingComparator_2 5 rfl rfl)
theorem dJ4_getEntryUsingComparator_56 : decode cJ4_getEntryUsingComparator 56 = .ok (.aload 4, 2) := dk_25 4 (dk_at dksJ4_getEntryUsingComparator_2 8 rfl rfl)
theorem dJ4_getEntryUsingComparator_58 : decode cJ4_getEntryUsingComparator 58 = .ok (.getfield 114, 3) := dk_180 0 114 (dk_at dksJ4_getEntryUsingComparator_2 10 rfl rfl)
theorem dJ4_getEntryUsingComparator_61 : decode cJ4_getEntryUsingComparator 61 = .ok (.astore 4, 2) := dk_58 4 (dk_at dksJ4_getEntryUsingComparator_2 13 rfl rfl)
theorem dJ4_getEntryUsingComparator_63 : decode cJ4_getEntryUsingComparator 63 = .ok (.goto 6, 3) := dk_167 0 6 (dk_at dksJ4_getEntryUsingComparator_2 15 rfl rfl)
theorem dJ4_getEntryUsingComparator_66 : decode cJ4_getEntryUsingComparator 66 = .ok (.aload 4, 2) := dk_25 4 (dk_at dksJ4_getEntryUsingComparator_2 18 rfl rfl)
theorem dJ4_getEntryUsingComparator_68 : decode cJ4_getEntryUsingComparator 68 = .ok (.areturn, 1) := dk_176 (dk_at dksJ4_getEntryUsingComparator_2 20 rfl rfl)
theorem dJ4_getEntryUsingComparator_69 : decode cJ4_getEntryUsingComparator 69 = .ok (.goto (-52), 3) := dk_167 255 204 (dk_at dksJ4_getEntryUsingComparator_2 21 rfl rfl)
theorem dJ4_getEntryUsingComparator_72 : decode cJ4_getEntryUsingComparator 72 = .ok (.aconst_null, 1) := dk_1 (dk_at dksJ4_getEntryUsingComparator_3 0 rfl rfl)
theorem dJ4_getEntryUsingComparator_73 : decode cJ4_getEntryUsingComparator 73 = .ok (.areturn, 1) := dk_176 (dk_at dksJ4_getEntryUsingComparator_3 1 rfl rfl)
abbrev cJ4_put : ByteArray := prog_86_method_21_code
def yJ4_put : MethodName := ⟨RJ4, "put", "(Ljava/lang/Object;Ljava/lang/Object;)Ljava/lang/Object;"⟩
def dkwJ4_put_0 : List UInt8 := [42, 43, 44, 4, 182, 0, 127, 176]
abbrev dktJ4_put_0 : List UInt8 := dkwJ4_put_0 ++ []
theorem dksJ4_put_0 : cJ4_put.data.toList.drop 0 = dktJ4_put_0 := by decide +kernel
theorem dJ4_put_0 : decode cJ4_put 0 = .ok (.aload_n 0, 1) := dk_42 (dk_at dksJ4_put_0 0 rfl rfl)
theorem dJ4_put_1 : decode cJ4_put 1 = .ok (.aload_n 1, 1) := dk_43 (dk_at dksJ4_put_0 1 rfl rfl)
theorem dJ4_put_2 : decode cJ4_put 2 = .ok (.aload_n 2, 1) := dk_44 (dk_at dksJ4_put_0 2 rfl rfl)
theorem dJ4_put_3 : decode cJ4_put 3 = .ok (.iconst 1, 1) := dk_4 (dk_at dksJ4_put_0 3 rfl rfl)
theorem dJ4_put_4 : decode cJ4_put 4 = .ok (.invokevirtual 127, 3) := dk_182 0 127 (dk_at dksJ4_put_0 4 rfl rfl)
theorem dJ4_put_7 : decode cJ4_put 7 = .ok (.areturn, 1) := dk_176 (dk_at dksJ4_put_0 7 rfl rfl)
abbrev cJ4_put_2 : ByteArray := prog_86_method_31_code
def yJ4_put_2 : MethodName := ⟨RJ4, "put", "(Ljava/lang/Object;Ljava/lang/Object;Z)Ljava/lang/Object;"⟩
def dkwJ4_put_2_9 : List UInt8 := [4, 167, 0, 4, 3, 182, 0, 139, 1, 176]
abbrev dktJ4_put_2_9 : List UInt8 := dkwJ4_put_2_9 ++ []
def dkwJ4_put_2_8 : List UInt8 := [25, 4, 44, 181, 0, 58, 25, 9, 176, 25, 4, 199, 255, 181, 42, 43, 44, 25, 6, 21, 5, 156, 0, 7]
abbrev dktJ4_put_2_8 : List UInt8 := dkwJ4_put_2_8 ++ dktJ4_put_2_9
def dkwJ4_put_2_7 : List UInt8 := [180, 0, 114, 58, 4, 167, 0, 28, 25, 4, 180, 0, 58, 58, 9, 29, 154, 0, 8, 25, 9, 199, 0, 9]
abbrev dktJ4_put_2_7 : List UInt8 := dkwJ4_put_2_7 ++ dktJ4_put_2_8
def dkwJ4_put_2_6 : List UInt8 := [21, 5, 156, 0, 13, 25, 4, 180, 0, 111, 58, 4, 167, 0, 43, 21, 5, 158, 0, 13, 25, 4]
abbrev dktJ4_put_2_6 : List UInt8 := dkwJ4_put_2_6 ++ dktJ4_put_2_7
def dkwJ4_put_2_5 : List UInt8 := [192, 0, 99, 58, 8, 25, 4, 58, 6, 25, 8, 25, 4, 180, 0, 105, 185, 0, 107, 2, 0, 54, 5]
abbrev dktJ4_put_2_5 : List UInt8 := dkwJ4_put_2_5 ++ dktJ4_put_2_6
def dkwJ4_put_2_4 : List UInt8 := [25, 4, 44, 181, 0, 58, 25, 8, 176, 25, 4, 199, 255, 180, 167, 0, 92, 43, 184, 0, 95, 87, 43]
abbrev dktJ4_put_2_4 : List UInt8 := dkwJ4_put_2_4 ++ dktJ4_put_2_5
def dkwJ4_put_2_3 : List UInt8 := [180, 0, 114, 58, 4, 167, 0, 28, 25, 4, 180, 0, 58, 58, 8, 29, 154, 0, 8, 25, 8, 199, 0, 9]
abbrev dktJ4_put_2_3 : List UInt8 := dkwJ4_put_2_3 ++ dktJ4_put_2_4
def dkwJ4_put_2_2 : List UInt8 := [54, 5, 21, 5, 156, 0, 13, 25, 4, 180, 0, 111, 58, 4, 167, 0, 43, 21, 5, 158, 0, 13, 25, 4]
abbrev dktJ4_put_2_2 : List UInt8 := dkwJ4_put_2_2 ++ dktJ4_put_2_3
def dkwJ4_put_2_1 : List UInt8 := [58, 7, 25, 7, 198, 0, 85, 25, 4, 58, 6, 25, 7, 43, 25, 4, 180, 0, 105, 185, 0, 117, 3, 0]
abbrev dktJ4_put_2_1 : List UInt8 := dkwJ4_put_2_1 ++ dktJ4_put_2_2
def dkwJ4_put_2_0 : List UInt8 := [42, 180, 0, 101, 58, 4, 25, 4, 199, 0, 11, 42, 43, 44, 182, 0, 135, 1, 176, 42, 180, 0, 16]
abbrev dktJ4_put_2_0 : List UInt8 := dkwJ4_put_2_0 ++ dktJ4_put_2_1
theorem dksJ4_put_2_0 : cJ4_put_2.data.toList.drop 0 = dktJ4_put_2_0 := by decide +kernel
theorem dksJ4_put_2_1 : cJ4_put_2.data.toList.drop 23 = dktJ4_put_2_1 := dk_seg dksJ4_put_2_0 23 rfl rfl
theorem dksJ4_put_2_2 : cJ4_put_2.data.toList.drop 47 = dktJ4_put_2_2 := dk_seg dksJ4_put_2_1 24 rfl rfl
theorem dksJ4_put_2_3 : cJ4_put_2.data.toList.drop 71 = dktJ4_put_2_3 := dk_seg dksJ4_put_2_2 24 rfl rfl
theorem dksJ4_put_2_4 : cJ4_put_2.data.toList.drop 95 = dktJ4_put_2_4 := dk_seg dksJ4_put_2_3 24 rfl rfl
theorem dksJ4_put_2_5 : cJ4_put_2.data.toList.drop 118 = dktJ4_put_2_5 := dk_seg dksJ4_put_2_4 23 rfl rfl
theorem dksJ4_put_2_6 : cJ4_put_2.data.toList.drop 141 = dktJ4_put_2_6 := dk_seg dksJ4_put_2_5 23 rfl rfl
theorem dksJ4_put_2_7 : cJ4_put_2.data.toList.drop 163 = dktJ4_put_2_7 := dk_seg dksJ4_put_2_6 22 rfl rfl
theorem dksJ4_put_2_8 : cJ4_put_2.data.toList.drop 187 = dktJ4_put_2_8 := dk_seg dksJ4_put_2_7 24 rfl rfl
theorem dksJ4_put_2_9 : cJ4_put_2.data.toList.drop 211 = dktJ4_put_2_9 := dk_seg dksJ4_put_2_8 24 rfl rfl
theorem dJ4_put_2_0 : decode cJ4_put_2 0 = .ok (.aload_n 0, 1) := dk_42 (dk_at dksJ4_put_2_0 0 rfl rfl)
theorem dJ4_put_2_1 : decode cJ4_put_2 1 = .ok (.getfield 101, 3) := dk_180 0 101 (dk_at dksJ4_put_2_0 1 rfl rfl)
theorem dJ4_put_2_4 : decode cJ4_put_2 4 = .ok (.astore 4, 2) := dk_58 4 (dk_at dksJ4_put_2_0 4 rfl rfl)
theorem dJ4_put_2_6 : decode cJ4_put_2 6 = .ok (.aload 4, 2) := dk_25 4 (dk_at dksJ4_put_2_0 6 rfl rfl)
theorem dJ4_put_2_8 : decode cJ4_put_2 8 = .ok (.ifnonnull 11, 3) := dk_199 0 11 (dk_at dksJ4_put_2_0 8 rfl rfl)
theorem dJ4_put_2_11 : decode cJ4_put_2 11 = .ok (.aload_n 0, 1) := dk_42 (dk_at dksJ4_put_2_0 11 rfl rfl)
theorem dJ4_put_2_12 : decode cJ4_put_2 12 = .ok (.aload_n 1, 1) := dk_43 (dk_at dksJ4_put_2_0 12 rfl rfl)
theorem dJ4_put_2_13 : decode cJ4_put_2 13 = .ok (.aload_n 2, 1) := dk_44 (dk_at dksJ4_put_2_0 13 rfl rfl)
theorem dJ4_put_2_14 : decode cJ4_put_2 14 = .ok (.invokevirtual 135, 3) := dk_182 0 135 (dk_at dksJ4_put_2_0 14 rfl rfl)
theorem dJ4_put_2_17 : decode cJ4_put_2 17 = .ok (.aconst_null, 1) := dk_1 (dk_at dksJ4_put_2_0 17 rfl rfl)
theorem dJ4_put_2_18 : decode cJ4_put_2 18 = .ok (.areturn, 1) := dk_176 (dk_at dksJ4_put_2_0 18 rfl rfl)
theorem dJ4_put_2_19 : decode cJ4_put_2 19 = .ok (.aload_n 0, 1) := dk_42 (dk_at dksJ4_put_2_0 19 rfl rfl)
theorem dJ4_put_2_20 : decode cJ4_put_2 20 = .ok (.getfield 16, 3) := dk_180 0 16 (dk_at dksJ4_put_2_0 20 rfl rfl)
theorem dJ4_put_2_23 : decode cJ4_put_2 23 = .ok (.astore 7, 2) := dk_58 7 (dk_at dksJ4_put_2_1 0 rfl rfl)
theorem dJ4_put_2_25 : decode cJ4_put_2 25 = .ok (.aload 7, 2) := dk_25 7 (dk_at dksJ4_put_2_1 2 rfl rfl)
theorem dJ4_put_2_27 : decode cJ4_put_2 27 = .ok (.ifnull 85, 3) := dk_198 0 85 (dk_at dksJ4_put_2_1 4 rfl rfl)
theorem dJ4_put_2_30 : decode cJ4_put_2 30 = .ok (.aload 4, 2) := dk_25 4 (dk_at dksJ4_put_2_1 7 rfl rfl)
theorem dJ4_put_2_32 : decode cJ4_put_2 32 = .ok (.astore 6, 2) := dk_58 6 (dk_at dksJ4_put_2_1 9 rfl rfl)
theorem dJ4_put_2_34 : decode cJ4_put_2 34 = .ok (.aload 7, 2) := dk_25 7 (dk_at dksJ4_put_2_1 11 rfl rfl)
theorem dJ4_put_2_36 : decode cJ4_put_2 36 = .ok (.aload_n 1, 1) := dk_43 (dk_at dksJ4_put_2_1 13 rfl rfl)
theorem dJ4_put_2_37 : decode cJ4_put_2 37 = .ok (.aload 4, 2) := dk_25 4 (dk_at dksJ4_put_2_1 14 rfl rfl)
theorem dJ4_put_2_39 : decode cJ4_put_2 39 = .ok (.getfield 105, 3) := dk_180 0 105 (dk_at dksJ4_put_2_1 16 rfl rfl)
theorem dJ4_put_2_42 : decode cJ4_put_2 42 = .ok (.invokeinterface 117 3, 5) := by decide +kernel
theorem dJ4_put_2_47 : decode cJ4_put_2 47 = .ok (.istore 5, 2) := dk_54 5 (dk_at dksJ4_put_2_2 0 rfl rfl)
theorem dJ4_put_2_49 : decode cJ4_put_2 49 = .ok (.iload 5, 2) := dk_21 5 (dk_at dksJ4_put_2_2 2 rfl rfl)
theorem dJ4_put_2_51 : decode cJ4_put_2 51 = .ok (.ifCond .ge 13, 3) := dk_156 0 13 (dk_at dksJ4_put_2_2 4 rfl rfl)
theorem dJ4_put_2_54 : decode cJ4_put_2 54 = .ok (.aload 4, 2) := dk_25 4 (dk_at dksJ4_put_2_2 7 rfl rfl)
theorem dJ4_put_2_56 : decode cJ4_put_2 56 = .ok (.getfield 111, 3) := dk_180 0 111 (dk_at dksJ4_put_2_2 9 rfl rfl)
theorem dJ4_put_2_59 : decode cJ4_put_2 59 = .ok (.astore 4, 2) := dk_58 4 (dk_at dksJ4_put_2_2 12 rfl rfl)
theorem dJ4_put_2_61 : decode cJ4_put_2 61 = .ok (.goto 43, 3) := dk_167 0 43 (dk_at dksJ4_put_2_2 14 rfl rfl)
theorem dJ4_put_2_64 : decode cJ4_put_2 64 = .ok (.iload 5, 2) := dk_21 5 (dk_at dksJ4_put_2_2 17 rfl rfl)
theorem dJ4_put_2_66 : decode cJ4_put_2 66 = .ok (.ifCond .le 13, 3) := dk_158 0 13 (dk_at dksJ4_put_2_2 19 rfl rfl)
theorem dJ4_put_2_69 : decode cJ4_put_2 69 = .ok (.aload 4, 2) := dk_25 4 (dk_at dksJ4_put_2_2 22 rfl rfl)
theorem dJ4_put_2_71 : decode cJ4_put_2 71 = .ok (.getfield 114, 3) := dk_180 0 114 (dk_at dksJ4_put_2_3 0 rfl rfl)
theorem dJ4_put_2_74 : decode cJ4_put_2 74 = .ok (.astore 4, 2) := dk_58 4 (dk_at dksJ4_put_2_3 3 rfl rfl)
theorem dJ4_put_2_76 : decode cJ4_put_2 76 = .ok (.goto 28, 3) := dk_167 0 28 (dk_at dksJ4_put_2_3 5 rfl rfl)
theorem dJ4_put_2_79 : decode cJ4_put_2 79 = .ok (.aload 4, 2) := dk_25 4 (dk_at dksJ4_put_2_3 8 rfl rfl)
theorem dJ4_put_2_81 : decode cJ4_put_2 81 = .ok (.getfield 58, 3) := dk_180 0 58 (dk_at dksJ4_put_2_3 10 rfl rfl)
theorem dJ4_put_2_84 : decode cJ4_put_2 84 = .ok (.astore 8, 2) := dk_58 8 (dk_at dksJ4_put_2_3 13 rfl rfl)
theorem dJ4_put_2_86 : decode cJ4_put_2 86 = .ok (.iload_n 3, 1) := dk_29 (dk_at dksJ4_put_2_3 15 rfl rfl)
theorem dJ4_put_2_87 : decode cJ4_put_2 87 = .ok (.ifCond .ne 8, 3) := dk_154 0 8 (dk_at dksJ4_put_2_3 16 rfl rfl)
theorem dJ4_put_2_90 : decode cJ4_put_2 90 = .ok (.aload 8, 2) := dk_25 8 (dk_at dksJ4_put_2_3 19 rfl rfl)
theorem dJ4_put_2_92 : decode cJ4_put_2 92 = .ok (.ifnonnull 9, 3) := dk_199 0 9 (dk_at dksJ4_put_2_3 21 rfl rfl)
theorem dJ4_put_2_95 : decode cJ4_put_2 95 = .ok (.aload 4, 2) := dk_25 4 (dk_at dksJ4_put_2_4 0 rfl rfl)
theorem dJ4_put_2_97 : decode cJ4_put_2 97 = .ok (.aload_n 2, 1) := dk_44 (dk_at dksJ4_put_2_4 2 rfl rfl)
theorem dJ4_put_2_98 : decode cJ4_put_2 98 = .ok (.putfield 58, 3) := dk_181 0 58 (dk_at dksJ4_put_2_4 3 rfl rfl)
theorem dJ4_put_2_101 : decode cJ4_put_2 101 = .ok (.aload 8, 2) := dk_25 8 (dk_at dksJ4_put_2_4 6 rfl rfl)
theorem dJ4_put_2_103 : decode cJ4_put_2 103 = .ok (.areturn, 1) := dk_176 (dk_at dksJ4_put_2_4 8 rfl rfl)
theorem dJ4_put_2_104 : decode cJ4_put_2 104 = .ok (.aload 4, 2) := dk_25 4 (dk_at dksJ4_put_2_4 9 rfl rfl)
theorem dJ4_put_2_106 : decode cJ4_put_2 106 = .ok (.ifnonnull (-76), 3) := dk_199 255 180 (dk_at dksJ4_put_2_4 11 rfl rfl)
theorem dJ4_put_2_109 : decode cJ4_put_2 109 = .ok (.goto 92, 3) := dk_167 0 92 (dk_at dksJ4_put_2_4 14 rfl rfl)
theorem dJ4_put_2_112 : decode cJ4_put_2 112 = .ok (.aload_n 1, 1) := dk_43 (dk_at dksJ4_put_2_4 17 rfl rfl)
theorem dJ4_put_2_113 : decode cJ4_put_2 113 = .ok (.invokestatic 95, 3) := dk_184 0 95 (dk_at dksJ4_put_2_4 18 rfl rfl)
theorem dJ4_put_2_116 : decode cJ4_put_2 116 = .ok (.pop, 1) := dk_87 (dk_at dksJ4_put_2_4 21 rfl rfl)
theorem dJ4_put_2_117 : decode cJ4_put_2 117 = .ok (.aload_n 1, 1) := dk_43 (dk_at dksJ4_put_2_4 22 rfl rfl)
theorem dJ4_put_2_118 : decode cJ4_put_2 118 = .ok (.checkcast 99, 3) := dk_192 0 99 (dk_at dksJ4_put_2_5 0 rfl rfl)
theorem dJ4_put_2_121 : decode cJ4_put_2 121 = .ok (.astore 8, 2) := dk_58 8 (dk_at dksJ4_put_2_5 3 rfl rfl)
theorem dJ4_put_2_123 : decode cJ4_put_2 123 = .ok (.aload 4, 2) := dk_25 4 (dk_at dksJ4_put_2_5 5 rfl rfl)
theorem dJ4_put_2_125 : decode cJ4_put_2 125 = .ok (.astore 6, 2) := dk_58 6 (dk_at dksJ4_put_2_5 7 rfl rfl)
theorem dJ4_put_2_127 : decode cJ4_put_2 127 = .ok (.aload 8, 2) := dk_25 8 (dk_at dksJ4_put_2_5 9 rfl rfl)
theorem dJ4_put_2_129 : decode cJ4_put_2 129 = .ok (.aload 4, 2) := dk_25 4 (dk_at dksJ4_put_2_5 11 rfl rfl)
theorem dJ4_put_2_131 : decode cJ4_put_2 131 = .ok (.getfield 105, 3) := dk_180 0 105 (dk_at dksJ4_put_2_5 13 rfl rfl)
theorem dJ4_put_2_134 : decode cJ4_put_2 134 = .ok (.invokeinterface 107 2, 5) := by decide +kernel
theorem dJ4_put_2_139 : decode cJ4_put_2 139 = .ok (.istore 5, 2) := dk_54 5 (dk_at dksJ4_put_2_5 21 rfl rfl)
theorem dJ4_put_2_141 : decode cJ4_put_2 141 = .ok (.iload 5, 2) := dk_21 5 (dk_at dksJ4_put_2_6 0 rfl rfl)
theorem dJ4_put_2_143 : decode cJ4_put_2 143 = .ok (.ifCond .ge 13, 3) := dk_156 0 13 (dk_at dksJ4_put_2_6 2 rfl rfl)
theorem dJ4_put_2_146 : decode cJ4_put_2 146 = .ok (.aload 4, 2) := dk_25 4 (dk_at dksJ4_put_2_6 5 rfl rfl)
theorem dJ4_put_2_148 : decode cJ4_put_2 148 = .ok (.getfield 111, 3) := dk_180 0 111 (dk_at dksJ4_put_2_6 7 rfl rfl)
theorem dJ4_put_2_151 : decode cJ4_put_2 151 = .ok (.astore 4, 2) := dk_58 4 (dk_at dksJ4_put_2_6 10 rfl rfl)
theorem dJ4_put_2_153 : decode cJ4_put_2 153 = .ok (.goto 43, 3) := dk_167 0 43 (dk_at dksJ4_put_2_6 12 rfl rfl)
theorem dJ4_put_2_156 : decode cJ4_put_2 156 = .ok (.iload 5, 2) := dk_21 5 (dk_at dksJ4_put_2_6 15 rfl rfl)
theorem dJ4_put_2_158 : decode cJ4_put_2 158 = .ok (.ifCond .le 13, 3) := dk_158 0 13 (dk_at dksJ4_put_2_6 17 rfl rfl)
theorem dJ4_put_2_161 : decode cJ4_put_2 161 = .ok (.aload 4, 2) := dk_25 4 (dk_at dksJ4_put_2_6 20 rfl rfl)
theorem dJ4_put_2_163 : decode cJ4_put_2 163 = .ok (.getfield 114, 3) := dk_180 0 114 (dk_at dksJ4_put_2_7 0 rfl rfl)
theorem dJ4_put_2_166 : decode cJ4_put_2 166 = .ok (.astore 4, 2) := dk_58 4 (dk_at dksJ4_put_2_7 3 rfl rfl)
theorem dJ4_put_2_168 : decode cJ4_put_2 168 = .ok (.goto 28, 3) := dk_167 0 28 (dk_at dksJ4_put_2_7 5 rfl rfl)
theorem dJ4_put_2_171 : decode cJ4_put_2 171 = .ok (.aload 4, 2) := dk_25 4 (dk_at dksJ4_put_2_7 8 rfl rfl)
theorem dJ4_put_2_173 : decode cJ4_put_2 173 = .ok (.getfield 58, 3) := dk_180 0 58 (dk_at dksJ4_put_2_7 10 rfl rfl)
theorem dJ4_put_2_176 : decode cJ4_put_2 176 = .ok (.astore 9, 2) := dk_58 9 (dk_at dksJ4_put_2_7 13 rfl rfl)
theorem dJ4_put_2_178 : decode cJ4_put_2 178 = .ok (.iload_n 3, 1) := dk_29 (dk_at dksJ4_put_2_7 15 rfl rfl)
theorem dJ4_put_2_179 : decode cJ4_put_2 179 = .ok (.ifCond .ne 8, 3) := dk_154 0 8 (dk_at dksJ4_put_2_7 16 rfl rfl)
theorem dJ4_put_2_182 : decode cJ4_put_2 182 = .ok (.aload 9, 2) := dk_25 9 (dk_at dksJ4_put_2_7 19 rfl rfl)
theorem dJ4_put_2_184 : decode cJ4_put_2 184 = .ok (.ifnonnull 9, 3) := dk_199 0 9 (dk_at dksJ4_put_2_7 21 rfl rfl)
theorem dJ4_put_2_187 : decode cJ4_put_2 187 = .ok (.aload 4, 2) := dk_25 4 (dk_at dksJ4_put_2_8 0 rfl rfl)
theorem dJ4_put_2_189 : decode cJ4_put_2 189 = .ok (.aload_n 2, 1) := dk_44 (dk_at dksJ4_put_2_8 2 rfl rfl)
theorem dJ4_put_2_190 : decode cJ4_put_2 190 = .ok (.putfield 58, 3) := dk_181 0 58 (dk_at dksJ4_put_2_8 3 rfl rfl)
theorem dJ4_put_2_193 : decode cJ4_put_2 193 = .ok (.aload 9, 2) := dk_25 9 (dk_at dksJ4_put_2_8 6 rfl rfl)
theorem dJ4_put_2_195 : decode cJ4_put_2 195 = .ok (.areturn, 1) := dk_176 (dk_at dksJ4_put_2_8 8 rfl rfl)
theorem dJ4_put_2_196 : decode cJ4_put_2 196 = .ok (.aload 4, 2) := dk_25 4 (dk_at dksJ4_put_2_8 9 rfl rfl)
theorem dJ4_put_2_198 : decode cJ4_put_2 198 = .ok (.ifnonnull (-75), 3) := dk_199 255 181 (dk_at dksJ4_put_2_8 11 rfl rfl)
theorem dJ4_put_2_201 : decode cJ4_put_2 201 = .ok (.aload_n 0, 1) := dk_42 (dk_at dksJ4_put_2_8 14 rfl rfl)
theorem dJ4_put_2_202 : decode cJ4_put_2 202 = .ok (.aload_n 1, 1) := dk_43 (dk_at dksJ4_put_2_8 15 rfl rfl)
theorem dJ4_put_2_203 : decode cJ4_put_2 203 = .ok (.aload_n 2, 1) := dk_44 (dk_at dksJ4_put_2_8 16 rfl rfl)
theorem dJ4_put_2_204 : decode cJ4_put_2 204 = .ok (.aload 6, 2) := dk_25 6 (dk_at dksJ4_put_2_8 17 rfl rfl)
theorem dJ4_put_2_206 : decode cJ4_put_2 206 = .ok (.iload 5, 2) := dk_21 5 (dk_at dksJ4_put_2_8 19 rfl rfl)
theorem dJ4_put_2_208 : decode cJ4_put_2 208 = .ok (.ifCond .ge 7, 3) := dk_156 0 7 (dk_at dksJ4_put_2_8 21 rfl rfl)
theorem dJ4_put_2_211 : decode cJ4_put_2 211 = .ok (.iconst 1, 1) := dk_4 (dk_at dksJ4_put_2_9 0 rfl rfl)
theorem dJ4_put_2_212 : decode cJ4_put_2 212 = .ok (.goto 4, 3) := dk_167 0 4 (dk_at dksJ4_put_2_9 1 rfl rfl)
theorem dJ4_put_2_215 : decode cJ4_put_2 215 = .ok (.iconst 0, 1) := dk_3 (dk_at dksJ4_put_2_9 4 rfl rfl)
theorem dJ4_put_2_216 : decode cJ4_put_2 216 = .ok (.invokevirtual 139, 3) := dk_182 0 139 (dk_at dksJ4_put_2_9 5 rfl rfl)
theorem dJ4_put_2_219 : decode cJ4_put_2 219 = .ok (.aconst_null, 1) := dk_1 (dk_at dksJ4_put_2_9 8 rfl rfl)
theorem dJ4_put_2_220 : decode cJ4_put_2 220 = .ok (.areturn, 1) := dk_176 (dk_at dksJ4_put_2_9 9 rfl rfl)
abbrev cJ4_addEntryToEmptyMap : ByteArray := prog_86_method_30_code
def yJ4_addEntryToEmptyMap : MethodName := ⟨RJ4, "addEntryToEmptyMap", "(Ljava/lang/Object;Ljava/lang/Object;)V"⟩
def dkwJ4_addEntryToEmptyMap_1 : List UInt8 := [181, 0, 7, 42, 89, 180, 0, 13, 4, 96, 181, 0, 13, 177]
abbrev dktJ4_addEntryToEmptyMap_1 : List UInt8 := dkwJ4_addEntryToEmptyMap_1 ++ []
def dkwJ4_addEntryToEmptyMap_0 : List UInt8 := [42, 43, 43, 182, 0, 123, 87, 42, 187, 0, 59, 89, 43, 44, 1, 183, 0, 167, 181, 0, 101, 42, 4]
abbrev dktJ4_addEntryToEmptyMap_0 : List UInt8 := dkwJ4_addEntryToEmptyMap_0 ++ dktJ4_addEntryToEmptyMap_1
theorem dksJ4_addEntryToEmptyMap_0 : cJ4_addEntryToEmptyMap.data.toList.drop 0 = dktJ4_addEntryToEmptyMap_0 := by decide +kernel
theorem dksJ4_addEntryToEmptyMap_1 : cJ4_addEntryToEmptyMap.data.toList.drop 23 = dktJ4_addEntryToEmptyMap_1 := dk_seg dksJ4_addEntryToEmptyMap_0 23 rfl rfl
theorem dJ4_addEntryToEmptyMap_0 : decode cJ4_addEntryToEmptyMap 0 = .ok (.aload_n 0, 1) := dk_42 (dk_at dksJ4_addEntryToEmptyMap_0 0 rfl rfl)
theorem dJ4_addEntryToEmptyMap_1 : decode cJ4_addEntryToEmptyMap 1 = .ok (.aload_n 1, 1) := dk_43 (dk_at dksJ4_addEntryToEmptyMap_0 1 rfl rfl)
theorem dJ4_addEntryToEmptyMap_2 : decode cJ4_addEntryToEmptyMap 2 = .ok (.aload_n 1, 1) := dk_43 (dk_at dksJ4_addEntryToEmptyMap_0 2 rfl rfl)
theorem dJ4_addEntryToEmptyMap_3 : decode cJ4_addEntryToEmptyMap 3 = .ok (.invokevirtual 123, 3) := dk_182 0 123 (dk_at dksJ4_addEntryToEmptyMap_0 3 rfl rfl)
theorem dJ4_addEntryToEmptyMap_6 : decode cJ4_addEntryToEmptyMap 6 = .ok (.pop, 1) := dk_87 (dk_at dksJ4_addEntryToEmptyMap_0 6 rfl rfl)
theorem dJ4_addEntryToEmptyMap_7 : decode cJ4_addEntryToEmptyMap 7 = .ok (.aload_n 0, 1) := dk_42 (dk_at dksJ4_addEntryToEmptyMap_0 7 rfl rfl)
theorem dJ4_addEntryToEmptyMap_8 : decode cJ4_addEntryToEmptyMap 8 = .ok (.new 59, 3) := dk_187 0 59 (dk_at dksJ4_addEntryToEmptyMap_0 8 rfl rfl)
theorem dJ4_addEntryToEmptyMap_11 : decode cJ4_addEntryToEmptyMap 11 = .ok (.dup, 1) := dk_89 (dk_at dksJ4_addEntryToEmptyMap_0 11 rfl rfl)
theorem dJ4_addEntryToEmptyMap_12 : decode cJ4_addEntryToEmptyMap 12 = .ok (.aload_n 1, 1) := dk_43 (dk_at dksJ4_addEntryToEmptyMap_0 12 rfl rfl)
theorem dJ4_addEntryToEmptyMap_13 : decode cJ4_addEntryToEmptyMap 13 = .ok (.aload_n 2, 1) := dk_44 (dk_at dksJ4_addEntryToEmptyMap_0 13 rfl rfl)
theorem dJ4_addEntryToEmptyMap_14 : decode cJ4_addEntryToEmptyMap 14 = .ok (.aconst_null, 1) := dk_1 (dk_at dksJ4_addEntryToEmptyMap_0 14 rfl rfl)
theorem dJ4_addEntryToEmptyMap_15 : decode cJ4_addEntryToEmptyMap 15 = .ok (.invokespecial 167, 3) := dk_183 0 167 (dk_at dksJ4_addEntryToEmptyMap_0 15 rfl rfl)
theorem dJ4_addEntryToEmptyMap_18 : decode cJ4_addEntryToEmptyMap 18 = .ok (.putfield 101, 3) := dk_181 0 101 (dk_at dksJ4_addEntryToEmptyMap_0 18 rfl rfl)
theorem dJ4_addEntryToEmptyMap_21 : decode cJ4_addEntryToEmptyMap 21 = .ok (.aload_n 0, 1) := dk_42 (dk_at dksJ4_addEntryToEmptyMap_0 21 rfl rfl)
theorem dJ4_addEntryToEmptyMap_22 : decode cJ4_addEntryToEmptyMap 22 = .ok (.iconst 1, 1) := dk_4 (dk_at dksJ4_addEntryToEmptyMap_0 22 rfl rfl)
theorem dJ4_addEntryToEmptyMap_23 : decode cJ4_addEntryToEmptyMap 23 = .ok (.putfield 7, 3) := dk_181 0 7 (dk_at dksJ4_addEntryToEmptyMap_1 0 rfl rfl)
theorem dJ4_addEntryToEmptyMap_26 : decode cJ4_addEntryToEmptyMap 26 = .ok (.aload_n 0, 1) := dk_42 (dk_at dksJ4_addEntryToEmptyMap_1 3 rfl rfl)
theorem dJ4_addEntryToEmptyMap_27 : decode cJ4_addEntryToEmptyMap 27 = .ok (.dup, 1) := dk_89 (dk_at dksJ4_addEntryToEmptyMap_1 4 rfl rfl)
theorem dJ4_addEntryToEmptyMap_28 : decode cJ4_addEntryToEmptyMap 28 = .ok (.getfield 13, 3) := dk_180 0 13 (dk_at dksJ4_addEntryToEmptyMap_1 5 rfl rfl)
theorem dJ4_addEntryToEmptyMap_31 : decode cJ4_addEntryToEmptyMap 31 = .ok (.iconst 1, 1) := dk_4 (dk_at dksJ4_addEntryToEmptyMap_1 8 rfl rfl)
theorem dJ4_addEntryToEmptyMap_32 : decode cJ4_addEntryToEmptyMap 32 = .ok (.iadd, 1) := dk_96 (dk_at dksJ4_addEntryToEmptyMap_1 9 rfl rfl)
theorem dJ4_addEntryToEmptyMap_33 : decode cJ4_addEntryToEmptyMap 33 = .ok (.putfield 13, 3) := dk_181 0 13 (dk_at dksJ4_addEntryToEmptyMap_1 10 rfl rfl)
theorem dJ4_addEntryToEmptyMap_36 : decode cJ4_addEntryToEmptyMap 36 = .ok (.return_, 1) := dk_177 (dk_at dksJ4_addEntryToEmptyMap_1 13 rfl rfl)
abbrev cJ4_compare : ByteArray := prog_86_method_67_code
def yJ4_compare : MethodName := ⟨RJ4, "compare", "(Ljava/lang/Object;Ljava/lang/Object;)I"⟩
def dkwJ4_compare_1 : List UInt8 := [43, 44, 185, 0, 117, 3, 0, 172]
abbrev dktJ4_compare_1 : List UInt8 := dkwJ4_compare_1 ++ []
def dkwJ4_compare_0 : List UInt8 := [42, 180, 0, 16, 199, 0, 16, 43, 192, 0, 99, 44, 185, 0, 107, 2, 0, 167, 0, 14, 42, 180, 0, 16]
abbrev dktJ4_compare_0 : List UInt8 := dkwJ4_compare_0 ++ dktJ4_compare_1
theorem dksJ4_compare_0 : cJ4_compare.data.toList.drop 0 = dktJ4_compare_0 := by decide +kernel
theorem dksJ4_compare_1 : cJ4_compare.data.toList.drop 24 = dktJ4_compare_1 := dk_seg dksJ4_compare_0 24 rfl rfl
theorem dJ4_compare_0 : decode cJ4_compare 0 = .ok (.aload_n 0, 1) := dk_42 (dk_at dksJ4_compare_0 0 rfl rfl)
theorem dJ4_compare_1 : decode cJ4_compare 1 = .ok (.getfield 16, 3) := dk_180 0 16 (dk_at dksJ4_compare_0 1 rfl rfl)
theorem dJ4_compare_4 : decode cJ4_compare 4 = .ok (.ifnonnull 16, 3) := dk_199 0 16 (dk_at dksJ4_compare_0 4 rfl rfl)
theorem dJ4_compare_7 : decode cJ4_compare 7 = .ok (.aload_n 1, 1) := dk_43 (dk_at dksJ4_compare_0 7 rfl rfl)
theorem dJ4_compare_8 : decode cJ4_compare 8 = .ok (.checkcast 99, 3) := dk_192 0 99 (dk_at dksJ4_compare_0 8 rfl rfl)
theorem dJ4_compare_11 : decode cJ4_compare 11 = .ok (.aload_n 2, 1) := dk_44 (dk_at dksJ4_compare_0 11 rfl rfl)
theorem dJ4_compare_12 : decode cJ4_compare 12 = .ok (.invokeinterface 107 2, 5) := by decide +kernel
theorem dJ4_compare_17 : decode cJ4_compare 17 = .ok (.goto 14, 3) := dk_167 0 14 (dk_at dksJ4_compare_0 17 rfl rfl)
theorem dJ4_compare_20 : decode cJ4_compare 20 = .ok (.aload_n 0, 1) := dk_42 (dk_at dksJ4_compare_0 20 rfl rfl)
theorem dJ4_compare_21 : decode cJ4_compare 21 = .ok (.getfield 16, 3) := dk_180 0 16 (dk_at dksJ4_compare_0 21 rfl rfl)
theorem dJ4_compare_24 : decode cJ4_compare 24 = .ok (.aload_n 1, 1) := dk_43 (dk_at dksJ4_compare_1 0 rfl rfl)
theorem dJ4_compare_25 : decode cJ4_compare 25 = .ok (.aload_n 2, 1) := dk_44 (dk_at dksJ4_compare_1 1 rfl rfl)
theorem dJ4_compare_26 : decode cJ4_compare 26 = .ok (.invokeinterface 117 3, 5) := by decide +kernel
theorem dJ4_compare_31 : decode cJ4_compare 31 = .ok (.ireturn, 1) := dk_172 (dk_at dksJ4_compare_1 7 rfl rfl)
abbrev cJ4_addEntry : ByteArray := prog_86_method_29_code
def yJ4_addEntry : MethodName := ⟨RJ4, "addEntry", "(Ljava/lang/Object;Ljava/lang/Object;Ljava/util/TreeMap$Entry;Z)V"⟩
def dkwJ4_addEntry_2 : List UInt8 := [181, 0, 7, 42, 89, 180, 0, 13, 4, 96, 181, 0, 13, 177]
abbrev dktJ4_addEntry_2 : List UInt8 := dkwJ4_addEntry_2 ++ []
def dkwJ4_addEntry_1 : List UInt8 := [167, 0, 9, 45, 25, 5, 181, 0, 114, 42, 25, 5, 182, 0, 170, 42, 89, 180, 0, 7, 4, 96]
abbrev dktJ4_addEntry_1 : List UInt8 := dkwJ4_addEntry_1 ++ dktJ4_addEntry_2
def dkwJ4_addEntry_0 : List UInt8 := [187, 0, 59, 89, 43, 44, 45, 183, 0, 167, 58, 5, 21, 4, 153, 0, 12, 45, 25, 5, 181, 0, 111]
abbrev dktJ4_addEntry_0 : List UInt8 := dkwJ4_addEntry_0 ++ dktJ4_addEntry_1
theorem dksJ4_addEntry_0 : cJ4_addEntry.data.toList.drop 0 = dktJ4_addEntry_0 := by decide +kernel
theorem dksJ4_addEntry_1 : cJ4_addEntry.data.toList.drop 23 = dktJ4_addEntry_1 := dk_seg dksJ4_addEntry_0 23 rfl rfl
theorem dksJ4_addEntry_2 : cJ4_addEntry.data.toList.drop 45 = dktJ4_addEntry_2 := dk_seg dksJ4_addEntry_1 22 rfl rfl
theorem dJ4_addEntry_0 : decode cJ4_addEntry 0 = .ok (.new 59, 3) := dk_187 0 59 (dk_at dksJ4_addEntry_0 0 rfl rfl)
theorem dJ4_addEntry_3 : decode cJ4_addEntry 3 = .ok (.dup, 1) := dk_89 (dk_at dksJ4_addEntry_0 3 rfl rfl)
theorem dJ4_addEntry_4 : decode cJ4_addEntry 4 = .ok (.aload_n 1, 1) := dk_43 (dk_at dksJ4_addEntry_0 4 rfl rfl)
theorem dJ4_addEntry_5 : decode cJ4_addEntry 5 = .ok (.aload_n 2, 1) := dk_44 (dk_at dksJ4_addEntry_0 5 rfl rfl)
theorem dJ4_addEntry_6 : decode cJ4_addEntry 6 = .ok (.aload_n 3, 1) := dk_45 (dk_at dksJ4_addEntry_0 6 rfl rfl)
theorem dJ4_addEntry_7 : decode cJ4_addEntry 7 = .ok (.invokespecial 167, 3) := dk_183 0 167 (dk_at dksJ4_addEntry_0 7 rfl rfl)
theorem dJ4_addEntry_10 : decode cJ4_addEntry 10 = .ok (.astore 5, 2) := dk_58 5 (dk_at dksJ4_addEntry_0 10 rfl rfl)
theorem dJ4_addEntry_12 : decode cJ4_addEntry 12 = .ok (.iload 4, 2) := dk_21 4 (dk_at dksJ4_addEntry_0 12 rfl rfl)
theorem dJ4_addEntry_14 : decode cJ4_addEntry 14 = .ok (.ifCond .eq 12, 3) := dk_153 0 12 (dk_at dksJ4_addEntry_0 14 rfl rfl)
theorem dJ4_addEntry_17 : decode cJ4_addEntry 17 = .ok (.aload_n 3, 1) := dk_45 (dk_at dksJ4_addEntry_0 17 rfl rfl)
theorem dJ4_addEntry_18 : decode cJ4_addEntry 18 = .ok (.aload 5, 2) := dk_25 5 (dk_at dksJ4_addEntry_0 18 rfl rfl)
theorem dJ4_addEntry_20 : decode cJ4_addEntry 20 = .ok (.putfield 111, 3) := dk_181 0 111 (dk_at dksJ4_addEntry_0 20 rfl rfl)
theorem dJ4_addEntry_23 : decode cJ4_addEntry 23 = .ok (.goto 9, 3) := dk_167 0 9 (dk_at dksJ4_addEntry_1 0 rfl rfl)
theorem dJ4_addEntry_26 : decode cJ4_addEntry 26 = .ok (.aload_n 3, 1) := dk_45 (dk_at dksJ4_addEntry_1 3 rfl rfl)
theorem dJ4_addEntry_27 : decode cJ4_addEntry 27 = .ok (.aload 5, 2) := dk_25 5 (dk_at dksJ4_addEntry_1 4 rfl rfl)
theorem dJ4_addEntry_29 : decode cJ4_addEntry 29 = .ok (.putfield 114, 3) := dk_181 0 114 (dk_at dksJ4_addEntry_1 6 rfl rfl)
theorem dJ4_addEntry_32 : decode cJ4_addEntry 32 = .ok (.aload_n 0, 1) := dk_42 (dk_at dksJ4_addEntry_1 9 rfl rfl)
theorem dJ4_addEntry_33 : decode cJ4_addEntry 33 = .ok (.aload 5, 2) := dk_25 5 (dk_at dksJ4_addEntry_1 10 rfl rfl)
theorem dJ4_addEntry_35 : decode cJ4_addEntry 35 = .ok (.invokevirtual 170, 3) := dk_182 0 170 (dk_at dksJ4_addEntry_1 12 rfl rfl)
theorem dJ4_addEntry_38 : decode cJ4_addEntry 38 = .ok (.aload_n 0, 1) := dk_42 (dk_at dksJ4_addEntry_1 15 rfl rfl)
theorem dJ4_addEntry_39 : decode cJ4_addEntry 39 = .ok (.dup, 1) := dk_89 (dk_at dksJ4_addEntry_1 16 rfl rfl)
theorem dJ4_addEntry_40 : decode cJ4_addEntry 40 = .ok (.getfield 7, 3) := dk_180 0 7 (dk_at dksJ4_addEntry_1 17 rfl rfl)
theorem dJ4_addEntry_43 : decode cJ4_addEntry 43 = .ok (.iconst 1, 1) := dk_4 (dk_at dksJ4_addEntry_1 20 rfl rfl)
theorem dJ4_addEntry_44 : decode cJ4_addEntry 44 = .ok (.iadd, 1) := dk_96 (dk_at dksJ4_addEntry_1 21 rfl rfl)
theorem dJ4_addEntry_45 : decode cJ4_addEntry 45 = .ok (.putfield 7, 3) := dk_181 0 7 (dk_at dksJ4_addEntry_2 0 rfl rfl)
theorem dJ4_addEntry_48 : decode cJ4_addEntry 48 = .ok (.aload_n 0, 1) := dk_42 (dk_at dksJ4_addEntry_2 3 rfl rfl)
theorem dJ4_addEntry_49 : decode cJ4_addEntry 49 = .ok (.dup, 1) := dk_89 (dk_at dksJ4_addEntry_2 4 rfl rfl)
theorem dJ4_addEntry_50 : decode cJ4_addEntry 50 = .ok (.getfield 13, 3) := dk_180 0 13 (dk_at dksJ4_addEntry_2 5 rfl rfl)
theorem dJ4_addEntry_53 : decode cJ4_addEntry 53 = .ok (.iconst 1, 1) := dk_4 (dk_at dksJ4_addEntry_2 8 rfl rfl)
theorem dJ4_addEntry_54 : decode cJ4_addEntry 54 = .ok (.iadd, 1) := dk_96 (dk_at dksJ4_addEntry_2 9 rfl rfl)
theorem dJ4_addEntry_55 : decode cJ4_addEntry 55 = .ok (.putfield 13, 3) := dk_181 0 13 (dk_at dksJ4_addEntry_2 10 rfl rfl)
theorem dJ4_addEntry_58 : decode cJ4_addEntry 58 = .ok (.return_, 1) := dk_177 (dk_at dksJ4_addEntry_2 13 rfl rfl)
abbrev cJ4_fixAfterInsertion : ByteArray := prog_86_method_83_code
def yJ4_fixAfterInsertion : MethodName := ⟨RJ4, "fixAfterInsertion", "(Ljava/util/TreeMap$Entry;)V"⟩
def dkwJ4_fixAfterInsertion_11 : List UInt8 := [42, 180, 0, 101, 4, 181, 1, 34, 177]
abbrev dktJ4_fixAfterInsertion_11 : List UInt8 := dkwJ4_fixAfterInsertion_11 ++ []
def dkwJ4_fixAfterInsertion_10 : List UInt8 := [184, 1, 38, 184, 1, 38, 3, 184, 1, 51, 42, 43, 184, 1, 38, 184, 1, 38, 182, 1, 55, 167, 255, 6]
abbrev dktJ4_fixAfterInsertion_10 : List UInt8 := dkwJ4_fixAfterInsertion_10 ++ dktJ4_fixAfterInsertion_11
def dkwJ4_fixAfterInsertion_9 : List UInt8 := [166, 0, 13, 43, 184, 1, 38, 76, 42, 43, 182, 1, 58, 43, 184, 1, 38, 4, 184, 1, 51, 43]
abbrev dktJ4_fixAfterInsertion_9 : List UInt8 := dkwJ4_fixAfterInsertion_9 ++ dktJ4_fixAfterInsertion_10
def dkwJ4_fixAfterInsertion_8 : List UInt8 := [184, 1, 51, 43, 184, 1, 38, 184, 1, 38, 76, 167, 0, 54, 43, 43, 184, 1, 38, 184, 1, 41]
abbrev dktJ4_fixAfterInsertion_8 : List UInt8 := dkwJ4_fixAfterInsertion_8 ++ dktJ4_fixAfterInsertion_9
def dkwJ4_fixAfterInsertion_7 : List UInt8 := [154, 0, 38, 43, 184, 1, 38, 4, 184, 1, 51, 44, 4, 184, 1, 51, 43, 184, 1, 38, 184, 1, 38, 3]
abbrev dktJ4_fixAfterInsertion_7 : List UInt8 := dkwJ4_fixAfterInsertion_7 ++ dktJ4_fixAfterInsertion_8
def dkwJ4_fixAfterInsertion_6 : List UInt8 := [184, 1, 38, 182, 1, 58, 167, 255, 113, 43, 184, 1, 38, 184, 1, 38, 184, 1, 41, 77, 44, 184, 1, 47]
abbrev dktJ4_fixAfterInsertion_6 : List UInt8 := dkwJ4_fixAfterInsertion_6 ++ dktJ4_fixAfterInsertion_7
def dkwJ4_fixAfterInsertion_5 : List UInt8 := [43, 184, 1, 38, 4, 184, 1, 51, 43, 184, 1, 38, 184, 1, 38, 3, 184, 1, 51, 42, 43, 184, 1, 38]
abbrev dktJ4_fixAfterInsertion_5 : List UInt8 := dkwJ4_fixAfterInsertion_5 ++ dktJ4_fixAfterInsertion_6
def dkwJ4_fixAfterInsertion_4 : List UInt8 := [167, 0, 54, 43, 43, 184, 1, 38, 184, 1, 44, 166, 0, 13, 43, 184, 1, 38, 76, 42, 43, 182, 1, 55]
abbrev dktJ4_fixAfterInsertion_4 : List UInt8 := dkwJ4_fixAfterInsertion_4 ++ dktJ4_fixAfterInsertion_5
def dkwJ4_fixAfterInsertion_3 : List UInt8 := [184, 1, 51, 43, 184, 1, 38, 184, 1, 38, 3, 184, 1, 51, 43, 184, 1, 38, 184, 1, 38, 76]
abbrev dktJ4_fixAfterInsertion_3 : List UInt8 := dkwJ4_fixAfterInsertion_3 ++ dktJ4_fixAfterInsertion_4
def dkwJ4_fixAfterInsertion_2 : List UInt8 := [184, 1, 38, 184, 1, 44, 77, 44, 184, 1, 47, 154, 0, 38, 43, 184, 1, 38, 4, 184, 1, 51, 44, 4]
abbrev dktJ4_fixAfterInsertion_2 : List UInt8 := dkwJ4_fixAfterInsertion_2 ++ dktJ4_fixAfterInsertion_3
def dkwJ4_fixAfterInsertion_1 : List UInt8 := [154, 0, 234, 43, 184, 1, 38, 43, 184, 1, 38, 184, 1, 38, 184, 1, 41, 166, 0, 110, 43, 184, 1, 38]
abbrev dktJ4_fixAfterInsertion_1 : List UInt8 := dkwJ4_fixAfterInsertion_1 ++ dktJ4_fixAfterInsertion_2
def dkwJ4_fixAfterInsertion_0 : List UInt8 := [43, 3, 181, 1, 34, 43, 198, 0, 252, 43, 42, 180, 0, 101, 165, 0, 244, 43, 180, 0, 124, 180, 1, 34]
abbrev dktJ4_fixAfterInsertion_0 : List UInt8 := dkwJ4_fixAfterInsertion_0 ++ dktJ4_fixAfterInsertion_1
theorem dksJ4_fixAfterInsertion_0 : cJ4_fixAfterInsertion.data.toList.drop 0 = dktJ4_fixAfterInsertion_0 := by decide +kernel
theorem dksJ4_fixAfterInsertion_1 : cJ4_fixAfterInsertion.data.toList.drop 24 = dktJ4_fixAfterInsertion_1 := dk_seg dksJ4_fixAfterInsertion_0 24 rfl rfl
theorem dksJ4_fixAfterInsertion_2 : cJ4_fixAfterInsertion.data.toList.drop 48 = dktJ4_fixAfterInsertion_2 := dk_seg dksJ4_fixAfterInsertion_1 24 rfl rfl
theorem dksJ4_fixAfterInsertion_3 : cJ4_fixAfterInsertion.data.toList.drop 72 = dktJ4_fixAfterInsertion_3 := dk_seg dksJ4_fixAfterInsertion_2 24 rfl rfl
theorem dksJ4_fixAfterInsertion_4 : cJ4_fixAfterInsertion.data.toList.drop 94 = dktJ4_fixAfterInsertion_4 := dk_seg dksJ4_fixAfterInsertion_3 22 rfl rfl
theorem dksJ4_fixAfterInsertion_5 : cJ4_fixAfterInsertion.data.toList.drop 118 = dktJ4_fixAfterInsertion_5 := dk_seg dksJ4_fixAfterInsertion_4 24 rfl rfl
theorem dksJ4_fixAfterInsertion_6 : cJ4_fixAfterInsertion.data.toList.drop 142 = dktJ4_fixAfterInsertion_6 := dk_seg dksJ4_fixAfterInsertion_5 24 rfl rfl
theorem dksJ4_fixAfterInsertion_7 : cJ4_fixAfterInsertion.data.toList.drop 166 = dktJ4_fixAfterInsertion_7 := dk_seg dksJ4_fixAfterInsertion_6 24 rfl rfl
theorem dksJ4_fixAfterInsertion_8 : cJ4_fixAfterInsertion.data.toList.drop 190 = dktJ4_fixAfterInsertion_8 := dk_seg dksJ4_fixAfterInsertion_7 24 rfl rfl
theorem dksJ4_fixAfterInsertion_9 : cJ4_fixAfterInsertion.data.toList.drop 212 = dktJ4_fixAfterInsertion_9 := dk_seg dksJ4_fixAfterInsertion_8 22 rfl rfl
theorem dksJ4_fixAfterInsertion_10 : cJ4_fixAfterInsertion.data.toList.drop 234 = dktJ4_fixAfterInsertion_10 := dk_seg dksJ4_fixAfterInsertion_9 22 rfl rfl
theorem dksJ4_fixAfterInsertion_11 : cJ4_fixAfterInsertion.data.toList.drop 258 = dktJ4_fixAfterInsertion_11 := dk_seg dksJ4_fixAfterInsertion_10 24 rfl rfl
theorem dJ4_fixAfterInsertion_0 : decode cJ4_fixAfterInsertion 0 = .ok (.aload_n 1, 1) := dk_43 (dk_at dksJ4_fixAfterInsertion_0 0 rfl rfl)
theorem dJ4_fixAfterInsertion_1 : decode cJ4_fixAfterInsertion 1 = .ok (.iconst 0, 1) := dk_3 (dk_at dksJ4_fixAfterInsertion_0 1 rfl rfl)
theorem dJ4_fixAfterInsertion_2 : decode cJ4_fixAfterInsertion 2 = .ok (.putfield 290, 3) := dk_181 1 34 (dk_at dksJ4_fixAfterInsertion_0 2 rfl rfl)
theorem dJ4_fixAfterInsertion_5 : decode cJ4_fixAfterInsertion 5 = .ok (.aload_n 1, 1) := dk_43 (dk_at dksJ4_fixAfterInsertion_0 5 rfl rfl)
theorem dJ4_fixAfterInsertion_6 : decode cJ4_fixAfterInsertion 6 = .ok (.ifnull 252, 3) := dk_198 0 252 (dk_at dksJ4_fixAfterInsertion_0 6 rfl rfl)
theorem dJ4_fixAfterInsertion_9 : decode cJ4_fixAfterInsertion 9 = .ok (.aload_n 1, 1) := dk_43 (dk_at dksJ4_fixAfterInsertion_0 9 rfl rfl)
theorem dJ4_fixAfterInsertion_10 : decode cJ4_fixAfterInsertion 10 = .ok (.aload_n 0, 1) := dk_42 (dk_at dksJ4_fixAfterInsertion_0 10 rfl rfl)
theorem dJ4_fixAfterInsertion_11 : decode cJ4_fixAfterInsertion 11 = .ok (.getfield 101, 3) := dk_180 0 101 (dk_at dksJ4_fixAfterInsertion_0 11 rfl rfl)
theorem dJ4_fixAfterInsertion_14 : decode cJ4_fixAfterInsertion 14 = .ok (.if_acmp .eq 244, 3) := dk_165 0 244 (dk_at dksJ4_fixAfterInsertion_0 14 rfl rfl)
theorem dJ4_fixAfterInsertion_17 : decode cJ4_fixAfterInsertion 17 = .ok (.aload_n 1, 1) := dk_43 (dk_at dksJ4_fixAfterInsertion_0 17 rfl rfl)
theorem dJ4_fixAfterInsertion_18 : decode cJ4_fixAfterInsertion 18 = .ok (.getfield 124, 3) := dk_180 0 124 (dk_at dksJ4_fixAfterInsertion_0 18 rfl rfl)
theorem dJ4_fixAfterInsertion_21 : decode cJ4_fixAfterInsertion 21 = .ok (.getfield 290, 3) := dk_180 1 34 (dk_at dksJ4_fixAfterInsertion_0 21 rfl rfl)
theorem dJ4_fixAfterInsertion_24 : decode cJ4_fixAfterInsertion 24 = .ok (.ifCond .ne 234, 3) := dk_154 0 234 (dk_at dksJ4_fixAfterInsertion_1 0 rfl rfl)
theorem dJ4_fixAfterInsertion_27 : decode cJ4_fixAfterInsertion 27 = .ok (.aload_n 1, 1) := dk_43 (dk_at dksJ4_fixAfterInsertion_1 3 rfl rfl)
theorem dJ4_fixAfterInsertion_28 : decode cJ4_fixAfterInsertion 28 = .ok (.invokestatic 294, 3) := dk_184 1 38 (dk_at dksJ4_fixAfterInsertion_1 4 rfl rfl)
theorem dJ4_fixAfterInsertion_31 : decode cJ4_fixAfterInsertion 31 = .ok (.aload_n 1, 1) := dk_43 (dk_at dksJ4_fixAfterInsertion_1 7 rfl rfl)
theorem dJ4_fixAfterInsertion_32 : decode cJ4_fixAfterInsertion 32 = .ok (.invokestatic 294, 3) := dk_184 1 38 (dk_at dksJ4_fixAfterInsertion_1 8 rfl rfl)
theorem dJ4_fixAfterInsertion_35 : decode cJ4_fixAfterInsertion 35 = .ok (.invokestatic 294, 3) := dk_184 1 38 (dk_at dksJ4_fixAfterInsertion_1 11 rfl rfl)
theorem dJ4_fixAfterInsertion_38 : decode cJ4_fixAfterInsertion 38 = .ok (.invokestatic 297, 3) := dk_184 1 41 (dk_at dksJ4_fixAfterInsertion_1 14 rfl rfl)
theorem dJ4_fixAfterInsertion_41 : decode cJ4_fixAfterInsertion 41 = .ok (.if_acmp .ne 110, 3) := dk_166 0 110 (dk_at dksJ4_fixAfterInsertion_1 17 rfl rfl)
theorem dJ4_fixAfterInsertion_44 : decode cJ4_fixAfterInsertion 44 = .ok (.aload_n 1, 1) := dk_43 (dk_at dksJ4_fixAfterInsertion_1 20 rfl rfl)
theorem dJ4_fixAfterInsertion_45 : decode cJ4_fixAfterInsertion 45 = .ok (.invokestatic 294, 3) := dk_184 1 38 (dk_at dksJ4_fixAfterInsertion_1 21 rfl rfl)
theorem dJ4_fixAfterInsertion_48 : decode cJ4_fixAfterInsertion 48 = .ok (.invokestatic 294, 3) := dk_184 1 38 (dk_at dksJ4_fixAfterInsertion_2 0 rfl rfl)
theorem dJ4_fixAfterInsertion_51 : decode cJ4_fixAfterInsertion 51 = .ok (.invokestatic 300, 3) := dk_184 1 44 (dk_at dksJ4_fixAfterInsertion_2 3 rfl rfl)
theorem dJ4_fixAfterInsertion_54 : decode cJ4_fixAfterInsertion 54 = .ok (.astore_n 2, 1) := dk_77 (dk_at dksJ4_fixAfterInsertion_2 6 rfl rfl)
theorem dJ4_fixAfterInsertion_55 : decode cJ4_fixAfterInsertion 55 = .ok (.aload_n 2, 1) := dk_44 (dk_at dksJ4_fixAfterInsertion_2 7 rfl rfl)
theorem dJ4_fixAfterInsertion_56 : decode cJ4_fixAfterInsertion 56 = .ok (.invokestatic 303, 3) := dk_184 1 47 (dk_at dksJ4_fixAfterInsertion_2 8 rfl rfl)
theorem dJ4_fixAfterInsertion_59 : decode cJ4_fixAfterInsertion 59 = .ok (.ifCond .ne 38, 3) := dk_154 0 38 (dk_at dksJ4_fixAfterInsertion_2 11 rfl rfl)
theorem dJ4_fixAfterInsertion_62 : decode cJ4_fixAfterInsertion 62 = .ok (.aload_n 1, 1) := dk_43 (dk_at dksJ4_fixAfterInsertion_2 14 rfl rfl)
theorem dJ4_fixAfterInsertion_63 : decode cJ4_fixAfterInsertion 63 = .ok (.invokestatic 294, 3) := dk_184 1 38 (dk_at dksJ4_fixAfterInsertion_2 15 rfl rfl)
theorem dJ4_fixAfterInsertion_66 : decode cJ4_fixAfterInsertion 66 = .ok (.iconst 1, 1) := dk_4 (dk_at dksJ4_fixAfterInsertion_2 18 rfl rfl)
theorem dJ4_fixAfterInsertion_67 : decode cJ4_fixAfterInsertion 67 = .ok (.invokestatic 307, 3) := dk_184 1 51 (dk_at dksJ4_fixAfterInsertion_2 19 rfl rfl)
theorem dJ4_fixAfterInsertion_70 : decode cJ4_fixAfterInsertion 70 = .ok (.aload_n 2, 1) := dk_44 (dk_at dksJ4_fixAfterInsertion_2 22 rfl rfl)
theorem dJ4_fixAfterInsertion_71 : decode cJ4_fixAfterInsertion 71 = .ok (.iconst 1, 1) := dk_4 (dk_at dksJ4_fixAfterInsertion_2 23 rfl rfl)
theorem dJ4_fixAfterInsertion_72 : decode cJ4_fixAfterInsertion 72 = .ok (.invokestatic 307, 3) := dk_184 1 51 (dk_at dksJ4_fixAfterInsertion_3 0 rfl rfl)
theorem dJ4_fixAfterInsertion_75 : decode cJ4_fixAfterInsertion 75 = .ok (.aload_n 1, 1) := dk_43 (dk_at dksJ4_fixAfterInsertion_3 3 rfl rfl)
theorem dJ4_fixAfterInsertion_76 : decode cJ4_fixAfterInsertion 76 = .ok (.invokestatic 294, 3) := dk_184 1 38 (dk_at dksJ4_fixAfterInsertion_3 4 rfl rfl)
theorem dJ4_fixAfterInsertion_79 : decode cJ4_fixAfterInsertion 79 = .ok (.invokestatic 294, 3) := dk_184 1 38 (dk_at dksJ4_fixAfterInsertion_3 7 rfl rfl)
theorem dJ4_fixAfterInsertion_82 : decode cJ4_fixAfterInsertion 82 = .ok (.iconst 0, 1) := dk_3 (dk_at dksJ4_fixAfterInsertion_3 10 rfl rfl)
theorem dJ4_fixAfterInsertion_83 : decode cJ4_fixAfterInsertion 83 = .ok (.invokestatic 307, 3) := dk_184 1 51 (dk_at dksJ4_fixAfterInsertion_3 11 rfl rfl)
theorem dJ4_fixAfterInsertion_86 : decode cJ4_fixAfterInsertion 86 = .ok (.aload_n 1, 1) := dk_43 (dk_at dksJ4_fixAfterInsertion_3 14 rfl rfl)
theorem dJ4_fixAfterInsertion_87 : decode cJ4_fixAfterInsertion 87 = .ok (.invokestatic 294, 3) := dk_184 1 38 (dk_at dksJ4_fixAfterInsertion_3 15 rfl rfl)
theorem dJ4_fixAfterInsertion_90 : decode cJ4_fixAfterInsertion 90 = .ok (.invokestatic 294, 3) := dk_184 1 38 (dk_at dksJ4_fixAfterInsertion_3 18 rfl rfl)
theorem dJ4_fixAfterInsertion_93 : decode cJ4_fixAfterInsertion 93 = .ok (.astore_n 1, 1) := dk_76 (dk_at dksJ4_fixAfterInsertion_3 21 rfl rfl)
theorem dJ4_fixAfterInsertion_94 : decode cJ4_fixAfterInsertion 94 = .ok (.goto 54, 3) := dk_167 0 54 (dk_at dksJ4_fixAfterInsertion_4 0 rfl rfl)
theorem dJ4_fixAfterInsertion_97 : decode cJ4_fixAfterInsertion 97 = .ok (.aload_n 1, 1) := dk_43 (dk_at dksJ4_fixAfterInsertion_4 3 rfl rfl)
theorem dJ4_fixAfterInsertion_98 : decode cJ4_fixAfterInsertion 98 = .ok (.aload_n 1, 1) := dk_43 (dk_at dksJ4_fixAfterInsertion_4 4 rfl rfl)
theorem dJ4_fixAfterInsertion_99 : decode cJ4_fixAfterInsertion 99 = .ok (.invokestatic 294, 3) := dk_184 1 38 (dk_at dksJ4_fixAfterInsertion_4 5 rfl rfl)
theorem dJ4_fixAfterInsertion_102 : decode cJ4_fixAfterInsertion 102 = .ok (.invokestatic 300, 3) := dk_184 1 44 (dk_at dksJ4_fixAfterInsertion_4 8 rfl rfl)
theorem dJ4_fixAfterInsertion_105 : decode cJ4_fixAfterInsertion 105 = .ok (.if_acmp .ne 13, 3) := dk_166 0 13 (dk_at dksJ4_fixAfterInsertion_4 11 rfl rfl)
theorem dJ4_fixAfterInsertion_108 : decode cJ4_fixAfterInsertion 108 = .ok (.aload_n 1, 1) := dk_43 (dk_at dksJ4_fixAfterInsertion_4 14 rfl rfl)
theorem dJ4_fixAfterInsertion_109 : decode cJ4_fixAfterInsertion 109 = .ok (.invokestatic 294, 3) := dk_184 1 38 (dk_at dksJ4_fixAfterInsertion_4 15 rfl rfl)
theorem dJ4_fixAfterInsertion_112 : decode cJ4_fixAfterInsertion 112 = .ok (.astore_n 1, 1) := dk_76 (dk_at dksJ4_fixAfterInsertion_4 18 rfl rfl)
theorem dJ4_fixAfterInsertion_113 : decode cJ4_fixAfterInsertion 113 = .ok (.aload_n 0, 1) := dk_42 (dk_at dksJ4_fixAfterInsertion_4 19 rfl rfl)
theorem dJ4_fixAfterInsertion_114 : decode cJ4_fixAfterInsertion 114 = .ok (.aload_n 1, 1) := dk_43 (dk_at dksJ4_fixAfterInsertion_4 20 rfl rfl)
theorem dJ4_fixAfterInsertion_115 : decode cJ4_fixAfterInsertion 115 = .ok (.invokevirtual 311, 3) := dk_182 1 55 (dk_at dksJ4_fixAfterInsertion_4 21 rfl rfl)
theorem dJ4_fixAfterInsertion_118 : decode cJ4_fixAfterInsertion 118 = .ok (.aload_n 1, 1) := dk_43 (dk_at dksJ4_fixAfterInsertion_5 0 rfl rfl)
theorem dJ4_fixAfterInsertion_119 : decode cJ4_fixAfterInsertion 119 = .ok (.invokestatic 294, 3) := dk_184 1 38 (dk_at dksJ4_fixAfterInsertion_5 1 rfl rfl)
theorem dJ4_fixAfterInsertion_122 : decode cJ4_fixAfterInsertion 122 = .ok (.iconst 1, 1) := dk_4 (dk_at dksJ4_fixAfterInsertion_5 4 rfl rfl)
theorem dJ4_fixAfterInsertion_123 : decode cJ4_fixAfterInsertion 123 = .ok (.invokestatic 307, 3) := dk_184 1 51 (dk_at dksJ4_fixAfterInsertion_5 5 rfl rfl)
theorem dJ4_fixAfterInsertion_126 : decode cJ4_fixAfterInsertion 126 = .ok (.aload_n 1, 1) := dk_43 (dk_at dksJ4_fixAfterInsertion_5 8 rfl rfl)
theorem dJ4_fixAfterInsertion_127 : decode cJ4_fixAfterInsertion 127 = .ok (.invokestatic 294, 3) := dk_184 1 38 (dk_at dksJ4_fixAfterInsertion_5 9 rfl rfl)
theorem dJ4_fixAfterInsertion_130 : decode cJ4_fixAfterInsertion 130 = .ok (.invokestatic 294, 3) := dk_184 1 38 (dk_at dksJ4_fixAfterInsertion_5 12 rfl rfl)
theorem dJ4_fixAfterInsertion_133 : decode cJ4_fixAfterInsertion 133 = .ok (.iconst 0, 1) := dk_3 (dk_at dksJ4_fixAfterInsertion_5 15 rfl rfl)
theorem dJ4_fixAfterInsertion_134 : decode cJ4_fixAfterInsertion 134 = .ok (.invokestatic 307, 3) := dk_184 1 51 (dk_at dksJ4_fixAfterInsertion_5 16 rfl rfl)
theorem dJ4_fixAfterInsertion_137 : decode cJ4_fixAfterInsertion 137 = .ok (.aload_n 0, 1) := dk_42 (dk_at dksJ4_fixAfterInsertion_5 19 rfl rfl)
theorem dJ4_fixAfterInsertion_138 : decode cJ4_fixAfterInsertion 138 = .ok (.aload_n 1, 1) := dk_43 (dk_at dksJ4_fixAfterInsertion_5 20 rfl rfl)
theorem dJ4_fixAfterInsertion_139 : decode cJ4_fixAfterInsertion 139 = .ok (.invokestatic 294, 3) := dk_184 1 38 (dk_at dksJ4_fixAfterInsertion_5 21 rfl rfl)
theorem dJ4_fixAfterInsertion_142 : decode cJ4_fixAfterInsertion 142 = .ok (.invokestatic 294, 3) := dk_184 1 38 (dk_at dksJ4_fixAfterInsertion_6 0 rfl rfl)
theorem dJ4_fixAfterInsertion_145 : decode cJ4_fixAfterInsertion 145 = .ok (.invokevirtual 314, 3) := dk_182 1 58 (dk_at dksJ4_fixAfterInsertion_6 3 rfl rfl)
theorem dJ4_fixAfterInsertion_148 : decode cJ4_fixAfterInsertion 148 = .ok (.goto (-143), 3) := dk_167 255 113 (dk_at dksJ4_fixAfterInsertion_6 6 rfl rfl)
theorem dJ4_fixAfterInsertion_151 : decode cJ4_fixAfterInsertion 151 = .ok (.aload_n 1, 1) := dk_43 (dk_at dksJ4_fixAfterInsertion_6 9 rfl rfl)
theorem dJ4_fixAfterInsertion_152 : decode cJ4_fixAfterInsertion 152 = .ok (.invokestatic 294, 3) := dk_184 1 38 (dk_at dksJ4_fixAfterInsertion_6 10 rfl rfl)
theorem dJ4_fixAfterInsertion_155 : decode cJ4_fixAfterInsertion 155 = .ok (.invokestatic 294, 3) := dk_184 1 38 (dk_at dksJ4_fixAfterInsertion_6 13 rfl rfl)
theorem dJ4_fixAfterInsertion_158 : decode cJ4_fixAfterInsertion 158 = .ok (.invokestatic 297, 3) := dk_184 1 41 (dk_at dksJ4_fixAfterInsertion_6 16 rfl rfl)
theorem dJ4_fixAfterInsertion_161 : decode cJ4_fixAfterInsertion 161 = .ok (.astore_n 2, 1) := dk_77 (dk_at dksJ4_fixAfterInsertion_6 19 rfl rfl)
theorem dJ4_fixAfterInsertion_162 : decode cJ4_fixAfterInsertion 162 = .ok (.aload_n 2, 1) := dk_44 (dk_at dksJ4_fixAfterInsertion_6 20 rfl rfl)
theorem dJ4_fixAfterInsertion_163 : decode cJ4_fixAfterInsertion 163 = .ok (.invokestatic 303, 3) := dk_184 1 47 (dk_at dksJ4_fixAfterInsertion_6 21 rfl rfl)
theorem dJ4_fixAfterInsertion_166 : decode cJ4_fixAfterInsertion 166 = .ok (.ifCond .ne 38, 3) := dk_154 0 38 (dk_at dksJ4_fixAfterInsertion_7 0 rfl rfl)
theorem dJ4_fixAfterInsertion_169 : decode cJ4_fixAfterInsertion 169 = .ok (.aload_n 1, 1) := dk_43 (dk_at dksJ4_fixAfterInsertion_7 3 rfl rfl)
theorem dJ4_fixAfterInsertion_170 : decode cJ4_fixAfterInsertion 170 = .ok (.invokestatic 294, 3) := dk_184 1 38 (dk_at dksJ4_fixAfterInsertion_7 4 rfl rfl)
theorem dJ4_fixAfterInsertion_173 : decode cJ4_fixAfterInsertion 173 = .ok (.iconst 1, 1) := dk_4 (dk_at dksJ4_fixAfterInsertion_7 7 rfl rfl)
theorem dJ4_fixAfterInsertion_174 : decode cJ4_fixAfterInsertion 174 = .ok (.invokestatic 307, 3) := dk_184 1 51 (dk_at dksJ4_fixAfterInsertion_7 8 rfl rfl)
theorem dJ4_fixAfterInsertion_177 : decode cJ4_fixAfterInsertion 177 = .ok (.aload_n 2, 1) := dk_44 (dk_at dksJ4_fixAfterInsertion_7 11 rfl rfl)
theorem dJ4_fixAfterInsertion_178 : decode cJ4_fixAfterInsertion 178 = .ok (.iconst 1, 1) := dk_4 (dk_at dksJ4_fixAfterInsertion_7 12 rfl rfl)
theorem dJ4_fixAfterInsertion_179 : decode cJ4_fixAfterInsertion 179 = .ok (.invokestatic 307, 3) := dk_184 1 51 (dk_at dksJ4_fixAfterInsertion_7 13 rfl rfl)
theorem dJ4_fixAfterInsertion_182 : decode cJ4_fixAfterInsertion 182 = .ok (.aload_n 1, 1) := dk_43 (dk_at dksJ4_fixAfterInsertion_7 16 rfl rfl)
theorem dJ4_fixAfterInsertion_183 : decode cJ4_fixAfterInsertion 183 = .ok (.invokestatic 294, 3) := dk_184 1 38 (dk_at dksJ4_fixAfterInsertion_7 17 rfl rfl)
theorem dJ4_fixAfterInsertion_186 : decode cJ4_fixAfterInsertion 186 = .ok (.invokestatic 294, 3) := dk_184 1 38 (dk_at dksJ4_fixAfterInsertion_7 20 rfl rfl)
theorem dJ4_fixAfterInsertion_189 : decode cJ4_fixAfterInsertion 189 = .ok (.iconst 0, 1) := dk_3 (dk_at dksJ4_fixAfterInsertion_7 23 rfl rfl)
theorem dJ4_fixAfterInsertion_190 : decode cJ4_fixAfterInsertion 190 = .ok (.invokestatic 307, 3) := dk_184 1 51 (dk_at dksJ4_fixAfterInsertion_8 0 rfl rfl)
theorem dJ4_fixAfterInsertion_193 : decode cJ4_fixAfterInsertion 193 = .ok (.aload_n 1, 1) := dk_43 (dk_at dksJ4_fixAfterInsertion_8 3 rfl rfl)
theorem dJ4_fixAfterInsertion_194 : decode cJ4_fixAfterInsertion 194 = .ok (.invokestatic 294, 3) := dk_184 1 38 (dk_at dksJ4_fixAfterInsertion_8 4 rfl rfl)
theorem dJ4_fixAfterInsertion_197 : decode cJ4_fixAfterInsertion 197 = .ok (.invokestatic 294, 3) := dk_184 1 38 (dk_at dksJ4_fixAfterInsertion_8 7 rfl rfl)
theorem dJ4_fixAfterInsertion_200 : decode cJ4_fixAfterInsertion 200 = .ok (.astore_n 1, 1) := dk_76 (dk_at dksJ4_fixAfterInsertion_8 10 rfl rfl)
theorem dJ4_fixAfterInsertion_201 : decode cJ4_fixAfterInsertion 201 = .ok (.goto 54, 3) := dk_167 0 54 (dk_at dksJ4_fixAfterInsertion_8 11 rfl rfl)
theorem dJ4_fixAfterInsertion_204 : decode cJ4_fixAfterInsertion 204 = .ok (.aload_n 1, 1) := dk_43 (dk_at dksJ4_fixAfterInsertion_8 14 rfl rfl)
theorem dJ4_fixAfterInsertion_205 : decode cJ4_fixAfterInsertion 205 = .ok (.aload_n 1, 1) := dk_43 (dk_at dksJ4_fixAfterInsertion_8 15 rfl rfl)
theorem dJ4_fixAfterInsertion_206 : decode cJ4_fixAfterInsertion 206 = .ok (.invokestatic 294, 3) := dk_184 1 38 (dk_at dksJ4_fixAfterInsertion_8 16 rfl rfl)
theorem dJ4_fixAfterInsertion_209 : decode cJ4_fixAfterInsertion 209 = .ok (.invokestatic 297, 3) := dk_184 1 41 (dk_at dksJ4_fixAfterInsertion_8 19 rfl rfl)
theorem dJ4_fixAfterInsertion_212 : decode cJ4_fixAfterInsertion 212 = .ok (.if_acmp .ne 13, 3) := dk_166 0 13 (dk_at dksJ4_fixAfterInsertion_9 0 rfl rfl)
theorem dJ4_fixAfterInsertion_215 : decode cJ4_fixAfterInsertion 215 = .ok (.aload_n 1, 1) := dk_43 (dk_at dksJ4_fixAfterInsertion_9 3 rfl rfl)
theorem dJ4_fixAfterInsertion_216 : decode cJ4_fixAfterInsertion 216 = .ok (.invokestatic 294, 3) := dk_184 1 38 (dk_at dksJ4_fixAfterInsertion_9 4 rfl rfl)
theorem dJ4_fixAfterInsertion_219 : decode cJ4_fixAfterInsertion 219 = .ok (.astore_n 1, 1) := dk_76 (dk_at dksJ4_fixAfterInsertion_9 7 rfl rfl)
theorem dJ4_fixAfterInsertion_220 : decode cJ4_fixAfterInsertion 220 = .ok (.aload_n 0, 1) := dk_42 (dk_at dksJ4_fixAfterInsertion_9 8 rfl rfl)
theorem dJ4_fixAfterInsertion_221 : decode cJ4_fixAfterInsertion 221 = .ok (.aload_n 1, 1) := dk_43 (dk_at dksJ4_fixAfterInsertion_9 9 rfl rfl)
theorem dJ4_fixAfterInsertion_222 : decode cJ4_fixAfterInsertion 222 = .ok (.invokevirtual 314, 3) := dk_182 1 58 (dk_at dksJ4_fixAfterInsertion_9 10 rfl rfl)
theorem dJ4_fixAfterInsertion_225 : decode cJ4_fixAfterInsertion 225 = .ok (.aload_n 1, 1) := dk_43 (dk_at dksJ4_fixAfterInsertion_9 13 rfl rfl)
theorem dJ4_fixAfterInsertion_226 : decode cJ4_fixAfterInsertion 226 = .ok (.invokestatic 294, 3) := dk_184 1 38 (dk_at dksJ4_fixAfterInsertion_9 14 rfl rfl)
theorem dJ4_fixAfterInsertion_229 : decode cJ4_fixAfterInsertion 229 = .ok (.iconst 1, 1) := dk_4 (dk_at dksJ4_fixAfterInsertion_9 17 rfl rfl)
theorem dJ4_fixAfterInsertion_230 : decode cJ4_fixAfterInsertion 230 = .ok (.invokestatic 307, 3) := dk_184 1 51 (dk_at dksJ4_fixAfterInsertion_9 18 rfl rfl)
theorem dJ4_fixAfterInsertion_233 : decode cJ4_fixAfterInsertion 233 = .ok (.aload_n 1, 1) := dk_43 (dk_at dksJ4_fixAfterInsertion_9 21 rfl rfl)
theorem dJ4_fixAfterInsertion_234 : decode cJ4_fixAfterInsertion 234 = .ok (.invokestatic 294, 3) := dk_184 1 38 (dk_at dksJ4_fixAfterInsertion_10 0 rfl rfl)
theorem dJ4_fixAfterInsertion_237 : decode cJ4_fixAfterInsertion 237 = .ok (.invokestatic 294, 3) := dk_184 1 38 (dk_at dksJ4_fixAfterInsertion_10 3 rfl rfl)
theorem dJ4_fixAfterInsertion_240 : decode cJ4_fixAfterInsertion 240 = .ok (.iconst 0, 1) := dk_3 (dk_at dksJ4_fixAfterInsertion_10 6 rfl rfl)
theorem dJ4_fixAfterInsertion_241 : decode cJ4_fixAfterInsertion 241 = .ok (.invokestatic 307, 3) := dk_184 1 51 (dk_at dksJ4_fixAfterInsertion_10 7 rfl rfl)
theorem dJ4_fixAfterInsertion_244 : decode cJ4_fixAfterInsertion 244 = .ok (.aload_n 0, 1) := dk_42 (dk_at dksJ4_fixAfterInsertion_10 10 rfl rfl)
theorem dJ4_fixAfterInsertion_245 : decode cJ4_fixAfterInsertion 245 = .ok (.aload_n 1, 1) := dk_43 (dk_at dksJ4_fixAfterInsertion_10 11 rfl rfl)
theorem dJ4_fixAfterInsertion_246 : decode cJ4_fixAfterInsertion 246 = .ok (.invokestatic 294, 3) := dk_184 1 38 (dk_at dksJ4_fixAfterInsertion_10 12 rfl rfl)
theorem dJ4_fixAfterInsertion_249 : decode cJ4_fixAfterInsertion 249 = .ok (.invokestatic 294, 3) := dk_184 1 38 (dk_at dksJ4_fixAfterInsertion_10 15 rfl rfl)
theorem dJ4_fixAfterInsertion_252 : decode cJ4_fixAfterInsertion 252 = .ok (.invokevirtual 311, 3) := dk_182 1 55 (dk_at dksJ4_fixAfterInsertion_10 18 rfl rfl)
theorem dJ4_fixAfterInsertion_255 : decode cJ4_fixAfterInsertion 255 = .ok (.goto (-250), 3) := dk_167 255 6 (dk_at dksJ4_fixAfterInsertion_10 21 rfl rfl)
theorem dJ4_fixAfterInsertion_258 : decode cJ4_fixAfterInsertion 258 = .ok (.aload_n 0, 1) := dk_42 (dk_at dksJ4_fixAfterInsertion_11 0 rfl rfl)
theorem dJ4_fixAfterInsertion_259 : decode cJ4_fixAfterInsertion 259 = .ok (.getfield 101, 3) := dk_180 0 101 (dk_at dksJ4_fixAfterInsertion_11 1 rfl rfl)
theorem dJ4_fixAfterInsertion_262 : decode cJ4_fixAfterInsertion 262 = .ok (.iconst 1, 1) := dk_4 (dk_at dksJ4_fixAfterInsertion_11 4 rfl rfl)
theorem dJ4_fixAfterInsertion_263 : decode cJ4_fixAfterInsertion 263 = .ok (.putfield 290, 3) := dk_181 1 34 (dk_at dksJ4_fixAfterInsertion_11 5 rfl rfl)
theorem dJ4_fixAfterInsertion_266 : decode cJ4_fixAfterInsertion 266 = .ok (.return_, 1) := dk_177 (dk_at dksJ4_fixAfterInsertion_11 8 rfl rfl)
abbrev cJ4_parentOf : ByteArray := prog_86_method_77_code
def yJ4_parentOf : MethodName := ⟨RJ4, "parentOf", "(Ljava/util/TreeMap$Entry;)Ljava/util/TreeMap$Entry;"⟩
def dkwJ4_parentOf_0 : List UInt8 := [42, 199, 0, 7, 1, 167, 0, 7, 42, 180, 0, 124, 176]
abbrev dktJ4_parentOf_0 : List UInt8 := dkwJ4_parentOf_0 ++ []
theorem dksJ4_parentOf_0 : cJ4_parentOf.data.toList.drop 0 = dktJ4_parentOf_0 := by decide +kernel
theorem dJ4_parentOf_0 : decode cJ4_parentOf 0 = .ok (.aload_n 0, 1) := dk_42 (dk_at dksJ4_parentOf_0 0 rfl rfl)
theorem dJ4_parentOf_1 : decode cJ4_parentOf 1 = .ok (.ifnonnull 7, 3) := dk_199 0 7 (dk_at dksJ4_parentOf_0 1 rfl rfl)
theorem dJ4_parentOf_4 : decode cJ4_parentOf 4 = .ok (.aconst_null, 1) := dk_1 (dk_at dksJ4_parentOf_0 4 rfl rfl)
theorem dJ4_parentOf_5 : decode cJ4_parentOf 5 = .ok (.goto 7, 3) := dk_167 0 7 (dk_at dksJ4_parentOf_0 5 rfl rfl)
theorem dJ4_parentOf_8 : decode cJ4_parentOf 8 = .ok (.aload_n 0, 1) := dk_42 (dk_at dksJ4_parentOf_0 8 rfl rfl)
theorem dJ4_parentOf_9 : decode cJ4_parentOf 9 = .ok (.getfield 124, 3) := dk_180 0 124 (dk_at dksJ4_parentOf_0 9 rfl rfl)
theorem dJ4_parentOf_12 : decode cJ4_parentOf 12 = .ok (.areturn, 1) := dk_176 (dk_at dksJ4_parentOf_0 12 rfl rfl)
abbrev cJ4_leftOf : ByteArray := prog_86_method_79_code
def yJ4_leftOf : MethodName := ⟨RJ4, "leftOf", "(Ljava/util/TreeMap$Entry;)Ljava/util/TreeMap$Entry;"⟩
def dkwJ4_leftOf_0 : List UInt8 := [42, 199, 0, 7, 1, 167, 0, 7, 42, 180, 0, 111, 176]
abbrev dktJ4_leftOf_0 : List UInt8 := dkwJ4_leftOf_0 ++ []
theorem dksJ4_leftOf_0 : cJ4_leftOf.data.toList.drop 0 = dktJ4_leftOf_0 := by decide +kernel
theorem dJ4_leftOf_0 : decode cJ4_leftOf 0 = .ok (.aload_n 0, 1) := dk_42 (dk_at dksJ4_leftOf_0 0 rfl rfl)
theorem dJ4_leftOf_1 : decode cJ4_leftOf 1 = .ok (.ifnonnull 7, 3) := dk_199 0 7 (dk_at dksJ4_leftOf_0 1 rfl rfl)
theorem dJ4_leftOf_4 : decode cJ4_leftOf 4 = .ok (.aconst_null, 1) := dk_1 (dk_at dksJ4_leftOf_0 4 rfl rfl)
theorem dJ4_leftOf_5 : decode cJ4_leftOf 5 = .ok (.goto 7, 3) := dk_167 0 7 (dk_at dksJ4_leftOf_0 5 rfl rfl)
theorem dJ4_leftOf_8 : decode cJ4_leftOf 8 = .ok (.aload_n 0, 1) := dk_42 (dk_at dksJ4_leftOf_0 8 rfl rfl)
theorem dJ4_leftOf_9 : decode cJ4_leftOf 9 = .ok (.getfield 111, 3) := dk_180 0 111 (dk_at dksJ4_leftOf_0 9 rfl rfl)
theorem dJ4_leftOf_12 : decode cJ4_leftOf 12 = .ok (.areturn, 1) := dk_176 (dk_at dksJ4_leftOf_0 12 rfl rfl)
abbrev cJ4_rightOf : ByteArray := prog_86_method_80_code
def yJ4_rightOf : MethodName := ⟨RJ4, "rightOf", "(Ljava/util/TreeMap$Entry;)Ljava/util/TreeMap$Entry;"⟩
def dkwJ4_rightOf_0 : List UInt8 := [42, 199, 0, 7, 1, 167, 0, 7, 42, 180, 0, 114, 176]
abbrev dktJ4_rightOf_0 : List UInt8 := dkwJ4_rightOf_0 ++ []
theorem dksJ4_rightOf_0 : cJ4_rightOf.data.toList.drop 0 = dktJ4_rightOf_0 := by decide +kernel
theorem dJ4_rightOf_0 : decode cJ4_rightOf 0 = .ok (.aload_n 0, 1) := dk_42 (dk_at dksJ4_rightOf_0 0 rfl rfl)
theorem dJ4_rightOf_1 : decode cJ4_rightOf 1 = .ok (.ifnonnull 7, 3) := dk_199 0 7 (dk_at dksJ4_rightOf_0 1 rfl rfl)
theorem dJ4_rightOf_4 : decode cJ4_rightOf 4 = .ok (.aconst_null, 1) := dk_1 (dk_at dksJ4_rightOf_0 4 rfl rfl)
theorem dJ4_rightOf_5 : decode cJ4_rightOf 5 = .ok (.goto 7, 3) := dk_167 0 7 (dk_at dksJ4_rightOf_0 5 rfl rfl)
theorem dJ4_rightOf_8 : decode cJ4_rightOf 8 = .ok (.aload_n 0, 1) := dk_42 (dk_at dksJ4_rightOf_0 8 rfl rfl)
theorem dJ4_rightOf_9 : decode cJ4_rightOf 9 = .ok (.getfield 114, 3) := dk_180 0 114 (dk_at dksJ4_rightOf_0 9 rfl rfl)
theorem dJ4_rightOf_12 : decode cJ4_rightOf 12 = .ok (.areturn, 1) := dk_176 (dk_at dksJ4_rightOf_0 12 rfl rfl)
abbrev cJ4_colorOf : ByteArray := prog_86_method_76_code
def yJ4_colorOf : MethodName := ⟨RJ4, "colorOf", "(Ljava/util/TreeMap$Entry;)Z"⟩
def dkwJ4_colorOf_0 : List UInt8 := [42, 199, 0, 7, 4, 167, 0, 7, 42, 180, 1, 34, 172]
abbrev dktJ4_colorOf_0 : List UInt8 := dkwJ4_colorOf_0 ++ []
theorem dksJ4_colorOf_0 : cJ4_colorOf.data.toList.drop 0 = dktJ4_colorOf_0 := by decide +kernel
theorem dJ4_colorOf_0 : decode cJ4_colorOf 0 = .ok (.aload_n 0, 1) := dk_42 (dk_at dksJ4_colorOf_0 0 rfl rfl)
theorem dJ4_colorOf_1 : decode cJ4_colorOf 1 = .ok (.ifnonnull 7, 3) := dk_199 0 7 (dk_at dksJ4_colorOf_0 1 rfl rfl)
theorem dJ4_colorOf_4 : decode cJ4_colorOf 4 = .ok (.iconst 1, 1) := dk_4 (dk_at dksJ4_colorOf_0 4 rfl rfl)
theorem dJ4_colorOf_5 : decode cJ4_colorOf 5 = .ok (.goto 7, 3) := dk_167 0 7 (dk_at dksJ4_colorOf_0 5 rfl rfl)
theorem dJ4_colorOf_8 : decode cJ4_colorOf 8 = .ok (.aload_n 0, 1) := dk_42 (dk_at dksJ4_colorOf_0 8 rfl rfl)
theorem dJ4_colorOf_9 : decode cJ4_colorOf 9 = .ok (.getfield 290, 3) := dk_180 1 34 (dk_at dksJ4_colorOf_0 9 rfl rfl)
theorem dJ4_colorOf_12 : decode cJ4_colorOf 12 = .ok (.ireturn, 1) := dk_172 (dk_at dksJ4_colorOf_0 12 rfl rfl)
abbrev cJ4_setColor : ByteArray := prog_86_method_78_code
def yJ4_setColor : MethodName := ⟨RJ4, "setColor", "(Ljava/util/TreeMap$Entry;Z)V"⟩
def dkwJ4_setColor_0 : List UInt8 := [42, 198, 0, 8, 42, 27, 181, 1, 34, 177]
abbrev dktJ4_setColor_0 : List UInt8 := dkwJ4_setColor_0 ++ []
theorem dksJ4_setColor_0 : cJ4_setColor.data.toList.drop 0 = dktJ4_setColor_0 := by decide +kernel
theorem dJ4_setColor_0 : decode cJ4_setColor 0 = .ok (.aload_n 0, 1) := dk_42 (dk_at dksJ4_setColor_0 0 rfl rfl)
theorem dJ4_setColor_1 : decode cJ4_setColor 1 = .ok (.ifnull 8, 3) := dk_198 0 8 (dk_at dksJ4_setColor_0 1 rfl rfl)
theorem dJ4_setColor_4 : decode cJ4_setColor 4 = .ok (.aload_n 0, 1) := dk_42 (dk_at dksJ4_setColor_0 4 rfl rfl)
theorem dJ4_setColor_5 : decode cJ4_setColor 5 = .ok (.iload_n 1, 1) := dk_27 (dk_at dksJ4_setColor_0 5 rfl rfl)
theorem dJ4_setColor_6 : decode cJ4_setColor 6 = .ok (.putfield 290, 3) := dk_181 1 34 (dk_at dksJ4_setColor_0 6 rfl rfl)
theorem dJ4_setColor_9 : decode cJ4_setColor 9 = .ok (.return_, 1) := dk_177 (dk_at dksJ4_setColor_0 9 rfl rfl)
abbrev cJ4_rotateLeft : ByteArray := prog_86_method_81_code
def yJ4_rotateLeft : MethodName := ⟨RJ4, "rotateLeft", "(Ljava/util/TreeMap$Entry;)V"⟩
def dkwJ4_rotateLeft_4 : List UInt8 := [177]
abbrev dktJ4_rotateLeft_4 : List UInt8 := dkwJ4_rotateLeft_4 ++ []
def dkwJ4_rotateLeft_3 : List UInt8 := [181, 0, 111, 167, 0, 11, 43, 180, 0, 124, 44, 181, 0, 114, 44, 43, 181, 0, 111, 43, 44, 181, 0, 124]
abbrev dktJ4_rotateLeft_3 : List UInt8 := dkwJ4_rotateLeft_3 ++ dktJ4_rotateLeft_4
def dkwJ4_rotateLeft_2 : List UInt8 := [44, 181, 0, 101, 167, 0, 33, 43, 180, 0, 124, 180, 0, 111, 43, 166, 0, 14, 43, 180, 0, 124, 44]
abbrev dktJ4_rotateLeft_2 : List UInt8 := dkwJ4_rotateLeft_2 ++ dktJ4_rotateLeft_3
def dkwJ4_rotateLeft_1 : List UInt8 := [44, 180, 0, 111, 43, 181, 0, 124, 44, 43, 180, 0, 124, 181, 0, 124, 43, 180, 0, 124, 199, 0, 11, 42]
abbrev dktJ4_rotateLeft_1 : List UInt8 := dkwJ4_rotateLeft_1 ++ dktJ4_rotateLeft_2
def dkwJ4_rotateLeft_0 : List UInt8 := [43, 198, 0, 94, 43, 180, 0, 114, 77, 43, 44, 180, 0, 111, 181, 0, 114, 44, 180, 0, 111, 198, 0, 11]
abbrev dktJ4_rotateLeft_0 : List UInt8 := dkwJ4_rotateLeft_0 ++ dktJ4_rotateLeft_1
theorem dksJ4_rotateLeft_0 : cJ4_rotateLeft.data.toList.drop 0 = dktJ4_rotateLeft_0 := by decide +kernel
theorem dksJ4_rotateLeft_1 : cJ4_rotateLeft.data.toList.drop 24 = dktJ4_rotateLeft_1 := dk_seg dksJ4_rotateLeft_0 24 rfl rfl
theorem dksJ4_rotateLeft_2 : cJ4_rotateLeft.data.toList.drop 48 = dktJ4_rotateLeft_2 := dk_seg dksJ4_rotateLeft_1 24 rfl rfl
theorem dksJ4_rotateLeft_3 : cJ4_rotateLeft.data.toList.drop 71 = dktJ4_rotateLeft_3 := dk_seg dksJ4_rotateLeft_2 23 rfl rfl
theorem dksJ4_rotateLeft_4 : cJ4_rotateLeft.data.toList.drop 95 = dktJ4_rotateLeft_4 := dk_seg dksJ4_rotateLeft_3 24 rfl rfl
theorem dJ4_rotateLeft_0 : decode cJ4_rotateLeft 0 = .ok (.aload_n 1, 1) := dk_43 (dk_at dksJ4_rotateLeft_0 0 rfl rfl)
theorem dJ4_rotateLeft_1 : decode cJ4_rotateLeft 1 = .ok (.ifnull 94, 3) := dk_198 0 94 (dk_at dksJ4_rotateLeft_0 1 rfl rfl)
theorem dJ4_rotateLeft_4 : decode cJ4_rotateLeft 4 = .ok (.aload_n 1, 1) := dk_43 (dk_at dksJ4_rotateLeft_0 4 rfl rfl)
theorem dJ4_rotateLeft_5 : decode cJ4_rotateLeft 5 = .ok (.getfield 114, 3) := dk_180 0 114 (dk_at dksJ4_rotateLeft_0 5 rfl rfl)
theorem dJ4_rotateLeft_8 : decode cJ4_rotateLeft 8 = .ok (.astore_n 2, 1) := dk_77 (dk_at dksJ4_rotateLeft_0 8 rfl rfl)
theorem dJ4_rotateLeft_9 : decode cJ4_rotateLeft 9 = .ok (.aload_n 1, 1) := dk_43 (dk_at dksJ4_rotateLeft_0 9 rfl rfl)
theorem dJ4_rotateLeft_10 : decode cJ4_rotateLeft 10 = .ok (.aload_n 2, 1) := dk_44 (dk_at dksJ4_rotateLeft_0 10 rfl rfl)
theorem dJ4_rotateLeft_11 : decode cJ4_rotateLeft 11 = .ok (.getfield 111, 3) := dk_180 0 111 (dk_at dksJ4_rotateLeft_0 11 rfl rfl)
theorem dJ4_rotateLeft_14 : decode cJ4_rotateLeft 14 = .ok (.putfield 114, 3) := dk_181 0 114 (dk_at dksJ4_rotateLeft_0 14 rfl rfl)
theorem dJ4_rotateLeft_17 : decode cJ4_rotateLeft 17 = .ok (.aload_n 2, 1) := dk_44 (dk_at dksJ4_rotateLeft_0 17 rfl rfl)
theorem dJ4_rotateLeft_18 : decode cJ4_rotateLeft 18 = .ok (.getfield 111, 3) := dk_180 0 111 (dk_at dksJ4_rotateLeft_0 18 rfl rfl)
theorem dJ4_rotateLeft_21 : decode cJ4_rotateLeft 21 = .ok (.ifnull 11, 3) := dk_198 0 11 (dk_at dksJ4_rotateLeft_0 21 rfl rfl)
theorem dJ4_rotateLeft_24 : decode cJ4_rotateLeft 24 = .ok (.aload_n 2, 1) := dk_44 (dk_at dksJ4_rotateLeft_1 0 rfl rfl)
theorem dJ4_rotateLeft_25 : decode cJ4_rotateLeft 25 = .ok (.getfield 111, 3) := dk_180 0 111 (dk_at dksJ4_rotateLeft_1 1 rfl rfl)
theorem dJ4_rotateLeft_28 : decode cJ4_rotateLeft 28 = .ok (.aload_n 1, 1) := dk_43 (dk_at dksJ4_rotateLeft_1 4 rfl rfl)
theorem dJ4_rotateLeft_29 : decode cJ4_rotateLeft 29 = .ok (.putfield 124, 3) := dk_181 0 124 (dk_at dksJ4_rotateLeft_1 5 rfl rfl)
theorem dJ4_rotateLeft_32 : decode cJ4_rotateLeft 32 = .ok (.aload_n 2, 1) := dk_44 (dk_at dksJ4_rotateLeft_1 8 rfl rfl)
theorem dJ4_rotateLeft_33 : decode cJ4_rotateLeft 33 = .ok (.aload_n 1, 1) := dk_43 (dk_at dksJ4_rotateLeft_1 9 rfl rfl)
theorem dJ4_rotateLeft_34 : decode cJ4_rotateLeft 34 = .ok (.getfield 124, 3) := dk_180 0 124 (dk_at dksJ4_rotateLeft_1 10 rfl rfl)
theorem dJ4_rotateLeft_37 : decode cJ4_rotateLeft 37 = .ok (.putfield 124, 3) := dk_181 0 124 (dk_at dksJ4_rotateLeft_1 13 rfl rfl)
theorem dJ4_rotateLeft_40 : decode cJ4_rotateLeft 40 = .ok (.aload_n 1, 1) := dk_43 (dk_at dksJ4_rotateLeft_1 16 rfl rfl)
theorem dJ4_rotateLeft_41 : decode cJ4_rotateLeft 41 = .ok (.getfield 124, 3) := dk_180 0 124 (dk_at dksJ4_rotateLeft_1 17 rfl rfl)
theorem dJ4_rotateLeft_44 : decode cJ4_rotateLeft 44 = .ok (.ifnonnull 11, 3) := dk_199 0 11 (dk_at dksJ4_rotateLeft_1 20 rfl rfl)
theorem dJ4_rotateLeft_47 : decode cJ4_rotateLeft 47 = .ok (.aload_n 0, 1) := dk_42 (dk_at dksJ4_rotateLeft_1 23 rfl rfl)
theorem dJ4_rotateLeft_48 : decode cJ4_rotateLeft 48 = .ok (.aload_n 2, 1) := dk_44 (dk_at dksJ4_rotateLeft_2 0 rfl rfl)
theorem dJ4_rotateLeft_49 : decode cJ4_rotateLeft 49 = .ok (.putfield 101, 3) := dk_181 0 101 (dk_at dksJ4_rotateLeft_2 1 rfl rfl)
theorem dJ4_rotateLeft_52 : decode cJ4_rotateLeft 52 = .ok (.goto 33, 3) := dk_167 0 33 (dk_at dksJ4_rotateLeft_2 4 rfl rfl)
theorem dJ4_rotateLeft_55 : decode cJ4_rotateLeft 55 = .ok (.aload_n 1, 1) := dk_43 (dk_at dksJ4_rotateLeft_2 7 rfl rfl)
theorem dJ4_rotateLeft_56 : decode cJ4_rotateLeft 56 = .ok (.getfield 124, 3) := dk_180 0 124 (dk_at dksJ4_rotateLeft_2 8 rfl rfl)
theorem dJ4_rotateLeft_59 : decode cJ4_rotateLeft 59 = .ok (.getfield 111, 3) := dk_180 0 111 (dk_at dksJ4_rotateLeft_2 11 rfl rfl)
theorem dJ4_rotateLeft_62 : decode cJ4_rotateLeft 62 = .ok (.aload_n 1, 1) := dk_43 (dk_at dksJ4_rotateLeft_2 14 rfl rfl)
theorem dJ4_rotateLeft_63 : decode cJ4_rotateLeft 63 = .ok (.if_acmp .ne 14, 3) := dk_166 0 14 (dk_at dksJ4_rotateLeft_2 15 rfl rfl)
theorem dJ4_rotateLeft_66 : decode cJ4_rotateLeft 66 = .ok (.aload_n 1, 1) := dk_43 (dk_at dksJ4_rotateLeft_2 18 rfl rfl)
theorem dJ4_rotateLeft_67 : decode cJ4_rotateLeft 67 = .ok (.getfield 124, 3) := dk_180 0 124 (dk_at dksJ4_rotateLeft_2 19 rfl rfl)
theorem dJ4_rotateLeft_70 : decode cJ4_rotateLeft 70 = .ok (.aload_n 2, 1) := dk_44 (dk_at dksJ4_rotateLeft_2 22 rfl rfl)
theorem dJ4_rotateLeft_71 : decode cJ4_rotateLeft 71 = .ok (.putfield 111, 3) := dk_181 0 111 (dk_at dksJ4_rotateLeft_3 0 rfl rfl)
theorem dJ4_rotateLeft_74 : decode cJ4_rotateLeft 74 = .ok (.goto 11, 3) := dk_167 0 11 (dk_at dksJ4_rotateLeft_3 3 rfl rfl)
theorem dJ4_rotateLeft_77 : decode cJ4_rotateLeft 77 = .ok (.aload_n 1, 1) := dk_43 (dk_at dksJ4_rotateLeft_3 6 rfl rfl)
theorem dJ4_rotateLeft_78 : decode cJ4_rotateLeft 78 = .ok (.getfield 124, 3) := dk_180 0 124 (dk_at dksJ4_rotateLeft_3 7 rfl rfl)
theorem dJ4_rotateLeft_81 : decode cJ4_rotateLeft 81 = .ok (.aload_n 2, 1) := dk_44 (dk_at dksJ4_rotateLeft_3 10 rfl rfl)
theorem dJ4_rotateLeft_82 : decode cJ4_rotateLeft 82 = .ok (.putfield 114, 3) := dk_181 0 114 (dk_at dksJ4_rotateLeft_3 11 rfl rfl)
theorem dJ4_rotateLeft_85 : decode cJ4_rotateLeft 85 = .ok (.aload_n 2, 1) := dk_44 (dk_at dksJ4_rotateLeft_3 14 rfl rfl)
theorem dJ4_rotateLeft_86 : decode cJ4_rotateLeft 86 = .ok (.aload_n 1, 1) := dk_43 (dk_at dksJ4_rotateLeft_3 15 rfl rfl)
theorem dJ4_rotateLeft_87 : decode cJ4_rotateLeft 87 = .ok (.putfield 111, 3) := dk_181 0 111 (dk_at dksJ4_rotateLeft_3 16 rfl rfl)
theorem dJ4_rotateLeft_90 : decode cJ4_rotateLeft 90 = .ok (.aload_n 1, 1) := dk_43 (dk_at dksJ4_rotateLeft_3 19 rfl rfl)
theorem dJ4_rotateLeft_91 : decode cJ4_rotateLeft 91 = .ok (.aload_n 2, 1) := dk_44 (dk_at dksJ4_rotateLeft_3 20 rfl rfl)
theorem dJ4_rotateLeft_92 : decode cJ4_rotateLeft 92 = .ok (.putfield 124, 3) := dk_181 0 124 (dk_at dksJ4_rotateLeft_3 21 rfl rfl)
theorem dJ4_rotateLeft_95 : decode cJ4_rotateLeft 95 = .ok (.return_, 1) := dk_177 (dk_at dksJ4_rotateLeft_4 0 rfl rfl)
abbrev cJ4_rotateRight : ByteArray := prog_86_method_82_code
def yJ4_rotateRight : MethodName := ⟨RJ4, "rotateRight", "(Ljava/util/TreeMap$Entry;)V"⟩
def dkwJ4_rotateRight_4 : List UInt8 := [177]
abbrev dktJ4_rotateRight_4 : List UInt8 := dkwJ4_rotateRight_4 ++ []
def dkwJ4_rotateRight_3 : List UInt8 := [181, 0, 114, 167, 0, 11, 43, 180, 0, 124, 44, 181, 0, 111, 44, 43, 181, 0, 114, 43, 44, 181, 0, 124]
abbrev dktJ4_rotateRight_3 : List UInt8 := dkwJ4_rotateRight_3 ++ dktJ4_rotateRight_4
def dkwJ4_rotateRight_2 : List UInt8 := [44, 181, 0, 101, 167, 0, 33, 43, 180, 0, 124, 180, 0, 114, 43, 166, 0, 14, 43, 180, 0, 124, 44]
abbrev dktJ4_rotateRight_2 : List UInt8 := dkwJ4_rotateRight_2 ++ dktJ4_rotateRight_3
def dkwJ4_rotateRight_1 : List UInt8 := [44, 180, 0, 114, 43, 181, 0, 124, 44, 43, 180, 0, 124, 181, 0, 124, 43, 180, 0, 124, 199, 0, 11, 42]
abbrev dktJ4_rotateRight_1 : List UInt8 := dkwJ4_rotateRight_1 ++ dktJ4_rotateRight_2
def dkwJ4_rotateRight_0 : List UInt8 := [43, 198, 0, 94, 43, 180, 0, 111, 77, 43, 44, 180, 0, 114, 181, 0, 111, 44, 180, 0, 114, 198, 0, 11]
abbrev dktJ4_rotateRight_0 : List UInt8 := dkwJ4_rotateRight_0 ++ dktJ4_rotateRight_1
theorem dksJ4_rotateRight_0 : cJ4_rotateRight.data.toList.drop 0 = dktJ4_rotateRight_0 := by decide +kernel
theorem dksJ4_rotateRight_1 : cJ4_rotateRight.data.toList.drop 24 = dktJ4_rotateRight_1 := dk_seg dksJ4_rotateRight_0 24 rfl rfl
theorem dksJ4_rotateRight_2 : cJ4_rotateRight.data.toList.drop 48 = dktJ4_rotateRight_2 := dk_seg dksJ4_rotateRight_1 24 rfl rfl
theorem dksJ4_rotateRight_3 : cJ4_rotateRight.data.toList.drop 71 = dktJ4_rotateRight_3 := dk_seg dksJ4_rotateRight_2 23 rfl rfl
theorem dksJ4_rotateRight_4 : cJ4_rotateRight.data.toList.drop 95 = dktJ4_rotateRight_4 := dk_seg dksJ4_rotateRight_3 24 rfl rfl
theorem dJ4_rotateRight_0 : decode cJ4_rotateRight 0 = .ok (.aload_n 1, 1) := dk_43 (dk_at dksJ4_rotateRight_0 0 rfl rfl)
theorem dJ4_rotateRight_1 : decode cJ4_rotateRight 1 = .ok (.ifnull 94, 3) := dk_198 0 94 (dk_at dksJ4_rotateRight_0 1 rfl rfl)
theorem dJ4_rotateRight_4 : decode cJ4_rotateRight 4 = .ok (.aload_n 1, 1) := dk_43 (dk_at dksJ4_rotateRight_0 4 rfl rfl)
theorem dJ4_rotateRight_5 : decode cJ4_rotateRight 5 = .ok (.getfield 111, 3) := dk_180 0 111 (dk_at dksJ4_rotateRight_0 5 rfl rfl)
theorem dJ4_rotateRight_8 : decode cJ4_rotateRight 8 = .ok (.astore_n 2, 1) := dk_77 (dk_at dksJ4_rotateRight_0 8 rfl rfl)
theorem dJ4_rotateRight_9 : decode cJ4_rotateRight 9 = .ok (.aload_n 1, 1) := dk_43 (dk_at dksJ4_rotateRight_0 9 rfl rfl)
theorem dJ4_rotateRight_10 : decode cJ4_rotateRight 10 = .ok (.aload_n 2, 1) := dk_44 (dk_at dksJ4_rotateRight_0 10 rfl rfl)
theorem dJ4_rotateRight_11 : decode cJ4_rotateRight 11 = .ok (.getfield 114, 3) := dk_180 0 114 (dk_at dksJ4_rotateRight_0 11 rfl rfl)
theorem dJ4_rotateRight_14 : decode cJ4_rotateRight 14 = .ok (.putfield 111, 3) := dk_181 0 111 (dk_at dksJ4_rotateRight_0 14 rfl rfl)
theorem dJ4_rotateRight_17 : decode cJ4_rotateRight 17 = .ok (.aload_n 2, 1) := dk_44 (dk_at dksJ4_rotateRight_0 17 rfl rfl)
theorem dJ4_rotateRight_18 : decode cJ4_rotateRight 18 = .ok (.getfield 114, 3) := dk_180 0 114 (dk_at dksJ4_rotateRight_0 18 rfl rfl)
theorem dJ4_rotateRight_21 : decode cJ4_rotateRight 21 = .ok (.ifnull 11, 3) := dk_198 0 11 (dk_at dksJ4_rotateRight_0 21 rfl rfl)
theorem dJ4_rotateRight_24 : decode cJ4_rotateRight 24 = .ok (.aload_n 2, 1) := dk_44 (dk_at dksJ4_rotateRight_1 0 rfl rfl)
theorem dJ4_rotateRight_25 : decode cJ4_rotateRight 25 = .ok (.getfield 114, 3) := dk_180 0 114 (dk_at dksJ4_rotateRight_1 1 rfl rfl)
theorem dJ4_rotateRight_28 : decode cJ4_rotateRight 28 = .ok (.aload_n 1, 1) := dk_43 (dk_at dksJ4_rotateRight_1 4 rfl rfl)
theorem dJ4_rotateRight_29 : decode cJ4_rotateRight 29 = .ok (.putfield 124, 3) := dk_181 0 124 (dk_at dksJ4_rotateRight_1 5 rfl rfl)
theorem dJ4_rotateRight_32 : decode cJ4_rotateRight 32 = .ok (.aload_n 2, 1) := dk_44 (dk_at dksJ4_rotateRight_1 8 rfl rfl)
theorem dJ4_rotateRight_33 : decode cJ4_rotateRight 33 = .ok (.aload_n 1, 1) := dk_43 (dk_at dksJ4_rotateRight_1 9 rfl rfl)
theorem dJ4_rotateRight_34 : decode cJ4_rotateRight 34 = .ok (.getfield 124, 3) := dk_180 0 124 (dk_at dksJ4_rotateRight_1 10 rfl rfl)
theorem dJ4_rotateRight_37 : decode cJ4_rotateRight 37 = .ok (.putfield 124, 3) := dk_181 0 124 (dk_at dksJ4_rotateRight_1 13 rfl rfl)
theorem dJ4_rotateRight_40 : decode cJ4_rotateRight 40 = .ok (.aload_n 1, 1) := dk_43 (dk_at dksJ4_rotateRight_1 16 rfl rfl)
theorem dJ4_rotateRight_41 : decode cJ4_rotateRight 41 = .ok (.getfield 124, 3) := dk_180 0 124 (dk_at dksJ4_rotateRight_1 17 rfl rfl)
theorem dJ4_rotateRight_44 : decode cJ4_rotateRight 44 = .ok (.ifnonnull 11, 3) := dk_199 0 11 (dk_at dksJ4_rotateRight_1 20 rfl rfl)
theorem dJ4_rotateRight_47 : decode cJ4_rotateRight 47 = .ok (.aload_n 0, 1) := dk_42 (dk_at dksJ4_rotateRight_1 23 rfl rfl)
theorem dJ4_rotateRight_48 : decode cJ4_rotateRight 48 = .ok (.aload_n 2, 1) := dk_44 (dk_at dksJ4_rotateRight_2 0 rfl rfl)
theorem dJ4_rotateRight_49 : decode cJ4_rotateRight 49 = .ok (.putfield 101, 3) := dk_181 0 101 (dk_at dksJ4_rotateRight_2 1 rfl rfl)
theorem dJ4_rotateRight_52 : decode cJ4_rotateRight 52 = .ok (.goto 33, 3) := dk_167 0 33 (dk_at dksJ4_rotateRight_2 4 rfl rfl)
theorem dJ4_rotateRight_55 : decode cJ4_rotateRight 55 = .ok (.aload_n 1, 1) := dk_43 (dk_at dksJ4_rotateRight_2 7 rfl rfl)
theorem dJ4_rotateRight_56 : decode cJ4_rotateRight 56 = .ok (.getfield 124, 3) := dk_180 0 124 (dk_at dksJ4_rotateRight_2 8 rfl rfl)
theorem dJ4_rotateRight_59 : decode cJ4_rotateRight 59 = .ok (.getfield 114, 3) := dk_180 0 114 (dk_at dksJ4_rotateRight_2 11 rfl rfl)
theorem dJ4_rotateRight_62 : decode cJ4_rotateRight 62 = .ok (.aload_n 1, 1) := dk_43 (dk_at dksJ4_rotateRight_2 14 rfl rfl)
theorem dJ4_rotateRight_63 : decode cJ4_rotateRight 63 = .ok (.if_acmp .ne 14, 3) := dk_166 0 14 (dk_at dksJ4_rotateRight_2 15 rfl rfl)
theorem dJ4_rotateRight_66 : decode cJ4_rotateRight 66 = .ok (.aload_n 1, 1) := dk_43 (dk_at dksJ4_rotateRight_2 18 rfl rfl)
theorem dJ4_rotateRight_67 : decode cJ4_rotateRight 67 = .ok (.getfield 124, 3) := dk_180 0 124 (dk_at dksJ4_rotateRight_2 19 rfl rfl)
theorem dJ4_rotateRight_70 : decode cJ4_rotateRight 70 = .ok (.aload_n 2, 1) := dk_44 (dk_at dksJ4_rotateRight_2 22 rfl rfl)
theorem dJ4_rotateRight_71 : decode cJ4_rotateRight 71 = .ok (.putfield 114, 3) := dk_181 0 114 (dk_at dksJ4_rotateRight_3 0 rfl rfl)
theorem dJ4_rotateRight_74 : decode cJ4_rotateRight 74 = .ok (.goto 11, 3) := dk_167 0 11 (dk_at dksJ4_rotateRight_3 3 rfl rfl)
theorem dJ4_rotateRight_77 : decode cJ4_rotateRight 77 = .ok (.aload_n 1, 1) := dk_43 (dk_at dksJ4_rotateRight_3 6 rfl rfl)
theorem dJ4_rotateRight_78 : decode cJ4_rotateRight 78 = .ok (.getfield 124, 3) := dk_180 0 124 (dk_at dksJ4_rotateRight_3 7 rfl rfl)
theorem dJ4_rotateRight_81 : decode cJ4_rotateRight 81 = .ok (.aload_n 2, 1) := dk_44 (dk_at dksJ4_rotateRight_3 10 rfl rfl)
theorem dJ4_rotateRight_82 : decode cJ4_rotateRight 82 = .ok (.putfield 111, 3) := dk_181 0 111 (dk_at dksJ4_rotateRight_3 11 rfl rfl)
theorem dJ4_rotateRight_85 : decode cJ4_rotateRight 85 = .ok (.aload_n 2, 1) := dk_44 (dk_at dksJ4_rotateRight_3 14 rfl rfl)
theorem dJ4_rotateRight_86 : decode cJ4_rotateRight 86 = .ok (.aload_n 1, 1) := dk_43 (dk_at dksJ4_rotateRight_3 15 rfl rfl)
theorem dJ4_rotateRight_87 : decode cJ4_rotateRight 87 = .ok (.putfield 114, 3) := dk_181 0 114 (dk_at dksJ4_rotateRight_3 16 rfl rfl)
theorem dJ4_rotateRight_90 : decode cJ4_rotateRight 90 = .ok (.aload_n 1, 1) := dk_43 (dk_at dksJ4_rotateRight_3 19 rfl rfl)
theorem dJ4_rotateRight_91 : decode cJ4_rotateRight 91 = .ok (.aload_n 2, 1) := dk_44 (dk_at dksJ4_rotateRight_3 20 rfl rfl)
theorem dJ4_rotateRight_92 : decode cJ4_rotateRight 92 = .ok (.putfield 124, 3) := dk_181 0 124 (dk_at dksJ4_rotateRight_3 21 rfl rfl)
theorem dJ4_rotateRight_95 : decode cJ4_rotateRight 95 = .ok (.return_, 1) := dk_177 (dk_at dksJ4_rotateRight_4 0 rfl rfl)
abbrev cJ4_remove : ByteArray := prog_86_method_34_code
def yJ4_remove : MethodName := ⟨RJ4, "remove", "(Ljava/lang/Object;)Ljava/lang/Object;"⟩
def dkwJ4_remove_0 : List UInt8 := [42, 43, 182, 0, 50, 77, 44, 199, 0, 5, 1, 176, 44, 180, 0, 58, 78, 42, 44, 182, 0, 174, 45, 176]
abbrev dktJ4_remove_0 : List UInt8 := dkwJ4_remove_0 ++ []
theorem dksJ4_remove_0 : cJ4_remove.data.toList.drop 0 = dktJ4_remove_0 := by decide +kernel
theorem dJ4_remove_0 : decode cJ4_remove 0 = .ok (.aload_n 0, 1) := dk_42 (dk_at dksJ4_remove_0 0 rfl rfl)
theorem dJ4_remove_1 : decode cJ4_remove 1 = .ok (.aload_n 1, 1) := dk_43 (dk_at dksJ4_remove_0 1 rfl rfl)
theorem dJ4_remove_2 : decode cJ4_remove 2 = .ok (.invokevirtual 50, 3) := dk_182 0 50 (dk_at dksJ4_remove_0 2 rfl rfl)
theorem dJ4_remove_5 : decode cJ4_remove 5 = .ok (.astore_n 2, 1) := dk_77 (dk_at dksJ4_remove_0 5 rfl rfl)
theorem dJ4_remove_6 : decode cJ4_remove 6 = .ok (.aload_n 2, 1) := dk_44 (dk_at dksJ4_remove_0 6 rfl rfl)
theorem dJ4_remove_7 : decode cJ4_remove 7 = .ok (.ifnonnull 5, 3) := dk_199 0 5 (dk_at dksJ4_remove_0 7 rfl rfl)
theorem dJ4_remove_10 : decode cJ4_remove 10 = .ok (.aconst_null, 1) := dk_1 (dk_at dksJ4_remove_0 10 rfl rfl)
theorem dJ4_remove_11 : decode cJ4_remove 11 = .ok (.areturn, 1) := dk_176 (dk_at dksJ4_remove_0 11 rfl rfl)
theorem dJ4_remove_12 : decode cJ4_remove 12 = .ok (.aload_n 2, 1) := dk_44 (dk_at dksJ4_remove_0 12 rfl rfl)
theorem dJ4_remove_13 : decode cJ4_remove 13 = .ok (.getfield 58, 3) := dk_180 0 58 (dk_at dksJ4_remove_0 13 rfl rfl)
theorem dJ4_remove_16 : decode cJ4_remove 16 = .ok (.astore_n 3, 1) := dk_78 (dk_at dksJ4_remove_0 16 rfl rfl)
theorem dJ4_remove_17 : decode cJ4_remove 17 = .ok (.aload_n 0, 1) := dk_42 (dk_at dksJ4_remove_0 17 rfl rfl)
theorem dJ4_remove_18 : decode cJ4_remove 18 = .ok (.aload_n 2, 1) := dk_44 (dk_at dksJ4_remove_0 18 rfl rfl)
theorem dJ4_remove_19 : decode cJ4_remove 19 = .ok (.invokevirtual 174, 3) := dk_182 0 174 (dk_at dksJ4_remove_0 19 rfl rfl)
theorem dJ4_remove_22 : decode cJ4_remove 22 = .ok (.aload_n 3, 1) := dk_45 (dk_at dksJ4_remove_0 22 rfl rfl)
theorem dJ4_remove_23 : decode cJ4_remove 23 = .ok (.areturn, 1) := dk_176 (dk_at dksJ4_remove_0 23 rfl rfl)
abbrev cJ4_deleteEntry : ByteArray := prog_86_method_84_code
def yJ4_deleteEntry : MethodName := ⟨RJ4, "deleteEntry", "(Ljava/util/TreeMap$Entry;)V"⟩
def dkwJ4_deleteEntry_10 : List UInt8 := [180, 0, 124, 1, 181, 0, 114, 43, 1, 181, 0, 124, 177]
abbrev dktJ4_deleteEntry_10 : List UInt8 := dkwJ4_deleteEntry_10 ++ []
def dkwJ4_deleteEntry_9 : List UInt8 := [180, 0, 124, 1, 181, 0, 111, 167, 0, 22, 43, 43, 180, 0, 124, 180, 0, 114, 166, 0, 11, 43]
abbrev dktJ4_deleteEntry_9 : List UInt8 := dkwJ4_deleteEntry_9 ++ dktJ4_deleteEntry_10
def dkwJ4_deleteEntry_8 : List UInt8 := [182, 1, 61, 43, 180, 0, 124, 198, 0, 49, 43, 43, 180, 0, 124, 180, 0, 111, 166, 0, 14, 43]
abbrev dktJ4_deleteEntry_8 : List UInt8 := dkwJ4_deleteEntry_8 ++ dktJ4_deleteEntry_9
def dkwJ4_deleteEntry_7 : List UInt8 := [180, 0, 124, 199, 0, 11, 42, 1, 181, 0, 101, 167, 0, 69, 43, 180, 1, 34, 4, 160, 0, 8, 42, 43]
abbrev dktJ4_deleteEntry_7 : List UInt8 := dkwJ4_deleteEntry_7 ++ dktJ4_deleteEntry_8
def dkwJ4_deleteEntry_6 : List UInt8 := [181, 0, 114, 181, 0, 111, 43, 180, 1, 34, 4, 160, 0, 92, 42, 44, 182, 1, 61, 167, 0, 84, 43]
abbrev dktJ4_deleteEntry_6 : List UInt8 := dkwJ4_deleteEntry_6 ++ dktJ4_deleteEntry_7
def dkwJ4_deleteEntry_5 : List UInt8 := [181, 0, 111, 167, 0, 11, 43, 180, 0, 124, 44, 181, 0, 114, 43, 43, 43, 1, 90, 181, 0, 124, 90]
abbrev dktJ4_deleteEntry_5 : List UInt8 := dkwJ4_deleteEntry_5 ++ dktJ4_deleteEntry_6
def dkwJ4_deleteEntry_4 : List UInt8 := [44, 181, 0, 101, 167, 0, 33, 43, 43, 180, 0, 124, 180, 0, 111, 166, 0, 14, 43, 180, 0, 124, 44]
abbrev dktJ4_deleteEntry_4 : List UInt8 := dkwJ4_deleteEntry_4 ++ dktJ4_deleteEntry_5
def dkwJ4_deleteEntry_3 : List UInt8 := [180, 0, 114, 77, 44, 198, 0, 87, 44, 43, 180, 0, 124, 181, 0, 124, 43, 180, 0, 124, 199, 0, 11, 42]
abbrev dktJ4_deleteEntry_3 : List UInt8 := dkwJ4_deleteEntry_3 ++ dktJ4_deleteEntry_4
def dkwJ4_deleteEntry_2 : List UInt8 := [44, 180, 0, 58, 181, 0, 58, 44, 76, 43, 180, 0, 111, 198, 0, 10, 43, 180, 0, 111, 167, 0, 7, 43]
abbrev dktJ4_deleteEntry_2 : List UInt8 := dkwJ4_deleteEntry_2 ++ dktJ4_deleteEntry_3
def dkwJ4_deleteEntry_1 : List UInt8 := [198, 0, 33, 43, 180, 0, 114, 198, 0, 26, 43, 184, 0, 68, 77, 43, 44, 180, 0, 105, 181, 0, 105, 43]
abbrev dktJ4_deleteEntry_1 : List UInt8 := dkwJ4_deleteEntry_1 ++ dktJ4_deleteEntry_2
def dkwJ4_deleteEntry_0 : List UInt8 := [42, 89, 180, 0, 13, 4, 96, 181, 0, 13, 42, 89, 180, 0, 7, 4, 100, 181, 0, 7, 43, 180, 0, 111]
abbrev dktJ4_deleteEntry_0 : List UInt8 := dkwJ4_deleteEntry_0 ++ dktJ4_deleteEntry_1
theorem dksJ4_deleteEntry_0 : cJ4_deleteEntry.data.toList.drop 0 = dktJ4_deleteEntry_0 := by decide +kernel
theorem dksJ4_deleteEntry_1 : cJ4_deleteEntry.data.toList.drop 24 = dktJ4_deleteEntry_1 := dk_seg dksJ4_deleteEntry_0 24 rfl rfl
theorem dksJ4_deleteEntry_2 : cJ4_deleteEntry.data.toList.drop 48 = dktJ4_deleteEntry_2 := dk_seg dksJ4_deleteEntry_1 24 rfl rfl
theorem dksJ4_deleteEntry_3 : cJ4_deleteEntry.data.toList.drop 72 = dktJ4_deleteEntry_3 := dk_seg dksJ4_deleteEntry_2 24 rfl rfl
theorem dksJ4_deleteEntry_4 : cJ4_deleteEntry.data.toList.drop 96 = dktJ4_deleteEntry_4 := dk_seg dksJ4_deleteEntry_3 24 rfl rfl
theorem dksJ4_deleteEntry_5 : cJ4_deleteEntry.data.toList.drop 119 = dktJ4_deleteEntry_5 := dk_seg dksJ4_deleteEntry_4 23 rfl rfl
theorem dksJ4_deleteEntry_6 : cJ4_deleteEntry.data.toList.drop 142 = dktJ4_deleteEntry_6 := dk_seg dksJ4_deleteEntry_5 23 rfl rfl
theorem dksJ4_deleteEntry_7 : cJ4_deleteEntry.data.toList.drop 165 = dktJ4_deleteEntry_7 := dk_seg dksJ4_deleteEntry_6 23 rfl rfl
theorem dksJ4_deleteEntry_8 : cJ4_deleteEntry.data.toList.drop 189 = dktJ4_deleteEntry_8 := dk_seg dksJ4_deleteEntry_7 24 rfl rfl
theorem dksJ4_deleteEntry_9 : cJ4_deleteEntry.data.toList.drop 211 = dktJ4_deleteEntry_9 := dk_seg dksJ4_deleteEntry_8 22 rfl rfl
theorem dksJ4_deleteEntry_10 : cJ4_deleteEntry.data.toList.drop 233 = dktJ4_deleteEntry_10 := dk_seg dksJ4_deleteEntry_9 22 rfl rfl
theorem dJ4_deleteEntry_0 : decode cJ4_deleteEntry 0 = .ok (.aload_n 0, 1) := dk_42 (dk_at dksJ4_deleteEntry_0 0 rfl rfl)
theorem dJ4_deleteEntry_1 : decode cJ4_deleteEntry 1 = .ok (.dup, 1) := dk_89 (dk_at dksJ4_deleteEntry_0 1 rfl rfl)
theorem dJ4_deleteEntry_2 : decode cJ4_deleteEntry 2 = .ok (.getfield 13, 3) := dk_180 0 13 (dk_at dksJ4_deleteEntry_0 2 rfl rfl)
theorem dJ4_deleteEntry_5 : decode cJ4_deleteEntry 5 = .ok (.iconst 1, 1) := dk_4 (dk_at dksJ4_deleteEntry_0 5 rfl rfl)
theorem dJ4_deleteEntry_6 : decode cJ4_deleteEntry 6 = .ok (.iadd, 1) := dk_96 (dk_at dksJ4_deleteEntry_0 6 rfl rfl)
theorem dJ4_deleteEntry_7 : decode cJ4_deleteEntry 7 = .ok (.putfield 13, 3) := dk_181 0 13 (dk_at dksJ4_deleteEntry_0 7 rfl rfl)
theorem dJ4_deleteEntry_10 : decode cJ4_deleteEntry 10 = .ok (.aload_n 0, 1) := dk_42 (dk_at dksJ4_deleteEntry_0 10 rfl rfl)
theorem dJ4_deleteEntry_11 : decode cJ4_deleteEntry 11 = .ok (.dup, 1) := dk_89 (dk_at dksJ4_deleteEntry_0 11 rfl rfl)
theorem dJ4_deleteEntry_12 : decode cJ4_deleteEntry 12 = .ok (.getfield 7, 3) := dk_180 0 7 (dk_at dksJ4_deleteEntry_0 12 rfl rfl)
theorem dJ4_deleteEntry_15 : decode cJ4_deleteEntry 15 = .ok (.iconst 1, 1) := dk_4 (dk_at dksJ4_deleteEntry_0 15 rfl rfl)
theorem dJ4_deleteEntry_16 : decode cJ4_deleteEntry 16 = .ok (.isub, 1) := dk_100 (dk_at dksJ4_deleteEntry_0 16 rfl rfl)
theorem dJ4_deleteEntry_17 : decode cJ4_deleteEntry 17 = .ok (.putfield 7, 3) := dk_181 0 7 (dk_at dksJ4_deleteEntry_0 17 rfl rfl)
theorem dJ4_deleteEntry_20 : decode cJ4_deleteEntry 20 = .ok (.aload_n 1, 1) := dk_43 (dk_at dksJ4_deleteEntry_0 20 rfl rfl)
theorem dJ4_deleteEntry_21 : decode cJ4_deleteEntry 21 = .ok (.getfield 111, 3) := dk_180 0 111 (dk_at dksJ4_deleteEntry_0 21 rfl rfl)
theorem dJ4_deleteEntry_24 : decode cJ4_deleteEntry 24 = .ok (.ifnull 33, 3) := dk_198 0 33 (dk_at dksJ4_deleteEntry_1 0 rfl rfl)
theorem dJ4_deleteEntry_27 : decode cJ4_deleteEntry 27 = .ok (.aload_n 1, 1) := dk_43 (dk_at dksJ4_deleteEntry_1 3 rfl rfl)
theorem dJ4_deleteEntry_28 : decode cJ4_deleteEntry 28 = .ok (.getfield 114, 3) := dk_180 0 114 (dk_at dksJ4_deleteEntry_1 4 rfl rfl)
theorem dJ4_deleteEntry_31 : decode cJ4_deleteEntry 31 = .ok (.ifnull 26, 3) := dk_198 0 26 (dk_at dksJ4_deleteEntry_1 7 rfl rfl)
theorem dJ4_deleteEntry_34 : decode cJ4_deleteEntry 34 = .ok (.aload_n 1, 1) := dk_43 (dk_at dksJ4_deleteEntry_1 10 rfl rfl)
theorem dJ4_deleteEntry_35 : decode cJ4_deleteEntry 35 = .ok (.invokestatic 68, 3) := dk_184 0 68 (dk_at dksJ4_deleteEntry_1 11 rfl rfl)
theorem dJ4_deleteEntry_38 : decode cJ4_deleteEntry 38 = .ok (.astore_n 2, 1) := dk_77 (dk_at dksJ4_deleteEntry_1 14 rfl rfl)
theorem dJ4_deleteEntry_39 : decode cJ4_deleteEntry 39 = .ok (.aload_n 1, 1) := dk_43 (dk_at dksJ4_deleteEntry_1 15 rfl rfl)
theorem dJ4_deleteEntry_40 : decode cJ4_deleteEntry 40 = .ok (.aload_n 2, 1) := dk_44 (dk_at dksJ4_deleteEntry_1 16 rfl rfl)
theorem dJ4_deleteEntry_41 : decode cJ4_deleteEntry 41 = .ok (.getfield 105, 3) := dk_180 0 105 (dk_at dksJ4_deleteEntry_1 17 rfl rfl)
theorem dJ4_deleteEntry_44 : decode cJ4_deleteEntry 44 = .ok (.putfield 105, 3) := dk_181 0 105 (dk_at dksJ4_deleteEntry_1 20 rfl rfl)
theorem dJ4_deleteEntry_47 : decode cJ4_deleteEntry 47 = .ok (.aload_n 1, 1) := dk_43 (dk_at dksJ4_deleteEntry_1 23 rfl rfl)
theorem dJ4_deleteEntry_48 : decode cJ4_deleteEntry 48 = .ok (.aload_n 2, 1) := dk_44 (dk_at dksJ4_deleteEntry_2 0 rfl rfl)
theorem dJ4_deleteEntry_49 : decode cJ4_deleteEntry 49 = .ok (.getfield 58, 3) := dk_180 0 58 (dk_at dksJ4_deleteEntry_2 1 rfl rfl)
theorem dJ4_deleteEntry_52 : decode cJ4_deleteEntry 52 = .ok (.putfield 58, 3) := dk_181 0 58 (dk_at dksJ4_deleteEntry_2 4 rfl rfl)
theorem dJ4_deleteEntry_55 : decode cJ4_deleteEntry 55 = .ok (.aload_n 2, 1) := dk_44 (dk_at dksJ4_deleteEntry_2 7 rfl rfl)
theorem dJ4_deleteEntry_56 : decode cJ4_deleteEntry 56 = .ok (.astore_n 1, 1) := dk_76 (dk_at dksJ4_deleteEntry_2 8 rfl rfl)
theorem dJ4_deleteEntry_57 : decode cJ4_deleteEntry 57 = .ok (.aload_n 1, 1) := dk_43 (dk_at dksJ4_deleteEntry_2 9 rfl rfl)
theorem dJ4_deleteEntry_58 : decode cJ4_deleteEntry 58 = .ok (.getfield 111, 3) := dk_180 0 111 (dk_at dksJ4_deleteEntry_2 10 rfl rfl)
theorem dJ4_deleteEntry_61 : decode cJ4_deleteEntry 61 = .ok (.ifnull 10, 3) := dk_198 0 10 (dk_at dksJ4_deleteEntry_2 13 rfl rfl)
theorem dJ4_deleteEntry_64 : decode cJ4_deleteEntry 64 = .ok (.aload_n 1, 1) := dk_43 (dk_at dksJ4_deleteEntry_2 16 rfl rfl)
theorem dJ4_deleteEntry_65 : decode cJ4_deleteEntry 65 = .ok (.getfield 111, 3) := dk_180 0 111 (dk_at dksJ4_deleteEntry_2 17 rfl rfl)
theorem dJ4_deleteEntry_68 : decode cJ4_deleteEntry 68 = .ok (.goto 7, 3) := dk_167 0 7 (dk_at dksJ4_deleteEntry_2 20 rfl rfl)
theorem dJ4_deleteEntry_71 : decode cJ4_deleteEntry 71 = .ok (.aload_n 1, 1) := dk_43 (dk_at dksJ4_deleteEntry_2 23 rfl rfl)
theorem dJ4_deleteEntry_72 : decode cJ4_deleteEntry 72 = .ok (.getfield 114, 3) := dk_180 0 114 (dk_at dksJ4_deleteEntry_3 0 rfl rfl)
theorem dJ4_deleteEntry_75 : decode cJ4_deleteEntry 75 = .ok (.astore_n 2, 1) := dk_77 (dk_at dksJ4_deleteEntry_3 3 rfl rfl)
theorem dJ4_deleteEntry_76 : decode cJ4_deleteEntry 76 = .ok (.aload_n 2, 1) := dk_44 (dk_at dksJ4_deleteEntry_3 4 rfl rfl)
theorem dJ4_deleteEntry_77 : decode cJ4_deleteEntry 77 = .ok (.ifnull 87, 3) := dk_198 0 87 (dk_at dksJ4_deleteEntry_3 5 rfl rfl)
theorem dJ4_deleteEntry_80 : decode cJ4_deleteEntry 80 = .ok (.aload_n 2, 1) := dk_44 (dk_at dksJ4_deleteEntry_3 8 rfl rfl)
theorem dJ4_deleteEntry_81 : decode cJ4_deleteEntry 81 = .ok (.aload_n 1, 1) := dk_43 (dk_at dksJ4_deleteEntry_3 9 rfl rfl)
theorem dJ4_deleteEntry_82 : decode cJ4_deleteEntry 82 = .ok (.getfield 124, 3) := dk_180 0 124 (dk_at dksJ4_deleteEntry_3 10 rfl rfl)
theorem dJ4_deleteEntry_85 : decode cJ4_deleteEntry 85 = .ok (.putfield 124, 3) := dk_181 0 124 (dk_at dksJ4_deleteEntry_3 13 rfl rfl)
theorem dJ4_deleteEntry_88 : decode cJ4_deleteEntry 88 = .ok (.aload_n 1, 1) := dk_43 (dk_at dksJ4_deleteEntry_3 16 rfl rfl)
theorem dJ4_deleteEntry_89 : decode cJ4_deleteEntry 89 = .ok (.getfield 124, 3) := dk_180 0 124 (dk_at dksJ4_deleteEntry_3 17 rfl rfl)
theorem dJ4_deleteEntry_92 : decode cJ4_deleteEntry 92 = .ok (.ifnonnull 11, 3) := dk_199 0 11 (dk_at dksJ4_deleteEntry_3 20 rfl rfl)
theorem dJ4_deleteEntry_95 : decode cJ4_deleteEntry 95 = .ok (.aload_n 0, 1) := dk_42 (dk_at dksJ4_deleteEntry_3 23 rfl rfl)
theorem dJ4_deleteEntry_96 : decode cJ4_deleteEntry 96 = .ok (.aload_n 2, 1) := dk_44 (dk_at dksJ4_deleteEntry_4 0 rfl rfl)
theorem dJ4_deleteEntry_97 : decode cJ4_deleteEntry 97 = .ok (.putfield 101, 3) := dk_181 0 101 (dk_at dksJ4_deleteEntry_4 1 rfl rfl)
theorem dJ4_deleteEntry_100 : decode cJ4_deleteEntry 100 = .ok (.goto 33, 3) := dk_167 0 33 (dk_at dksJ4_deleteEntry_4 4 rfl rfl)
theorem dJ4_deleteEntry_103 : decode cJ4_deleteEntry 103 = .ok (.aload_n 1, 1) := dk_43 (dk_at dksJ4_deleteEntry_4 7 rfl rfl)
theorem dJ4_deleteEntry_104 : decode cJ4_deleteEntry 104 = .ok (.aload_n 1, 1) := dk_43 (dk_at dksJ4_deleteEntry_4 8 rfl rfl)
theorem dJ4_deleteEntry_105 : decode cJ4_deleteEntry 105 = .ok (.getfield 124, 3) := dk_180 0 124 (dk_at dksJ4_deleteEntry_4 9 rfl rfl)
theorem dJ4_deleteEntry_108 : decode cJ4_deleteEntry 108 = .ok (.getfield 111, 3) := dk_180 0 111 (dk_at dksJ4_deleteEntry_4 12 rfl rfl)
theorem dJ4_deleteEntry_111 : decode cJ4_deleteEntry 111 = .ok (.if_acmp .ne 14, 3) := dk_166 0 14 (dk_at dksJ4_deleteEntry_4 15 rfl rfl)
theorem dJ4_deleteEntry_114 : decode cJ4_deleteEntry 114 = .ok (.aload_n 1, 1) := dk_43 (dk_at dksJ4_deleteEntry_4 18 rfl rfl)
theorem dJ4_deleteEntry_115 : decode cJ4_deleteEntry 115 = .ok (.getfield 124, 3) := dk_180 0 124 (dk_at dksJ4_deleteEntry_4 19 rfl rfl)
theorem dJ4_deleteEntry_118 : decode cJ4_deleteEntry 118 = .ok (.aload_n 2, 1) := dk_44 (dk_at dksJ4_deleteEntry_4 22 rfl rfl)
theorem dJ4_deleteEntry_119 : decode cJ4_deleteEntry 119 = .ok (.putfield 111, 3) := dk_181 0 111 (dk_at dksJ4_deleteEntry_5 0 rfl rfl)
theorem dJ4_deleteEntry_122 : decode cJ4_deleteEntry 122 = .ok (.goto 11, 3) := dk_167 0 11 (dk_at dksJ4_deleteEntry_5 3 rfl rfl)
theorem dJ4_deleteEntry_125 : decode cJ4_deleteEntry 125 = .ok (.aload_n 1, 1) := dk_43 (dk_at dksJ4_deleteEntry_5 6 rfl rfl)
theorem dJ4_deleteEntry_126 : decode cJ4_deleteEntry 126 = .ok (.getfield 124, 3) := dk_180 0 124 (dk_at dksJ4_deleteEntry_5 7 rfl rfl)
theorem dJ4_deleteEntry_129 : decode cJ4_deleteEntry 129 = .ok (.aload_n 2, 1) := dk_44 (dk_at dksJ4_deleteEntry_5 10 rfl rfl)
theorem dJ4_deleteEntry_130 : decode cJ4_deleteEntry 130 = .ok (.putfield 114, 3) := dk_181 0 114 (dk_at dksJ4_deleteEntry_5 11 rfl rfl)
theorem dJ4_deleteEntry_133 : decode cJ4_deleteEntry 133 = .ok (.aload_n 1, 1) := dk_43 (dk_at dksJ4_deleteEntry_5 14 rfl rfl)
theorem dJ4_deleteEntry_134 : decode cJ4_deleteEntry 134 = .ok (.aload_n 1, 1) := dk_43 (dk_at dksJ4_deleteEntry_5 15 rfl rfl)
theorem dJ4_deleteEntry_135 : decode cJ4_deleteEntry 135 = .ok (.aload_n 1, 1) := dk_43 (dk_at dksJ4_deleteEntry_5 16 rfl rfl)
theorem dJ4_deleteEntry_136 : decode cJ4_deleteEntry 136 = .ok (.aconst_null, 1) := dk_1 (dk_at dksJ4_deleteEntry_5 17 rfl rfl)
theorem dJ4_deleteEntry_137 : decode cJ4_deleteEntry 137 = .ok (.dup_x1, 1) := dk_90 (dk_at dksJ4_deleteEntry_5 18 rfl rfl)
theorem dJ4_deleteEntry_138 : decode cJ4_deleteEntry 138 = .ok (.putfield 124, 3) := dk_181 0 124 (dk_at dksJ4_deleteEntry_5 19 rfl rfl)
theorem dJ4_deleteEntry_141 : decode cJ4_deleteEntry 141 = .ok (.dup_x1, 1) := dk_90 (dk_at dksJ4_deleteEntry_5 22 rfl rfl)
theorem dJ4_deleteEntry_142 : decode cJ4_deleteEntry 142 = .ok (.putfield 114, 3) := dk_181 0 114 (dk_at dksJ4_deleteEntry_6 0 rfl rfl)
theorem dJ4_deleteEntry_145 : decode cJ4_deleteEntry 145 = .ok (.putfield 111, 3) := dk_181 0 111 (dk_at dksJ4_deleteEntry_6 3 rfl rfl)
theorem dJ4_deleteEntry_148 : decode cJ4_deleteEntry 148 = .ok (.aload_n 1, 1) := dk_43 (dk_at dksJ4_deleteEntry_6 6 rfl rfl)
theorem dJ4_deleteEntry_149 : decode cJ4_deleteEntry 149 = .ok (.getfield 290, 3) := dk_180 1 34 (dk_at dksJ4_deleteEntry_6 7 rfl rfl)
theorem dJ4_deleteEntry_152 : decode cJ4_deleteEntry 152 = .ok (.iconst 1, 1) := dk_4 (dk_at dksJ4_deleteEntry_6 10 rfl rfl)
theorem dJ4_deleteEntry_153 : decode cJ4_deleteEntry 153 = .ok (.if_icmp .ne 92, 3) := dk_160 0 92 (dk_at dksJ4_deleteEntry_6 11 rfl rfl)
theorem dJ4_deleteEntry_156 : decode cJ4_deleteEntry 156 = .ok (.aload_n 0, 1) := dk_42 (dk_at dksJ4_deleteEntry_6 14 rfl rfl)
theorem dJ4_deleteEntry_157 : decode cJ4_deleteEntry 157 = .ok (.aload_n 2, 1) := dk_44 (dk_at dksJ4_deleteEntry_6 15 rfl rfl)
theorem dJ4_deleteEntry_158 : decode cJ4_deleteEntry 158 = .ok (.invokevirtual 317, 3) := dk_182 1 61 (dk_at dksJ4_deleteEntry_6 16 rfl rfl)
theorem dJ4_deleteEntry_161 : decode cJ4_deleteEntry 161 = .ok (.goto 84, 3) := dk_167 0 84 (dk_at dksJ4_deleteEntry_6 19 rfl rfl)
theorem dJ4_deleteEntry_164 : decode cJ4_deleteEntry 164 = .ok (.aload_n 1, 1) := dk_43 (dk_at dksJ4_deleteEntry_6 22 rfl rfl)
theorem dJ4_deleteEntry_165 : decode cJ4_deleteEntry 165 = .ok (.getfield 124, 3) := dk_180 0 124 (dk_at dksJ4_deleteEntry_7 0 rfl rfl)
theorem dJ4_deleteEntry_168 : decode cJ4_deleteEntry 168 = .ok (.ifnonnull 11, 3) := dk_199 0 11 (dk_at dksJ4_deleteEntry_7 3 rfl rfl)
theorem dJ4_deleteEntry_171 : decode cJ4_deleteEntry 171 = .ok (.aload_n 0, 1) := dk_42 (dk_at dksJ4_deleteEntry_7 6 rfl rfl)
theorem dJ4_deleteEntry_172 : decode cJ4_deleteEntry 172 = .ok (.aconst_null, 1) := dk_1 (dk_at dksJ4_deleteEntry_7 7 rfl rfl)
theorem dJ4_deleteEntry_173 : decode cJ4_deleteEntry 173 = .ok (.putfield 101, 3) := dk_181 0 101 (dk_at dksJ4_deleteEntry_7 8 rfl rfl)
theorem dJ4_deleteEntry_176 : decode cJ4_deleteEntry 176 = .ok (.goto 69, 3) := dk_167 0 69 (dk_at dksJ4_deleteEntry_7 11 rfl rfl)
theorem dJ4_deleteEntry_179 : decode cJ4_deleteEntry 179 = .ok (.aload_n 1, 1) := dk_43 (dk_at dksJ4_deleteEntry_7 14 rfl rfl)
theorem dJ4_deleteEntry_180 : decode cJ4_deleteEntry 180 = .ok (.getfield 290, 3) := dk_180 1 34 (dk_at dksJ4_deleteEntry_7 15 rfl rfl)
theorem dJ4_deleteEntry_183 : decode cJ4_deleteEntry 183 = .ok (.iconst 1, 1) := dk_4 (dk_at dksJ4_deleteEntry_7 18 rfl rfl)
theorem dJ4_deleteEntry_184 : decode cJ4_deleteEntry 184 = .ok (.if_icmp .ne 8, 3) := dk_160 0 8 (dk_at dksJ4_deleteEntry_7 19 rfl rfl)
theorem dJ4_deleteEntry_187 : decode cJ4_deleteEntry 187 = .ok (.aload_n 0, 1) := dk_42 (dk_at dksJ4_deleteEntry_7 22 rfl rfl)
theorem dJ4_deleteEntry_188 : decode cJ4_deleteEntry 188 = .ok (.aload_n 1, 1) := dk_43 (dk_at dksJ4_deleteEntry_7 23 rfl rfl)
theorem dJ4_deleteEntry_189 : decode cJ4_deleteEntry 189 = .ok (.invokevirtual 317, 3) := dk_182 1 61 (dk_at dksJ4_deleteEntry_8 0 rfl rfl)
theorem dJ4_deleteEntry_192 : decode cJ4_deleteEntry 192 = .ok (.aload_n 1, 1) := dk_43 (dk_at dksJ4_deleteEntry_8 3 rfl rfl)
theorem dJ4_deleteEntry_193 : decode cJ4_deleteEntry 193 = .ok (.getfield 124, 3) := dk_180 0 124 (dk_at dksJ4_deleteEntry_8 4 rfl rfl)
theorem dJ4_deleteEntry_196 : decode cJ4_deleteEntry 196 = .ok (.ifnull 49, 3) := dk_198 0 49 (dk_at dksJ4_deleteEntry_8 7 rfl rfl)
theorem dJ4_deleteEntry_199 : decode cJ4_deleteEntry 199 = .ok (.aload_n 1, 1) := dk_43 (dk_at dksJ4_deleteEntry_8 10 rfl rfl)
theorem dJ4_deleteEntry_200 : decode cJ4_deleteEntry 200 = .ok (.aload_n 1, 1) := dk_43 (dk_at dksJ4_deleteEntry_8 11 rfl rfl)
theorem dJ4_deleteEntry_201 : decode cJ4_deleteEntry 201 = .ok (.getfield 124, 3) := dk_180 0 124 (dk_at dksJ4_deleteEntry_8 12 rfl rfl)
theorem dJ4_deleteEntry_204 : decode cJ4_deleteEntry 204 = .ok (.getfield 111, 3) := dk_180 0 111 (dk_at dksJ4_deleteEntry_8 15 rfl rfl)
theorem dJ4_deleteEntry_207 : decode cJ4_deleteEntry 207 = .ok (.if_acmp .ne 14, 3) := dk_166 0 14 (dk_at dksJ4_deleteEntry_8 18 rfl rfl)
theorem dJ4_deleteEntry_210 : decode cJ4_deleteEntry 210 = .ok (.aload_n 1, 1) := dk_43 (dk_at dksJ4_deleteEntry_8 21 rfl rfl)
theorem dJ4_deleteEntry_211 : decode cJ4_deleteEntry 211 = .ok (.getfield 124, 3) := dk_180 0 124 (dk_at dksJ4_deleteEntry_9 0 rfl rfl)
theorem dJ4_deleteEntry_214 : decode cJ4_deleteEntry 214 = .ok (.aconst_null, 1) := dk_1 (dk_at dksJ4_deleteEntry_9 3 rfl rfl)
theorem dJ4_deleteEntry_215 : decode cJ4_deleteEntry 215 = .ok (.putfield 111, 3) := dk_181 0 111 (dk_at dksJ4_deleteEntry_9 4 rfl rfl)
theorem dJ4_deleteEntry_218 : decode cJ4_deleteEntry 218 = .ok (.goto 22, 3) := dk_167 0 22 (dk_at dksJ4_deleteEntry_9 7 rfl rfl)
theorem dJ4_deleteEntry_221 : decode cJ4_deleteEntry 221 = .ok (.aload_n 1, 1) := dk_43 (dk_at dksJ4_deleteEntry_9 10 rfl rfl)
theorem dJ4_deleteEntry_222 : decode cJ4_deleteEntry 222 = .ok (.aload_n 1, 1) := dk_43 (dk_at dksJ4_deleteEntry_9 11 rfl rfl)
theorem dJ4_deleteEntry_223 : decode cJ4_deleteEntry 223 = .ok (.getfield 124, 3) := dk_180 0 124 (dk_at dksJ4_deleteEntry_9 12 rfl rfl)
theorem dJ4_deleteEntry_226 : decode cJ4_deleteEntry 226 = .ok (.getfield 114, 3) := dk_180 0 114 (dk_at dksJ4_deleteEntry_9 15 rfl rfl)
theorem dJ4_deleteEntry_229 : decode cJ4_deleteEntry 229 = .ok (.if_acmp .ne 11, 3) := dk_166 0 11 (dk_at dksJ4_deleteEntry_9 18 rfl rfl)
theorem dJ4_deleteEntry_232 : decode cJ4_deleteEntry 232 = .ok (.aload_n 1, 1) := dk_43 (dk_at dksJ4_deleteEntry_9 21 rfl rfl)
theorem dJ4_deleteEntry_233 : decode cJ4_deleteEntry 233 = .ok (.getfield 124, 3) := dk_180 0 124 (dk_at dksJ4_deleteEntry_10 0 rfl rfl)
theorem dJ4_deleteEntry_236 : decode cJ4_deleteEntry 236 = .ok (.aconst_null, 1) := dk_1 (dk_at dksJ4_deleteEntry_10 3 rfl rfl)
theorem dJ4_deleteEntry_237 : decode cJ4_deleteEntry 237 = .ok (.putfield 114, 3) := dk_181 0 114 (dk_at dksJ4_deleteEntry_10 4 rfl rfl)
theorem dJ4_deleteEntry_240 : decode cJ4_deleteEntry 240 = .ok (.aload_n 1, 1) := dk_43 (dk_at dksJ4_deleteEntry_10 7 rfl rfl)
theorem dJ4_deleteEntry_241 : decode cJ4_deleteEntry 241 = .ok (.aconst_null, 1) := dk_1 (dk_at dksJ4_deleteEntry_10 8 rfl rfl)
theorem dJ4_deleteEntry_242 : decode cJ4_deleteEntry 242 = .ok (.putfield 124, 3) := dk_181 0 124 (dk_at dksJ4_deleteEntry_10 9 rfl rfl)
theorem dJ4_deleteEntry_245 : decode cJ4_deleteEntry 245 = .ok (.return_, 1) := dk_177 (dk_at dksJ4_deleteEntry_10 12 rfl rfl)
abbrev cJ4_successor : ByteArray := prog_86_method_74_code
def yJ4_successor : MethodName := ⟨RJ4, "successor", "(Ljava/util/TreeMap$Entry;)Ljava/util/TreeMap$Entry;"⟩
def dkwJ4_successor_2 : List UInt8 := [44, 43, 180, 0, 114, 166, 0, 13, 43, 77, 43, 180, 0, 124, 76, 167, 255, 237, 43, 176]
abbrev dktJ4_successor_2 : List UInt8 := dkwJ4_successor_2 ++ []
def dkwJ4_successor_1 : List UInt8 := [198, 0, 11, 43, 180, 0, 111, 76, 167, 255, 244, 43, 176, 42, 180, 0, 124, 76, 42, 77, 43, 198, 0, 21]
abbrev dktJ4_successor_1 : List UInt8 := dkwJ4_successor_1 ++ dktJ4_successor_2
def dkwJ4_successor_0 : List UInt8 := [42, 199, 0, 5, 1, 176, 42, 180, 0, 114, 198, 0, 25, 42, 180, 0, 114, 76, 43, 180, 0, 111]
abbrev dktJ4_successor_0 : List UInt8 := dkwJ4_successor_0 ++ dktJ4_successor_1
theorem dksJ4_successor_0 : cJ4_successor.data.toList.drop 0 = dktJ4_successor_0 := by decide +kernel
theorem dksJ4_successor_1 : cJ4_successor.data.toList.drop 22 = dktJ4_successor_1 := dk_seg dksJ4_successor_0 22 rfl rfl
theorem dksJ4_successor_2 : cJ4_successor.data.toList.drop 46 = dktJ4_successor_2 := dk_seg dksJ4_successor_1 24 rfl rfl
theorem dJ4_successor_0 : decode cJ4_successor 0 = .ok (.aload_n 0, 1) := dk_42 (dk_at dksJ4_successor_0 0 rfl rfl)
theorem dJ4_successor_1 : decode cJ4_successor 1 = .ok (.ifnonnull 5, 3) := dk_199 0 5 (dk_at dksJ4_successor_0 1 rfl rfl)
theorem dJ4_successor_4 : decode cJ4_successor 4 = .ok (.aconst_null, 1) := dk_1 (dk_at dksJ4_successor_0 4 rfl rfl)
theorem dJ4_successor_5 : decode cJ4_successor 5 = .ok (.areturn, 1) := dk_176 (dk_at dksJ4_successor_0 5 rfl rfl)
theorem dJ4_successor_6 : decode cJ4_successor 6 = .ok (.aload_n 0, 1) := dk_42 (dk_at dksJ4_successor_0 6 rfl rfl)
theorem dJ4_successor_7 : decode cJ4_successor 7 = .ok (.getfield 114, 3) := dk_180 0 114 (dk_at dksJ4_successor_0 7 rfl rfl)
theorem dJ4_successor_10 : decode cJ4_successor 10 = .ok (.ifnull 25, 3) := dk_198 0 25 (dk_at dksJ4_successor_0 10 rfl rfl)
theorem dJ4_successor_13 : decode cJ4_successor 13 = .ok (.aload_n 0, 1) := dk_42 (dk_at dksJ4_successor_0 13 rfl rfl)
theorem dJ4_successor_14 : decode cJ4_successor 14 = .ok (.getfield 114, 3) := dk_180 0 114 (dk_at dksJ4_successor_0 14 rfl rfl)
theorem dJ4_successor_17 : decode cJ4_successor 17 = .ok (.astore_n 1, 1) := dk_76 (dk_at dksJ4_successor_0 17 rfl rfl)
theorem dJ4_successor_18 : decode cJ4_successor 18 = .ok (.aload_n 1, 1) := dk_43 (dk_at dksJ4_successor_0 18 rfl rfl)
theorem dJ4_successor_19 : decode cJ4_successor 19 = .ok (.getfield 111, 3) := dk_180 0 111 (dk_at dksJ4_successor_0 19 rfl rfl)
theorem dJ4_successor_22 : decode cJ4_successor 22 = .ok (.ifnull 11, 3) := dk_198 0 11 (dk_at dksJ4_successor_1 0 rfl rfl)
theorem dJ4_successor_25 : decode cJ4_successor 25 = .ok (.aload_n 1, 1) := dk_43 (dk_at dksJ4_successor_1 3 rfl rfl)
theorem dJ4_successor_26 : decode cJ4_successor 26 = .ok (.getfield 111, 3) := dk_180 0 111 (dk_at dksJ4_successor_1 4 rfl rfl)
theorem dJ4_successor_29 : decode cJ4_successor 29 = .ok (.astore_n 1, 1) := dk_76 (dk_at dksJ4_successor_1 7 rfl rfl)
theorem dJ4_successor_30 : decode cJ4_successor 30 = .ok (.goto (-12), 3) := dk_167 255 244 (dk_at dksJ4_successor_1 8 rfl rfl)
theorem dJ4_successor_33 : decode cJ4_successor 33 = .ok (.aload_n 1, 1) := dk_43 (dk_at dksJ4_successor_1 11 rfl rfl)
theorem dJ4_successor_34 : decode cJ4_successor 34 = .ok (.areturn, 1) := dk_176 (dk_at dksJ4_successor_1 12 rfl rfl)
theorem dJ4_successor_35 : decode cJ4_successor 35 = .ok (.aload_n 0, 1) := dk_42 (dk_at dksJ4_successor_1 13 rfl rfl)
theorem dJ4_successor_36 : decode cJ4_successor 36 = .ok (.getfield 124, 3) := dk_180 0 124 (dk_at dksJ4_successor_1 14 rfl rfl)
theorem dJ4_successor_39 : decode cJ4_successor 39 = .ok (.astore_n 1, 1) := dk_76 (dk_at dksJ4_successor_1 17 rfl rfl)
theorem dJ4_successor_40 : decode cJ4_successor 40 = .ok (.aload_n 0, 1) := dk_42 (dk_at dksJ4_successor_1 18 rfl rfl)
theorem dJ4_successor_41 : decode cJ4_successor 41 = .ok (.astore_n 2, 1) := dk_77 (dk_at dksJ4_successor_1 19 rfl rfl)
theorem dJ4_successor_42 : decode cJ4_successor 42 = .ok (.aload_n 1, 1) := dk_43 (dk_at dksJ4_successor_1 20 rfl rfl)
theorem dJ4_successor_43 : decode cJ4_successor 43 = .ok (.ifnull 21, 3) := dk_198 0 21 (dk_at dksJ4_successor_1 21 rfl rfl)
theorem dJ4_successor_46 : decode cJ4_successor 46 = .ok (.aload_n 2, 1) := dk_44 (dk_at dksJ4_successor_2 0 rfl rfl)
theorem dJ4_successor_47 : decode cJ4_successor 47 = .ok (.aload_n 1, 1) := dk_43 (dk_at dksJ4_successor_2 1 rfl rfl)
theorem dJ4_successor_48 : decode cJ4_successor 48 = .ok (.getfield 114, 3) := dk_180 0 114 (dk_at dksJ4_successor_2 2 rfl rfl)
theorem dJ4_successor_51 : decode cJ4_successor 51 = .ok (.if_acmp .ne 13, 3) := dk_166 0 13 (dk_at dksJ4_successor_2 5 rfl rfl)
theorem dJ4_successor_54 : decode cJ4_successor 54 = .ok (.aload_n 1, 1) := dk_43 (dk_at dksJ4_successor_2 8 rfl rfl)
theorem dJ4_successor_55 : decode cJ4_successor 55 = .ok (.astore_n 2, 1) := dk_77 (dk_at dksJ4_successor_2 9 rfl rfl)
theorem dJ4_successor_56 : decode cJ4_successor 56 = .ok (.aload_n 1, 1) := dk_43 (dk_at dksJ4_successor_2 10 rfl rfl)
theorem dJ4_successor_57 : decode cJ4_successor 57 = .ok (.getfield 124, 3) := dk_180 0 124 (dk_at dksJ4_successor_2 11 rfl rfl)
theorem dJ4_successor_60 : decode cJ4_successor 60 = .ok (.astore_n 1, 1) := dk_76 (dk_at dksJ4_successor_2 14 rfl rfl)
theorem dJ4_successor_61 : decode cJ4_successor 61 = .ok (.goto (-19), 3) := dk_167 255 237 (dk_at dksJ4_successor_2 15 rfl rfl)
theorem dJ4_successor_64 : decode cJ4_successor 64 = .ok (.aload_n 1, 1) := dk_43 (dk_at dksJ4_successor_2 18 rfl rfl)
theorem dJ4_successor_65 : decode cJ4_successor 65 = .ok (.areturn, 1) := dk_176 (dk_at dksJ4_successor_2 19 rfl rfl)
abbrev cJ4_fixAfterDeletion : ByteArray := prog_86_method_85_code
def yJ4_fixAfterDeletion : MethodName := ⟨RJ4, "fixAfterDeletion", "(Ljava/util/TreeMap$Entry;)V"⟩
def dkwJ4_fixAfterDeletion_14 : List UInt8 := [182, 1, 58, 42, 180, 0, 101, 76, 167, 254, 170, 43, 4, 184, 1, 51, 177]
abbrev dktJ4_fixAfterDeletion_14 : List UInt8 := dkwJ4_fixAfterDeletion_14 ++ []
def dkwJ4_fixAfterDeletion_13 : List UInt8 := [184, 1, 51, 43, 184, 1, 38, 4, 184, 1, 51, 44, 184, 1, 41, 4, 184, 1, 51, 42, 43, 184, 1, 38]
abbrev dktJ4_fixAfterDeletion_13 : List UInt8 := dkwJ4_fixAfterDeletion_13 ++ dktJ4_fixAfterDeletion_14
def dkwJ4_fixAfterDeletion_12 : List UInt8 := [184, 1, 51, 42, 44, 182, 1, 55, 43, 184, 1, 38, 184, 1, 41, 77, 44, 43, 184, 1, 38, 184, 1, 47]
abbrev dktJ4_fixAfterDeletion_12 : List UInt8 := dkwJ4_fixAfterDeletion_12 ++ dktJ4_fixAfterDeletion_13
def dkwJ4_fixAfterDeletion_11 : List UInt8 := [167, 0, 80, 44, 184, 1, 41, 184, 1, 47, 4, 160, 0, 29, 44, 184, 1, 44, 4, 184, 1, 51, 44, 3]
abbrev dktJ4_fixAfterDeletion_11 : List UInt8 := dkwJ4_fixAfterDeletion_11 ++ dktJ4_fixAfterDeletion_12
def dkwJ4_fixAfterDeletion_10 : List UInt8 := [160, 0, 27, 44, 184, 1, 41, 184, 1, 47, 4, 160, 0, 16, 44, 3, 184, 1, 51, 43, 184, 1, 38, 76]
abbrev dktJ4_fixAfterDeletion_10 : List UInt8 := dkwJ4_fixAfterDeletion_10 ++ dktJ4_fixAfterDeletion_11
def dkwJ4_fixAfterDeletion_9 : List UInt8 := [42, 43, 184, 1, 38, 182, 1, 58, 43, 184, 1, 38, 184, 1, 41, 77, 44, 184, 1, 44, 184, 1, 47, 4]
abbrev dktJ4_fixAfterDeletion_9 : List UInt8 := dkwJ4_fixAfterDeletion_9 ++ dktJ4_fixAfterDeletion_10
def dkwJ4_fixAfterDeletion_8 : List UInt8 := [184, 1, 41, 77, 44, 184, 1, 47, 154, 0, 32, 44, 4, 184, 1, 51, 43, 184, 1, 38, 3, 184, 1, 51]
abbrev dktJ4_fixAfterDeletion_8 : List UInt8 := dkwJ4_fixAfterDeletion_8 ++ dktJ4_fixAfterDeletion_9
def dkwJ4_fixAfterDeletion_7 : List UInt8 := [4, 184, 1, 51, 42, 43, 184, 1, 38, 182, 1, 55, 42, 180, 0, 101, 76, 167, 255, 73, 43, 184, 1, 38]
abbrev dktJ4_fixAfterDeletion_7 : List UInt8 := dkwJ4_fixAfterDeletion_7 ++ dktJ4_fixAfterDeletion_8
def dkwJ4_fixAfterDeletion_6 : List UInt8 := [77, 44, 43, 184, 1, 38, 184, 1, 47, 184, 1, 51, 43, 184, 1, 38, 4, 184, 1, 51, 44, 184, 1, 44]
abbrev dktJ4_fixAfterDeletion_6 : List UInt8 := dkwJ4_fixAfterDeletion_6 ++ dktJ4_fixAfterDeletion_7
def dkwJ4_fixAfterDeletion_5 : List UInt8 := [184, 1, 41, 4, 184, 1, 51, 44, 3, 184, 1, 51, 42, 44, 182, 1, 58, 43, 184, 1, 38, 184, 1, 44]
abbrev dktJ4_fixAfterDeletion_5 : List UInt8 := dkwJ4_fixAfterDeletion_5 ++ dktJ4_fixAfterDeletion_6
def dkwJ4_fixAfterDeletion_4 : List UInt8 := [184, 1, 51, 43, 184, 1, 38, 76, 167, 0, 80, 44, 184, 1, 44, 184, 1, 47, 4, 160, 0, 29, 44]
abbrev dktJ4_fixAfterDeletion_4 : List UInt8 := dkwJ4_fixAfterDeletion_4 ++ dktJ4_fixAfterDeletion_5
def dkwJ4_fixAfterDeletion_3 : List UInt8 := [184, 1, 41, 184, 1, 47, 4, 160, 0, 27, 44, 184, 1, 44, 184, 1, 47, 4, 160, 0, 16, 44, 3]
abbrev dktJ4_fixAfterDeletion_3 : List UInt8 := dkwJ4_fixAfterDeletion_3 ++ dktJ4_fixAfterDeletion_4
def dkwJ4_fixAfterDeletion_2 : List UInt8 := [184, 1, 38, 3, 184, 1, 51, 42, 43, 184, 1, 38, 182, 1, 55, 43, 184, 1, 38, 184, 1, 44, 77, 44]
abbrev dktJ4_fixAfterDeletion_2 : List UInt8 := dkwJ4_fixAfterDeletion_2 ++ dktJ4_fixAfterDeletion_3
def dkwJ4_fixAfterDeletion_1 : List UInt8 := [166, 0, 162, 43, 184, 1, 38, 184, 1, 44, 77, 44, 184, 1, 47, 154, 0, 32, 44, 4, 184, 1, 51, 43]
abbrev dktJ4_fixAfterDeletion_1 : List UInt8 := dkwJ4_fixAfterDeletion_1 ++ dktJ4_fixAfterDeletion_2
def dkwJ4_fixAfterDeletion_0 : List UInt8 := [43, 42, 180, 0, 101, 165, 1, 84, 43, 184, 1, 47, 4, 160, 1, 76, 43, 43, 184, 1, 38, 184, 1, 41]
abbrev dktJ4_fixAfterDeletion_0 : List UInt8 := dkwJ4_fixAfterDeletion_0 ++ dktJ4_fixAfterDeletion_1
theorem dksJ4_fixAfterDeletion_0 : cJ4_fixAfterDeletion.data.toList.drop 0 = dktJ4_fixAfterDeletion_0 := by decide +kernel
theorem dksJ4_fixAfterDeletion_1 : cJ4_fixAfterDeletion.data.toList.drop 24 = dktJ4_fixAfterDeletion_1 := dk_seg dksJ4_fixAfterDeletion_0 24 rfl rfl
theorem dksJ4_fixAfterDeletion_2 : cJ4_fixAfterDeletion.data.toList.drop 48 = dktJ4_fixAfterDeletion_2 := dk_seg dksJ4_fixAfterDeletion_1 24 rfl rfl
theorem dksJ4_fixAfterDeletion_3 : cJ4_fixAfterDeletion.data.toList.drop 72 = dktJ4_fixAfterDeletion_3 := dk_seg dksJ4_fixAfterDeletion_2 24 rfl rfl
theorem dksJ4_fixAfterDeletion_4 : cJ4_fixAfterDeletion.data.toList.drop 95 = dktJ4_fixAfterDeletion_4 := dk_seg dksJ4_fixAfterDeletion_3 23 rfl rfl
theorem dksJ4_fixAfterDeletion_5 : cJ4_fixAfterDeletion.data.toList.drop 118 = dktJ4_fixAfterDeletion_5 := dk_seg dksJ4_fixAfterDeletion_4 23 rfl rfl
theorem dksJ4_fixAfterDeletion_6 : cJ4_fixAfterDeletion.data.toList.drop 142 = dktJ4_fixAfterDeletion_6 := dk_seg dksJ4_fixAfterDeletion_5 24 rfl rfl
theorem dksJ4_fixAfterDeletion_7 : cJ4_fixAfterDeletion.data.toList.drop 166 = dktJ4_fixAfterDeletion_7 := dk_seg dksJ4_fixAfterDeletion_6 24 rfl rfl
theorem dksJ4_fixAfterDeletion_8 : cJ4_fixAfterDeletion.data.toList.drop 190 = dktJ4_fixAfterDeletion_8 := dk_seg dksJ4_fixAfterDeletion_7 24 rfl rfl
theorem dksJ4_fixAfterDeletion_9 : cJ4_fixAfterDeletion.data.toList.drop 214 = dktJ4_fixAfterDeletion_9 := dk_seg dksJ4_fixAfterDeletion_8 24 rfl rfl
theorem dksJ4_fixAfterDeletion_10 : cJ4_fixAfterDeletion.data.toList.drop 238 = dktJ4_fixAfterDeletion_10 := dk_seg dksJ4_fixAfterDeletion_9 24 rfl rfl
theorem dksJ4_fixAfterDeletion_11 : cJ4_fixAfterDeletion.data.toList.drop 262 = dktJ4_fixAfterDeletion_11 := dk_seg dksJ4_fixAfterDeletion_10 24 rfl rfl
theorem dksJ4_fixAfterDeletion_12 : cJ4_fixAfterDeletion.data.toList.drop 286 = dktJ4_fixAfterDeletion_12 := dk_seg dksJ4_fixAfterDeletion_11 24 rfl rfl
theorem dksJ4_fixAfterDeletion_13 : cJ4_fixAfterDeletion.data.toList.drop 310 = dktJ4_fixAfterDeletion_13 := dk_seg dksJ4_fixAfterDeletion_12 24 rfl rfl
theorem dksJ4_fixAfterDeletion_14 : cJ4_fixAfterDeletion.data.toList.drop 334 = dktJ4_fixAfterDeletion_14 := dk_seg dksJ4_fixAfterDeletion_13 24 rfl rfl
theorem dJ4_fixAfterDeletion_0 : decode cJ4_fixAfterDeletion 0 = .ok (.aload_n 1, 1) := dk_43 (dk_at dksJ4_fixAfterDeletion_0 0 rfl rfl)
theorem dJ4_fixAfterDeletion_1 : decode cJ4_fixAfterDeletion 1 = .ok (.aload_n 0, 1) := dk_42 (dk_at dksJ4_fixAfterDeletion_0 1 rfl rfl)
theorem dJ4_fixAfterDeletion_2 : decode cJ4_fixAfterDeletion 2 = .ok (.getfield 101, 3) := dk_180 0 101 (dk_at dksJ4_fixAfterDeletion_0 2 rfl rfl)
theorem dJ4_fixAfterDeletion_5 : decode cJ4_fixAfterDeletion 5 = .ok (.if_acmp .eq 340, 3) := dk_165 1 84 (dk_at dksJ4_fixAfterDeletion_0 5 rfl rfl)
theorem dJ4_fixAfterDeletion_8 : decode cJ4_fixAfterDeletion 8 = .ok (.aload_n 1, 1) := dk_43 (dk_at dksJ4_fixAfterDeletion_0 8 rfl rfl)
theorem dJ4_fixAfterDeletion_9 : decode cJ4_fixAfterDeletion 9 = .ok (.invokestatic 303, 3) := dk_184 1 47 (dk_at dksJ4_fixAfterDeletion_0 9 rfl rfl)
theorem dJ4_fixAfterDeletion_12 : decode cJ4_fixAfterDeletion 12 = .ok (.iconst 1, 1) := dk_4 (dk_at dksJ4_fixAfterDeletion_0 12 rfl rfl)
theorem dJ4_fixAfterDeletion_13 : decode cJ4_fixAfterDeletion 13 = .ok (.if_icmp .ne 332, 3) := dk_160 1 76 (dk_at dksJ4_fixAfterDeletion_0 13 rfl rfl)
theorem dJ4_fixAfterDeletion_16 : decode cJ4_fixAfterDeletion 16 = .ok (.aload_n 1, 1) := dk_43 (dk_at dksJ4_fixAfterDeletion_0 16 rfl rfl)
theorem dJ4_fixAfterDeletion_17 : decode cJ4_fixAfterDeletion 17 = .ok (.aload_n 1, 1) := dk_43 (dk_at dksJ4_fixAfterDeletion_0 17 rfl rfl)
theorem dJ4_fixAfterDeletion_18 : decode cJ4_fixAfterDeletion 18 = .ok (.invokestatic 294, 3) := dk_184 1 38 (dk_at dksJ4_fixAfterDeletion_0 18 rfl rfl)
theorem dJ4_fixAfterDeletion_21 : decode cJ4_fixAfterDeletion 21 = .ok (.invokestatic 297, 3) := dk_184 1 41 (dk_at dksJ4_fixAfterDeletion_0 21 rfl rfl)
theorem dJ4_fixAfterDeletion_24 : decode cJ4_fixAfterDeletion 24 = .ok (.if_acmp .ne 162, 3) := dk_166 0 162 (dk_at dksJ4_fixAfterDeletion_1 0 rfl rfl)
theorem dJ4_fixAfterDeletion_27 : decode cJ4_fixAfterDeletion 27 = .ok (.aload_n 1, 1) := dk_43 (dk_at dksJ4_fixAfterDeletion_1 3 rfl rfl)
theorem dJ4_fixAfterDeletion_28 : decode cJ4_fixAfterDeletion 28 = .ok (.invokestatic 294, 3) := dk_184 1 38 (dk_at dksJ4_fixAfterDeletion_1 4 rfl rfl)
theorem dJ4_fixAfterDeletion_31 : decode cJ4_fixAfterDeletion 31 = .ok (.invokestatic 300, 3) := dk_184 1 44 (dk_at dksJ4_fixAfterDeletion_1 7 rfl rfl)
theorem dJ4_fixAfterDeletion_34 : decode cJ4_fixAfterDeletion 34 = .ok (.astore_n 2, 1) := dk_77 (dk_at dksJ4_fixAfterDeletion_1 10 rfl rfl)
theorem dJ4_fixAfterDeletion_35 : decode cJ4_fixAfterDeletion 35 = .ok (.aload_n 2, 1) := dk_44 (dk_at dksJ4_fixAfterDeletion_1 11 rfl rfl)
theorem dJ4_fixAfterDeletion_36 : decode cJ4_fixAfterDeletion 36 = .ok (.invokestatic 303, 3) := dk_184 1 47 (dk_at dksJ4_fixAfterDeletion_1 12 rfl rfl)
theorem dJ4_fixAfterDeletion_39 : decode cJ4_fixAfterDeletion 39 = .ok (.ifCond .ne 32, 3) := dk_154 0 32 (dk_at dksJ4_fixAfterDeletion_1 15 rfl rfl)
theorem dJ4_fixAfterDeletion_42 : decode cJ4_fixAfterDeletion 42 = .ok (.aload_n 2, 1) := dk_44 (dk_at dksJ4_fixAfterDeletion_1 18 rfl rfl)
theorem dJ4_fixAfterDeletion_43 : decode cJ4_fixAfterDeletion 43 = .ok (.iconst 1, 1) := dk_4 (dk_at dksJ4_fixAfterDeletion_1 19 rfl rfl)
theorem dJ4_fixAfterDeletion_44 : decode cJ4_fixAfterDeletion 44 = .ok (.invokestatic 307, 3) := dk_184 1 51 (dk_at dksJ4_fixAfterDeletion_1 20 rfl rfl)
theorem dJ4_fixAfterDeletion_47 : decode cJ4_fixAfterDeletion 47 = .ok (.aload_n 1, 1) := dk_43 (dk_at dksJ4_fixAfterDeletion_1 23 rfl rfl)
theorem dJ4_fixAfterDeletion_48 : decode cJ4_fixAfterDeletion 48 = .ok (.invokestatic 294, 3) := dk_184 1 38 (dk_at dksJ4_fixAfterDeletion_2 0 rfl rfl)
theorem dJ4_fixAfterDeletion_51 : decode cJ4_fixAfterDeletion 51 = .ok (.iconst 0, 1) := dk_3 (dk_at dksJ4_fixAfterDeletion_2 3 rfl rfl)
theorem dJ4_fixAfterDeletion_52 : decode cJ4_fixAfterDeletion 52 = .ok (.invokestatic 307, 3) := dk_184 1 51 (dk_at dksJ4_fixAfterDeletion_2 4 rfl rfl)
theorem dJ4_fixAfterDeletion_55 : decode cJ4_fixAfterDeletion 55 = .ok (.aload_n 0, 1) := dk_42 (dk_at dksJ4_fixAfterDeletion_2 7 rfl rfl)
theorem dJ4_fixAfterDeletion_56 : decode cJ4_fixAfterDeletion 56 = .ok (.aload_n 1, 1) := dk_43 (dk_at dksJ4_fixAfterDeletion_2 8 rfl rfl)
theorem dJ4_fixAfterDeletion_57 : decode cJ4_fixAfterDeletion 57 = .ok (.invokestatic 294, 3) := dk_184 1 38 (dk_at dksJ4_fixAfterDeletion_2 9 rfl rfl)
theorem dJ4_fixAfterDeletion_60 : decode cJ4_fixAfterDeletion 60 = .ok (.invokevirtual 311, 3) := dk_182 1 55 (dk_at dksJ4_fixAfterDeletion_2 12 rfl rfl)
theorem dJ4_fixAfterDeletion_63 : decode cJ4_fixAfterDeletion 63 = .ok (.aload_n 1, 1) := dk_43 (dk_at dksJ4_fixAfterDeletion_2 15 rfl rfl)
theorem dJ4_fixAfterDeletion_64 : decode cJ4_fixAfterDeletion 64 = .ok (.invokestatic 294, 3) := dk_184 1 38 (dk_at dksJ4_fixAfterDeletion_2 16 rfl rfl)
theorem dJ4_fixAfterDeletion_67 : decode cJ4_fixAfterDeletion 67 = .ok (.invokestatic 300, 3) := dk_184 1 44 (dk_at dksJ4_fixAfterDeletion_2 19 rfl rfl)
theorem dJ4_fixAfterDeletion_70 : decode cJ4_fixAfterDeletion 70 = .ok (.astore_n 2, 1) := dk_77 (dk_at dksJ4_fixAfterDeletion_2 22 rfl rfl)
theorem dJ4_fixAfterDeletion_71 : decode cJ4_fixAfterDeletion 71 = .ok (.aload_n 2, 1) := dk_44 (dk_at dksJ4_fixAfterDeletion_2 23 rfl rfl)
theorem dJ4_fixAfterDeletion_72 : decode cJ4_fixAfterDeletion 72 = .ok (.invokestatic 297, 3) := dk_184 1 41 (dk_at dksJ4_fixAfterDeletion_3 0 rfl rfl)
theorem dJ4_fixAfterDeletion_75 : decode cJ4_fixAfterDeletion 75 = .ok (.invokestatic 303, 3) := dk_184 1 47 (dk_at dksJ4_fixAfterDeletion_3 3 rfl rfl)
theorem dJ4_fixAfterDeletion_78 : decode cJ4_fixAfterDeletion 78 = .ok (.iconst 1, 1) := dk_4 (dk_at dksJ4_fixAfterDeletion_3 6 rfl rfl)
theorem dJ4_fixAfterDeletion_79 : decode cJ4_fixAfterDeletion 79 = .ok (.if_icmp .ne 27, 3) := dk_160 0 27 (dk_at dksJ4_fixAfterDeletion_3 7 rfl rfl)
theorem dJ4_fixAfterDeletion_82 : decode cJ4_fixAfterDeletion 82 = .ok (.aload_n 2, 1) := dk_44 (dk_at dksJ4_fixAfterDeletion_3 10 rfl rfl)
theorem dJ4_fixAfterDeletion_83 : decode cJ4_fixAfterDeletion 83 = .ok (.invokestatic 300, 3) := dk_184 1 44 (dk_at dksJ4_fixAfterDeletion_3 11 rfl rfl)
theorem dJ4_fixAfterDeletion_86 : decode cJ4_fixAfterDeletion 86 = .ok (.invokestatic 303, 3) := dk_184 1 47 (dk_at dksJ4_fixAfterDeletion_3 14 rfl rfl)
theorem dJ4_fixAfterDeletion_89 : decode cJ4_fixAfterDeletion 89 = .ok (.iconst 1, 1) := dk_4 (dk_at dksJ4_fixAfterDeletion_3 17 rfl rfl)
theorem dJ4_fixAfterDeletion_90 : decode cJ4_fixAfterDeletion 90 = .ok (.if_icmp .ne 16, 3) := dk_160 0 16 (dk_at dksJ4_fixAfterDeletion_3 18 rfl rfl)
theorem dJ4_fixAfterDeletion_93 : decode cJ4_fixAfterDeletion 93 = .ok (.aload_n 2, 1) := dk_44 (dk_at dksJ4_fixAfterDeletion_3 21 rfl rfl)
theorem dJ4_fixAfterDeletion_94 : decode cJ4_fixAfterDeletion 94 = .ok (.iconst 0, 1) := dk_3 (dk_at dksJ4_fixAfterDeletion_3 22 rfl rfl)
theorem dJ4_fixAfterDeletion_95 : decode cJ4_fixAfterDeletion 95 = .ok (.invokestatic 307, 3) := dk_184 1 51 (dk_at dksJ4_fixAfterDeletion_4 0 rfl rfl)
theorem dJ4_fixAfterDeletion_98 : decode cJ4_fixAfterDeletion 98 = .ok (.aload_n 1, 1) := dk_43 (dk_at dksJ4_fixAfterDeletion_4 3 rfl rfl)
theorem dJ4_fixAfterDeletion_99 : decode cJ4_fixAfterDeletion 99 = .ok (.invokestatic 294, 3) := dk_184 1 38 (dk_at dksJ4_fixAfterDeletion_4 4 rfl rfl)
theorem dJ4_fixAfterDeletion_102 : decode cJ4_fixAfterDeletion 102 = .ok (.astore_n 1, 1) := dk_76 (dk_at dksJ4_fixAfterDeletion_4 7 rfl rfl)
theorem dJ4_fixAfterDeletion_103 : decode cJ4_fixAfterDeletion 103 = .ok (.goto 80, 3) := dk_167 0 80 (dk_at dksJ4_fixAfterDeletion_4 8 rfl rfl)
theorem dJ4_fixAfterDeletion_106 : decode cJ4_fixAfterDeletion 106 = .ok (.aload_n 2, 1) := dk_44 (dk_at dksJ4_fixAfterDeletion_4 11 rfl rfl)
theorem dJ4_fixAfterDeletion_107 : decode cJ4_fixAfterDeletion 107 = .ok (.invokestatic 300, 3) := dk_184 1 44 (dk_at dksJ4_fixAfterDeletion_4 12 rfl rfl)
theorem dJ4_fixAfterDeletion_110 : decode cJ4_fixAfterDeletion 110 = .ok (.invokestatic 303, 3) := dk_184 1 47 (dk_at dksJ4_fixAfterDeletion_4 15 rfl rfl)
theorem dJ4_fixAfterDeletion_113 : decode cJ4_fixAfterDeletion 113 = .ok (.iconst 1, 1) := dk_4 (dk_at dksJ4_fixAfterDeletion_4 18 rfl rfl)
theorem dJ4_fixAfterDeletion_114 : decode cJ4_fixAfterDeletion 114 = .ok (.if_icmp .ne 29, 3) := dk_160 0 29 (dk_at dksJ4_fixAfterDeletion_4 19 rfl rfl)
theorem dJ4_fixAfterDeletion_117 : decode cJ4_fixAfterDeletion 117 = .ok (.aload_n 2, 1) := dk_44 (dk_at dksJ4_fixAfterDeletion_4 22 rfl rfl)
theorem dJ4_fixAfterDeletion_118 : decode cJ4_fixAfterDeletion 118 = .ok (.invokestatic 297, 3) := dk_184 1 41 (dk_at dksJ4_fixAfterDeletion_5 0 rfl rfl)
theorem dJ4_fixAfterDeletion_121 : decode cJ4_fixAfterDeletion 121 = .ok (.iconst 1, 1) := dk_4 (dk_at dksJ4_fixAfterDeletion_5 3 rfl rfl)
theorem dJ4_fixAfterDeletion_122 : decode cJ4_fixAfterDeletion 122 = .ok (.invokestatic 307, 3) := dk_184 1 51 (dk_at dksJ4_fixAfterDeletion_5 4 rfl rfl)
theorem dJ4_fixAfterDeletion_125 : decode cJ4_fixAfterDeletion 125 = .ok (.aload_n 2, 1) := dk_44 (dk_at dksJ4_fixAfterDeletion_5 7 rfl rfl)
theorem dJ4_fixAfterDeletion_126 : decode cJ4_fixAfterDeletion 126 = .ok (.iconst 0, 1) := dk_3 (dk_at dksJ4_fixAfterDeletion_5 8 rfl rfl)
theorem dJ4_fixAfterDeletion_127 : decode cJ4_fixAfterDeletion 127 = .ok (.invokestatic 307, 3) := dk_184 1 51 (dk_at dksJ4_fixAfterDeletion_5 9 rfl rfl)
theorem dJ4_fixAfterDeletion_130 : decode cJ4_fixAfterDeletion 130 = .ok (.aload_n 0, 1) := dk_42 (dk_at dksJ4_fixAfterDeletion_5 12 rfl rfl)
theorem dJ4_fixAfterDeletion_131 : decode cJ4_fixAfterDeletion 131 = .ok (.aload_n 2, 1) := dk_44 (dk_at dksJ4_fixAfterDeletion_5 13 rfl rfl)
theorem dJ4_fixAfterDeletion_132 : decode cJ4_fixAfterDeletion 132 = .ok (.invokevirtual 314, 3) := dk_182 1 58 (dk_at dksJ4_fixAfterDeletion_5 14 rfl rfl)
theorem dJ4_fixAfterDeletion_135 : decode cJ4_fixAfterDeletion 135 = .ok (.aload_n 1, 1) := dk_43 (dk_at dksJ4_fixAfterDeletion_5 17 rfl rfl)
theorem dJ4_fixAfterDeletion_136 : decode cJ4_fixAfterDeletion 136 = .ok (.invokestatic 294, 3) := dk_184 1 38 (dk_at dksJ4_fixAfterDeletion_5 18 rfl rfl)
theorem dJ4_fixAfterDeletion_139 : decode cJ4_fixAfterDeletion 139 = .ok (.invokestatic 300, 3) := dk_184 1 44 (dk_at dksJ4_fixAfterDeletion_5 21 rfl rfl)
theorem dJ4_fixAfterDeletion_142 : decode cJ4_fixAfterDeletion 142 = .ok (.astore_n 2, 1) := dk_77 (dk_at dksJ4_fixAfterDeletion_6 0 rfl rfl)
theorem dJ4_fixAfterDeletion_143 : decode cJ4_fixAfterDeletion 143 = .ok (.aload_n 2, 1) := dk_44 (dk_at dksJ4_fixAfterDeletion_6 1 rfl rfl)
theorem dJ4_fixAfterDeletion_144 : decode cJ4_fixAfterDeletion 144 = .ok (.aload_n 1, 1) := dk_43 (dk_at dksJ4_fixAfterDeletion_6 2 rfl rfl)
theorem dJ4_fixAfterDeletion_145 : decode cJ4_fixAfterDeletion 145 = .ok (.invokestatic 294, 3) := dk_184 1 38 (dk_at dksJ4_fixAfterDeletion_6 3 rfl rfl)
theorem dJ4_fixAfterDeletion_148 : decode cJ4_fixAfterDeletion 148 = .ok (.invokestatic 303, 3) := dk_184 1 47 (dk_at dksJ4_fixAfterDeletion_6 6 rfl rfl)
theorem dJ4_fixAfterDeletion_151 : decode cJ4_fixAfterDeletion 151 = .ok (.invokestatic 307, 3) := dk_184 1 51 (dk_at dksJ4_fixAfterDeletion_6 9 rfl rfl)
theorem dJ4_fixAfterDeletion_154 : decode cJ4_fixAfterDeletion 154 = .ok (.aload_n 1, 1) := dk_43 (dk_at dksJ4_fixAfterDeletion_6 12 rfl rfl)
theorem dJ4_fixAfterDeletion_155 : decode cJ4_fixAfterDeletion 155 = .ok (.invokestatic 294, 3) := dk_184 1 38 (dk_at dksJ4_fixAfterDeletion_6 13 rfl rfl)
theorem dJ4_fixAfterDeletion_158 : decode cJ4_fixAfterDeletion 158 = .ok (.iconst 1, 1) := dk_4 (dk_at dksJ4_fixAfterDeletion_6 16 rfl rfl)
theorem dJ4_fixAfterDeletion_159 : decode cJ4_fixAfterDeletion 159 = .ok (.invokestatic 307, 3) := dk_184 1 51 (dk_at dksJ4_fixAfterDeletion_6 17 rfl rfl)
theorem dJ4_fixAfterDeletion_162 : decode cJ4_fixAfterDeletion 162 = .ok (.aload_n 2, 1) := dk_44 (dk_at dksJ4_fixAfterDeletion_6 20 rfl rfl)
theorem dJ4_fixAfterDeletion_163 : decode cJ4_fixAfterDeletion 163 = .ok (.invokestatic 300, 3) := dk_184 1 44 (dk_at dksJ4_fixAfterDeletion_6 21 rfl rfl)
theorem dJ4_fixAfterDeletion_166 : decode cJ4_fixAfterDeletion 166 = .ok (.iconst 1, 1) := dk_4 (dk_at dksJ4_fixAfterDeletion_7 0 rfl rfl)
theorem dJ4_fixAfterDeletion_167 : decode cJ4_fixAfterDeletion 167 = .ok (.invokestatic 307, 3) := dk_184 1 51 (dk_at dksJ4_fixAfterDeletion_7 1 rfl rfl)
theorem dJ4_fixAfterDeletion_170 : decode cJ4_fixAfterDeletion 170 = .ok (.aload_n 0, 1) := dk_42 (dk_at dksJ4_fixAfterDeletion_7 4 rfl rfl)
theorem dJ4_fixAfterDeletion_171 : decode cJ4_fixAfterDeletion 171 = .ok (.aload_n 1, 1) := dk_43 (dk_at dksJ4_fixAfterDeletion_7 5 rfl rfl)
theorem dJ4_fixAfterDeletion_172 : decode cJ4_fixAfterDeletion 172 = .ok (.invokestatic 294, 3) := dk_184 1 38 (dk_at dksJ4_fixAfterDeletion_7 6 rfl rfl)
theorem dJ4_fixAfterDeletion_175 : decode cJ4_fixAfterDeletion 175 = .ok (.invokevirtual 311, 3) := dk_182 1 55 (dk_at dksJ4_fixAfterDeletion_7 9 rfl rfl)
theorem dJ4_fixAfterDeletion_178 : decode cJ4_fixAfterDeletion 178 = .ok (.aload_n 0, 1) := dk_42 (dk_at dksJ4_fixAfterDeletion_7 12 rfl rfl)
theorem dJ4_fixAfterDeletion_179 : decode cJ4_fixAfterDeletion 179 = .ok (.getfield 101, 3) := dk_180 0 101 (dk_at dksJ4_fixAfterDeletion_7 13 rfl rfl)
theorem dJ4_fixAfterDeletion_182 : decode cJ4_fixAfterDeletion 182 = .ok (.astore_n 1, 1) := dk_76 (dk_at dksJ4_fixAfterDeletion_7 16 rfl rfl)
theorem dJ4_fixAfterDeletion_183 : decode cJ4_fixAfterDeletion 183 = .ok (.goto (-183), 3) := dk_167 255 73 (dk_at dksJ4_fixAfterDeletion_7 17 rfl rfl)
theorem dJ4_fixAfterDeletion_186 : decode cJ4_fixAfterDeletion 186 = .ok (.aload_n 1, 1) := dk_43 (dk_at dksJ4_fixAfterDeletion_7 20 rfl rfl)
theorem dJ4_fixAfterDeletion_187 : decode cJ4_fixAfterDeletion 187 = .ok (.invokestatic 294, 3) := dk_184 1 38 (dk_at dksJ4_fixAfterDeletion_7 21 rfl rfl)
theorem dJ4_fixAfterDeletion_190 : decode cJ4_fixAfterDeletion 190 = .ok (.invokestatic 297, 3) := dk_184 1 41 (dk_at dksJ4_fixAfterDeletion_8 0 rfl rfl)
theorem dJ4_fixAfterDeletion_193 : decode cJ4_fixAfterDeletion 193 = .ok (.astore_n 2, 1) := dk_77 (dk_at dksJ4_fixAfterDeletion_8 3 rfl rfl)
theorem dJ4_fixAfterDeletion_194 : decode cJ4_fixAfterDeletion 194 = .ok (.aload_n 2, 1) := dk_44 (dk_at dksJ4_fixAfterDeletion_8 4 rfl rfl)
theorem dJ4_fixAfterDeletion_195 : decode cJ4_fixAfterDeletion 195 = .ok (.invokestatic 303, 3) := dk_184 1 47 (dk_at dksJ4_fixAfterDeletion_8 5 rfl rfl)
theorem dJ4_fixAfterDeletion_198 : decode cJ4_fixAfterDeletion 198 = .ok (.ifCond .ne 32, 3) := dk_154 0 32 (dk_at dksJ4_fixAfterDeletion_8 8 rfl rfl)
theorem dJ4_fixAfterDeletion_201 : decode cJ4_fixAfterDeletion 201 = .ok (.aload_n 2, 1) := dk_44 (dk_at dksJ4_fixAfterDeletion_8 11 rfl rfl)
theorem dJ4_fixAfterDeletion_202 : decode cJ4_fixAfterDeletion 202 = .ok (.iconst 1, 1) := dk_4 (dk_at dksJ4_fixAfterDeletion_8 12 rfl rfl)
theorem dJ4_fixAfterDeletion_203 : decode cJ4_fixAfterDeletion 203 = .ok (.invokestatic 307, 3) := dk_184 1 51 (dk_at dksJ4_fixAfterDeletion_8 13 rfl rfl)
theorem dJ4_fixAfterDeletion_206 : decode cJ4_fixAfterDeletion 206 = .ok (.aload_n 1, 1) := dk_43 (dk_at dksJ4_fixAfterDeletion_8 16 rfl rfl)
theorem dJ4_fixAfterDeletion_207 : decode cJ4_fixAfterDeletion 207 = .ok (.invokestatic 294, 3) := dk_184 1 38 (dk_at dksJ4_fixAfterDeletion_8 17 rfl rfl)
theorem dJ4_fixAfterDeletion_210 : decode cJ4_fixAfterDeletion 210 = .ok (.iconst 0, 1) := dk_3 (dk_at dksJ4_fixAfterDeletion_8 20 rfl rfl)
theorem dJ4_fixAfterDeletion_211 : decode cJ4_fixAfterDeletion 211 = .ok (.invokestatic 307, 3) := dk_184 1 51 (dk_at dksJ4_fixAfterDeletion_8 21 rfl rfl)
theorem dJ4_fixAfterDeletion_214 : decode cJ4_fixAfterDeletion 214 = .ok (.aload_n 0, 1) := dk_42 (dk_at dksJ4_fixAfterDeletion_9 0 rfl rfl)
theorem dJ4_fixAfterDeletion_215 : decode cJ4_fixAfterDeletion 215 = .ok (.aload_n 1, 1) := dk_43 (dk_at dksJ4_fixAfterDeletion_9 1 rfl rfl)
theorem dJ4_fixAfterDeletion_216 : decode cJ4_fixAfterDeletion 216 = .ok (.invokestatic 294, 3) := dk_184 1 38 (dk_at dksJ4_fixAfterDeletion_9 2 rfl rfl)
theorem dJ4_fixAfterDeletion_219 : decode cJ4_fixAfterDeletion 219 = .ok (.invokevirtual 314, 3) := dk_182 1 58 (dk_at dksJ4_fixAfterDeletion_9 5 rfl rfl)
theorem dJ4_fixAfterDeletion_222 : decode cJ4_fixAfterDeletion 222 = .ok (.aload_n 1, 1) := dk_43 (dk_at dksJ4_fixAfterDeletion_9 8 rfl rfl)
theorem dJ4_fixAfterDeletion_223 : decode cJ4_fixAfterDeletion 223 = .ok (.invokestatic 294, 3) := dk_184 1 38 (dk_at dksJ4_fixAfterDeletion_9 9 rfl rfl)
theorem dJ4_fixAfterDeletion_226 : decode cJ4_fixAfterDeletion 226 = .ok (.invokestatic 297, 3) := dk_184 1 41 (dk_at dksJ4_fixAfterDeletion_9 12 rfl rfl)
theorem dJ4_fixAfterDeletion_229 : decode cJ4_fixAfterDeletion 229 = .ok (.astore_n 2, 1) := dk_77 (dk_at dksJ4_fixAfterDeletion_9 15 rfl rfl)
theorem dJ4_fixAfterDeletion_230 : decode cJ4_fixAfterDeletion 230 = .ok (.aload_n 2, 1) := dk_44 (dk_at dksJ4_fixAfterDeletion_9 16 rfl rfl)
theorem dJ4_fixAfterDeletion_231 : decode cJ4_fixAfterDeletion 231 = .ok (.invokestatic 300, 3) := dk_184 1 44 (dk_at dksJ4_fixAfterDeletion_9 17 rfl rfl)
theorem dJ4_fixAfterDeletion_234 : decode cJ4_fixAfterDeletion 234 = .ok (.invokestatic 303, 3) := dk_184 1 47 (dk_at dksJ4_fixAfterDeletion_9 20 rfl rfl)
theorem dJ4_fixAfterDeletion_237 : decode cJ4_fixAfterDeletion 237 = .ok (.iconst 1, 1) := dk_4 (dk_at dksJ4_fixAfterDeletion_9 23 rfl rfl)
theorem dJ4_fixAfterDeletion_238 : decode cJ4_fixAfterDeletion 238 = .ok (.if_icmp .ne 27, 3) := dk_160 0 27 (dk_at dksJ4_fixAfterDeletion_10 0 rfl rfl)
theorem dJ4_fixAfterDeletion_241 : decode cJ4_fixAfterDeletion 241 = .ok (.aload_n 2, 1) := dk_44 (dk_at dksJ4_fixAfterDeletion_10 3 rfl rfl)
theorem dJ4_fixAfterDeletion_242 : decode cJ4_fixAfterDeletion 242 = .ok (.invokestatic 297, 3) := dk_184 1 41 (dk_at dksJ4_fixAfterDeletion_10 4 rfl rfl)
theorem dJ4_fixAfterDeletion_245 : decode cJ4_fixAfterDeletion 245 = .ok (.invokestatic 303, 3) := dk_184 1 47 (dk_at dksJ4_fixAfterDeletion_10 7 rfl rfl)
theorem dJ4_fixAfterDeletion_248 : decode cJ4_fixAfterDeletion 248 = .ok (.iconst 1, 1) := dk_4 (dk_at dksJ4_fixAfterDeletion_10 10 rfl rfl)
theorem dJ4_fixAfterDeletion_249 : decode cJ4_fixAfterDeletion 249 = .ok (.if_icmp .ne 16, 3) := dk_160 0 16 (dk_at dksJ4_fixAfterDeletion_10 11 rfl rfl)
theorem dJ4_fixAfterDeletion_252 : decode cJ4_fixAfterDeletion 252 = .ok (.aload_n 2, 1) := dk_44 (dk_at dksJ4_fixAfterDeletion_10 14 rfl rfl)
theorem dJ4_fixAfterDeletion_253 : decode cJ4_fixAfterDeletion 253 = .ok (.iconst 0, 1) := dk_3 (dk_at dksJ4_fixAfterDeletion_10 15 rfl rfl)
theorem dJ4_fixAfterDeletion_254 : decode cJ4_fixAfterDeletion 254 = .ok (.invokestatic 307, 3) := dk_184 1 51 (dk_at dksJ4_fixAfterDeletion_10 16 rfl rfl)
theorem dJ4_fixAfterDeletion_257 : decode cJ4_fixAfterDeletion 257 = .ok (.aload_n 1, 1) := dk_43 (dk_at dksJ4_fixAfterDeletion_10 19 rfl rfl)
theorem dJ4_fixAfterDeletion_258 : decode cJ4_fixAfterDeletion 258 = .ok (.invokestatic 294, 3) := dk_184 1 38 (dk_at dksJ4_fixAfterDeletion_10 20 rfl rfl)
theorem dJ4_fixAfterDeletion_261 : decode cJ4_fixAfterDeletion 261 = .ok (.astore_n 1, 1) := dk_76 (dk_at dksJ4_fixAfterDeletion_10 23 rfl rfl)
theorem dJ4_fixAfterDeletion_262 : decode cJ4_fixAfterDeletion 262 = .ok (.goto 80, 3) := dk_167 0 80 (dk_at dksJ4_fixAfterDeletion_11 0 rfl rfl)
theorem dJ4_fixAfterDeletion_265 : decode cJ4_fixAfterDeletion 265 = .ok (.aload_n 2, 1) := dk_44 (dk_at dksJ4_fixAfterDeletion_11 3 rfl rfl)
theorem dJ4_fixAfterDeletion_266 : decode cJ4_fixAfterDeletion 266 = .ok (.invokestatic 297, 3) := dk_184 1 41 (dk_at dksJ4_fixAfterDeletion_11 4 rfl rfl)
theorem dJ4_fixAfterDeletion_269 : decode cJ4_fixAfterDeletion 269 = .ok (.invokestatic 303, 3) := dk_184 1 47 (dk_at dksJ4_fixAfterDeletion_11 7 rfl rfl)
theorem dJ4_fixAfterDeletion_272 : decode cJ4_fixAfterDeletion 272 = .ok (.iconst 1, 1) := dk_4 (dk_at dksJ4_fixAfterDeletion_11 10 rfl rfl)
theorem dJ4_fixAfterDeletion_273 : decode cJ4_fixAfterDeletion 273 = .ok (.if_icmp .ne 29, 3) := dk_160 0 29 (dk_at dksJ4_fixAfterDeletion_11 11 rfl rfl)
theorem dJ4_fixAfterDeletion_276 : decode cJ4_fixAfterDeletion 276 = .ok (.aload_n 2, 1) := dk_44 (dk_at dksJ4_fixAfterDeletion_11 14 rfl rfl)
theorem dJ4_fixAfterDeletion_277 : decode cJ4_fixAfterDeletion 277 = .ok (.invokestatic 300, 3) := dk_184 1 44 (dk_at dksJ4_fixAfterDeletion_11 15 rfl rfl)
theorem dJ4_fixAfterDeletion_280 : decode cJ4_fixAfterDeletion 280 = .ok (.iconst 1, 1) := dk_4 (dk_at dksJ4_fixAfterDeletion_11 18 rfl rfl)
theorem dJ4_fixAfterDeletion_281 : decode cJ4_fixAfterDeletion 281 = .ok (.invokestatic 307, 3) := dk_184 1 51 (dk_at dksJ4_fixAfterDeletion_11 19 rfl rfl)
theorem dJ4_fixAfterDeletion_284 : decode cJ4_fixAfterDeletion 284 = .ok (.aload_n 2, 1) := dk_44 (dk_at dksJ4_fixAfterDeletion_11 22 rfl rfl)
theorem dJ4_fixAfterDeletion_285 : decode cJ4_fixAfterDeletion 285 = .ok (.iconst 0, 1) := dk_3 (dk_at dksJ4_fixAfterDeletion_11 23 rfl rfl)
theorem dJ4_fixAfterDeletion_286 : decode cJ4_fixAfterDeletion 286 = .ok (.invokestatic 307, 3) := dk_184 1 51 (dk_at dksJ4_fixAfterDeletion_12 0 rfl rfl)
theorem dJ4_fixAfterDeletion_289 : decode cJ4_fixAfterDeletion 289 = .ok (.aload_n 0, 1) := dk_42 (dk_at dksJ4_fixAfterDeletion_12 3 rfl rfl)
theorem dJ4_fixAfterDeletion_290 : decode cJ4_fixAfterDeletion 290 = .ok (.aload_n 2, 1) := dk_44 (dk_at dksJ4_fixAfterDeletion_12 4 rfl rfl)
theorem dJ4_fixAfterDeletion_291 : decode cJ4_fixAfterDeletion 291 = .ok (.invokevirtual 311, 3) := dk_182 1 55 (dk_at dksJ4_fixAfterDeletion_12 5 rfl rfl)
theorem dJ4_fixAfterDeletion_294 : decode cJ4_fixAfterDeletion 294 = .ok (.aload_n 1, 1) := dk_43 (dk_at dksJ4_fixAfterDeletion_12 8 rfl rfl)
theorem dJ4_fixAfterDeletion_295 : decode cJ4_fixAfterDeletion 295 = .ok (.invokestatic 294, 3) := dk_184 1 38 (dk_at dksJ4_fixAfterDeletion_12 9 rfl rfl)
theorem dJ4_fixAfterDeletion_298 : decode cJ4_fixAfterDeletion 298 = .ok (.invokestatic 297, 3) := dk_184 1 41 (dk_at dksJ4_fixAfterDeletion_12 12 rfl rfl)
theorem dJ4_fixAfterDeletion_301 : decode cJ4_fixAfterDeletion 301 = .ok (.astore_n 2, 1) := dk_77 (dk_at dksJ4_fixAfterDeletion_12 15 rfl rfl)
theorem dJ4_fixAfterDeletion_302 : decode cJ4_fixAfterDeletion 302 = .ok (.aload_n 2, 1) := dk_44 (dk_at dksJ4_fixAfterDeletion_12 16 rfl rfl)
theorem dJ4_fixAfterDeletion_303 : decode cJ4_fixAfterDeletion 303 = .ok (.aload_n 1, 1) := dk_43 (dk_at dksJ4_fixAfterDeletion_12 17 rfl rfl)
theorem dJ4_fixAfterDeletion_304 : decode cJ4_fixAfterDeletion 304 = .ok (.invokestatic 294, 3) := dk_184 1 38 (dk_at dksJ4_fixAfterDeletion_12 18 rfl rfl)
theorem dJ4_fixAfterDeletion_307 : decode cJ4_fixAfterDeletion 307 = .ok (.invokestatic 303, 3) := dk_184 1 47 (dk_at dksJ4_fixAfterDeletion_12 21 rfl rfl)
theorem dJ4_fixAfterDeletion_310 : decode cJ4_fixAfterDeletion 310 = .ok (.invokestatic 307, 3) := dk_184 1 51 (dk_at dksJ4_fixAfterDeletion_13 0 rfl rfl)
theorem dJ4_fixAfterDeletion_313 : decode cJ4_fixAfterDeletion 313 = .ok (.aload_n 1, 1) := dk_43 (dk_at dksJ4_fixAfterDeletion_13 3 rfl rfl)
theorem dJ4_fixAfterDeletion_314 : decode cJ4_fixAfterDeletion 314 = .ok (.invokestatic 294, 3) := dk_184 1 38 (dk_at dksJ4_fixAfterDeletion_13 4 rfl rfl)
theorem dJ4_fixAfterDeletion_317 : decode cJ4_fixAfterDeletion 317 = .ok (.iconst 1, 1) := dk_4 (dk_at dksJ4_fixAfterDeletion_13 7 rfl rfl)
theorem dJ4_fixAfterDeletion_318 : decode cJ4_fixAfterDeletion 318 = .ok (.invokestatic 307, 3) := dk_184 1 51 (dk_at dksJ4_fixAfterDeletion_13 8 rfl rfl)
theorem dJ4_fixAfterDeletion_321 : decode cJ4_fixAfterDeletion 321 = .ok (.aload_n 2, 1) := dk_44 (dk_at dksJ4_fixAfterDeletion_13 11 rfl rfl)
theorem dJ4_fixAfterDeletion_322 : decode cJ4_fixAfterDeletion 322 = .ok (.invokestatic 297, 3) := dk_184 1 41 (dk_at dksJ4_fixAfterDeletion_13 12 rfl rfl)
theorem dJ4_fixAfterDeletion_325 : decode cJ4_fixAfterDeletion 325 = .ok (.iconst 1, 1) := dk_4 (dk_at dksJ4_fixAfterDeletion_13 15 rfl rfl)
theorem dJ4_fixAfterDeletion_326 : decode cJ4_fixAfterDeletion 326 = .ok (.invokestatic 307, 3) := dk_184 1 51 (dk_at dksJ4_fixAfterDeletion_13 16 rfl rfl)
theorem dJ4_fixAfterDeletion_329 : decode cJ4_fixAfterDeletion 329 = .ok (.aload_n 0, 1) := dk_42 (dk_at dksJ4_fixAfterDeletion_13 19 rfl rfl)
theorem dJ4_fixAfterDeletion_330 : decode cJ4_fixAfterDeletion 330 = .ok (.aload_n 1, 1) := dk_43 (dk_at dksJ4_fixAfterDeletion_13 20 rfl rfl)
theorem dJ4_fixAfterDeletion_331 : decode cJ4_fixAfterDeletion 331 = .ok (.invokestatic 294, 3) := dk_184 1 38 (dk_at dksJ4_fixAfterDeletion_13 21 rfl rfl)
theorem dJ4_fixAfterDeletion_334 : decode cJ4_fixAfterDeletion 334 = .ok (.invokevirtual 314, 3) := dk_182 1 58 (dk_at dksJ4_fixAfterDeletion_14 0 rfl rfl)
theorem dJ4_fixAfterDeletion_337 : decode cJ4_fixAfterDeletion 337 = .ok (.aload_n 0, 1) := dk_42 (dk_at dksJ4_fixAfterDeletion_14 3 rfl rfl)
theorem dJ4_fixAfterDeletion_338 : decode cJ4_fixAfterDeletion 338 = .ok (.getfield 101, 3) := dk_180 0 101 (dk_at dksJ4_fixAfterDeletion_14 4 rfl rfl)
theorem dJ4_fixAfterDeletion_341 : decode cJ4_fixAfterDeletion 341 = .ok (.astore_n 1, 1) := dk_76 (dk_at dksJ4_fixAfterDeletion_14 7 rfl rfl)
theorem dJ4_fixAfterDeletion_342 : decode cJ4_fixAfterDeletion 342 = .ok (.goto (-342), 3) := dk_167 254 170 (dk_at dksJ4_fixAfterDeletion_14 8 rfl rfl)
theorem dJ4_fixAfterDeletion_345 : decode cJ4_fixAfterDeletion 345 = .ok (.aload_n 1, 1) := dk_43 (dk_at dksJ4_fixAfterDeletion_14 11 rfl rfl)
theorem dJ4_fixAfterDeletion_346 : decode cJ4_fixAfterDeletion 346 = .ok (.iconst 1, 1) := dk_4 (dk_at dksJ4_fixAfterDeletion_14 12 rfl rfl)
theorem dJ4_fixAfterDeletion_347 : decode cJ4_fixAfterDeletion 347 = .ok (.invokestatic 307, 3) := dk_184 1 51 (dk_at dksJ4_fixAfterDeletion_14 13 rfl rfl)
theorem dJ4_fixAfterDeletion_350 : decode cJ4_fixAfterDeletion 350 = .ok (.return_, 1) := dk_177 (dk_at dksJ4_fixAfterDeletion_14 16 rfl rfl)
abbrev cJ4_pollLastEntry : ByteArray := prog_86_method_40_code
def yJ4_pollLastEntry : MethodName := ⟨RJ4, "pollLastEntry", "()Ljava/util/Map$Entry;"⟩
def dkwJ4_pollLastEntry_0 : List UInt8 := [42, 182, 0, 76, 76, 43, 184, 0, 200, 77, 43, 198, 0, 8, 42, 43, 182, 0, 174, 44, 176]
abbrev dktJ4_pollLastEntry_0 : List UInt8 := dkwJ4_pollLastEntry_0 ++ []
theorem dksJ4_pollLastEntry_0 : cJ4_pollLastEntry.data.toList.drop 0 = dktJ4_pollLastEntry_0 := by decide +kernel
theorem dJ4_pollLastEntry_0 : decode cJ4_pollLastEntry 0 = .ok (.aload_n 0, 1) := dk_42 (dk_at dksJ4_pollLastEntry_0 0 rfl rfl)
theorem dJ4_pollLastEntry_1 : decode cJ4_pollLastEntry 1 = .ok (.invokevirtual 76, 3) := dk_182 0 76 (dk_at dksJ4_pollLastEntry_0 1 rfl rfl)
theorem dJ4_pollLastEntry_4 : decode cJ4_pollLastEntry 4 = .ok (.astore_n 1, 1) := dk_76 (dk_at dksJ4_pollLastEntry_0 4 rfl rfl)
theorem dJ4_pollLastEntry_5 : decode cJ4_pollLastEntry 5 = .ok (.aload_n 1, 1) := dk_43 (dk_at dksJ4_pollLastEntry_0 5 rfl rfl)
theorem dJ4_pollLastEntry_6 : decode cJ4_pollLastEntry 6 = .ok (.invokestatic 200, 3) := dk_184 0 200 (dk_at dksJ4_pollLastEntry_0 6 rfl rfl)
theorem dJ4_pollLastEntry_9 : decode cJ4_pollLastEntry 9 = .ok (.astore_n 2, 1) := dk_77 (dk_at dksJ4_pollLastEntry_0 9 rfl rfl)
theorem dJ4_pollLastEntry_10 : decode cJ4_pollLastEntry 10 = .ok (.aload_n 1, 1) := dk_43 (dk_at dksJ4_pollLastEntry_0 10 rfl rfl)
theorem dJ4_pollLastEntry_11 : decode cJ4_pollLastEntry 11 = .ok (.ifnull 8, 3) := dk_198 0 8 (dk_at dksJ4_pollLastEntry_0 11 rfl rfl)
theorem dJ4_pollLastEntry_14 : decode cJ4_pollLastEntry 14 = .ok (.aload_n 0, 1) := dk_42 (dk_at dksJ4_pollLastEntry_0 14 rfl rfl)
theorem dJ4_pollLastEntry_15 : decode cJ4_pollLastEntry 15 = .ok (.aload_n 1, 1) := dk_43 (dk_at dksJ4_pollLastEntry_0 15 rfl rfl)
theorem dJ4_pollLastEntry_16 : decode cJ4_pollLastEntry 16 = .ok (.invokevirtual 174, 3) := dk_182 0 174 (dk_at dksJ4_pollLastEntry_0 16 rfl rfl)
theorem dJ4_pollLastEntry_19 : decode cJ4_pollLastEntry 19 = .ok (.aload_n 2, 1) := dk_44 (dk_at dksJ4_pollLastEntry_0 19 rfl rfl)
theorem dJ4_pollLastEntry_20 : decode cJ4_pollLastEntry 20 = .ok (.areturn, 1) := dk_176 (dk_at dksJ4_pollLastEntry_0 20 rfl rfl)
abbrev cJ4_getLastEntry : ByteArray := prog_86_method_73_code
def yJ4_getLastEntry : MethodName := ⟨RJ4, "getLastEntry", "()Ljava/util/TreeMap$Entry;"⟩
def dkwJ4_getLastEntry_1 : List UInt8 := [43, 176]
abbrev dktJ4_getLastEntry_1 : List UInt8 := dkwJ4_getLastEntry_1 ++ []
def dkwJ4_getLastEntry_0 : List UInt8 := [42, 180, 0, 101, 76, 43, 198, 0, 18, 43, 180, 0, 114, 198, 0, 11, 43, 180, 0, 114, 76, 167, 255, 244]
abbrev dktJ4_getLastEntry_0 : List UInt8 := dkwJ4_getLastEntry_0 ++ dktJ4_getLastEntry_1
theorem dksJ4_getLastEntry_0 : cJ4_getLastEntry.data.toList.drop 0 = dktJ4_getLastEntry_0 := by decide +kernel
theorem dksJ4_getLastEntry_1 : cJ4_getLastEntry.data.toList.drop 24 = dktJ4_getLastEntry_1 := dk_seg dksJ4_getLastEntry_0 24 rfl rfl
theorem dJ4_getLastEntry_0 : decode cJ4_getLastEntry 0 = .ok (.aload_n 0, 1) := dk_42 (dk_at dksJ4_getLastEntry_0 0 rfl rfl)
theorem dJ4_getLastEntry_1 : decode cJ4_getLastEntry 1 = .ok (.getfield 101, 3) := dk_180 0 101 (dk_at dksJ4_getLastEntry_0 1 rfl rfl)
theorem dJ4_getLastEntry_4 : decode cJ4_getLastEntry 4 = .ok (.astore_n 1, 1) := dk_76 (dk_at dksJ4_getLastEntry_0 4 rfl rfl)
theorem dJ4_getLastEntry_5 : decode cJ4_getLastEntry 5 = .ok (.aload_n 1, 1) := dk_43 (dk_at dksJ4_getLastEntry_0 5 rfl rfl)
theorem dJ4_getLastEntry_6 : decode cJ4_getLastEntry 6 = .ok (.ifnull 18, 3) := dk_198 0 18 (dk_at dksJ4_getLastEntry_0 6 rfl rfl)
theorem dJ4_getLastEntry_9 : decode cJ4_getLastEntry 9 = .ok (.aload_n 1, 1) := dk_43 (dk_at dksJ4_getLastEntry_0 9 rfl rfl)
theorem dJ4_getLastEntry_10 : decode cJ4_getLastEntry 10 = .ok (.getfield 114, 3) := dk_180 0 114 (dk_at dksJ4_getLastEntry_0 10 rfl rfl)
theorem dJ4_getLastEntry_13 : decode cJ4_getLastEntry 13 = .ok (.ifnull 11, 3) := dk_198 0 11 (dk_at dksJ4_getLastEntry_0 13 rfl rfl)
theorem dJ4_getLastEntry_16 : decode cJ4_getLastEntry 16 = .ok (.aload_n 1, 1) := dk_43 (dk_at dksJ4_getLastEntry_0 16 rfl rfl)
theorem dJ4_getLastEntry_17 : decode cJ4_getLastEntry 17 = .ok (.getfield 114, 3) := dk_180 0 114 (dk_at dksJ4_getLastEntry_0 17 rfl rfl)
theorem dJ4_getLastEntry_20 : decode cJ4_getLastEntry 20 = .ok (.astore_n 1, 1) := dk_76 (dk_at dksJ4_getLastEntry_0 20 rfl rfl)
theorem dJ4_getLastEntry_21 : decode cJ4_getLastEntry 21 = .ok (.goto (-12), 3) := dk_167 255 244 (dk_at dksJ4_getLastEntry_0 21 rfl rfl)
theorem dJ4_getLastEntry_24 : decode cJ4_getLastEntry 24 = .ok (.aload_n 1, 1) := dk_43 (dk_at dksJ4_getLastEntry_1 0 rfl rfl)
theorem dJ4_getLastEntry_25 : decode cJ4_getLastEntry 25 = .ok (.areturn, 1) := dk_176 (dk_at dksJ4_getLastEntry_1 1 rfl rfl)
abbrev cJ4_exportEntry : ByteArray := prog_86_method_69_code
def yJ4_exportEntry : MethodName := ⟨RJ4, "exportEntry", "(Ljava/util/TreeMap$Entry;)Ljava/util/Map$Entry;"⟩
def dkwJ4_exportEntry_0 : List UInt8 := [42, 199, 0, 7, 1, 167, 0, 11, 187, 1, 26, 89, 42, 183, 1, 28, 176]
abbrev dktJ4_exportEntry_0 : List UInt8 := dkwJ4_exportEntry_0 ++ []
theorem dksJ4_exportEntry_0 : cJ4_exportEntry.data.toList.drop 0 = dktJ4_exportEntry_0 := by decide +kernel
theorem dJ4_exportEntry_0 : decode cJ4_exportEntry 0 = .ok (.aload_n 0, 1) := dk_42 (dk_at dksJ4_exportEntry_0 0 rfl rfl)
theorem dJ4_exportEntry_1 : decode cJ4_exportEntry 1 = .ok (.ifnonnull 7, 3) := dk_199 0 7 (dk_at dksJ4_exportEntry_0 1 rfl rfl)
theorem dJ4_exportEntry_4 : decode cJ4_exportEntry 4 = .ok (.aconst_null, 1) := dk_1 (dk_at dksJ4_exportEntry_0 4 rfl rfl)
theorem dJ4_exportEntry_5 : decode cJ4_exportEntry 5 = .ok (.goto 11, 3) := dk_167 0 11 (dk_at dksJ4_exportEntry_0 5 rfl rfl)
theorem dJ4_exportEntry_8 : decode cJ4_exportEntry 8 = .ok (.new 282, 3) := dk_187 1 26 (dk_at dksJ4_exportEntry_0 8 rfl rfl)
theorem dJ4_exportEntry_11 : decode cJ4_exportEntry 11 = .ok (.dup, 1) := dk_89 (dk_at dksJ4_exportEntry_0 11 rfl rfl)
theorem dJ4_exportEntry_12 : decode cJ4_exportEntry 12 = .ok (.aload_n 0, 1) := dk_42 (dk_at dksJ4_exportEntry_0 12 rfl rfl)
theorem dJ4_exportEntry_13 : decode cJ4_exportEntry 13 = .ok (.invokespecial 284, 3) := dk_183 1 28 (dk_at dksJ4_exportEntry_0 13 rfl rfl)
theorem dJ4_exportEntry_16 : decode cJ4_exportEntry 16 = .ok (.areturn, 1) := dk_176 (dk_at dksJ4_exportEntry_0 16 rfl rfl)
theorem q128 : (Jvm.Cond.initialized "java/util/TreeMap") ∈ lw_all := lw_g (lw_at lw_m1 6 rfl) rfl
theorem q231 : (Jvm.Cond.instantiable "java/util/TreeMap" (9 : Nat)) ∈ lw_all := lw_g (lw_at lw_m1 109 rfl) rfl
theorem q233 : (Jvm.Cond.instanceMethod ({ cls := "java/util/TreeMap", name := "<init>", desc := "()V" } : Jvm.MethodName)) ∈ lw_all := lw_g (lw_at lw_m1 111 rfl) rfl
theorem q234 : (Jvm.Cond.code ({ cls := "java/util/TreeMap", name := "<init>", desc := "()V" } : Jvm.MethodName) prog_86_method_1_code (1 : Nat) (Option.none : Option Jvm.ClassFile.FieldType)) ∈ lw_all := lw_g (lw_at lw_m1 112 rfl) rfl
theorem q235 : (Jvm.Cond.methodLink "java/util/TreeMap" (1 : Nat) ({ cls := "java/util/AbstractMap", name := "<init>", desc := "()V" } : Jvm.MethodName)) ∈ lw_all := lw_g (lw_at lw_m1 113 rfl) rfl
theorem q239 : (Jvm.Cond.fieldLink "java/util/TreeMap" (16 : Nat) "java/util/TreeMap" "comparator" "Ljava/util/Comparator;") ∈ lw_all := lw_g (lw_at lw_m1 117 rfl) rfl
theorem q240 : (Jvm.Cond.fieldLink "java/util/TreeMap" (101 : Nat) "java/util/TreeMap" "root" "Ljava/util/TreeMap$Entry;") ∈ lw_all := lw_g (lw_at lw_m1 118 rfl) rfl
theorem q241 : (Jvm.Cond.fieldLink "java/util/TreeMap" (7 : Nat) "java/util/TreeMap" "size" "I") ∈ lw_all := lw_g (lw_at lw_m1 119 rfl) rfl
theorem q242 : (Jvm.Cond.fieldLink "java/util/TreeMap" (13 : Nat) "java/util/TreeMap" "modCount" "I") ∈ lw_all := lw_g (lw_at lw_m1 120 rfl) rfl
theorem q243 : (Jvm.Cond.fieldLink "java/util/TreeMap" (188 : Nat) "java/util/TreeMap" "entrySet" "Ljava/util/TreeMap$EntrySet;") ∈ lw_all := lw_g (lw_at lw_m1 121 rfl) rfl
theorem q244 : (Jvm.Cond.laysFinal "java/util/TreeMap" "java/util/TreeMap" "comparator" "Ljava/util/Comparator;") ∈ lw_all := lw_g (lw_at lw_m1 122 rfl) rfl
theorem q245 : (Jvm.Cond.soleField "java/util/TreeMap" "comparator") ∈ lw_all := lw_g (lw_at lw_m1 123 rfl) rfl
theorem q246 : (Jvm.Cond.lays "java/util/TreeMap" "java/util/TreeMap" "root" "Ljava/util/TreeMap$Entry;") ∈ lw_all := lw_g (lw_at lw_m1 124 rfl) rfl
theorem q247 : (Jvm.Cond.soleField "java/util/TreeMap" "root") ∈ lw_all := lw_g (lw_at lw_m1 125 rfl) rfl
theorem q248 : (Jvm.Cond.lays "java/util/TreeMap" "java/util/TreeMap" "size" "I") ∈ lw_all := lw_g (lw_at lw_m1 126 rfl) rfl
theorem q249 : (Jvm.Cond.soleField "java/util/TreeMap" "size") ∈ lw_all := lw_g (lw_at lw_m1 127 rfl) rfl
theorem q250 : (Jvm.Cond.lays "java/util/TreeMap" "java/util/TreeMap" "modCount" "I") ∈ lw_all := lw_g (lw_at lw_m1 128 rfl) rfl
theorem q251 : (Jvm.Cond.soleField "java/util/TreeMap" "modCount") ∈ lw_all := lw_g (lw_at lw_m1 129 rfl) rfl
theorem q252 : (Jvm.Cond.lays "java/util/TreeMap" "java/util/TreeMap" "entrySet" "Ljava/util/TreeMap$EntrySet;") ∈ lw_all := lw_g (lw_at lw_m1 130 rfl) rfl
theorem q253 : (Jvm.Cond.soleField "java/util/TreeMap" "entrySet") ∈ lw_all := lw_g (lw_at lw_m1 131 rfl) rfl
theorem q254 : (Jvm.Cond.lays "java/util/TreeMap" "java/util/TreeMap" "navigableKeySet" "Ljava/util/TreeMap$KeySet;") ∈ lw_all := lw_g (lw_at lw_m1 132 rfl) rfl
theorem q255 : (Jvm.Cond.soleField "java/util/TreeMap" "navigableKeySet") ∈ lw_all := lw_g (lw_at lw_m1 133 rfl) rfl
theorem q256 : (Jvm.Cond.lays "java/util/TreeMap" "java/util/TreeMap" "descendingMap" "Ljava/util/NavigableMap;") ∈ lw_all := lw_g (lw_at lw_m1 134 rfl) rfl
theorem q257 : (Jvm.Cond.soleField "java/util/TreeMap" "descendingMap") ∈ lw_all := lw_g (lw_at lw_m1 135 rfl) rfl
theorem q258 : (Jvm.Cond.lays "java/util/TreeMap" "java/util/AbstractMap" "keySet" "Ljava/util/Set;") ∈ lw_all := lw_g (lw_at lw_m1 136 rfl) rfl
theorem q260 : (Jvm.Cond.lays "java/util/TreeMap" "java/util/AbstractMap" "values" "Ljava/util/Collection;") ∈ lw_all := lw_g (lw_at lw_m1 138 rfl) rfl
theorem q262 : (Jvm.Cond.superclass "java/util/TreeMap" "java/util/AbstractMap") ∈ lw_all := lw_g (lw_at lw_m1 140 rfl) rfl
theorem q695 : (Jvm.Cond.instanceMethod ({ cls := "java/util/TreeMap", name := "size", desc := "()I" } : Jvm.MethodName)) ∈ lw_all := lw_g (lw_at lw_m3 93 rfl) rfl
theorem q696 : (Jvm.Cond.selects "java/util/TreeMap" ({ cls := "java/util/TreeMap", name := "size", desc := "()I" } : Jvm.MethodName) ({ cls := "java/util/TreeMap", name := "size", desc := "()I" } : Jvm.MethodName)) ∈ lw_all := lw_g (lw_at lw_m3 94 rfl) rfl
theorem q697 : (Jvm.Cond.code ({ cls := "java/util/TreeMap", name := "size", desc := "()I" } : Jvm.MethodName) prog_86_method_5_code (1 : Nat) (Option.some Jvm.ClassFile.FieldType.int)) ∈ lw_all := lw_g (lw_at lw_m3 95 rfl) rfl
theorem q699 : (Jvm.Cond.instanceMethod ({ cls := "java/util/TreeMap", name := "clear", desc := "()V" } : Jvm.MethodName)) ∈ lw_all := lw_g (lw_at lw_m3 97 rfl) rfl
theorem q700 : (Jvm.Cond.selects "java/util/TreeMap" ({ cls := "java/util/TreeMap", name := "clear", desc := "()V" } : Jvm.MethodName) ({ cls := "java/util/TreeMap", name := "clear", desc := "()V" } : Jvm.MethodName)) ∈ lw_all := lw_g (lw_at lw_m3 98 rfl) rfl
theorem q701 : (Jvm.Cond.code ({ cls := "java/util/TreeMap", name := "clear", desc := "()V" } : Jvm.MethodName) prog_86_method_35_code (1 : Nat) (Option.none : Option Jvm.ClassFile.FieldType)) ∈ lw_all := lw_g (lw_at lw_m3 99 rfl) rfl
theorem q1010 : (Jvm.Cond.selects "java/util/TreeMap" ({ cls := "java/lang/Object", name := "getClass", desc := "()Ljava/lang/Class;" } : Jvm.MethodName) ({ cls := "java/lang/Object", name := "getClass", desc := "()Ljava/lang/Class;" } : Jvm.MethodName)) ∈ lw_all := lw_g (lw_at lw_m4 168 rfl) rfl
theorem q1495 : (Jvm.Cond.instanceMethod ({ cls := "java/util/TreeMap", name := "get", desc := "(Ljava/lang/Object;)Ljava/lang/Object;" } : Jvm.MethodName)) ∈ lw_all := lw_g (lw_at lw_m6 173 rfl) rfl
theorem q1496 : (Jvm.Cond.selects "java/util/TreeMap" ({ cls := "java/util/TreeMap", name := "get", desc := "(Ljava/lang/Object;)Ljava/lang/Object;" } : Jvm.MethodName) ({ cls := "java/util/TreeMap", name := "get", desc := "(Ljava/lang/Object;)Ljava/lang/Object;" } : Jvm.MethodName)) ∈ lw_all := lw_g (lw_at lw_m6 174 rfl) rfl
theorem q1497 : (Jvm.Cond.code ({ cls := "java/util/TreeMap", name := "get", desc := "(Ljava/lang/Object;)Ljava/lang/Object;" } : Jvm.MethodName) prog_86_method_8_code (3 : Nat) (Option.some (Jvm.ClassFile.FieldType.object "java/lang/Object"))) ∈ lw_all := lw_g (lw_at lw_m6 175 rfl) rfl
theorem q1498 : (Jvm.Cond.methodLink "java/util/TreeMap" (50 : Nat) ({ cls := "java/util/TreeMap", name := "getEntry", desc := "(Ljava/lang/Object;)Ljava/util/TreeMap$Entry;" } : Jvm.MethodName)) ∈ lw_all := lw_g (lw_at lw_m6 176 rfl) rfl
theorem q1499 : (Jvm.Cond.instanceMethod ({ cls := "java/util/TreeMap", name := "getEntry", desc := "(Ljava/lang/Object;)Ljava/util/TreeMap$Entry;" } : Jvm.MethodName)) ∈ lw_all := lw_g (lw_at lw_m6 177 rfl) rfl
theorem q1500 : (Jvm.Cond.selects "java/util/TreeMap" ({ cls := "java/util/TreeMap", name := "getEntry", desc := "(Ljava/lang/Object;)Ljava/util/TreeMap$Entry;" } : Jvm.MethodName) ({ cls := "java/util/TreeMap", name := "getEntry", desc := "(Ljava/lang/Object;)Ljava/util/TreeMap$Entry;" } : Jvm.MethodName)) ∈ lw_all := lw_g (lw_at lw_m6 178 rfl) rfl
theorem q1501 : (Jvm.Cond.code ({ cls := "java/util/TreeMap", name := "getEntry", desc := "(Ljava/lang/Object;)Ljava/util/TreeMap$Entry;" } : Jvm.MethodName) prog_86_method_15_code (5 : Nat) (Option.some (Jvm.ClassFile.FieldType.object "java/util/TreeMap$Entry"))) ∈ lw_all := lw_g (lw_at lw_m6 179 rfl) rfl
theorem q1502 : (Jvm.Cond.methodLink "java/util/TreeMap" (92 : Nat) ({ cls := "java/util/TreeMap", name := "getEntryUsingComparator", desc := "(Ljava/lang/Object;)Ljava/util/TreeMap$Entry;" } : Jvm.MethodName)) ∈ lw_all := lw_g (lw_at lw_m6 180 rfl) rfl
theorem q1503 : (Jvm.Cond.instanceMethod ({ cls := "java/util/TreeMap", name := "getEntryUsingComparator", desc := "(Ljava/lang/Object;)Ljava/util/TreeMap$Entry;" } : Jvm.MethodName)) ∈ lw_all := lw_g (lw_at lw_m6 181 rfl) rfl
theorem q1504 : (Jvm.Cond.selects "java/util/TreeMap" ({ cls := "java/util/TreeMap", name := "getEntryUsingComparator", desc := "(Ljava/lang/Object;)Ljava/util/TreeMap$Entry;" } : Jvm.MethodName) ({ cls := "java/util/TreeMap", name := "getEntryUsingComparator", desc := "(Ljava/lang/Object;)Ljava/util/TreeMap$Entry;" } : Jvm.MethodName)) ∈ lw_all := lw_g (lw_at lw_m6 182 rfl) rfl
theorem q1505 : (Jvm.Cond.code ({ cls := "java/util/TreeMap", name := "getEntryUsingComparator", desc := "(Ljava/lang/Object;)Ljava/util/TreeMap$Entry;" } : Jvm.MethodName) prog_86_method_16_code (6 : Nat) (Option.some (Jvm.ClassFile.FieldType.object "java/util/TreeMap$Entry"))) ∈ lw_all := lw_g (lw_at lw_m6 183 rfl) rfl
theorem q1506 : (Jvm.Cond.interfaceEntry "java/util/TreeMap" (117 : Nat)) ∈ lw_tbl := lw_at lw_m6 184 rfl
theorem q1507 : (Jvm.Cond.methodLink "java/util/TreeMap" (117 : Nat) ({ cls := "java/util/Comparator", name := "compare", desc := "(Ljava/lang/Object;Ljava/lang/Object;)I" } : Jvm.MethodName)) ∈ lw_all := lw_g (lw_at lw_m6 185 rfl) rfl
theorem q1510 : (Jvm.Cond.methodLink "java/util/TreeMap" (95 : Nat) ({ cls := "java/util/Objects", name := "requireNonNull", desc := "(Ljava/lang/Object;)Ljava/lang/Object;" } : Jvm.MethodName)) ∈ lw_all := lw_g (lw_at lw_m6 188 rfl) rfl
theorem q1513 : (Jvm.Cond.classLink "java/util/TreeMap" (99 : Nat) "java/lang/Comparable") ∈ lw_all := lw_g (lw_at lw_m6 191 rfl) rfl
theorem q1514 : (Jvm.Cond.interfaceEntry "java/util/TreeMap" (107 : Nat)) ∈ lw_tbl := lw_at lw_m6 192 rfl
theorem q1515 : (Jvm.Cond.methodLink "java/util/TreeMap" (107 : Nat) ({ cls := "java/lang/Comparable", name := "compareTo", desc := "(Ljava/lang/Object;)I" } : Jvm.MethodName)) ∈ lw_all := lw_g (lw_at lw_m6 193 rfl) rfl
theorem q1745 : (Jvm.Cond.instanceMethod ({ cls := "java/util/TreeMap", name := "put", desc := "(Ljava/lang/Object;Ljava/lang/Object;)Ljava/lang/Object;" } : Jvm.MethodName)) ∈ lw_all := lw_g (lw_at lw_m7 183 rfl) rfl
theorem q1746 : (Jvm.Cond.selects "java/util/TreeMap" ({ cls := "java/util/TreeMap", name := "put", desc := "(Ljava/lang/Object;Ljava/lang/Object;)Ljava/lang/Object;" } : Jvm.MethodName) ({ cls := "java/util/TreeMap", name := "put", desc := "(Ljava/lang/Object;Ljava/lang/Object;)Ljava/lang/Object;" } : Jvm.MethodName)) ∈ lw_all := lw_g (lw_at lw_m7 184 rfl) rfl
theorem q1747 : (Jvm.Cond.code ({ cls := "java/util/TreeMap", name := "put", desc := "(Ljava/lang/Object;Ljava/lang/Object;)Ljava/lang/Object;" } : Jvm.MethodName) prog_86_method_21_code (3 : Nat) (Option.some (Jvm.ClassFile.FieldType.object "java/lang/Object"))) ∈ lw_all := lw_g (lw_at lw_m7 185 rfl) rfl
theorem q1748 : (Jvm.Cond.methodLink "java/util/TreeMap" (127 : Nat) ({ cls := "java/util/TreeMap", name := "put", desc := "(Ljava/lang/Object;Ljava/lang/Object;Z)Ljava/lang/Object;" } : Jvm.MethodName)) ∈ lw_all := lw_g (lw_at lw_m7 186 rfl) rfl
theorem q1749 : (Jvm.Cond.privateMethod ({ cls := "java/util/TreeMap", name := "put", desc := "(Ljava/lang/Object;Ljava/lang/Object;Z)Ljava/lang/Object;" } : Jvm.MethodName)) ∈ lw_tbl := lw_at lw_m7 187 rfl
theorem q1750 : (Jvm.Cond.instanceMethod ({ cls := "java/util/TreeMap", name := "put", desc := "(Ljava/lang/Object;Ljava/lang/Object;Z)Ljava/lang/Object;" } : Jvm.MethodName)) ∈ lw_all := lw_g (lw_at lw_m7 188 rfl) rfl
theorem q1751 : (Jvm.Cond.code ({ cls := "java/util/TreeMap", name := "put", desc := "(Ljava/lang/Object;Ljava/lang/Object;Z)Ljava/lang/Object;" } : Jvm.MethodName) prog_86_method_31_code (10 : Nat) (Option.some (Jvm.ClassFile.FieldType.object "java/lang/Object"))) ∈ lw_all := lw_g (lw_at lw_m7 189 rfl) rfl
theorem q1752 : (Jvm.Cond.methodLink "java/util/TreeMap" (135 : Nat) ({ cls := "java/util/TreeMap", name := "addEntryToEmptyMap", desc := "(Ljava/lang/Object;Ljava/lang/Object;)V" } : Jvm.MethodName)) ∈ lw_all := lw_g (lw_at lw_m7 190 rfl) rfl
theorem q1753 : (Jvm.Cond.privateMethod ({ cls := "java/util/TreeMap", name := "addEntryToEmptyMap", desc := "(Ljava/lang/Object;Ljava/lang/Object;)V" } : Jvm.MethodName)) ∈ lw_tbl := lw_at lw_m7 191 rfl
theorem q1754 : (Jvm.Cond.instanceMethod ({ cls := "java/util/TreeMap", name := "addEntryToEmptyMap", desc := "(Ljava/lang/Object;Ljava/lang/Object;)V" } : Jvm.MethodName)) ∈ lw_all := lw_g (lw_at lw_m7 192 rfl) rfl
theorem q1755 : (Jvm.Cond.code ({ cls := "java/util/TreeMap", name := "addEntryToEmptyMap", desc := "(Ljava/lang/Object;Ljava/lang/Object;)V" } : Jvm.MethodName) prog_86_method_30_code (3 : Nat) (Option.none : Option Jvm.ClassFile.FieldType)) ∈ lw_all := lw_g (lw_at lw_m7 193 rfl) rfl
theorem q1756 : (Jvm.Cond.methodLink "java/util/TreeMap" (123 : Nat) ({ cls := "java/util/TreeMap", name := "compare", desc := "(Ljava/lang/Object;Ljava/lang/Object;)I" } : Jvm.MethodName)) ∈ lw_all := lw_g (lw_at lw_m7 194 rfl) rfl
theorem q1757 : (Jvm.Cond.instanceMethod ({ cls := "java/util/TreeMap", name := "compare", desc := "(Ljava/lang/Object;Ljava/lang/Object;)I" } : Jvm.MethodName)) ∈ lw_all := lw_g (lw_at lw_m7 195 rfl) rfl
theorem q1758 : (Jvm.Cond.selects "java/util/TreeMap" ({ cls := "java/util/TreeMap", name := "compare", desc := "(Ljava/lang/Object;Ljava/lang/Object;)I" } : Jvm.MethodName) ({ cls := "java/util/TreeMap", name := "compare", desc := "(Ljava/lang/Object;Ljava/lang/Object;)I" } : Jvm.MethodName)) ∈ lw_all := lw_g (lw_at lw_m7 196 rfl) rfl
theorem q1759 : (Jvm.Cond.code ({ cls := "java/util/TreeMap", name := "compare", desc := "(Ljava/lang/Object;Ljava/lang/Object;)I" } : Jvm.MethodName) prog_86_method_67_code (3 : Nat) (Option.some Jvm.ClassFile.FieldType.int)) ∈ lw_all := lw_g (lw_at lw_m7 197 rfl) rfl
theorem q1760 : (Jvm.Cond.classLink "java/util/TreeMap" (59 : Nat) "java/util/TreeMap$Entry") ∈ lw_all := lw_g (lw_at lw_m7 198 rfl) rfl
theorem q1762 : (Jvm.Cond.methodLink "java/util/TreeMap" (167 : Nat) ({ cls := "java/util/TreeMap$Entry", name := "<init>", desc := "(Ljava/lang/Object;Ljava/lang/Object;Ljava/util/TreeMap$Entry;)V" } : Jvm.MethodName)) ∈ lw_all := lw_g (lw_at lw_m7 200 rfl) rfl
theorem q1767 : (Jvm.Cond.fieldLink "java/util/TreeMap" (105 : Nat) "java/util/TreeMap$Entry" "key" "Ljava/lang/Object;") ∈ lw_all := lw_g (lw_at lw_m7 205 rfl) rfl
theorem q1769 : (Jvm.Cond.fieldLink "java/util/TreeMap" (58 : Nat) "java/util/TreeMap$Entry" "value" "Ljava/lang/Object;") ∈ lw_all := lw_g (lw_at lw_m7 207 rfl) rfl
theorem q1770 : (Jvm.Cond.fieldLink "java/util/TreeMap" (111 : Nat) "java/util/TreeMap$Entry" "left" "Ljava/util/TreeMap$Entry;") ∈ lw_all := lw_g (lw_at lw_m7 208 rfl) rfl
theorem q1771 : (Jvm.Cond.fieldLink "java/util/TreeMap" (114 : Nat) "java/util/TreeMap$Entry" "right" "Ljava/util/TreeMap$Entry;") ∈ lw_all := lw_g (lw_at lw_m7 209 rfl) rfl
theorem q1773 : (Jvm.Cond.fieldLink "java/util/TreeMap" (124 : Nat) "java/util/TreeMap$Entry" "parent" "Ljava/util/TreeMap$Entry;") ∈ lw_all := lw_g (lw_at lw_m7 211 rfl) rfl
theorem q1775 : (Jvm.Cond.fieldLink "java/util/TreeMap" (290 : Nat) "java/util/TreeMap$Entry" "color" "Z") ∈ lw_all := lw_g (lw_at lw_m7 213 rfl) rfl
theorem q1789 : (Jvm.Cond.methodLink "java/util/TreeMap" (139 : Nat) ({ cls := "java/util/TreeMap", name := "addEntry", desc := "(Ljava/lang/Object;Ljava/lang/Object;Ljava/util/TreeMap$Entry;Z)V" } : Jvm.MethodName)) ∈ lw_all := lw_g (lw_at lw_m7 227 rfl) rfl
theorem q1790 : (Jvm.Cond.privateMethod ({ cls := "java/util/TreeMap", name := "addEntry", desc := "(Ljava/lang/Object;Ljava/lang/Object;Ljava/util/TreeMap$Entry;Z)V" } : Jvm.MethodName)) ∈ lw_tbl := lw_at lw_m7 228 rfl
theorem q1791 : (Jvm.Cond.instanceMethod ({ cls := "java/util/TreeMap", name := "addEntry", desc := "(Ljava/lang/Object;Ljava/lang/Object;Ljava/util/TreeMap$Entry;Z)V" } : Jvm.MethodName)) ∈ lw_all := lw_g (lw_at lw_m7 229 rfl) rfl
theorem q1792 : (Jvm.Cond.code ({ cls := "java/util/TreeMap", name := "addEntry", desc := "(Ljava/lang/Object;Ljava/lang/Object;Ljava/util/TreeMap$Entry;Z)V" } : Jvm.MethodName) prog_86_method_29_code (6 : Nat) (Option.none : Option Jvm.ClassFile.FieldType)) ∈ lw_all := lw_g (lw_at lw_m7 230 rfl) rfl
theorem q1793 : (Jvm.Cond.methodLink "java/util/TreeMap" (170 : Nat) ({ cls := "java/util/TreeMap", name := "fixAfterInsertion", desc := "(Ljava/util/TreeMap$Entry;)V" } : Jvm.MethodName)) ∈ lw_all := lw_g (lw_at lw_m7 231 rfl) rfl
theorem q1794 : (Jvm.Cond.privateMethod ({ cls := "java/util/TreeMap", name := "fixAfterInsertion", desc := "(Ljava/util/TreeMap$Entry;)V" } : Jvm.MethodName)) ∈ lw_tbl := lw_at lw_m7 232 rfl
theorem q1795 : (Jvm.Cond.instanceMethod ({ cls := "java/util/TreeMap", name := "fixAfterInsertion", desc := "(Ljava/util/TreeMap$Entry;)V" } : Jvm.MethodName)) ∈ lw_all := lw_g (lw_at lw_m7 233 rfl) rfl
theorem q1796 : (Jvm.Cond.code ({ cls := "java/util/TreeMap", name := "fixAfterInsertion", desc := "(Ljava/util/TreeMap$Entry;)V" } : Jvm.MethodName) prog_86_method_83_code (3 : Nat) (Option.none : Option Jvm.ClassFile.FieldType)) ∈ lw_all := lw_g (lw_at lw_m7 234 rfl) rfl
theorem q1797 : (Jvm.Cond.methodLink "java/util/TreeMap" (294 : Nat) ({ cls := "java/util/TreeMap", name := "parentOf", desc := "(Ljava/util/TreeMap$Entry;)Ljava/util/TreeMap$Entry;" } : Jvm.MethodName)) ∈ lw_all := lw_g (lw_at lw_m7 235 rfl) rfl
theorem q1798 : (Jvm.Cond.static ({ cls := "java/util/TreeMap", name := "parentOf", desc := "(Ljava/util/TreeMap$Entry;)Ljava/util/TreeMap$Entry;" } : Jvm.MethodName)) ∈ lw_all := lw_g (lw_at lw_m7 236 rfl) rfl
theorem q1799 : (Jvm.Cond.code ({ cls := "java/util/TreeMap", name := "parentOf", desc := "(Ljava/util/TreeMap$Entry;)Ljava/util/TreeMap$Entry;" } : Jvm.MethodName) prog_86_method_77_code (1 : Nat) (Option.some (Jvm.ClassFile.FieldType.object "java/util/TreeMap$Entry"))) ∈ lw_all := lw_g (lw_at lw_m7 237 rfl) rfl
theorem q1800 : (Jvm.Cond.methodLink "java/util/TreeMap" (297 : Nat) ({ cls := "java/util/TreeMap", name := "leftOf", desc := "(Ljava/util/TreeMap$Entry;)Ljava/util/TreeMap$Entry;" } : Jvm.MethodName)) ∈ lw_all := lw_g (lw_at lw_m7 238 rfl) rfl
theorem q1801 : (Jvm.Cond.static ({ cls := "java/util/TreeMap", name := "leftOf", desc := "(Ljava/util/TreeMap$Entry;)Ljava/util/TreeMap$Entry;" } : Jvm.MethodName)) ∈ lw_all := lw_g (lw_at lw_m7 239 rfl) rfl
theorem q1802 : (Jvm.Cond.code ({ cls := "java/util/TreeMap", name := "leftOf", desc := "(Ljava/util/TreeMap$Entry;)Ljava/util/TreeMap$Entry;" } : Jvm.MethodName) prog_86_method_79_code (1 : Nat) (Option.some (Jvm.ClassFile.FieldType.object "java/util/TreeMap$Entry"))) ∈ lw_all := lw_g (lw_at lw_m8 0 rfl) rfl
theorem q1803 : (Jvm.Cond.methodLink "java/util/TreeMap" (300 : Nat) ({ cls := "java/util/TreeMap", name := "rightOf", desc := "(Ljava/util/TreeMap$Entry;)Ljava/util/TreeMap$Entry;" } : Jvm.MethodName)) ∈ lw_all := lw_g (lw_at lw_m8 1 rfl) rfl
theorem q1804 : (Jvm.Cond.static ({ cls := "java/util/TreeMap", name := "rightOf", desc := "(Ljava/util/TreeMap$Entry;)Ljava/util/TreeMap$Entry;" } : Jvm.MethodName)) ∈ lw_all := lw_g (lw_at lw_m8 2 rfl) rfl
theorem q1805 : (Jvm.Cond.code ({ cls := "java/util/TreeMap", name := "rightOf", desc := "(Ljava/util/TreeMap$Entry;)Ljava/util/TreeMap$Entry;" } : Jvm.MethodName) prog_86_method_80_code (1 : Nat) (Option.some (Jvm.ClassFile.FieldType.object "java/util/TreeMap$Entry"))) ∈ lw_all := lw_g (lw_at lw_m8 3 rfl) rfl
theorem q1806 : (Jvm.Cond.methodLink "java/util/TreeMap" (303 : Nat) ({ cls := "java/util/TreeMap", name := "colorOf", desc := "(Ljava/util/TreeMap$Entry;)Z" } : Jvm.MethodName)) ∈ lw_all := lw_g (lw_at lw_m8 4 rfl) rfl
theorem q1807 : (Jvm.Cond.static ({ cls := "java/util/TreeMap", name := "colorOf", desc := "(Ljava/util/TreeMap$Entry;)Z" } : Jvm.MethodName)) ∈ lw_all := lw_g (lw_at lw_m8 5 rfl) rfl
theorem q1808 : (Jvm.Cond.code ({ cls := "java/util/TreeMap", name := "colorOf", desc := "(Ljava/util/TreeMap$Entry;)Z" } : Jvm.MethodName) prog_86_method_76_code (1 : Nat) (Option.some Jvm.ClassFile.FieldType.boolean)) ∈ lw_all := lw_g (lw_at lw_m8 6 rfl) rfl
theorem q1809 : (Jvm.Cond.methodLink "java/util/TreeMap" (307 : Nat) ({ cls := "java/util/TreeMap", name := "setColor", desc := "(Ljava/util/TreeMap$Entry;Z)V" } : Jvm.MethodName)) ∈ lw_all := lw_g (lw_at lw_m8 7 rfl) rfl
theorem q1810 : (Jvm.Cond.static ({ cls := "java/util/TreeMap", name := "setColor", desc := "(Ljava/util/TreeMap$Entry;Z)V" } : Jvm.MethodName)) ∈ lw_all := lw_g (lw_at lw_m8 8 rfl) rfl
theorem q1811 : (Jvm.Cond.code ({ cls := "java/util/TreeMap", name := "setColor", desc := "(Ljava/util/TreeMap$Entry;Z)V" } : Jvm.MethodName) prog_86_method_78_code (2 : Nat) (Option.none : Option Jvm.ClassFile.FieldType)) ∈ lw_all := lw_g (lw_at lw_m8 9 rfl) rfl
theorem q1812 : (Jvm.Cond.methodLink "java/util/TreeMap" (311 : Nat) ({ cls := "java/util/TreeMap", name := "rotateLeft", desc := "(Ljava/util/TreeMap$Entry;)V" } : Jvm.MethodName)) ∈ lw_all := lw_g (lw_at lw_m8 10 rfl) rfl
theorem q1813 : (Jvm.Cond.privateMethod ({ cls := "java/util/TreeMap", name := "rotateLeft", desc := "(Ljava/util/TreeMap$Entry;)V" } : Jvm.MethodName)) ∈ lw_tbl := lw_at lw_m8 11 rfl
theorem q1814 : (Jvm.Cond.instanceMethod ({ cls := "java/util/TreeMap", name := "rotateLeft", desc := "(Ljava/util/TreeMap$Entry;)V" } : Jvm.MethodName)) ∈ lw_all := lw_g (lw_at lw_m8 12 rfl) rfl
theorem q1815 : (Jvm.Cond.code ({ cls := "java/util/TreeMap", name := "rotateLeft", desc := "(Ljava/util/TreeMap$Entry;)V" } : Jvm.MethodName) prog_86_method_81_code (3 : Nat) (Option.none : Option Jvm.ClassFile.FieldType)) ∈ lw_all := lw_g (lw_at lw_m8 13 rfl) rfl
theorem q1816 : (Jvm.Cond.methodLink "java/util/TreeMap" (314 : Nat) ({ cls := "java/util/TreeMap", name := "rotateRight", desc := "(Ljava/util/TreeMap$Entry;)V" } : Jvm.MethodName)) ∈ lw_all := lw_g (lw_at lw_m8 14 rfl) rfl
theorem q1817 : (Jvm.Cond.privateMethod ({ cls := "java/util/TreeMap", name := "rotateRight", desc := "(Ljava/util/TreeMap$Entry;)V" } : Jvm.MethodName)) ∈ lw_tbl := lw_at lw_m8 15 rfl
theorem q1818 : (Jvm.Cond.instanceMethod ({ cls := "java/util/TreeMap", name := "rotateRight", desc := "(Ljava/util/TreeMap$Entry;)V" } : Jvm.MethodName)) ∈ lw_all := lw_g (lw_at lw_m8 16 rfl) rfl
theorem q1819 : (Jvm.Cond.code ({ cls := "java/util/TreeMap", name := "rotateRight", desc := "(Ljava/util/TreeMap$Entry;)V" } : Jvm.MethodName) prog_86_method_82_code (3 : Nat) (Option.none : Option Jvm.ClassFile.FieldType)) ∈ lw_all := lw_g (lw_at lw_m8 17 rfl) rfl
theorem q1821 : (Jvm.Cond.instanceMethod ({ cls := "java/util/TreeMap", name := "remove", desc := "(Ljava/lang/Object;)Ljava/lang/Object;" } : Jvm.MethodName)) ∈ lw_all := lw_g (lw_at lw_m8 19 rfl) rfl
theorem q1822 : (Jvm.Cond.selects "java/util/TreeMap" ({ cls := "java/util/TreeMap", name := "remove", desc := "(Ljava/lang/Object;)Ljava/lang/Object;" } : Jvm.MethodName) ({ cls := "java/util/TreeMap", name := "remove", desc := "(Ljava/lang/Object;)Ljava/lang/Object;" } : Jvm.MethodName)) ∈ lw_all := lw_g (lw_at lw_m8 20 rfl) rfl
theorem q1823 : (Jvm.Cond.code ({ cls := "java/util/TreeMap", name := "remove", desc := "(Ljava/lang/Object;)Ljava/lang/Object;" } : Jvm.MethodName) prog_86_method_34_code (4 : Nat) (Option.some (Jvm.ClassFile.FieldType.object "java/lang/Object"))) ∈ lw_all := lw_g (lw_at lw_m8 21 rfl) rfl
theorem q1824 : (Jvm.Cond.methodLink "java/util/TreeMap" (174 : Nat) ({ cls := "java/util/TreeMap", name := "deleteEntry", desc := "(Ljava/util/TreeMap$Entry;)V" } : Jvm.MethodName)) ∈ lw_all := lw_g (lw_at lw_m8 22 rfl) rfl
theorem q1825 : (Jvm.Cond.privateMethod ({ cls := "java/util/TreeMap", name := "deleteEntry", desc := "(Ljava/util/TreeMap$Entry;)V" } : Jvm.MethodName)) ∈ lw_tbl := lw_at lw_m8 23 rfl
theorem q1826 : (Jvm.Cond.instanceMethod ({ cls := "java/util/TreeMap", name := "deleteEntry", desc := "(Ljava/util/TreeMap$Entry;)V" } : Jvm.MethodName)) ∈ lw_all := lw_g (lw_at lw_m8 24 rfl) rfl
theorem q1827 : (Jvm.Cond.code ({ cls := "java/util/TreeMap", name := "deleteEntry", desc := "(Ljava/util/TreeMap$Entry;)V" } : Jvm.MethodName) prog_86_method_84_code (3 : Nat) (Option.none : Option Jvm.ClassFile.FieldType)) ∈ lw_all := lw_g (lw_at lw_m8 25 rfl) rfl
theorem q1828 : (Jvm.Cond.methodLink "java/util/TreeMap" (68 : Nat) ({ cls := "java/util/TreeMap", name := "successor", desc := "(Ljava/util/TreeMap$Entry;)Ljava/util/TreeMap$Entry;" } : Jvm.MethodName)) ∈ lw_all := lw_g (lw_at lw_m8 26 rfl) rfl
theorem q1829 : (Jvm.Cond.static ({ cls := "java/util/TreeMap", name := "successor", desc := "(Ljava/util/TreeMap$Entry;)Ljava/util/TreeMap$Entry;" } : Jvm.MethodName)) ∈ lw_all := lw_g (lw_at lw_m8 27 rfl) rfl
theorem q1830 : (Jvm.Cond.code ({ cls := "java/util/TreeMap", name := "successor", desc := "(Ljava/util/TreeMap$Entry;)Ljava/util/TreeMap$Entry;" } : Jvm.MethodName) prog_86_method_74_code (3 : Nat) (Option.some (Jvm.ClassFile.FieldType.object "java/util/TreeMap$Entry"))) ∈ lw_all := lw_g (lw_at lw_m8 28 rfl) rfl
theorem q1831 : (Jvm.Cond.methodLink "java/util/TreeMap" (317 : Nat) ({ cls := "java/util/TreeMap", name := "fixAfterDeletion", desc := "(Ljava/util/TreeMap$Entry;)V" } : Jvm.MethodName)) ∈ lw_all := lw_g (lw_at lw_m8 29 rfl) rfl
theorem q1832 : (Jvm.Cond.privateMethod ({ cls := "java/util/TreeMap", name := "fixAfterDeletion", desc := "(Ljava/util/TreeMap$Entry;)V" } : Jvm.MethodName)) ∈ lw_tbl := lw_at lw_m8 30 rfl
theorem q1833 : (Jvm.Cond.instanceMethod ({ cls := "java/util/TreeMap", name := "fixAfterDeletion", desc := "(Ljava/util/TreeMap$Entry;)V" } : Jvm.MethodName)) ∈ lw_all := lw_g (lw_at lw_m8 31 rfl) rfl
theorem q1834 : (Jvm.Cond.code ({ cls := "java/util/TreeMap", name := "fixAfterDeletion", desc := "(Ljava/util/TreeMap$Entry;)V" } : Jvm.MethodName) prog_86_method_85_code (3 : Nat) (Option.none : Option Jvm.ClassFile.FieldType)) ∈ lw_all := lw_g (lw_at lw_m8 32 rfl) rfl
theorem q2284 : (Jvm.Cond.castable "java/util/TreeMap" "java/util/NavigableMap") ∈ lw_tbl := lw_at lw_m10 2 rfl
theorem q2285 : (Jvm.Cond.selects "java/util/TreeMap" ({ cls := "java/util/Map", name := "size", desc := "()I" } : Jvm.MethodName) ({ cls := "java/util/TreeMap", name := "size", desc := "()I" } : Jvm.MethodName)) ∈ lw_all := lw_g (lw_at lw_m10 3 rfl) rfl
theorem q2286 : (Jvm.Cond.unhidden "java/util/TreeMap" "size" "()I") ∈ lw_tbl := lw_at lw_m10 4 rfl
theorem q2287 : (Jvm.Cond.publicMethod ({ cls := "java/util/TreeMap", name := "size", desc := "()I" } : Jvm.MethodName)) ∈ lw_tbl := lw_at lw_m10 5 rfl
theorem q2548 : (Jvm.Cond.selects "java/util/TreeMap" ({ cls := "java/util/Map", name := "put", desc := "(Ljava/lang/Object;Ljava/lang/Object;)Ljava/lang/Object;" } : Jvm.MethodName) ({ cls := "java/util/TreeMap", name := "put", desc := "(Ljava/lang/Object;Ljava/lang/Object;)Ljava/lang/Object;" } : Jvm.MethodName)) ∈ lw_all := lw_g (lw_at lw_m11 26 rfl) rfl
theorem q2549 : (Jvm.Cond.unhidden "java/util/TreeMap" "put" "(Ljava/lang/Object;Ljava/lang/Object;)Ljava/lang/Object;") ∈ lw_tbl := lw_at lw_m11 27 rfl
theorem q2550 : (Jvm.Cond.publicMethod ({ cls := "java/util/TreeMap", name := "put", desc := "(Ljava/lang/Object;Ljava/lang/Object;)Ljava/lang/Object;" } : Jvm.MethodName)) ∈ lw_tbl := lw_at lw_m11 28 rfl
theorem q2558 : (Jvm.Cond.selects "java/util/TreeMap" ({ cls := "java/util/Map", name := "isEmpty", desc := "()Z" } : Jvm.MethodName) ({ cls := "java/util/AbstractMap", name := "isEmpty", desc := "()Z" } : Jvm.MethodName)) ∈ lw_all := lw_g (lw_at lw_m11 36 rfl) rfl
theorem q2559 : (Jvm.Cond.unhidden "java/util/TreeMap" "isEmpty" "()Z") ∈ lw_tbl := lw_at lw_m11 37 rfl
theorem q2566 : (Jvm.Cond.selects "java/util/TreeMap" ({ cls := "java/util/AbstractMap", name := "size", desc := "()I" } : Jvm.MethodName) ({ cls := "java/util/TreeMap", name := "size", desc := "()I" } : Jvm.MethodName)) ∈ lw_all := lw_g (lw_at lw_m11 44 rfl) rfl
theorem q2576 : (Jvm.Cond.selects "java/util/TreeMap" ({ cls := "java/util/NavigableMap", name := "pollLastEntry", desc := "()Ljava/util/Map$Entry;" } : Jvm.MethodName) ({ cls := "java/util/TreeMap", name := "pollLastEntry", desc := "()Ljava/util/Map$Entry;" } : Jvm.MethodName)) ∈ lw_all := lw_g (lw_at lw_m11 54 rfl) rfl
theorem q2577 : (Jvm.Cond.unhidden "java/util/TreeMap" "pollLastEntry" "()Ljava/util/Map$Entry;") ∈ lw_tbl := lw_at lw_m11 55 rfl
theorem q2578 : (Jvm.Cond.instanceMethod ({ cls := "java/util/TreeMap", name := "pollLastEntry", desc := "()Ljava/util/Map$Entry;" } : Jvm.MethodName)) ∈ lw_all := lw_g (lw_at lw_m11 56 rfl) rfl
theorem q2579 : (Jvm.Cond.publicMethod ({ cls := "java/util/TreeMap", name := "pollLastEntry", desc := "()Ljava/util/Map$Entry;" } : Jvm.MethodName)) ∈ lw_tbl := lw_at lw_m11 57 rfl
theorem q2580 : (Jvm.Cond.code ({ cls := "java/util/TreeMap", name := "pollLastEntry", desc := "()Ljava/util/Map$Entry;" } : Jvm.MethodName) prog_86_method_40_code (3 : Nat) (Option.some (Jvm.ClassFile.FieldType.object "java/util/Map$Entry"))) ∈ lw_all := lw_g (lw_at lw_m11 58 rfl) rfl
theorem q2581 : (Jvm.Cond.methodLink "java/util/TreeMap" (76 : Nat) ({ cls := "java/util/TreeMap", name := "getLastEntry", desc := "()Ljava/util/TreeMap$Entry;" } : Jvm.MethodName)) ∈ lw_all := lw_g (lw_at lw_m11 59 rfl) rfl
theorem q2582 : (Jvm.Cond.instanceMethod ({ cls := "java/util/TreeMap", name := "getLastEntry", desc := "()Ljava/util/TreeMap$Entry;" } : Jvm.MethodName)) ∈ lw_all := lw_g (lw_at lw_m11 60 rfl) rfl
theorem q2583 : (Jvm.Cond.selects "java/util/TreeMap" ({ cls := "java/util/TreeMap", name := "getLastEntry", desc := "()Ljava/util/TreeMap$Entry;" } : Jvm.MethodName) ({ cls := "java/util/TreeMap", name := "getLastEntry", desc := "()Ljava/util/TreeMap$Entry;" } : Jvm.MethodName)) ∈ lw_all := lw_g (lw_at lw_m11 61 rfl) rfl
theorem q2584 : (Jvm.Cond.code ({ cls := "java/util/TreeMap", name := "getLastEntry", desc := "()Ljava/util/TreeMap$Entry;" } : Jvm.MethodName) prog_86_method_73_code (2 : Nat) (Option.some (Jvm.ClassFile.FieldType.object "java/util/TreeMap$Entry"))) ∈ lw_all := lw_g (lw_at lw_m11 62 rfl) rfl
theorem q2585 : (Jvm.Cond.methodLink "java/util/TreeMap" (200 : Nat) ({ cls := "java/util/TreeMap", name := "exportEntry", desc := "(Ljava/util/TreeMap$Entry;)Ljava/util/Map$Entry;" } : Jvm.MethodName)) ∈ lw_all := lw_g (lw_at lw_m11 63 rfl) rfl
theorem q2586 : (Jvm.Cond.static ({ cls := "java/util/TreeMap", name := "exportEntry", desc := "(Ljava/util/TreeMap$Entry;)Ljava/util/Map$Entry;" } : Jvm.MethodName)) ∈ lw_all := lw_g (lw_at lw_m11 64 rfl) rfl
theorem q2587 : (Jvm.Cond.code ({ cls := "java/util/TreeMap", name := "exportEntry", desc := "(Ljava/util/TreeMap$Entry;)Ljava/util/Map$Entry;" } : Jvm.MethodName) prog_86_method_69_code (1 : Nat) (Option.some (Jvm.ClassFile.FieldType.object "java/util/Map$Entry"))) ∈ lw_all := lw_g (lw_at lw_m11 65 rfl) rfl
theorem q2588 : (Jvm.Cond.classLink "java/util/TreeMap" (282 : Nat) "java/util/AbstractMap$SimpleImmutableEntry") ∈ lw_all := lw_g (lw_at lw_m11 66 rfl) rfl
theorem q2590 : (Jvm.Cond.methodLink "java/util/TreeMap" (284 : Nat) ({ cls := "java/util/AbstractMap$SimpleImmutableEntry", name := "<init>", desc := "(Ljava/util/Map$Entry;)V" } : Jvm.MethodName)) ∈ lw_all := lw_g (lw_at lw_m11 68 rfl) rfl
theorem q3673 : (Jvm.Cond.castable "java/util/TreeMap" "java/lang/Object") ∈ lw_tbl := lw_at lw_m15 191 rfl
theorem in_J4 : ∀ w ∈ wsJ40, w ∈ lw_all := lw_in wsJ40 [258, 260, 244, 246, 248, 250, 252, 254, 256] (by decide +kernel) (by decide +kernel)
/-! java/util/ArrayDeque -/
set_option maxRecDepth 100000
def RJ30 : String := "java/util/ArrayDeque"
def TJ30 : u_T := fun k => match k with
  | 0 => ("java/util/ArrayDeque", "elements", "[Ljava/lang/Object;", false)
  | 1 => ("java/util/ArrayDeque", "head", "I", false)
  | _ => ("java/util/ArrayDeque", "tail", "I", false)
def tyJ30 : Nat → FieldType := fun k => match k with
  | 0 => .array (.object "java/lang/Object")
  | 1 => .int
  | _ => .int
abbrev wsJ300 : List Cond := u_ws RJ30 TJ30 3
theorem nmJ30 : ∀ a, a < 3 → ∀ b, b < 3 → a ≠ b → (TJ30 a).2.1 ≠ (TJ30 b).2.1 := by decide +kernel
theorem tyJ30_ok : ∀ k, k < 3 → parseFieldDescriptor (TJ30 k).2.2.1 = some (tyJ30 k) := by decide +kernel
abbrev cJ30_init : ByteArray := prog_53_method_3_code
def yJ30_init : MethodName := ⟨RJ30, "<init>", "()V"⟩
def dkwJ30_init_0 : List UInt8 := [42, 183, 0, 42, 42, 16, 17, 189, 0, 47, 181, 0, 3, 177]
abbrev dktJ30_init_0 : List UInt8 := dkwJ30_init_0 ++ []
theorem dksJ30_init_0 : cJ30_init.data.toList.drop 0 = dktJ30_init_0 := by decide +kernel
theorem dJ30_init_0 : decode cJ30_init 0 = .ok (.aload_n 0, 1) := dk_42 (dk_at dksJ30_init_0 0 rfl rfl)
theorem dJ30_init_1 : decode cJ30_init 1 = .ok (.invokespecial 42, 3) := dk_183 0 42 (dk_at dksJ30_init_0 1 rfl rfl)
theorem dJ30_init_4 : decode cJ30_init 4 = .ok (.aload_n 0, 1) := dk_42 (dk_at dksJ30_init_0 4 rfl rfl)
theorem dJ30_init_5 : decode cJ30_init 5 = .ok (.bipush 17, 2) := dk_16 17 (dk_at dksJ30_init_0 5 rfl rfl)
theorem dJ30_init_7 : decode cJ30_init 7 = .ok (.anewarray 47, 3) := dk_189 0 47 (dk_at dksJ30_init_0 7 rfl rfl)
theorem dJ30_init_10 : decode cJ30_init 10 = .ok (.putfield 3, 3) := dk_181 0 3 (dk_at dksJ30_init_0 10 rfl rfl)
theorem dJ30_init_13 : decode cJ30_init 13 = .ok (.return_, 1) := dk_177 (dk_at dksJ30_init_0 13 rfl rfl)
abbrev cJ30_addLast : ByteArray := prog_53_method_13_code
def yJ30_addLast : MethodName := ⟨RJ30, "addLast", "(Ljava/lang/Object;)V"⟩
def dkwJ30_addLast_2 : List UInt8 := [182, 0, 71, 177]
abbrev dktJ30_addLast_2 : List UInt8 := dkwJ30_addLast_2 ++ []
def dkwJ30_addLast_1 : List UInt8 := [42, 180, 0, 24, 42, 42, 180, 0, 20, 44, 190, 184, 0, 74, 90, 181, 0, 20, 160, 0, 8, 42, 4]
abbrev dktJ30_addLast_1 : List UInt8 := dkwJ30_addLast_1 ++ dktJ30_addLast_2
def dkwJ30_addLast_0 : List UInt8 := [43, 199, 0, 11, 187, 0, 65, 89, 183, 0, 67, 191, 42, 180, 0, 3, 77, 44, 42, 180, 0, 20, 43, 83]
abbrev dktJ30_addLast_0 : List UInt8 := dkwJ30_addLast_0 ++ dktJ30_addLast_1
theorem dksJ30_addLast_0 : cJ30_addLast.data.toList.drop 0 = dktJ30_addLast_0 := by decide +kernel
theorem dksJ30_addLast_1 : cJ30_addLast.data.toList.drop 24 = dktJ30_addLast_1 := dk_seg dksJ30_addLast_0 24 rfl rfl
theorem dksJ30_addLast_2 : cJ30_addLast.data.toList.drop 47 = dktJ30_addLast_2 := dk_seg dksJ30_addLast_1 23 rfl rfl
theorem dJ30_addLast_0 : decode cJ30_addLast 0 = .ok (.aload_n 1, 1) := dk_43 (dk_at dksJ30_addLast_0 0 rfl rfl)
theorem dJ30_addLast_1 : decode cJ30_addLast 1 = .ok (.ifnonnull 11, 3) := dk_199 0 11 (dk_at dksJ30_addLast_0 1 rfl rfl)
theorem dJ30_addLast_4 : decode cJ30_addLast 4 = .ok (.new 65, 3) := dk_187 0 65 (dk_at dksJ30_addLast_0 4 rfl rfl)
theorem dJ30_addLast_7 : decode cJ30_addLast 7 = .ok (.dup, 1) := dk_89 (dk_at dksJ30_addLast_0 7 rfl rfl)
theorem dJ30_addLast_8 : decode cJ30_addLast 8 = .ok (.invokespecial 67, 3) := dk_183 0 67 (dk_at dksJ30_addLast_0 8 rfl rfl)
theorem dJ30_addLast_11 : decode cJ30_addLast 11 = .ok (.athrow, 1) := dk_191 (dk_at dksJ30_addLast_0 11 rfl rfl)
theorem dJ30_addLast_12 : decode cJ30_addLast 12 = .ok (.aload_n 0, 1) := dk_42 (dk_at dksJ30_addLast_0 12 rfl rfl)
theorem dJ30_addLast_13 : decode cJ30_addLast 13 = .ok (.getfield 3, 3) := dk_180 0 3 (dk_at dksJ30_addLast_0 13 rfl rfl)
theorem dJ30_addLast_16 : decode cJ30_addLast 16 = .ok (.astore_n 2, 1) := dk_77 (dk_at dksJ30_addLast_0 16 rfl rfl)
theorem dJ30_addLast_17 : decode cJ30_addLast 17 = .ok (.aload_n 2, 1) := dk_44 (dk_at dksJ30_addLast_0 17 rfl rfl)
theorem dJ30_addLast_18 : decode cJ30_addLast 18 = .ok (.aload_n 0, 1) := dk_42 (dk_at dksJ30_addLast_0 18 rfl rfl)
theorem dJ30_addLast_19 : decode cJ30_addLast 19 = .ok (.getfield 20, 3) := dk_180 0 20 (dk_at dksJ30_addLast_0 19 rfl rfl)
theorem dJ30_addLast_22 : decode cJ30_addLast 22 = .ok (.aload_n 1, 1) := dk_43 (dk_at dksJ30_addLast_0 22 rfl rfl)
theorem dJ30_addLast_23 : decode cJ30_addLast 23 = .ok (.aastore, 1) := dk_83 (dk_at dksJ30_addLast_0 23 rfl rfl)
theorem dJ30_addLast_24 : decode cJ30_addLast 24 = .ok (.aload_n 0, 1) := dk_42 (dk_at dksJ30_addLast_1 0 rfl rfl)
theorem dJ30_addLast_25 : decode cJ30_addLast 25 = .ok (.getfield 24, 3) := dk_180 0 24 (dk_at dksJ30_addLast_1 1 rfl rfl)
theorem dJ30_addLast_28 : decode cJ30_addLast 28 = .ok (.aload_n 0, 1) := dk_42 (dk_at dksJ30_addLast_1 4 rfl rfl)
theorem dJ30_addLast_29 : decode cJ30_addLast 29 = .ok (.aload_n 0, 1) := dk_42 (dk_at dksJ30_addLast_1 5 rfl rfl)
theorem dJ30_addLast_30 : decode cJ30_addLast 30 = .ok (.getfield 20, 3) := dk_180 0 20 (dk_at dksJ30_addLast_1 6 rfl rfl)
theorem dJ30_addLast_33 : decode cJ30_addLast 33 = .ok (.aload_n 2, 1) := dk_44 (dk_at dksJ30_addLast_1 9 rfl rfl)
theorem dJ30_addLast_34 : decode cJ30_addLast 34 = .ok (.arraylength, 1) := dk_190 (dk_at dksJ30_addLast_1 10 rfl rfl)
theorem dJ30_addLast_35 : decode cJ30_addLast 35 = .ok (.invokestatic 74, 3) := dk_184 0 74 (dk_at dksJ30_addLast_1 11 rfl rfl)
theorem dJ30_addLast_38 : decode cJ30_addLast 38 = .ok (.dup_x1, 1) := dk_90 (dk_at dksJ30_addLast_1 14 rfl rfl)
theorem dJ30_addLast_39 : decode cJ30_addLast 39 = .ok (.putfield 20, 3) := dk_181 0 20 (dk_at dksJ30_addLast_1 15 rfl rfl)
theorem dJ30_addLast_42 : decode cJ30_addLast 42 = .ok (.if_icmp .ne 8, 3) := dk_160 0 8 (dk_at dksJ30_addLast_1 18 rfl rfl)
theorem dJ30_addLast_45 : decode cJ30_addLast 45 = .ok (.aload_n 0, 1) := dk_42 (dk_at dksJ30_addLast_1 21 rfl rfl)
theorem dJ30_addLast_46 : decode cJ30_addLast 46 = .ok (.iconst 1, 1) := dk_4 (dk_at dksJ30_addLast_1 22 rfl rfl)
theorem dJ30_addLast_47 : decode cJ30_addLast 47 = .ok (.invokevirtual 71, 3) := dk_182 0 71 (dk_at dksJ30_addLast_2 0 rfl rfl)
theorem dJ30_addLast_50 : decode cJ30_addLast 50 = .ok (.return_, 1) := dk_177 (dk_at dksJ30_addLast_2 3 rfl rfl)
abbrev cJ30_inc : ByteArray := prog_53_method_6_code
def yJ30_inc : MethodName := ⟨RJ30, "inc", "(II)I"⟩
def dkwJ30_inc_0 : List UInt8 := [132, 0, 1, 26, 27, 161, 0, 5, 3, 59, 26, 172]
abbrev dktJ30_inc_0 : List UInt8 := dkwJ30_inc_0 ++ []
theorem dksJ30_inc_0 : cJ30_inc.data.toList.drop 0 = dktJ30_inc_0 := by decide +kernel
theorem dJ30_inc_0 : decode cJ30_inc 0 = .ok (.iinc 0 1, 3) := dk_132 0 1 (dk_at dksJ30_inc_0 0 rfl rfl)
theorem dJ30_inc_3 : decode cJ30_inc 3 = .ok (.iload_n 0, 1) := dk_26 (dk_at dksJ30_inc_0 3 rfl rfl)
theorem dJ30_inc_4 : decode cJ30_inc 4 = .ok (.iload_n 1, 1) := dk_27 (dk_at dksJ30_inc_0 4 rfl rfl)
theorem dJ30_inc_5 : decode cJ30_inc 5 = .ok (.if_icmp .lt 5, 3) := dk_161 0 5 (dk_at dksJ30_inc_0 5 rfl rfl)
theorem dJ30_inc_8 : decode cJ30_inc 8 = .ok (.iconst 0, 1) := dk_3 (dk_at dksJ30_inc_0 8 rfl rfl)
theorem dJ30_inc_9 : decode cJ30_inc 9 = .ok (.istore_n 0, 1) := dk_59 (dk_at dksJ30_inc_0 9 rfl rfl)
theorem dJ30_inc_10 : decode cJ30_inc 10 = .ok (.iload_n 0, 1) := dk_26 (dk_at dksJ30_inc_0 10 rfl rfl)
theorem dJ30_inc_11 : decode cJ30_inc 11 = .ok (.ireturn, 1) := dk_172 (dk_at dksJ30_inc_0 11 rfl rfl)
abbrev cJ30_grow : ByteArray := prog_53_method_1_code
def yJ30_grow : MethodName := ⟨RJ30, "grow", "(I)V"⟩
def dkwJ30_grow_7 : List UInt8 := [177]
abbrev dktJ30_grow_7 : List UInt8 := dkwJ30_grow_7 ++ []
def dkwJ30_grow_6 : List UInt8 := [181, 0, 24, 54, 8, 21, 7, 21, 8, 162, 0, 15, 25, 5, 21, 7, 1, 83, 132, 7, 1, 167, 255, 240]
abbrev dktJ30_grow_6 : List UInt8 := dkwJ30_grow_6 ++ dktJ30_grow_7
def dkwJ30_grow_5 : List UInt8 := [42, 180, 0, 24, 100, 184, 0, 27, 42, 180, 0, 24, 54, 7, 42, 89, 180, 0, 24, 21, 6, 96, 90]
abbrev dktJ30_grow_5 : List UInt8 := dkwJ30_grow_5 ++ dktJ30_grow_6
def dkwJ30_grow_4 : List UInt8 := [198, 0, 71, 29, 28, 100, 54, 6, 25, 5, 42, 180, 0, 24, 25, 5, 42, 180, 0, 24, 21, 6, 96, 28]
abbrev dktJ30_grow_4 : List UInt8 := dkwJ30_grow_4 ++ dktJ30_grow_5
def dkwJ30_grow_3 : List UInt8 := [180, 0, 24, 161, 0, 24, 42, 180, 0, 20, 42, 180, 0, 24, 160, 0, 81, 25, 5, 42, 180, 0, 24, 50]
abbrev dktJ30_grow_3 : List UInt8 := dkwJ30_grow_3 ++ dktJ30_grow_4
def dkwJ30_grow_2 : List UInt8 := [182, 0, 10, 62, 42, 42, 180, 0, 3, 29, 184, 0, 14, 90, 181, 0, 3, 58, 5, 42, 180, 0, 20, 42]
abbrev dktJ30_grow_2 : List UInt8 := dkwJ30_grow_2 ++ dktJ30_grow_3
def dkwJ30_grow_1 : List UInt8 := [21, 4, 27, 161, 0, 15, 28, 21, 4, 96, 89, 62, 18, 9, 100, 158, 0, 11, 42, 27, 21, 4]
abbrev dktJ30_grow_1 : List UInt8 := dkwJ30_grow_1 ++ dktJ30_grow_2
def dkwJ30_grow_0 : List UInt8 := [42, 180, 0, 3, 190, 61, 28, 16, 64, 162, 0, 9, 28, 5, 96, 167, 0, 6, 28, 4, 122, 54, 4]
abbrev dktJ30_grow_0 : List UInt8 := dkwJ30_grow_0 ++ dktJ30_grow_1
theorem dksJ30_grow_0 : cJ30_grow.data.toList.drop 0 = dktJ30_grow_0 := by decide +kernel
theorem dksJ30_grow_1 : cJ30_grow.data.toList.drop 23 = dktJ30_grow_1 := dk_seg dksJ30_grow_0 23 rfl rfl
theorem dksJ30_grow_2 : cJ30_grow.data.toList.drop 45 = dktJ30_grow_2 := dk_seg dksJ30_grow_1 22 rfl rfl
theorem dksJ30_grow_3 : cJ30_grow.data.toList.drop 69 = dktJ30_grow_3 := dk_seg dksJ30_grow_2 24 rfl rfl
theorem dksJ30_grow_4 : cJ30_grow.data.toList.drop 93 = dktJ30_grow_4 := dk_seg dksJ30_grow_3 24 rfl rfl
theorem dksJ30_grow_5 : cJ30_grow.data.toList.drop 117 = dktJ30_grow_5 := dk_seg dksJ30_grow_4 24 rfl rfl
theorem dksJ30_grow_6 : cJ30_grow.data.toList.drop 140 = dktJ30_grow_6 := dk_seg dksJ30_grow_5 23 rfl rfl
theorem dksJ30_grow_7 : cJ30_grow.data.toList.drop 164 = dktJ30_grow_7 := dk_seg dksJ30_grow_6 24 rfl rfl
theorem dJ30_grow_0 : decode cJ30_grow 0 = .ok (.aload_n 0, 1) := dk_42 (dk_at dksJ30_grow_0 0 rfl rfl)
theorem dJ30_grow_1 : decode cJ30_grow 1 = .ok (.getfield 3, 3) := dk_180 0 3 (dk_at dksJ30_grow_0 1 rfl rfl)
theorem dJ30_grow_4 : decode cJ30_grow 4 = .ok (.arraylength, 1) := dk_190 (dk_at dksJ30_grow_0 4 rfl rfl)
theorem dJ30_grow_5 : decode cJ30_grow 5 = .ok (.istore_n 2, 1) := dk_61 (dk_at dksJ30_grow_0 5 rfl rfl)
theorem dJ30_grow_6 : decode cJ30_grow 6 = .ok (.iload_n 2, 1) := dk_28 (dk_at dksJ30_grow_0 6 rfl rfl)
theorem dJ30_grow_7 : decode cJ30_grow 7 = .ok (.bipush 64, 2) := dk_16 64 (dk_at dksJ30_grow_0 7 rfl rfl)
theorem dJ30_grow_9 : decode cJ30_grow 9 = .ok (.if_icmp .ge 9, 3) := dk_162 0 9 (dk_at dksJ30_grow_0 9 rfl rfl)
theorem dJ30_grow_12 : decode cJ30_grow 12 = .ok (.iload_n 2, 1) := dk_28 (dk_at dksJ30_grow_0 12 rfl rfl)
theorem dJ30_grow_13 : decode cJ30_grow 13 = .ok (.iconst 2, 1) := dk_5 (dk_at dksJ30_grow_0 13 rfl rfl)
theorem dJ30_grow_14 : decode cJ30_grow 14 = .ok (.iadd, 1) := dk_96 (dk_at dksJ30_grow_0 14 rfl rfl)
theorem dJ30_grow_15 : decode cJ30_grow 15 = .ok (.goto 6, 3) := dk_167 0 6 (dk_at dksJ30_grow_0 15 rfl rfl)
theorem dJ30_grow_18 : decode cJ30_grow 18 = .ok (.iload_n 2, 1) := dk_28 (dk_at dksJ30_grow_0 18 rfl rfl)
theorem dJ30_grow_19 : decode cJ30_grow 19 = .ok (.iconst 1, 1) := dk_4 (dk_at dksJ30_grow_0 19 rfl rfl)
theorem dJ30_grow_20 : decode cJ30_grow 20 = .ok (.ishr, 1) := dk_122 (dk_at dksJ30_grow_0 20 rfl rfl)
theorem dJ30_grow_21 : decode cJ30_grow 21 = .ok (.istore 4, 2) := dk_54 4 (dk_at dksJ30_grow_0 21 rfl rfl)
theorem dJ30_grow_23 : decode cJ30_grow 23 = .ok (.iload 4, 2) := dk_21 4 (dk_at dksJ30_grow_1 0 rfl rfl)
theorem dJ30_grow_25 : decode cJ30_grow 25 = .ok (.iload_n 1, 1) := dk_27 (dk_at dksJ30_grow_1 2 rfl rfl)
theorem dJ30_grow_26 : decode cJ30_grow 26 = .ok (.if_icmp .lt 15, 3) := dk_161 0 15 (dk_at dksJ30_grow_1 3 rfl rfl)
theorem dJ30_grow_29 : decode cJ30_grow 29 = .ok (.iload_n 2, 1) := dk_28 (dk_at dksJ30_grow_1 6 rfl rfl)
theorem dJ30_grow_30 : decode cJ30_grow 30 = .ok (.iload 4, 2) := dk_21 4 (dk_at dksJ30_grow_1 7 rfl rfl)
theorem dJ30_grow_32 : decode cJ30_grow 32 = .ok (.iadd, 1) := dk_96 (dk_at dksJ30_grow_1 9 rfl rfl)
theorem dJ30_grow_33 : decode cJ30_grow 33 = .ok (.dup, 1) := dk_89 (dk_at dksJ30_grow_1 10 rfl rfl)
theorem dJ30_grow_34 : decode cJ30_grow 34 = .ok (.istore_n 3, 1) := dk_62 (dk_at dksJ30_grow_1 11 rfl rfl)
theorem dJ30_grow_35 : decode cJ30_grow 35 = .ok (.ldc 9, 2) := dk_18 9 (dk_at dksJ30_grow_1 12 rfl rfl)
theorem dJ30_grow_37 : decode cJ30_grow 37 = .ok (.isub, 1) := dk_100 (dk_at dksJ30_grow_1 14 rfl rfl)
theorem dJ30_grow_38 : decode cJ30_grow 38 = .ok (.ifCond .le 11, 3) := dk_158 0 11 (dk_at dksJ30_grow_1 15 rfl rfl)
theorem dJ30_grow_41 : decode cJ30_grow 41 = .ok (.aload_n 0, 1) := dk_42 (dk_at dksJ30_grow_1 18 rfl rfl)
theorem dJ30_grow_42 : decode cJ30_grow 42 = .ok (.iload_n 1, 1) := dk_27 (dk_at dksJ30_grow_1 19 rfl rfl)
theorem dJ30_grow_43 : decode cJ30_grow 43 = .ok (.iload 4, 2) := dk_21 4 (dk_at dksJ30_grow_1 20 rfl rfl)
theorem dJ30_grow_45 : decode cJ30_grow 45 = .ok (.invokevirtual 10, 3) := dk_182 0 10 (dk_at dksJ30_grow_2 0 rfl rfl)
theorem dJ30_grow_48 : decode cJ30_grow 48 = .ok (.istore_n 3, 1) := dk_62 (dk_at dksJ30_grow_2 3 rfl rfl)
theorem dJ30_grow_49 : decode cJ30_grow 49 = .ok (.aload_n 0, 1) := dk_42 (dk_at dksJ30_grow_2 4 rfl rfl)
theorem dJ30_grow_50 : decode cJ30_grow 50 = .ok (.aload_n 0, 1) := dk_42 (dk_at dksJ30_grow_2 5 rfl rfl)
theorem dJ30_grow_51 : decode cJ30_grow 51 = .ok (.getfield 3, 3) := dk_180 0 3 (dk_at dksJ30_grow_2 6 rfl rfl)
theorem dJ30_grow_54 : decode cJ30_grow 54 = .ok (.iload_n 3, 1) := dk_29 (dk_at dksJ30_grow_2 9 rfl rfl)
theorem dJ30_grow_55 : decode cJ30_grow 55 = .ok (.invokestatic 14, 3) := dk_184 0 14 (dk_at dksJ30_grow_2 10 rfl rfl)
theorem dJ30_grow_58 : decode cJ30_grow 58 = .ok (.dup_x1, 1) := dk_90 (dk_at dksJ30_grow_2 13 rfl rfl)
theorem dJ30_grow_59 : decode cJ30_grow 59 = .ok (.putfield 3, 3) := dk_181 0 3 (dk_at dksJ30_grow_2 14 rfl rfl)
theorem dJ30_grow_62 : decode cJ30_grow 62 = .ok (.astore 5, 2) := dk_58 5 (dk_at dksJ30_grow_2 17 rfl rfl)
theorem dJ30_grow_64 : decode cJ30_grow 64 = .ok (.aload_n 0, 1) := dk_42 (dk_at dksJ30_grow_2 19 rfl rfl)
theorem dJ30_grow_65 : decode cJ30_grow 65 = .ok (.getfield 20, 3) := dk_180 0 20 (dk_at dksJ30_grow_2 20 rfl rfl)
theorem dJ30_grow_68 : decode cJ30_grow 68 = .ok (.aload_n 0, 1) := dk_42 (dk_at dksJ30_grow_2 23 rfl rfl)
theorem dJ30_grow_69 : decode cJ30_grow 69 = .ok (.getfield 24, 3) := dk_180 0 24 (dk_at dksJ30_grow_3 0 rfl rfl)
theorem dJ30_grow_72 : decode cJ30_grow 72 = .ok (.if_icmp .lt 24, 3) := dk_161 0 24 (dk_at dksJ30_grow_3 3 rfl rfl)
theorem dJ30_grow_75 : decode cJ30_grow 75 = .ok (.aload_n 0, 1) := dk_42 (dk_at dksJ30_grow_3 6 rfl rfl)
theorem dJ30_grow_76 : decode cJ30_grow 76 = .ok (.getfield 20, 3) := dk_180 0 20 (dk_at dksJ30_grow_3 7 rfl rfl)
theorem dJ30_grow_79 : decode cJ30_grow 79 = .ok (.aload_n 0, 1) := dk_42 (dk_at dksJ30_grow_3 10 rfl rfl)
theorem dJ30_grow_80 : decode cJ30_grow 80 = .ok (.getfield 24, 3) := dk_180 0 24 (dk_at dksJ30_grow_3 11 rfl rfl)
theorem dJ30_grow_83 : decode cJ30_grow 83 = .ok (.if_icmp .ne 81, 3) := dk_160 0 81 (dk_at dksJ30_grow_3 14 rfl rfl)
theorem dJ30_grow_86 : decode cJ30_grow 86 = .ok (.aload 5, 2) := dk_25 5 (dk_at dksJ30_grow_3 17 rfl rfl)
theorem dJ30_grow_88 : decode cJ30_grow 88 = .ok (.aload_n 0, 1) := dk_42 (dk_at dksJ30_grow_3 19 rfl rfl)
theorem dJ30_grow_89 : decode cJ30_grow 89 = .ok (.getfield 24, 3) := dk_180 0 24 (dk_at dksJ30_grow_3 20 rfl rfl)
theorem dJ30_grow_92 : decode cJ30_grow 92 = .ok (.aaload, 1) := dk_50 (dk_at dksJ30_grow_3 23 rfl rfl)
theorem dJ30_grow_93 : decode cJ30_grow 93 = .ok (.ifnull 71, 3) := dk_198 0 71 (dk_at dksJ30_grow_4 0 rfl rfl)
theorem dJ30_grow_96 : decode cJ30_grow 96 = .ok (.iload_n 3, 1) := dk_29 (dk_at dksJ30_grow_4 3 rfl rfl)
theorem dJ30_grow_97 : decode cJ30_grow 97 = .ok (.iload_n 2, 1) := dk_28 (dk_at dksJ30_grow_4 4 rfl rfl)
theorem dJ30_grow_98 : decode cJ30_grow 98 = .ok (.isub, 1) := dk_100 (dk_at dksJ30_grow_4 5 rfl rfl)
theorem dJ30_grow_99 : decode cJ30_grow 99 = .ok (.istore 6, 2) := dk_54 6 (dk_at dksJ30_grow_4 6 rfl rfl)
theorem dJ30_grow_101 : decode cJ30_grow 101 = .ok (.aload 5, 2) := dk_25 5 (dk_at dksJ30_grow_4 8 rfl rfl)
theorem dJ30_grow_103 : decode cJ30_grow 103 = .ok (.aload_n 0, 1) := dk_42 (dk_at dksJ30_grow_4 10 rfl rfl)
theorem dJ30_grow_104 : decode cJ30_grow 104 = .ok (.getfield 24, 3) := dk_180 0 24 (dk_at dksJ30_grow_4 11 rfl rfl)
theorem dJ30_grow_107 : decode cJ30_grow 107 = .ok (.aload 5, 2) := dk_25 5 (dk_at dksJ30_grow_4 14 rfl rfl)
theorem dJ30_grow_109 : decode cJ30_grow 109 = .ok (.aload_n 0, 1) := dk_42 (dk_at dksJ30_grow_4 16 rfl rfl)
theorem dJ30_grow_110 : decode cJ30_grow 110 = .ok (.getfield 24, 3) := dk_180 0 24 (dk_at dksJ30_grow_4 17 rfl rfl)
theorem dJ30_grow_113 : decode cJ30_grow 113 = .ok (.iload 6, 2) := dk_21 6 (dk_at dksJ30_grow_4 20 rfl rfl)
theorem dJ30_grow_115 : decode cJ30_grow 115 = .ok (.iadd, 1) := dk_96 (dk_at dksJ30_grow_4 22 rfl rfl)
theorem dJ30_grow_116 : decode cJ30_grow 116 = .ok (.iload_n 2, 1) := dk_28 (dk_at dksJ30_grow_4 23 rfl rfl)
theorem dJ30_grow_117 : decode cJ30_grow 117 = .ok (.aload_n 0, 1) := dk_42 (dk_at dksJ30_grow_5 0 rfl rfl)
theorem dJ30_grow_118 : decode cJ30_grow 118 = .ok (.getfield 24, 3) := dk_180 0 24 (dk_at dksJ30_grow_5 1 rfl rfl)
theorem dJ30_grow_121 : decode cJ30_grow 121 = .ok (.isub, 1) := dk_100 (dk_at dksJ30_grow_5 4 rfl rfl)
theorem dJ30_grow_122 : decode cJ30_grow 122 = .ok (.invokestatic 27, 3) := dk_184 0 27 (dk_at dksJ30_grow_5 5 rfl rfl)
theorem dJ30_grow_125 : decode cJ30_grow 125 = .ok (.aload_n 0, 1) := dk_42 (dk_at dksJ30_grow_5 8 rfl rfl)
theorem dJ30_grow_126 : decode cJ30_grow 126 = .ok (.getfield 24, 3) := dk_180 0 24 (dk_at dksJ30_grow_5 9 rfl rfl)
theorem dJ30_grow_129 : decode cJ30_grow 129 = .ok (.istore 7, 2) := dk_54 7 (dk_at dksJ30_grow_5 12 rfl rfl)
theorem dJ30_grow_131 : decode cJ30_grow 131 = .ok (.aload_n 0, 1) := dk_42 (dk_at dksJ30_grow_5 14 rfl rfl)
theorem dJ30_grow_132 : decode cJ30_grow 132 = .ok (.dup, 1) := dk_89 (dk_at dksJ30_grow_5 15 rfl rfl)
theorem dJ30_grow_133 : decode cJ30_grow 133 = .ok (.getfield 24, 3) := dk_180 0 24 (dk_at dksJ30_grow_5 16 rfl rfl)
theorem dJ30_grow_136 : decode cJ30_grow 136 = .ok (.iload 6, 2) := dk_21 6 (dk_at dksJ30_grow_5 19 rfl rfl)
theorem dJ30_grow_138 : decode cJ30_grow 138 = .ok (.iadd, 1) := dk_96 (dk_at dksJ30_grow_5 21 rfl rfl)
theorem dJ30_grow_139 : decode cJ30_grow 139 = .ok (.dup_x1, 1) := dk_90 (dk_at dksJ30_grow_5 22 rfl rfl)
theorem dJ30_grow_140 : decode cJ30_grow 140 = .ok (.putfield 24, 3) := dk_181 0 24 (dk_at dksJ30_grow_6 0 rfl rfl)
theorem dJ30_grow_143 : decode cJ30_grow 143 = .ok (.istore 8, 2) := dk_54 8 (dk_at dksJ30_grow_6 3 rfl rfl)
theorem dJ30_grow_145 : decode cJ30_grow 145 = .ok (.iload 7, 2) := dk_21 7 (dk_at dksJ30_grow_6 5 rfl rfl)
theorem dJ30_grow_147 : decode cJ30_grow 147 = .ok (.iload 8, 2) := dk_21 8 (dk_at dksJ30_grow_6 7 rfl rfl)
theorem dJ30_grow_149 : decode cJ30_grow 149 = .ok (.if_icmp .ge 15, 3) := dk_162 0 15 (dk_at dksJ30_grow_6 9 rfl rfl)
theorem dJ30_grow_152 : decode cJ30_grow 152 = .ok (.aload 5, 2) := dk_25 5 (dk_at dksJ30_grow_6 12 rfl rfl)
theorem dJ30_grow_154 : decode cJ30_grow 154 = .ok (.iload 7, 2) := dk_21 7 (dk_at dksJ30_grow_6 14 rfl rfl)
theorem dJ30_grow_156 : decode cJ30_grow 156 = .ok (.aconst_null, 1) := dk_1 (dk_at dksJ30_grow_6 16 rfl rfl)
theorem dJ30_grow_157 : decode cJ30_grow 157 = .ok (.aastore, 1) := dk_83 (dk_at dksJ30_grow_6 17 rfl rfl)
theorem dJ30_grow_158 : decode cJ30_grow 158 = .ok (.iinc 7 1, 3) := dk_132 7 1 (dk_at dksJ30_grow_6 18 rfl rfl)
theorem dJ30_grow_161 : decode cJ30_grow 161 = .ok (.goto (-16), 3) := dk_167 255 240 (dk_at dksJ30_grow_6 21 rfl rfl)
theorem dJ30_grow_164 : decode cJ30_grow 164 = .ok (.return_, 1) := dk_177 (dk_at dksJ30_grow_7 0 rfl rfl)
abbrev cJ30_newCapacity : ByteArray := prog_53_method_2_code
def yJ30_newCapacity : MethodName := ⟨RJ30, "newCapacity", "(II)I"⟩
def dkwJ30_newCapacity_2 : List UInt8 := [18, 9, 100, 156, 0, 9, 29, 28, 96, 167, 0, 5, 18, 9, 172]
abbrev dktJ30_newCapacity_2 : List UInt8 := dkwJ30_newCapacity_2 ++ []
def dkwJ30_newCapacity_1 : List UInt8 := [187, 0, 33, 89, 18, 35, 183, 0, 37, 191, 18, 41, 172, 27, 28, 164, 0, 6, 21, 4, 172, 29, 28, 96]
abbrev dktJ30_newCapacity_1 : List UInt8 := dkwJ30_newCapacity_1 ++ dktJ30_newCapacity_2
def dkwJ30_newCapacity_0 : List UInt8 := [42, 180, 0, 3, 190, 62, 29, 27, 96, 89, 54, 4, 18, 9, 100, 158, 0, 21, 21, 4, 156, 0, 13]
abbrev dktJ30_newCapacity_0 : List UInt8 := dkwJ30_newCapacity_0 ++ dktJ30_newCapacity_1
theorem dksJ30_newCapacity_0 : cJ30_newCapacity.data.toList.drop 0 = dktJ30_newCapacity_0 := by decide +kernel
theorem dksJ30_newCapacity_1 : cJ30_newCapacity.data.toList.drop 23 = dktJ30_newCapacity_1 := dk_seg dksJ30_newCapacity_0 23 rfl rfl
theorem dksJ30_newCapacity_2 : cJ30_newCapacity.data.toList.drop 47 = dktJ30_newCapacity_2 := dk_seg dksJ30_newCapacity_1 24 rfl rfl
theorem dJ30_newCapacity_0 : decode cJ30_newCapacity 0 = .ok (.aload_n 0, 1) := dk_42 (dk_at dksJ30_newCapacity_0 0 rfl rfl)
theorem dJ30_newCapacity_1 : decode cJ30_newCapacity 1 = .ok (.getfield 3, 3) := dk_180 0 3 (dk_at dksJ30_newCapacity_0 1 rfl rfl)
theorem dJ30_newCapacity_4 : decode cJ30_newCapacity 4 = .ok (.arraylength, 1) := dk_190 (dk_at dksJ30_newCapacity_0 4 rfl rfl)
theorem dJ30_newCapacity_5 : decode cJ30_newCapacity 5 = .ok (.istore_n 3, 1) := dk_62 (dk_at dksJ30_newCapacity_0 5 rfl rfl)
theorem dJ30_newCapacity_6 : decode cJ30_newCapacity 6 = .ok (.iload_n 3, 1) := dk_29 (dk_at dksJ30_newCapacity_0 6 rfl rfl)
theorem dJ30_newCapacity_7 : decode cJ30_newCapacity 7 = .ok (.iload_n 1, 1) := dk_27 (dk_at dksJ30_newCapacity_0 7 rfl rfl)
theorem dJ30_newCapacity_8 : decode cJ30_newCapacity 8 = .ok (.iadd, 1) := dk_96 (dk_at dksJ30_newCapacity_0 8 rfl rfl)
theorem dJ30_newCapacity_9 : decode cJ30_newCapacity 9 = .ok (.dup, 1) := dk_89 (dk_at dksJ30_newCapacity_0 9 rfl rfl)
theorem dJ30_newCapacity_10 : decode cJ30_newCapacity 10 = .ok (.istore 4, 2) := dk_54 4 (dk_at dksJ30_newCapacity_0 10 rfl rfl)
theorem dJ30_newCapacity_12 : decode cJ30_newCapacity 12 = .ok (.ldc 9, 2) := dk_18 9 (dk_at dksJ30_newCapacity_0 12 rfl rfl)
theorem dJ30_newCapacity_14 : decode cJ30_newCapacity 14 = .ok (.isub, 1) := dk_100 (dk_at dksJ30_newCapacity_0 14 rfl rfl)
theorem dJ30_newCapacity_15 : decode cJ30_newCapacity 15 = .ok (.ifCond .le 21, 3) := dk_158 0 21 (dk_at dksJ30_newCapacity_0 15 rfl rfl)
theorem dJ30_newCapacity_18 : decode cJ30_newCapacity 18 = .ok (.iload 4, 2) := dk_21 4 (dk_at dksJ30_newCapacity_0 18 rfl rfl)
theorem dJ30_newCapacity_20 : decode cJ30_newCapacity 20 = .ok (.ifCond .ge 13, 3) := dk_156 0 13 (dk_at dksJ30_newCapacity_0 20 rfl rfl)
theorem dJ30_newCapacity_23 : decode cJ30_newCapacity 23 = .ok (.new 33, 3) := dk_187 0 33 (dk_at dksJ30_newCapacity_1 0 rfl rfl)
theorem dJ30_newCapacity_26 : decode cJ30_newCapacity 26 = .ok (.dup, 1) := dk_89 (dk_at dksJ30_newCapacity_1 3 rfl rfl)
theorem dJ30_newCapacity_27 : decode cJ30_newCapacity 27 = .ok (.ldc 35, 2) := dk_18 35 (dk_at dksJ30_newCapacity_1 4 rfl rfl)
theorem dJ30_newCapacity_29 : decode cJ30_newCapacity 29 = .ok (.invokespecial 37, 3) := dk_183 0 37 (dk_at dksJ30_newCapacity_1 6 rfl rfl)
theorem dJ30_newCapacity_32 : decode cJ30_newCapacity 32 = .ok (.athrow, 1) := dk_191 (dk_at dksJ30_newCapacity_1 9 rfl rfl)
theorem dJ30_newCapacity_33 : decode cJ30_newCapacity 33 = .ok (.ldc 41, 2) := dk_18 41 (dk_at dksJ30_newCapacity_1 10 rfl rfl)
theorem dJ30_newCapacity_35 : decode cJ30_newCapacity 35 = .ok (.ireturn, 1) := dk_172 (dk_at dksJ30_newCapacity_1 12 rfl rfl)
theorem dJ30_newCapacity_36 : decode cJ30_newCapacity 36 = .ok (.iload_n 1, 1) := dk_27 (dk_at dksJ30_newCapacity_1 13 rfl rfl)
theorem dJ30_newCapacity_37 : decode cJ30_newCapacity 37 = .ok (.iload_n 2, 1) := dk_28 (dk_at dksJ30_newCapacity_1 14 rfl rfl)
theorem dJ30_newCapacity_38 : decode cJ30_newCapacity 38 = .ok (.if_icmp .le 6, 3) := dk_164 0 6 (dk_at dksJ30_newCapacity_1 15 rfl rfl)
theorem dJ30_newCapacity_41 : decode cJ30_newCapacity 41 = .ok (.iload 4, 2) := dk_21 4 (dk_at dksJ30_newCapacity_1 18 rfl rfl)
theorem dJ30_newCapacity_43 : decode cJ30_newCapacity 43 = .ok (.ireturn, 1) := dk_172 (dk_at dksJ30_newCapacity_1 20 rfl rfl)
theorem dJ30_newCapacity_44 : decode cJ30_newCapacity 44 = .ok (.iload_n 3, 1) := dk_29 (dk_at dksJ30_newCapacity_1 21 rfl rfl)
theorem dJ30_newCapacity_45 : decode cJ30_newCapacity 45 = .ok (.iload_n 2, 1) := dk_28 (dk_at dksJ30_newCapacity_1 22 rfl rfl)
theorem dJ30_newCapacity_46 : decode cJ30_newCapacity 46 = .ok (.iadd, 1) := dk_96 (dk_at dksJ30_newCapacity_1 23 rfl rfl)
theorem dJ30_newCapacity_47 : decode cJ30_newCapacity 47 = .ok (.ldc 9, 2) := dk_18 9 (dk_at dksJ30_newCapacity_2 0 rfl rfl)
theorem dJ30_newCapacity_49 : decode cJ30_newCapacity 49 = .ok (.isub, 1) := dk_100 (dk_at dksJ30_newCapacity_2 2 rfl rfl)
theorem dJ30_newCapacity_50 : decode cJ30_newCapacity 50 = .ok (.ifCond .ge 9, 3) := dk_156 0 9 (dk_at dksJ30_newCapacity_2 3 rfl rfl)
theorem dJ30_newCapacity_53 : decode cJ30_newCapacity 53 = .ok (.iload_n 3, 1) := dk_29 (dk_at dksJ30_newCapacity_2 6 rfl rfl)
theorem dJ30_newCapacity_54 : decode cJ30_newCapacity 54 = .ok (.iload_n 2, 1) := dk_28 (dk_at dksJ30_newCapacity_2 7 rfl rfl)
theorem dJ30_newCapacity_55 : decode cJ30_newCapacity 55 = .ok (.iadd, 1) := dk_96 (dk_at dksJ30_newCapacity_2 8 rfl rfl)
theorem dJ30_newCapacity_56 : decode cJ30_newCapacity 56 = .ok (.goto 5, 3) := dk_167 0 5 (dk_at dksJ30_newCapacity_2 9 rfl rfl)
theorem dJ30_newCapacity_59 : decode cJ30_newCapacity 59 = .ok (.ldc 9, 2) := dk_18 9 (dk_at dksJ30_newCapacity_2 12 rfl rfl)
theorem dJ30_newCapacity_61 : decode cJ30_newCapacity 61 = .ok (.ireturn, 1) := dk_172 (dk_at dksJ30_newCapacity_2 14 rfl rfl)
abbrev cJ30_removeFirst : ByteArray := prog_53_method_18_code
def yJ30_removeFirst : MethodName := ⟨RJ30, "removeFirst", "()Ljava/lang/Object;"⟩
def dkwJ30_removeFirst_0 : List UInt8 := [42, 182, 0, 93, 76, 43, 199, 0, 11, 187, 0, 97, 89, 183, 0, 99, 191, 43, 176]
abbrev dktJ30_removeFirst_0 : List UInt8 := dkwJ30_removeFirst_0 ++ []
theorem dksJ30_removeFirst_0 : cJ30_removeFirst.data.toList.drop 0 = dktJ30_removeFirst_0 := by decide +kernel
theorem dJ30_removeFirst_0 : decode cJ30_removeFirst 0 = .ok (.aload_n 0, 1) := dk_42 (dk_at dksJ30_removeFirst_0 0 rfl rfl)
theorem dJ30_removeFirst_1 : decode cJ30_removeFirst 1 = .ok (.invokevirtual 93, 3) := dk_182 0 93 (dk_at dksJ30_removeFirst_0 1 rfl rfl)
theorem dJ30_removeFirst_4 : decode cJ30_removeFirst 4 = .ok (.astore_n 1, 1) := dk_76 (dk_at dksJ30_removeFirst_0 4 rfl rfl)
theorem dJ30_removeFirst_5 : decode cJ30_removeFirst 5 = .ok (.aload_n 1, 1) := dk_43 (dk_at dksJ30_removeFirst_0 5 rfl rfl)
theorem dJ30_removeFirst_6 : decode cJ30_removeFirst 6 = .ok (.ifnonnull 11, 3) := dk_199 0 11 (dk_at dksJ30_removeFirst_0 6 rfl rfl)
theorem dJ30_removeFirst_9 : decode cJ30_removeFirst 9 = .ok (.new 97, 3) := dk_187 0 97 (dk_at dksJ30_removeFirst_0 9 rfl rfl)
theorem dJ30_removeFirst_12 : decode cJ30_removeFirst 12 = .ok (.dup, 1) := dk_89 (dk_at dksJ30_removeFirst_0 12 rfl rfl)
theorem dJ30_removeFirst_13 : decode cJ30_removeFirst 13 = .ok (.invokespecial 99, 3) := dk_183 0 99 (dk_at dksJ30_removeFirst_0 13 rfl rfl)
theorem dJ30_removeFirst_16 : decode cJ30_removeFirst 16 = .ok (.athrow, 1) := dk_191 (dk_at dksJ30_removeFirst_0 16 rfl rfl)
theorem dJ30_removeFirst_17 : decode cJ30_removeFirst 17 = .ok (.aload_n 1, 1) := dk_43 (dk_at dksJ30_removeFirst_0 17 rfl rfl)
theorem dJ30_removeFirst_18 : decode cJ30_removeFirst 18 = .ok (.areturn, 1) := dk_176 (dk_at dksJ30_removeFirst_0 18 rfl rfl)
abbrev cJ30_pollFirst : ByteArray := prog_53_method_20_code
def yJ30_pollFirst : MethodName := ⟨RJ30, "pollFirst", "()Ljava/lang/Object;"⟩
def dkwJ30_pollFirst_1 : List UInt8 := [42, 28, 43, 190, 184, 0, 74, 181, 0, 24, 45, 176]
abbrev dktJ30_pollFirst_1 : List UInt8 := dkwJ30_pollFirst_1 ++ []
def dkwJ30_pollFirst_0 : List UInt8 := [42, 180, 0, 3, 89, 76, 42, 180, 0, 24, 89, 61, 184, 0, 103, 78, 45, 198, 0, 17, 43, 28, 1, 83]
abbrev dktJ30_pollFirst_0 : List UInt8 := dkwJ30_pollFirst_0 ++ dktJ30_pollFirst_1
theorem dksJ30_pollFirst_0 : cJ30_pollFirst.data.toList.drop 0 = dktJ30_pollFirst_0 := by decide +kernel
theorem dksJ30_pollFirst_1 : cJ30_pollFirst.data.toList.drop 24 = dktJ30_pollFirst_1 := dk_seg dksJ30_pollFirst_0 24 rfl rfl
theorem dJ30_pollFirst_0 : decode cJ30_pollFirst 0 = .ok (.aload_n 0, 1) := dk_42 (dk_at dksJ30_pollFirst_0 0 rfl rfl)
theorem dJ30_pollFirst_1 : decode cJ30_pollFirst 1 = .ok (.getfield 3, 3) := dk_180 0 3 (dk_at dksJ30_pollFirst_0 1 rfl rfl)
theorem dJ30_pollFirst_4 : decode cJ30_pollFirst 4 = .ok (.dup, 1) := dk_89 (dk_at dksJ30_pollFirst_0 4 rfl rfl)
theorem dJ30_pollFirst_5 : decode cJ30_pollFirst 5 = .ok (.astore_n 1, 1) := dk_76 (dk_at dksJ30_pollFirst_0 5 rfl rfl)
theorem dJ30_pollFirst_6 : decode cJ30_pollFirst 6 = .ok (.aload_n 0, 1) := dk_42 (dk_at dksJ30_pollFirst_0 6 rfl rfl)
theorem dJ30_pollFirst_7 : decode cJ30_pollFirst 7 = .ok (.getfield 24, 3) := dk_180 0 24 (dk_at dksJ30_pollFirst_0 7 rfl rfl)
theorem dJ30_pollFirst_10 : decode cJ30_pollFirst 10 = .ok (.dup, 1) := dk_89 (dk_at dksJ30_pollFirst_0 10 rfl rfl)
theorem dJ30_pollFirst_11 : decode cJ30_pollFirst 11 = .ok (.istore_n 2, 1) := dk_61 (dk_at dksJ30_pollFirst_0 11 rfl rfl)
theorem dJ30_pollFirst_12 : decode cJ30_pollFirst 12 = .ok (.invokestatic 103, 3) := dk_184 0 103 (dk_at dksJ30_pollFirst_0 12 rfl rfl)
theorem dJ30_pollFirst_15 : decode cJ30_pollFirst 15 = .ok (.astore_n 3, 1) := dk_78 (dk_at dksJ30_pollFirst_0 15 rfl rfl)
theorem dJ30_pollFirst_16 : decode cJ30_pollFirst 16 = .ok (.aload_n 3, 1) := dk_45 (dk_at dksJ30_pollFirst_0 16 rfl rfl)
theorem dJ30_pollFirst_17 : decode cJ30_pollFirst 17 = .ok (.ifnull 17, 3) := dk_198 0 17 (dk_at dksJ30_pollFirst_0 17 rfl rfl)
theorem dJ30_pollFirst_20 : decode cJ30_pollFirst 20 = .ok (.aload_n 1, 1) := dk_43 (dk_at dksJ30_pollFirst_0 20 rfl rfl)
theorem dJ30_pollFirst_21 : decode cJ30_pollFirst 21 = .ok (.iload_n 2, 1) := dk_28 (dk_at dksJ30_pollFirst_0 21 rfl rfl)
theorem dJ30_pollFirst_22 : decode cJ30_pollFirst 22 = .ok (.aconst_null, 1) := dk_1 (dk_at dksJ30_pollFirst_0 22 rfl rfl)
theorem dJ30_pollFirst_23 : decode cJ30_pollFirst 23 = .ok (.aastore, 1) := dk_83 (dk_at dksJ30_pollFirst_0 23 rfl rfl)
theorem dJ30_pollFirst_24 : decode cJ30_pollFirst 24 = .ok (.aload_n 0, 1) := dk_42 (dk_at dksJ30_pollFirst_1 0 rfl rfl)
theorem dJ30_pollFirst_25 : decode cJ30_pollFirst 25 = .ok (.iload_n 2, 1) := dk_28 (dk_at dksJ30_pollFirst_1 1 rfl rfl)
theorem dJ30_pollFirst_26 : decode cJ30_pollFirst 26 = .ok (.aload_n 1, 1) := dk_43 (dk_at dksJ30_pollFirst_1 2 rfl rfl)
theorem dJ30_pollFirst_27 : decode cJ30_pollFirst 27 = .ok (.arraylength, 1) := dk_190 (dk_at dksJ30_pollFirst_1 3 rfl rfl)
theorem dJ30_pollFirst_28 : decode cJ30_pollFirst 28 = .ok (.invokestatic 74, 3) := dk_184 0 74 (dk_at dksJ30_pollFirst_1 4 rfl rfl)
theorem dJ30_pollFirst_31 : decode cJ30_pollFirst 31 = .ok (.putfield 24, 3) := dk_181 0 24 (dk_at dksJ30_pollFirst_1 7 rfl rfl)
theorem dJ30_pollFirst_34 : decode cJ30_pollFirst 34 = .ok (.aload_n 3, 1) := dk_45 (dk_at dksJ30_pollFirst_1 10 rfl rfl)
theorem dJ30_pollFirst_35 : decode cJ30_pollFirst 35 = .ok (.areturn, 1) := dk_176 (dk_at dksJ30_pollFirst_1 11 rfl rfl)
abbrev cJ30_elementAt : ByteArray := prog_53_method_10_code
def yJ30_elementAt : MethodName := ⟨RJ30, "elementAt", "([Ljava/lang/Object;I)Ljava/lang/Object;"⟩
def dkwJ30_elementAt_0 : List UInt8 := [42, 27, 50, 176]
abbrev dktJ30_elementAt_0 : List UInt8 := dkwJ30_elementAt_0 ++ []
theorem dksJ30_elementAt_0 : cJ30_elementAt.data.toList.drop 0 = dktJ30_elementAt_0 := by decide +kernel
theorem dJ30_elementAt_0 : decode cJ30_elementAt 0 = .ok (.aload_n 0, 1) := dk_42 (dk_at dksJ30_elementAt_0 0 rfl rfl)
theorem dJ30_elementAt_1 : decode cJ30_elementAt 1 = .ok (.iload_n 1, 1) := dk_27 (dk_at dksJ30_elementAt_0 1 rfl rfl)
theorem dJ30_elementAt_2 : decode cJ30_elementAt 2 = .ok (.aaload, 1) := dk_50 (dk_at dksJ30_elementAt_0 2 rfl rfl)
theorem dJ30_elementAt_3 : decode cJ30_elementAt 3 = .ok (.areturn, 1) := dk_176 (dk_at dksJ30_elementAt_0 3 rfl rfl)
abbrev cJ30_isEmpty : ByteArray := prog_53_method_38_code
def yJ30_isEmpty : MethodName := ⟨RJ30, "isEmpty", "()Z"⟩
def dkwJ30_isEmpty_0 : List UInt8 := [42, 180, 0, 24, 42, 180, 0, 20, 160, 0, 7, 4, 167, 0, 4, 3, 172]
abbrev dktJ30_isEmpty_0 : List UInt8 := dkwJ30_isEmpty_0 ++ []
theorem dksJ30_isEmpty_0 : cJ30_isEmpty.data.toList.drop 0 = dktJ30_isEmpty_0 := by decide +kernel
theorem dJ30_isEmpty_0 : decode cJ30_isEmpty 0 = .ok (.aload_n 0, 1) := dk_42 (dk_at dksJ30_isEmpty_0 0 rfl rfl)
theorem dJ30_isEmpty_1 : decode cJ30_isEmpty 1 = .ok (.getfield 24, 3) := dk_180 0 24 (dk_at dksJ30_isEmpty_0 1 rfl rfl)
theorem dJ30_isEmpty_4 : decode cJ30_isEmpty 4 = .ok (.aload_n 0, 1) := dk_42 (dk_at dksJ30_isEmpty_0 4 rfl rfl)
theorem dJ30_isEmpty_5 : decode cJ30_isEmpty 5 = .ok (.getfield 20, 3) := dk_180 0 20 (dk_at dksJ30_isEmpty_0 5 rfl rfl)
theorem dJ30_isEmpty_8 : decode cJ30_isEmpty 8 = .ok (.if_icmp .ne 7, 3) := dk_160 0 7 (dk_at dksJ30_isEmpty_0 8 rfl rfl)
theorem dJ30_isEmpty_11 : decode cJ30_isEmpty 11 = .ok (.iconst 1, 1) := dk_4 (dk_at dksJ30_isEmpty_0 11 rfl rfl)
theorem dJ30_isEmpty_12 : decode cJ30_isEmpty 12 = .ok (.goto 4, 3) := dk_167 0 4 (dk_at dksJ30_isEmpty_0 12 rfl rfl)
theorem dJ30_isEmpty_15 : decode cJ30_isEmpty 15 = .ok (.iconst 0, 1) := dk_3 (dk_at dksJ30_isEmpty_0 15 rfl rfl)
theorem dJ30_isEmpty_16 : decode cJ30_isEmpty 16 = .ok (.ireturn, 1) := dk_172 (dk_at dksJ30_isEmpty_0 16 rfl rfl)
abbrev cJ30_size : ByteArray := prog_53_method_37_code
def yJ30_size : MethodName := ⟨RJ30, "size", "()I"⟩
def dkwJ30_size_0 : List UInt8 := [42, 180, 0, 20, 42, 180, 0, 24, 42, 180, 0, 3, 190, 184, 0, 127, 172]
abbrev dktJ30_size_0 : List UInt8 := dkwJ30_size_0 ++ []
theorem dksJ30_size_0 : cJ30_size.data.toList.drop 0 = dktJ30_size_0 := by decide +kernel
theorem dJ30_size_0 : decode cJ30_size 0 = .ok (.aload_n 0, 1) := dk_42 (dk_at dksJ30_size_0 0 rfl rfl)
theorem dJ30_size_1 : decode cJ30_size 1 = .ok (.getfield 20, 3) := dk_180 0 20 (dk_at dksJ30_size_0 1 rfl rfl)
theorem dJ30_size_4 : decode cJ30_size 4 = .ok (.aload_n 0, 1) := dk_42 (dk_at dksJ30_size_0 4 rfl rfl)
theorem dJ30_size_5 : decode cJ30_size 5 = .ok (.getfield 24, 3) := dk_180 0 24 (dk_at dksJ30_size_0 5 rfl rfl)
theorem dJ30_size_8 : decode cJ30_size 8 = .ok (.aload_n 0, 1) := dk_42 (dk_at dksJ30_size_0 8 rfl rfl)
theorem dJ30_size_9 : decode cJ30_size 9 = .ok (.getfield 3, 3) := dk_180 0 3 (dk_at dksJ30_size_0 9 rfl rfl)
theorem dJ30_size_12 : decode cJ30_size 12 = .ok (.arraylength, 1) := dk_190 (dk_at dksJ30_size_0 12 rfl rfl)
theorem dJ30_size_13 : decode cJ30_size 13 = .ok (.invokestatic 127, 3) := dk_184 0 127 (dk_at dksJ30_size_0 13 rfl rfl)
theorem dJ30_size_16 : decode cJ30_size 16 = .ok (.ireturn, 1) := dk_172 (dk_at dksJ30_size_0 16 rfl rfl)
abbrev cJ30_sub : ByteArray := prog_53_method_9_code
def yJ30_sub : MethodName := ⟨RJ30, "sub", "(III)I"⟩
def dkwJ30_sub_0 : List UInt8 := [26, 27, 100, 89, 59, 156, 0, 7, 26, 28, 96, 59, 26, 172]
abbrev dktJ30_sub_0 : List UInt8 := dkwJ30_sub_0 ++ []
theorem dksJ30_sub_0 : cJ30_sub.data.toList.drop 0 = dktJ30_sub_0 := by decide +kernel
theorem dJ30_sub_0 : decode cJ30_sub 0 = .ok (.iload_n 0, 1) := dk_26 (dk_at dksJ30_sub_0 0 rfl rfl)
theorem dJ30_sub_1 : decode cJ30_sub 1 = .ok (.iload_n 1, 1) := dk_27 (dk_at dksJ30_sub_0 1 rfl rfl)
theorem dJ30_sub_2 : decode cJ30_sub 2 = .ok (.isub, 1) := dk_100 (dk_at dksJ30_sub_0 2 rfl rfl)
theorem dJ30_sub_3 : decode cJ30_sub 3 = .ok (.dup, 1) := dk_89 (dk_at dksJ30_sub_0 3 rfl rfl)
theorem dJ30_sub_4 : decode cJ30_sub 4 = .ok (.istore_n 0, 1) := dk_59 (dk_at dksJ30_sub_0 4 rfl rfl)
theorem dJ30_sub_5 : decode cJ30_sub 5 = .ok (.ifCond .ge 7, 3) := dk_156 0 7 (dk_at dksJ30_sub_0 5 rfl rfl)
theorem dJ30_sub_8 : decode cJ30_sub 8 = .ok (.iload_n 0, 1) := dk_26 (dk_at dksJ30_sub_0 8 rfl rfl)
theorem dJ30_sub_9 : decode cJ30_sub 9 = .ok (.iload_n 2, 1) := dk_28 (dk_at dksJ30_sub_0 9 rfl rfl)
theorem dJ30_sub_10 : decode cJ30_sub 10 = .ok (.iadd, 1) := dk_96 (dk_at dksJ30_sub_0 10 rfl rfl)
theorem dJ30_sub_11 : decode cJ30_sub 11 = .ok (.istore_n 0, 1) := dk_59 (dk_at dksJ30_sub_0 11 rfl rfl)
theorem dJ30_sub_12 : decode cJ30_sub 12 = .ok (.iload_n 0, 1) := dk_26 (dk_at dksJ30_sub_0 12 rfl rfl)
theorem dJ30_sub_13 : decode cJ30_sub 13 = .ok (.ireturn, 1) := dk_172 (dk_at dksJ30_sub_0 13 rfl rfl)
theorem q159 : (Jvm.Cond.initialized "java/util/ArrayDeque") ∈ lw_all := lw_g (lw_at lw_m1 37 rfl) rfl
theorem q1001 : (Jvm.Cond.selects "java/util/ArrayDeque" ({ cls := "java/lang/Object", name := "getClass", desc := "()Ljava/lang/Class;" } : Jvm.MethodName) ({ cls := "java/lang/Object", name := "getClass", desc := "()Ljava/lang/Class;" } : Jvm.MethodName)) ∈ lw_all := lw_g (lw_at lw_m4 159 rfl) rfl
theorem q1304 : (Jvm.Cond.instantiable "java/util/ArrayDeque" (3 : Nat)) ∈ lw_all := lw_g (lw_at lw_m5 222 rfl) rfl
theorem q1306 : (Jvm.Cond.instanceMethod ({ cls := "java/util/ArrayDeque", name := "<init>", desc := "()V" } : Jvm.MethodName)) ∈ lw_all := lw_g (lw_at lw_m5 224 rfl) rfl
theorem q1307 : (Jvm.Cond.code ({ cls := "java/util/ArrayDeque", name := "<init>", desc := "()V" } : Jvm.MethodName) prog_53_method_3_code (1 : Nat) (Option.none : Option Jvm.ClassFile.FieldType)) ∈ lw_all := lw_g (lw_at lw_m5 225 rfl) rfl
theorem q1308 : (Jvm.Cond.methodLink "java/util/ArrayDeque" (42 : Nat) ({ cls := "java/util/AbstractCollection", name := "<init>", desc := "()V" } : Jvm.MethodName)) ∈ lw_all := lw_g (lw_at lw_m5 226 rfl) rfl
theorem q1309 : (Jvm.Cond.classLink "java/util/ArrayDeque" (47 : Nat) "java/lang/Object") ∈ lw_all := lw_g (lw_at lw_m5 227 rfl) rfl
theorem q1310 : (Jvm.Cond.fieldLink "java/util/ArrayDeque" (3 : Nat) "java/util/ArrayDeque" "elements" "[Ljava/lang/Object;") ∈ lw_all := lw_g (lw_at lw_m5 228 rfl) rfl
theorem q1311 : (Jvm.Cond.fieldLink "java/util/ArrayDeque" (24 : Nat) "java/util/ArrayDeque" "head" "I") ∈ lw_all := lw_g (lw_at lw_m5 229 rfl) rfl
theorem q1312 : (Jvm.Cond.fieldLink "java/util/ArrayDeque" (20 : Nat) "java/util/ArrayDeque" "tail" "I") ∈ lw_all := lw_g (lw_at lw_m5 230 rfl) rfl
theorem q1313 : (Jvm.Cond.lays "java/util/ArrayDeque" "java/util/ArrayDeque" "elements" "[Ljava/lang/Object;") ∈ lw_all := lw_g (lw_at lw_m5 231 rfl) rfl
theorem q1314 : (Jvm.Cond.soleField "java/util/ArrayDeque" "elements") ∈ lw_all := lw_g (lw_at lw_m5 232 rfl) rfl
theorem q1315 : (Jvm.Cond.lays "java/util/ArrayDeque" "java/util/ArrayDeque" "head" "I") ∈ lw_all := lw_g (lw_at lw_m5 233 rfl) rfl
theorem q1316 : (Jvm.Cond.soleField "java/util/ArrayDeque" "head") ∈ lw_all := lw_g (lw_at lw_m5 234 rfl) rfl
theorem q1317 : (Jvm.Cond.lays "java/util/ArrayDeque" "java/util/ArrayDeque" "tail" "I") ∈ lw_all := lw_g (lw_at lw_m5 235 rfl) rfl
theorem q1318 : (Jvm.Cond.soleField "java/util/ArrayDeque" "tail") ∈ lw_all := lw_g (lw_at lw_m5 236 rfl) rfl
theorem q1319 : (Jvm.Cond.superclass "java/util/ArrayDeque" "java/util/AbstractCollection") ∈ lw_all := lw_g (lw_at lw_m5 237 rfl) rfl
theorem q1399 : (Jvm.Cond.instanceMethod ({ cls := "java/util/ArrayDeque", name := "addLast", desc := "(Ljava/lang/Object;)V" } : Jvm.MethodName)) ∈ lw_all := lw_g (lw_at lw_m6 77 rfl) rfl
theorem q1400 : (Jvm.Cond.selects "java/util/ArrayDeque" ({ cls := "java/util/ArrayDeque", name := "addLast", desc := "(Ljava/lang/Object;)V" } : Jvm.MethodName) ({ cls := "java/util/ArrayDeque", name := "addLast", desc := "(Ljava/lang/Object;)V" } : Jvm.MethodName)) ∈ lw_all := lw_g (lw_at lw_m6 78 rfl) rfl
theorem q1401 : (Jvm.Cond.code ({ cls := "java/util/ArrayDeque", name := "addLast", desc := "(Ljava/lang/Object;)V" } : Jvm.MethodName) prog_53_method_13_code (3 : Nat) (Option.none : Option Jvm.ClassFile.FieldType)) ∈ lw_all := lw_g (lw_at lw_m6 79 rfl) rfl
theorem q1402 : (Jvm.Cond.methodLink "java/util/ArrayDeque" (74 : Nat) ({ cls := "java/util/ArrayDeque", name := "inc", desc := "(II)I" } : Jvm.MethodName)) ∈ lw_all := lw_g (lw_at lw_m6 80 rfl) rfl
theorem q1403 : (Jvm.Cond.static ({ cls := "java/util/ArrayDeque", name := "inc", desc := "(II)I" } : Jvm.MethodName)) ∈ lw_all := lw_g (lw_at lw_m6 81 rfl) rfl
theorem q1404 : (Jvm.Cond.code ({ cls := "java/util/ArrayDeque", name := "inc", desc := "(II)I" } : Jvm.MethodName) prog_53_method_6_code (2 : Nat) (Option.some Jvm.ClassFile.FieldType.int)) ∈ lw_all := lw_g (lw_at lw_m6 82 rfl) rfl
theorem q1405 : (Jvm.Cond.methodLink "java/util/ArrayDeque" (71 : Nat) ({ cls := "java/util/ArrayDeque", name := "grow", desc := "(I)V" } : Jvm.MethodName)) ∈ lw_all := lw_g (lw_at lw_m6 83 rfl) rfl
theorem q1406 : (Jvm.Cond.privateMethod ({ cls := "java/util/ArrayDeque", name := "grow", desc := "(I)V" } : Jvm.MethodName)) ∈ lw_tbl := lw_at lw_m6 84 rfl
theorem q1407 : (Jvm.Cond.instanceMethod ({ cls := "java/util/ArrayDeque", name := "grow", desc := "(I)V" } : Jvm.MethodName)) ∈ lw_all := lw_g (lw_at lw_m6 85 rfl) rfl
theorem q1408 : (Jvm.Cond.code ({ cls := "java/util/ArrayDeque", name := "grow", desc := "(I)V" } : Jvm.MethodName) prog_53_method_1_code (9 : Nat) (Option.none : Option Jvm.ClassFile.FieldType)) ∈ lw_all := lw_g (lw_at lw_m6 86 rfl) rfl
theorem q1409 : (Jvm.Cond.constant "java/util/ArrayDeque" (9 : Nat) (2147483639 : Int32)) ∈ lw_all := lw_g (lw_at lw_m6 87 rfl) rfl
theorem q1410 : (Jvm.Cond.methodLink "java/util/ArrayDeque" (10 : Nat) ({ cls := "java/util/ArrayDeque", name := "newCapacity", desc := "(II)I" } : Jvm.MethodName)) ∈ lw_all := lw_g (lw_at lw_m6 88 rfl) rfl
theorem q1411 : (Jvm.Cond.privateMethod ({ cls := "java/util/ArrayDeque", name := "newCapacity", desc := "(II)I" } : Jvm.MethodName)) ∈ lw_tbl := lw_at lw_m6 89 rfl
theorem q1412 : (Jvm.Cond.instanceMethod ({ cls := "java/util/ArrayDeque", name := "newCapacity", desc := "(II)I" } : Jvm.MethodName)) ∈ lw_all := lw_g (lw_at lw_m6 90 rfl) rfl
theorem q1413 : (Jvm.Cond.code ({ cls := "java/util/ArrayDeque", name := "newCapacity", desc := "(II)I" } : Jvm.MethodName) prog_53_method_2_code (5 : Nat) (Option.some Jvm.ClassFile.FieldType.int)) ∈ lw_all := lw_g (lw_at lw_m6 91 rfl) rfl
theorem q1414 : (Jvm.Cond.classLink "java/util/ArrayDeque" (33 : Nat) "java/lang/IllegalStateException") ∈ lw_all := lw_g (lw_at lw_m6 92 rfl) rfl
theorem q1415 : (Jvm.Cond.stringRef "java/util/ArrayDeque" (35 : Nat) "Sorry, deque too big") ∈ lw_tbl := lw_at lw_m6 93 rfl
theorem q1416 : (Jvm.Cond.methodLink "java/util/ArrayDeque" (37 : Nat) ({ cls := "java/lang/IllegalStateException", name := "<init>", desc := "(Ljava/lang/String;)V" } : Jvm.MethodName)) ∈ lw_all := lw_g (lw_at lw_m6 94 rfl) rfl
theorem q1420 : (Jvm.Cond.constant "java/util/ArrayDeque" (41 : Nat) (2147483647 : Int32)) ∈ lw_all := lw_g (lw_at lw_m6 98 rfl) rfl
theorem q1421 : (Jvm.Cond.methodLink "java/util/ArrayDeque" (14 : Nat) ({ cls := "java/util/Arrays", name := "copyOf", desc := "([Ljava/lang/Object;I)[Ljava/lang/Object;" } : Jvm.MethodName)) ∈ lw_all := lw_g (lw_at lw_m6 99 rfl) rfl
theorem q1422 : (Jvm.Cond.methodLink "java/util/ArrayDeque" (27 : Nat) ({ cls := "java/lang/System", name := "arraycopy", desc := "(Ljava/lang/Object;ILjava/lang/Object;II)V" } : Jvm.MethodName)) ∈ lw_all := lw_g (lw_at lw_m6 100 rfl) rfl
theorem q1432 : (Jvm.Cond.instanceMethod ({ cls := "java/util/ArrayDeque", name := "removeFirst", desc := "()Ljava/lang/Object;" } : Jvm.MethodName)) ∈ lw_all := lw_g (lw_at lw_m6 110 rfl) rfl
theorem q1433 : (Jvm.Cond.selects "java/util/ArrayDeque" ({ cls := "java/util/ArrayDeque", name := "removeFirst", desc := "()Ljava/lang/Object;" } : Jvm.MethodName) ({ cls := "java/util/ArrayDeque", name := "removeFirst", desc := "()Ljava/lang/Object;" } : Jvm.MethodName)) ∈ lw_all := lw_g (lw_at lw_m6 111 rfl) rfl
theorem q1434 : (Jvm.Cond.code ({ cls := "java/util/ArrayDeque", name := "removeFirst", desc := "()Ljava/lang/Object;" } : Jvm.MethodName) prog_53_method_18_code (2 : Nat) (Option.some (Jvm.ClassFile.FieldType.object "java/lang/Object"))) ∈ lw_all := lw_g (lw_at lw_m6 112 rfl) rfl
theorem q1435 : (Jvm.Cond.methodLink "java/util/ArrayDeque" (93 : Nat) ({ cls := "java/util/ArrayDeque", name := "pollFirst", desc := "()Ljava/lang/Object;" } : Jvm.MethodName)) ∈ lw_all := lw_g (lw_at lw_m6 113 rfl) rfl
theorem q1436 : (Jvm.Cond.instanceMethod ({ cls := "java/util/ArrayDeque", name := "pollFirst", desc := "()Ljava/lang/Object;" } : Jvm.MethodName)) ∈ lw_all := lw_g (lw_at lw_m6 114 rfl) rfl
theorem q1437 : (Jvm.Cond.selects "java/util/ArrayDeque" ({ cls := "java/util/ArrayDeque", name := "pollFirst", desc := "()Ljava/lang/Object;" } : Jvm.MethodName) ({ cls := "java/util/ArrayDeque", name := "pollFirst", desc := "()Ljava/lang/Object;" } : Jvm.MethodName)) ∈ lw_all := lw_g (lw_at lw_m6 115 rfl) rfl
theorem q1438 : (Jvm.Cond.code ({ cls := "java/util/ArrayDeque", name := "pollFirst", desc := "()Ljava/lang/Object;" } : Jvm.MethodName) prog_53_method_20_code (4 : Nat) (Option.some (Jvm.ClassFile.FieldType.object "java/lang/Object"))) ∈ lw_all := lw_g (lw_at lw_m6 116 rfl) rfl
theorem q1439 : (Jvm.Cond.methodLink "java/util/ArrayDeque" (103 : Nat) ({ cls := "java/util/ArrayDeque", name := "elementAt", desc := "([Ljava/lang/Object;I)Ljava/lang/Object;" } : Jvm.MethodName)) ∈ lw_all := lw_g (lw_at lw_m6 117 rfl) rfl
theorem q1440 : (Jvm.Cond.static ({ cls := "java/util/ArrayDeque", name := "elementAt", desc := "([Ljava/lang/Object;I)Ljava/lang/Object;" } : Jvm.MethodName)) ∈ lw_all := lw_g (lw_at lw_m6 118 rfl) rfl
theorem q1441 : (Jvm.Cond.code ({ cls := "java/util/ArrayDeque", name := "elementAt", desc := "([Ljava/lang/Object;I)Ljava/lang/Object;" } : Jvm.MethodName) prog_53_method_10_code (2 : Nat) (Option.some (Jvm.ClassFile.FieldType.object "java/lang/Object"))) ∈ lw_all := lw_g (lw_at lw_m6 119 rfl) rfl
theorem q1442 : (Jvm.Cond.classLink "java/util/ArrayDeque" (97 : Nat) "java/util/NoSuchElementException") ∈ lw_all := lw_g (lw_at lw_m6 120 rfl) rfl
theorem q1443 : (Jvm.Cond.methodLink "java/util/ArrayDeque" (99 : Nat) ({ cls := "java/util/NoSuchElementException", name := "<init>", desc := "()V" } : Jvm.MethodName)) ∈ lw_all := lw_g (lw_at lw_m6 121 rfl) rfl
theorem q1468 : (Jvm.Cond.instanceMethod ({ cls := "java/util/ArrayDeque", name := "isEmpty", desc := "()Z" } : Jvm.MethodName)) ∈ lw_all := lw_g (lw_at lw_m6 146 rfl) rfl
theorem q1469 : (Jvm.Cond.selects "java/util/ArrayDeque" ({ cls := "java/util/ArrayDeque", name := "isEmpty", desc := "()Z" } : Jvm.MethodName) ({ cls := "java/util/ArrayDeque", name := "isEmpty", desc := "()Z" } : Jvm.MethodName)) ∈ lw_all := lw_g (lw_at lw_m6 147 rfl) rfl
theorem q1470 : (Jvm.Cond.code ({ cls := "java/util/ArrayDeque", name := "isEmpty", desc := "()Z" } : Jvm.MethodName) prog_53_method_38_code (1 : Nat) (Option.some Jvm.ClassFile.FieldType.boolean)) ∈ lw_all := lw_g (lw_at lw_m6 148 rfl) rfl
theorem q2264 : (Jvm.Cond.selects "java/util/ArrayDeque" ({ cls := "java/util/AbstractCollection", name := "size", desc := "()I" } : Jvm.MethodName) ({ cls := "java/util/ArrayDeque", name := "size", desc := "()I" } : Jvm.MethodName)) ∈ lw_all := lw_g (lw_at lw_m9 222 rfl) rfl
theorem q2265 : (Jvm.Cond.instanceMethod ({ cls := "java/util/ArrayDeque", name := "size", desc := "()I" } : Jvm.MethodName)) ∈ lw_all := lw_g (lw_at lw_m9 223 rfl) rfl
theorem q2266 : (Jvm.Cond.code ({ cls := "java/util/ArrayDeque", name := "size", desc := "()I" } : Jvm.MethodName) prog_53_method_37_code (1 : Nat) (Option.some Jvm.ClassFile.FieldType.int)) ∈ lw_all := lw_g (lw_at lw_m9 224 rfl) rfl
theorem q2267 : (Jvm.Cond.methodLink "java/util/ArrayDeque" (127 : Nat) ({ cls := "java/util/ArrayDeque", name := "sub", desc := "(III)I" } : Jvm.MethodName)) ∈ lw_all := lw_g (lw_at lw_m9 225 rfl) rfl
theorem q2268 : (Jvm.Cond.static ({ cls := "java/util/ArrayDeque", name := "sub", desc := "(III)I" } : Jvm.MethodName)) ∈ lw_all := lw_g (lw_at lw_m9 226 rfl) rfl
theorem q2269 : (Jvm.Cond.code ({ cls := "java/util/ArrayDeque", name := "sub", desc := "(III)I" } : Jvm.MethodName) prog_53_method_9_code (3 : Nat) (Option.some Jvm.ClassFile.FieldType.int)) ∈ lw_all := lw_g (lw_at lw_m9 227 rfl) rfl
theorem q3688 : (Jvm.Cond.castable "java/util/ArrayDeque" "java/lang/Object") ∈ lw_tbl := lw_at lw_m15 206 rfl
theorem in_J30 : ∀ w ∈ wsJ300, w ∈ lw_all := lw_in wsJ300 [1313, 1315, 1317] (by decide +kernel) (by decide +kernel)
/-! java/lang/UnsupportedOperationException -/
set_option maxRecDepth 100000
def RJ31 : String := "java/lang/UnsupportedOperationException"
def TJ31 : u_T := fun k => match k with
  | 0 => ("java/lang/Throwable", "cause", "Ljava/lang/Throwable;", false)
  | 1 => ("java/lang/Throwable", "stackTrace", "[Ljava/lang/StackTraceElement;", false)
  | 2 => ("java/lang/Throwable", "suppressedExceptions", "Ljava/util/List;", false)
  | 3 => ("java/lang/Throwable", "detailMessage", "Ljava/lang/String;", false)
  | 4 => ("java/lang/Throwable", "backtrace", "Ljava/lang/Object;", false)
  | _ => ("java/lang/Throwable", "depth", "I", false)
def tyJ31 : Nat → FieldType := fun k => match k with
  | 0 => .object "java/lang/Throwable"
  | 1 => .array (.object "java/lang/StackTraceElement")
  | 2 => .object "java/util/List"
  | 3 => .object "java/lang/String"
  | 4 => .object "java/lang/Object"
  | _ => .int
abbrev wsJ310 : List Cond := u_ws RJ31 TJ31 6
theorem nmJ31 : ∀ a, a < 6 → ∀ b, b < 6 → a ≠ b → (TJ31 a).2.1 ≠ (TJ31 b).2.1 := by decide +kernel
theorem tyJ31_ok : ∀ k, k < 6 → parseFieldDescriptor (TJ31 k).2.2.1 = some (tyJ31 k) := by decide +kernel
abbrev cJ31_init : ByteArray := prog_44_method_1_code
def yJ31_init : MethodName := ⟨RJ31, "<init>", "()V"⟩
theorem dJ31_init_0 : decode cJ31_init 0 = .ok (.aload_n 0, 1) := by decide +kernel
theorem dJ31_init_1 : decode cJ31_init 1 = .ok (.invokespecial 1, 3) := by decide +kernel
theorem dJ31_init_4 : decode cJ31_init 4 = .ok (.return_, 1) := by decide +kernel
theorem q162 : (Jvm.Cond.initialized "java/lang/UnsupportedOperationException") ∈ lw_all := lw_g (lw_at lw_m1 40 rfl) rfl
theorem q576 : (Jvm.Cond.selects "java/lang/UnsupportedOperationException" ({ cls := "java/lang/Throwable", name := "fillInStackTrace", desc := "()Ljava/lang/Throwable;" } : Jvm.MethodName) ({ cls := "java/lang/Throwable", name := "fillInStackTrace", desc := "()Ljava/lang/Throwable;" } : Jvm.MethodName)) ∈ lw_all := lw_g (lw_at lw_m2 214 rfl) rfl
theorem q999 : (Jvm.Cond.selects "java/lang/UnsupportedOperationException" ({ cls := "java/lang/Object", name := "getClass", desc := "()Ljava/lang/Class;" } : Jvm.MethodName) ({ cls := "java/lang/Object", name := "getClass", desc := "()Ljava/lang/Class;" } : Jvm.MethodName)) ∈ lw_all := lw_g (lw_at lw_m4 157 rfl) rfl
theorem q1453 : (Jvm.Cond.instantiable "java/lang/UnsupportedOperationException" (6 : Nat)) ∈ lw_all := lw_g (lw_at lw_m6 131 rfl) rfl
theorem q1454 : (Jvm.Cond.castable "java/lang/UnsupportedOperationException" "java/lang/UnsupportedOperationException") ∈ lw_tbl := lw_at lw_m6 132 rfl
theorem q1455 : (Jvm.Cond.selects "java/lang/UnsupportedOperationException" ({ cls := "java/lang/Throwable", name := "fillInStackTrace", desc := "(I)Ljava/lang/Throwable;" } : Jvm.MethodName) ({ cls := "java/lang/Throwable", name := "fillInStackTrace", desc := "(I)Ljava/lang/Throwable;" } : Jvm.MethodName)) ∈ lw_all := lw_g (lw_at lw_m6 133 rfl) rfl
theorem q1456 : (Jvm.Cond.lays "java/lang/UnsupportedOperationException" "java/lang/Throwable" "cause" "Ljava/lang/Throwable;") ∈ lw_all := lw_g (lw_at lw_m6 134 rfl) rfl
theorem q1457 : (Jvm.Cond.lays "java/lang/UnsupportedOperationException" "java/lang/Throwable" "stackTrace" "[Ljava/lang/StackTraceElement;") ∈ lw_all := lw_g (lw_at lw_m6 135 rfl) rfl
theorem q1458 : (Jvm.Cond.lays "java/lang/UnsupportedOperationException" "java/lang/Throwable" "suppressedExceptions" "Ljava/util/List;") ∈ lw_all := lw_g (lw_at lw_m6 136 rfl) rfl
theorem q1459 : (Jvm.Cond.lays "java/lang/UnsupportedOperationException" "java/lang/Throwable" "detailMessage" "Ljava/lang/String;") ∈ lw_all := lw_g (lw_at lw_m6 137 rfl) rfl
theorem q1460 : (Jvm.Cond.lays "java/lang/UnsupportedOperationException" "java/lang/Throwable" "backtrace" "Ljava/lang/Object;") ∈ lw_all := lw_g (lw_at lw_m6 138 rfl) rfl
theorem q1462 : (Jvm.Cond.instanceMethod ({ cls := "java/lang/UnsupportedOperationException", name := "<init>", desc := "()V" } : Jvm.MethodName)) ∈ lw_all := lw_g (lw_at lw_m6 140 rfl) rfl
theorem q1463 : (Jvm.Cond.code ({ cls := "java/lang/UnsupportedOperationException", name := "<init>", desc := "()V" } : Jvm.MethodName) prog_44_method_1_code (1 : Nat) (Option.none : Option Jvm.ClassFile.FieldType)) ∈ lw_all := lw_g (lw_at lw_m6 141 rfl) rfl
theorem q1464 : (Jvm.Cond.methodLink "java/lang/UnsupportedOperationException" (1 : Nat) ({ cls := "java/lang/RuntimeException", name := "<init>", desc := "()V" } : Jvm.MethodName)) ∈ lw_all := lw_g (lw_at lw_m6 142 rfl) rfl
theorem q1465 : (Jvm.Cond.lays "java/lang/UnsupportedOperationException" "java/lang/Throwable" "depth" "I") ∈ lw_all := lw_g (lw_at lw_m6 143 rfl) rfl
theorem q1466 : (Jvm.Cond.superclass "java/lang/UnsupportedOperationException" "java/lang/RuntimeException") ∈ lw_all := lw_g (lw_at lw_m6 144 rfl) rfl
theorem q3691 : (Jvm.Cond.castable "java/lang/UnsupportedOperationException" "java/lang/Object") ∈ lw_tbl := lw_at lw_m15 209 rfl
theorem in_J31 : ∀ w ∈ wsJ310, w ∈ lw_all := lw_in wsJ310 [1456, 1457, 1458, 1459, 1460, 1465] (by decide +kernel) (by decide +kernel)
/-! java/util/TreeMap$Entry -/
set_option maxRecDepth 100000
def RJ33 : String := "java/util/TreeMap$Entry"
def TJ33 : u_T := fun k => match k with
  | 0 => ("java/util/TreeMap$Entry", "key", "Ljava/lang/Object;", false)
  | 1 => ("java/util/TreeMap$Entry", "value", "Ljava/lang/Object;", false)
  | 2 => ("java/util/TreeMap$Entry", "left", "Ljava/util/TreeMap$Entry;", false)
  | 3 => ("java/util/TreeMap$Entry", "right", "Ljava/util/TreeMap$Entry;", false)
  | 4 => ("java/util/TreeMap$Entry", "parent", "Ljava/util/TreeMap$Entry;", false)
  | _ => ("java/util/TreeMap$Entry", "color", "Z", false)
def tyJ33 : Nat → FieldType := fun k => match k with
  | 0 => .object "java/lang/Object"
  | 1 => .object "java/lang/Object"
  | 2 => .object "java/util/TreeMap$Entry"
  | 3 => .object "java/util/TreeMap$Entry"
  | 4 => .object "java/util/TreeMap$Entry"
  | _ => .boolean
abbrev wsJ330 : List Cond := u_ws RJ33 TJ33 6
theorem nmJ33 : ∀ a, a < 6 → ∀ b, b < 6 → a ≠ b → (TJ33 a).2.1 ≠ (TJ33 b).2.1 := by decide +kernel
theorem tyJ33_ok : ∀ k, k < 6 → parseFieldDescriptor (TJ33 k).2.2.1 = some (tyJ33 k) := by decide +kernel
abbrev cJ33_init : ByteArray := prog_87_method_1_code
def yJ33_init : MethodName := ⟨RJ33, "<init>", "(Ljava/lang/Object;Ljava/lang/Object;Ljava/util/TreeMap$Entry;)V"⟩
def dkwJ33_init_1 : List UInt8 := [177]
abbrev dktJ33_init_1 : List UInt8 := dkwJ33_init_1 ++ []
def dkwJ33_init_0 : List UInt8 := [42, 183, 0, 3, 42, 4, 181, 0, 9, 42, 43, 181, 0, 15, 42, 44, 181, 0, 19, 42, 45, 181, 0, 22]
abbrev dktJ33_init_0 : List UInt8 := dkwJ33_init_0 ++ dktJ33_init_1
theorem dksJ33_init_0 : cJ33_init.data.toList.drop 0 = dktJ33_init_0 := by decide +kernel
theorem dksJ33_init_1 : cJ33_init.data.toList.drop 24 = dktJ33_init_1 := dk_seg dksJ33_init_0 24 rfl rfl
theorem dJ33_init_0 : decode cJ33_init 0 = .ok (.aload_n 0, 1) := dk_42 (dk_at dksJ33_init_0 0 rfl rfl)
theorem dJ33_init_1 : decode cJ33_init 1 = .ok (.invokespecial 3, 3) := dk_183 0 3 (dk_at dksJ33_init_0 1 rfl rfl)
theorem dJ33_init_4 : decode cJ33_init 4 = .ok (.aload_n 0, 1) := dk_42 (dk_at dksJ33_init_0 4 rfl rfl)
theorem dJ33_init_5 : decode cJ33_init 5 = .ok (.iconst 1, 1) := dk_4 (dk_at dksJ33_init_0 5 rfl rfl)
theorem dJ33_init_6 : decode cJ33_init 6 = .ok (.putfield 9, 3) := dk_181 0 9 (dk_at dksJ33_init_0 6 rfl rfl)
theorem dJ33_init_9 : decode cJ33_init 9 = .ok (.aload_n 0, 1) := dk_42 (dk_at dksJ33_init_0 9 rfl rfl)
theorem dJ33_init_10 : decode cJ33_init 10 = .ok (.aload_n 1, 1) := dk_43 (dk_at dksJ33_init_0 10 rfl rfl)
theorem dJ33_init_11 : decode cJ33_init 11 = .ok (.putfield 15, 3) := dk_181 0 15 (dk_at dksJ33_init_0 11 rfl rfl)
theorem dJ33_init_14 : decode cJ33_init 14 = .ok (.aload_n 0, 1) := dk_42 (dk_at dksJ33_init_0 14 rfl rfl)
theorem dJ33_init_15 : decode cJ33_init 15 = .ok (.aload_n 2, 1) := dk_44 (dk_at dksJ33_init_0 15 rfl rfl)
theorem dJ33_init_16 : decode cJ33_init 16 = .ok (.putfield 19, 3) := dk_181 0 19 (dk_at dksJ33_init_0 16 rfl rfl)
theorem dJ33_init_19 : decode cJ33_init 19 = .ok (.aload_n 0, 1) := dk_42 (dk_at dksJ33_init_0 19 rfl rfl)
theorem dJ33_init_20 : decode cJ33_init 20 = .ok (.aload_n 3, 1) := dk_45 (dk_at dksJ33_init_0 20 rfl rfl)
theorem dJ33_init_21 : decode cJ33_init 21 = .ok (.putfield 22, 3) := dk_181 0 22 (dk_at dksJ33_init_0 21 rfl rfl)
theorem dJ33_init_24 : decode cJ33_init 24 = .ok (.return_, 1) := dk_177 (dk_at dksJ33_init_1 0 rfl rfl)
abbrev cJ33_getKey : ByteArray := prog_87_method_2_code
def yJ33_getKey : MethodName := ⟨RJ33, "getKey", "()Ljava/lang/Object;"⟩
theorem dJ33_getKey_0 : decode cJ33_getKey 0 = .ok (.aload_n 0, 1) := by decide +kernel
theorem dJ33_getKey_1 : decode cJ33_getKey 1 = .ok (.getfield 15, 3) := by decide +kernel
theorem dJ33_getKey_4 : decode cJ33_getKey 4 = .ok (.areturn, 1) := by decide +kernel
abbrev cJ33_getValue : ByteArray := prog_87_method_3_code
def yJ33_getValue : MethodName := ⟨RJ33, "getValue", "()Ljava/lang/Object;"⟩
theorem dJ33_getValue_0 : decode cJ33_getValue 0 = .ok (.aload_n 0, 1) := by decide +kernel
theorem dJ33_getValue_1 : decode cJ33_getValue 1 = .ok (.getfield 19, 3) := by decide +kernel
theorem dJ33_getValue_4 : decode cJ33_getValue 4 = .ok (.areturn, 1) := by decide +kernel
theorem q166 : (Jvm.Cond.initialized "java/util/TreeMap$Entry") ∈ lw_all := lw_g (lw_at lw_m1 44 rfl) rfl
theorem q1011 : (Jvm.Cond.selects "java/util/TreeMap$Entry" ({ cls := "java/lang/Object", name := "getClass", desc := "()Ljava/lang/Class;" } : Jvm.MethodName) ({ cls := "java/lang/Object", name := "getClass", desc := "()Ljava/lang/Class;" } : Jvm.MethodName)) ∈ lw_all := lw_g (lw_at lw_m4 169 rfl) rfl
theorem q1761 : (Jvm.Cond.instantiable "java/util/TreeMap$Entry" (6 : Nat)) ∈ lw_all := lw_g (lw_at lw_m7 199 rfl) rfl
theorem q1763 : (Jvm.Cond.instanceMethod ({ cls := "java/util/TreeMap$Entry", name := "<init>", desc := "(Ljava/lang/Object;Ljava/lang/Object;Ljava/util/TreeMap$Entry;)V" } : Jvm.MethodName)) ∈ lw_all := lw_g (lw_at lw_m7 201 rfl) rfl
theorem q1764 : (Jvm.Cond.code ({ cls := "java/util/TreeMap$Entry", name := "<init>", desc := "(Ljava/lang/Object;Ljava/lang/Object;Ljava/util/TreeMap$Entry;)V" } : Jvm.MethodName) prog_87_method_1_code (4 : Nat) (Option.none : Option Jvm.ClassFile.FieldType)) ∈ lw_all := lw_g (lw_at lw_m7 202 rfl) rfl
theorem q1765 : (Jvm.Cond.methodLink "java/util/TreeMap$Entry" (3 : Nat) ({ cls := "java/lang/Object", name := "<init>", desc := "()V" } : Jvm.MethodName)) ∈ lw_all := lw_g (lw_at lw_m7 203 rfl) rfl
theorem q1766 : (Jvm.Cond.fieldLink "java/util/TreeMap$Entry" (15 : Nat) "java/util/TreeMap$Entry" "key" "Ljava/lang/Object;") ∈ lw_all := lw_g (lw_at lw_m7 204 rfl) rfl
theorem q1768 : (Jvm.Cond.fieldLink "java/util/TreeMap$Entry" (19 : Nat) "java/util/TreeMap$Entry" "value" "Ljava/lang/Object;") ∈ lw_all := lw_g (lw_at lw_m7 206 rfl) rfl
theorem q1772 : (Jvm.Cond.fieldLink "java/util/TreeMap$Entry" (22 : Nat) "java/util/TreeMap$Entry" "parent" "Ljava/util/TreeMap$Entry;") ∈ lw_all := lw_g (lw_at lw_m7 210 rfl) rfl
theorem q1774 : (Jvm.Cond.fieldLink "java/util/TreeMap$Entry" (9 : Nat) "java/util/TreeMap$Entry" "color" "Z") ∈ lw_all := lw_g (lw_at lw_m7 212 rfl) rfl
theorem q1776 : (Jvm.Cond.lays "java/util/TreeMap$Entry" "java/util/TreeMap$Entry" "key" "Ljava/lang/Object;") ∈ lw_all := lw_g (lw_at lw_m7 214 rfl) rfl
theorem q1777 : (Jvm.Cond.soleField "java/util/TreeMap$Entry" "key") ∈ lw_all := lw_g (lw_at lw_m7 215 rfl) rfl
theorem q1778 : (Jvm.Cond.lays "java/util/TreeMap$Entry" "java/util/TreeMap$Entry" "value" "Ljava/lang/Object;") ∈ lw_all := lw_g (lw_at lw_m7 216 rfl) rfl
theorem q1779 : (Jvm.Cond.soleField "java/util/TreeMap$Entry" "value") ∈ lw_all := lw_g (lw_at lw_m7 217 rfl) rfl
theorem q1780 : (Jvm.Cond.lays "java/util/TreeMap$Entry" "java/util/TreeMap$Entry" "left" "Ljava/util/TreeMap$Entry;") ∈ lw_all := lw_g (lw_at lw_m7 218 rfl) rfl
theorem q1781 : (Jvm.Cond.soleField "java/util/TreeMap$Entry" "left") ∈ lw_all := lw_g (lw_at lw_m7 219 rfl) rfl
theorem q1782 : (Jvm.Cond.lays "java/util/TreeMap$Entry" "java/util/TreeMap$Entry" "right" "Ljava/util/TreeMap$Entry;") ∈ lw_all := lw_g (lw_at lw_m7 220 rfl) rfl
theorem q1783 : (Jvm.Cond.soleField "java/util/TreeMap$Entry" "right") ∈ lw_all := lw_g (lw_at lw_m7 221 rfl) rfl
theorem q1784 : (Jvm.Cond.lays "java/util/TreeMap$Entry" "java/util/TreeMap$Entry" "parent" "Ljava/util/TreeMap$Entry;") ∈ lw_all := lw_g (lw_at lw_m7 222 rfl) rfl
theorem q1785 : (Jvm.Cond.soleField "java/util/TreeMap$Entry" "parent") ∈ lw_all := lw_g (lw_at lw_m7 223 rfl) rfl
theorem q1786 : (Jvm.Cond.lays "java/util/TreeMap$Entry" "java/util/TreeMap$Entry" "color" "Z") ∈ lw_all := lw_g (lw_at lw_m7 224 rfl) rfl
theorem q1787 : (Jvm.Cond.soleField "java/util/TreeMap$Entry" "color") ∈ lw_all := lw_g (lw_at lw_m7 225 rfl) rfl
theorem q1788 : (Jvm.Cond.superclass "java/util/TreeMap$Entry" "java/lang/Object") ∈ lw_all := lw_g (lw_at lw_m7 226 rfl) rfl
theorem q2604 : (Jvm.Cond.castable "java/util/TreeMap$Entry" "java/util/Map$Entry") ∈ lw_tbl := lw_at lw_m11 82 rfl
theorem q2605 : (Jvm.Cond.selects "java/util/TreeMap$Entry" ({ cls := "java/util/Map$Entry", name := "getKey", desc := "()Ljava/lang/Object;" } : Jvm.MethodName) ({ cls := "java/util/TreeMap$Entry", name := "getKey", desc := "()Ljava/lang/Object;" } : Jvm.MethodName)) ∈ lw_all := lw_g (lw_at lw_m11 83 rfl) rfl
theorem q2606 : (Jvm.Cond.unhidden "java/util/TreeMap$Entry" "getKey" "()Ljava/lang/Object;") ∈ lw_tbl := lw_at lw_m11 84 rfl
theorem q2607 : (Jvm.Cond.instanceMethod ({ cls := "java/util/TreeMap$Entry", name := "getKey", desc := "()Ljava/lang/Object;" } : Jvm.MethodName)) ∈ lw_all := lw_g (lw_at lw_m11 85 rfl) rfl
theorem q2608 : (Jvm.Cond.publicMethod ({ cls := "java/util/TreeMap$Entry", name := "getKey", desc := "()Ljava/lang/Object;" } : Jvm.MethodName)) ∈ lw_tbl := lw_at lw_m11 86 rfl
theorem q2609 : (Jvm.Cond.code ({ cls := "java/util/TreeMap$Entry", name := "getKey", desc := "()Ljava/lang/Object;" } : Jvm.MethodName) prog_87_method_2_code (1 : Nat) (Option.some (Jvm.ClassFile.FieldType.object "java/lang/Object"))) ∈ lw_all := lw_g (lw_at lw_m11 87 rfl) rfl
theorem q2619 : (Jvm.Cond.selects "java/util/TreeMap$Entry" ({ cls := "java/util/Map$Entry", name := "getValue", desc := "()Ljava/lang/Object;" } : Jvm.MethodName) ({ cls := "java/util/TreeMap$Entry", name := "getValue", desc := "()Ljava/lang/Object;" } : Jvm.MethodName)) ∈ lw_all := lw_g (lw_at lw_m11 97 rfl) rfl
theorem q2620 : (Jvm.Cond.unhidden "java/util/TreeMap$Entry" "getValue" "()Ljava/lang/Object;") ∈ lw_tbl := lw_at lw_m11 98 rfl
theorem q2621 : (Jvm.Cond.instanceMethod ({ cls := "java/util/TreeMap$Entry", name := "getValue", desc := "()Ljava/lang/Object;" } : Jvm.MethodName)) ∈ lw_all := lw_g (lw_at lw_m11 99 rfl) rfl
theorem q2622 : (Jvm.Cond.publicMethod ({ cls := "java/util/TreeMap$Entry", name := "getValue", desc := "()Ljava/lang/Object;" } : Jvm.MethodName)) ∈ lw_tbl := lw_at lw_m11 100 rfl
theorem q2623 : (Jvm.Cond.code ({ cls := "java/util/TreeMap$Entry", name := "getValue", desc := "()Ljava/lang/Object;" } : Jvm.MethodName) prog_87_method_3_code (1 : Nat) (Option.some (Jvm.ClassFile.FieldType.object "java/lang/Object"))) ∈ lw_all := lw_g (lw_at lw_m11 101 rfl) rfl
theorem q3694 : (Jvm.Cond.castable "java/util/TreeMap$Entry" "java/lang/Object") ∈ lw_tbl := lw_at lw_m15 212 rfl
theorem in_J33 : ∀ w ∈ wsJ330, w ∈ lw_all := lw_in wsJ330 [1776, 1778, 1780, 1782, 1784, 1786] (by decide +kernel) (by decide +kernel)
/-! java/util/Collections -/
set_option maxRecDepth 100000
def RJ34 : String := "java/util/Collections"
abbrev cJ34_sort : ByteArray := prog_61_method_2_code
def yJ34_sort : MethodName := ⟨RJ34, "sort", "(Ljava/util/List;)V"⟩
def dkwJ34_sort_0 : List UInt8 := [42, 1, 185, 0, 7, 2, 0, 177]
abbrev dktJ34_sort_0 : List UInt8 := dkwJ34_sort_0 ++ []
theorem dksJ34_sort_0 : cJ34_sort.data.toList.drop 0 = dktJ34_sort_0 := by decide +kernel
theorem dJ34_sort_0 : decode cJ34_sort 0 = .ok (.aload_n 0, 1) := dk_42 (dk_at dksJ34_sort_0 0 rfl rfl)
theorem dJ34_sort_1 : decode cJ34_sort 1 = .ok (.aconst_null, 1) := dk_1 (dk_at dksJ34_sort_0 1 rfl rfl)
theorem dJ34_sort_2 : decode cJ34_sort 2 = .ok (.invokeinterface 7 2, 5) := by decide +kernel
theorem dJ34_sort_7 : decode cJ34_sort 7 = .ok (.return_, 1) := dk_177 (dk_at dksJ34_sort_0 7 rfl rfl)
abbrev cJ34_reverse : ByteArray := prog_61_method_11_code
def yJ34_reverse : MethodName := ⟨RJ34, "reverse", "(Ljava/util/List;)V"⟩
def dkwJ34_reverse_5 : List UInt8 := [185, 0, 78, 2, 0, 132, 4, 1, 167, 255, 218, 177]
abbrev dktJ34_reverse_5 : List UInt8 := dkwJ34_reverse_5 ++ []
def dkwJ34_reverse_4 : List UInt8 := [185, 0, 50, 1, 0, 58, 6, 44, 45, 185, 0, 54, 1, 0, 185, 0, 78, 2, 0, 45, 25, 6]
abbrev dktJ34_reverse_4 : List UInt8 := dkwJ34_reverse_4 ++ dktJ34_reverse_5
def dkwJ34_reverse_3 : List UInt8 := [3, 54, 4, 42, 185, 0, 15, 1, 0, 4, 122, 54, 5, 21, 4, 21, 5, 162, 0, 37, 44]
abbrev dktJ34_reverse_3 : List UInt8 := dkwJ34_reverse_3 ++ dktJ34_reverse_4
def dkwJ34_reverse_2 : List UInt8 := [132, 4, 255, 167, 255, 238, 167, 0, 72, 42, 185, 0, 38, 1, 0, 77, 42, 27, 185, 0, 75, 2, 0, 78]
abbrev dktJ34_reverse_2 : List UInt8 := dkwJ34_reverse_2 ++ dktJ34_reverse_3
def dkwJ34_reverse_1 : List UInt8 := [122, 62, 27, 4, 100, 54, 4, 28, 29, 162, 0, 19, 42, 28, 21, 4, 184, 0, 71, 132, 2, 1]
abbrev dktJ34_reverse_1 : List UInt8 := dkwJ34_reverse_1 ++ dktJ34_reverse_2
def dkwJ34_reverse_0 : List UInt8 := [42, 185, 0, 15, 1, 0, 60, 27, 16, 18, 161, 0, 10, 42, 193, 0, 13, 153, 0, 38, 3, 61, 27, 4]
abbrev dktJ34_reverse_0 : List UInt8 := dkwJ34_reverse_0 ++ dktJ34_reverse_1
theorem dksJ34_reverse_0 : cJ34_reverse.data.toList.drop 0 = dktJ34_reverse_0 := by decide +kernel
theorem dksJ34_reverse_1 : cJ34_reverse.data.toList.drop 24 = dktJ34_reverse_1 := dk_seg dksJ34_reverse_0 24 rfl rfl
theorem dksJ34_reverse_2 : cJ34_reverse.data.toList.drop 46 = dktJ34_reverse_2 := dk_seg dksJ34_reverse_1 22 rfl rfl
theorem dksJ34_reverse_3 : cJ34_reverse.data.toList.drop 70 = dktJ34_reverse_3 := dk_seg dksJ34_reverse_2 24 rfl rfl
theorem dksJ34_reverse_4 : cJ34_reverse.data.toList.drop 91 = dktJ34_reverse_4 := dk_seg dksJ34_reverse_3 21 rfl rfl
theorem dksJ34_reverse_5 : cJ34_reverse.data.toList.drop 113 = dktJ34_reverse_5 := dk_seg dksJ34_reverse_4 22 rfl rfl
theorem dJ34_reverse_0 : decode cJ34_reverse 0 = .ok (.aload_n 0, 1) := dk_42 (dk_at dksJ34_reverse_0 0 rfl rfl)
theorem dJ34_reverse_1 : decode cJ34_reverse 1 = .ok (.invokeinterface 15 1, 5) := by decide +kernel
theorem dJ34_reverse_6 : decode cJ34_reverse 6 = .ok (.istore_n 1, 1) := dk_60 (dk_at dksJ34_reverse_0 6 rfl rfl)
theorem dJ34_reverse_7 : decode cJ34_reverse 7 = .ok (.iload_n 1, 1) := dk_27 (dk_at dksJ34_reverse_0 7 rfl rfl)
theorem dJ34_reverse_8 : decode cJ34_reverse 8 = .ok (.bipush 18, 2) := dk_16 18 (dk_at dksJ34_reverse_0 8 rfl rfl)
theorem dJ34_reverse_10 : decode cJ34_reverse 10 = .ok (.if_icmp .lt 10, 3) := dk_161 0 10 (dk_at dksJ34_reverse_0 10 rfl rfl)
theorem dJ34_reverse_13 : decode cJ34_reverse 13 = .ok (.aload_n 0, 1) := dk_42 (dk_at dksJ34_reverse_0 13 rfl rfl)
theorem dJ34_reverse_14 : decode cJ34_reverse 14 = .ok (.instanceof 13, 3) := dk_193 0 13 (dk_at dksJ34_reverse_0 14 rfl rfl)
theorem dJ34_reverse_17 : decode cJ34_reverse 17 = .ok (.ifCond .eq 38, 3) := dk_153 0 38 (dk_at dksJ34_reverse_0 17 rfl rfl)
theorem dJ34_reverse_20 : decode cJ34_reverse 20 = .ok (.iconst 0, 1) := dk_3 (dk_at dksJ34_reverse_0 20 rfl rfl)
theorem dJ34_reverse_21 : decode cJ34_reverse 21 = .ok (.istore_n 2, 1) := dk_61 (dk_at dksJ34_reverse_0 21 rfl rfl)
theorem dJ34_reverse_22 : decode cJ34_reverse 22 = .ok (.iload_n 1, 1) := dk_27 (dk_at dksJ34_reverse_0 22 rfl rfl)
theorem dJ34_reverse_23 : decode cJ34_reverse 23 = .ok (.iconst 1, 1) := dk_4 (dk_at dksJ34_reverse_0 23 rfl rfl)
theorem dJ34_reverse_24 : decode cJ34_reverse 24 = .ok (.ishr, 1) := dk_122 (dk_at dksJ34_reverse_1 0 rfl rfl)
theorem dJ34_reverse_25 : decode cJ34_reverse 25 = .ok (.istore_n 3, 1) := dk_62 (dk_at dksJ34_reverse_1 1 rfl rfl)
theorem dJ34_reverse_26 : decode cJ34_reverse 26 = .ok (.iload_n 1, 1) := dk_27 (dk_at dksJ34_reverse_1 2 rfl rfl)
theorem dJ34_reverse_27 : decode cJ34_reverse 27 = .ok (.iconst 1, 1) := dk_4 (dk_at dksJ34_reverse_1 3 rfl rfl)
theorem dJ34_reverse_28 : decode cJ34_reverse 28 = .ok (.isub, 1) := dk_100 (dk_at dksJ34_reverse_1 4 rfl rfl)
theorem dJ34_reverse_29 : decode cJ34_reverse 29 = .ok (.istore 4, 2) := dk_54 4 (dk_at dksJ34_reverse_1 5 rfl rfl)
theorem dJ34_reverse_31 : decode cJ34_reverse 31 = .ok (.iload_n 2, 1) := dk_28 (dk_at dksJ34_reverse_1 7 rfl rfl)
theorem dJ34_reverse_32 : decode cJ34_reverse 32 = .ok (.iload_n 3, 1) := dk_29 (dk_at dksJ34_reverse_1 8 rfl rfl)
theorem dJ34_reverse_33 : decode cJ34_reverse 33 = .ok (.if_icmp .ge 19, 3) := dk_162 0 19 (dk_at dksJ34_reverse_1 9 rfl rfl)
theorem dJ34_reverse_36 : decode cJ34_reverse 36 = .ok (.aload_n 0, 1) := dk_42 (dk_at dksJ34_reverse_1 12 rfl rfl)
theorem dJ34_reverse_37 : decode cJ34_reverse 37 = .ok (.iload_n 2, 1) := dk_28 (dk_at dksJ34_reverse_1 13 rfl rfl)
theorem dJ34_reverse_38 : decode cJ34_reverse 38 = .ok (.iload 4, 2) := dk_21 4 (dk_at dksJ34_reverse_1 14 rfl rfl)
theorem dJ34_reverse_40 : decode cJ34_reverse 40 = .ok (.invokestatic 71, 3) := dk_184 0 71 (dk_at dksJ34_reverse_1 16 rfl rfl)
theorem dJ34_reverse_43 : decode cJ34_reverse 43 = .ok (.iinc 2 1, 3) := dk_132 2 1 (dk_at dksJ34_reverse_1 19 rfl rfl)
theorem dJ34_reverse_46 : decode cJ34_reverse 46 = .ok (.iinc 4 (-1), 3) := dk_132 4 255 (dk_at dksJ34_reverse_2 0 rfl rfl)
theorem dJ34_reverse_49 : decode cJ34_reverse 49 = .ok (.goto (-18), 3) := dk_167 255 238 (dk_at dksJ34_reverse_2 3 rfl rfl)
theorem dJ34_reverse_52 : decode cJ34_reverse 52 = .ok (.goto 72, 3) := dk_167 0 72 (dk_at dksJ34_reverse_2 6 rfl rfl)
theorem dJ34_reverse_55 : decode cJ34_reverse 55 = .ok (.aload_n 0, 1) := dk_42 (dk_at dksJ34_reverse_2 9 rfl rfl)
theorem dJ34_reverse_56 : decode cJ34_reverse 56 = .ok (.invokeinterface 38 1, 5) := by decide +kernel
theorem dJ34_reverse_61 : decode cJ34_reverse 61 = .ok (.astore_n 2, 1) := dk_77 (dk_at dksJ34_reverse_2 15 rfl rfl)
theorem dJ34_reverse_62 : decode cJ34_reverse 62 = .ok (.aload_n 0, 1) := dk_42 (dk_at dksJ34_reverse_2 16 rfl rfl)
theorem dJ34_reverse_63 : decode cJ34_reverse 63 = .ok (.iload_n 1, 1) := dk_27 (dk_at dksJ34_reverse_2 17 rfl rfl)
theorem dJ34_reverse_64 : decode cJ34_reverse 64 = .ok (.invokeinterface 75 2, 5) := by decide +kernel
theorem dJ34_reverse_69 : decode cJ34_reverse 69 = .ok (.astore_n 3, 1) := dk_78 (dk_at dksJ34_reverse_2 23 rfl rfl)
theorem dJ34_reverse_70 : decode cJ34_reverse 70 = .ok (.iconst 0, 1) := dk_3 (dk_at dksJ34_reverse_3 0 rfl rfl)
theorem dJ34_reverse_71 : decode cJ34_reverse 71 = .ok (.istore 4, 2) := dk_54 4 (dk_at dksJ34_reverse_3 1 rfl rfl)
theorem dJ34_reverse_73 : decode cJ34_reverse 73 = .ok (.aload_n 0, 1) := dk_42 (dk_at dksJ34_reverse_3 3 rfl rfl)
theorem dJ34_reverse_74 : decode cJ34_reverse 74 = .ok (.invokeinterface 15 1, 5) := by decide +kernel
theorem dJ34_reverse_79 : decode cJ34_reverse 79 = .ok (.iconst 1, 1) := dk_4 (dk_at dksJ34_reverse_3 9 rfl rfl)
theorem dJ34_reverse_80 : decode cJ34_reverse 80 = .ok (.ishr, 1) := dk_122 (dk_at dksJ34_reverse_3 10 rfl rfl)
theorem dJ34_reverse_81 : decode cJ34_reverse 81 = .ok (.istore 5, 2) := dk_54 5 (dk_at dksJ34_reverse_3 11 rfl rfl)
theorem dJ34_reverse_83 : decode cJ34_reverse 83 = .ok (.iload 4, 2) := dk_21 4 (dk_at dksJ34_reverse_3 13 rfl rfl)
theorem dJ34_reverse_85 : decode cJ34_reverse 85 = .ok (.iload 5, 2) := dk_21 5 (dk_at dksJ34_reverse_3 15 rfl rfl)
theorem dJ34_reverse_87 : decode cJ34_reverse 87 = .ok (.if_icmp .ge 37, 3) := dk_162 0 37 (dk_at dksJ34_reverse_3 17 rfl rfl)
theorem dJ34_reverse_90 : decode cJ34_reverse 90 = .ok (.aload_n 2, 1) := dk_44 (dk_at dksJ34_reverse_3 20 rfl rfl)
theorem dJ34_reverse_91 : decode cJ34_reverse 91 = .ok (.invokeinterface 50 1, 5) := by decide +kernel
theorem dJ34_reverse_96 : decode cJ34_reverse 96 = .ok (.astore 6, 2) := dk_58 6 (dk_at dksJ34_reverse_4 5 rfl rfl)
theorem dJ34_reverse_98 : decode cJ34_reverse 98 = .ok (.aload_n 2, 1) := dk_44 (dk_at dksJ34_reverse_4 7 rfl rfl)
theorem dJ34_reverse_99 : decode cJ34_reverse 99 = .ok (.aload_n 3, 1) := dk_45 (dk_at dksJ34_reverse_4 8 rfl rfl)
theorem dJ34_reverse_100 : decode cJ34_reverse 100 = .ok (.invokeinterface 54 1, 5) := by decide +kernel
theorem dJ34_reverse_105 : decode cJ34_reverse 105 = .ok (.invokeinterface 78 2, 5) := by decide +kernel
theorem dJ34_reverse_110 : decode cJ34_reverse 110 = .ok (.aload_n 3, 1) := dk_45 (dk_at dksJ34_reverse_4 19 rfl rfl)
theorem dJ34_reverse_111 : decode cJ34_reverse 111 = .ok (.aload 6, 2) := dk_25 6 (dk_at dksJ34_reverse_4 20 rfl rfl)
theorem dJ34_reverse_113 : decode cJ34_reverse 113 = .ok (.invokeinterface 78 2, 5) := by decide +kernel
theorem dJ34_reverse_118 : decode cJ34_reverse 118 = .ok (.iinc 4 1, 3) := dk_132 4 1 (dk_at dksJ34_reverse_5 5 rfl rfl)
theorem dJ34_reverse_121 : decode cJ34_reverse 121 = .ok (.goto (-38), 3) := dk_167 255 218 (dk_at dksJ34_reverse_5 8 rfl rfl)
theorem dJ34_reverse_124 : decode cJ34_reverse 124 = .ok (.return_, 1) := dk_177 (dk_at dksJ34_reverse_5 11 rfl rfl)
abbrev cJ34_swap : ByteArray := prog_61_method_15_code
def yJ34_swap : MethodName := ⟨RJ34, "swap", "(Ljava/util/List;II)V"⟩
def dkwJ34_swap_1 : List UInt8 := [177]
abbrev dktJ34_swap_1 : List UInt8 := dkwJ34_swap_1 ++ []
def dkwJ34_swap_0 : List UInt8 := [42, 78, 45, 27, 45, 28, 45, 27, 185, 0, 28, 2, 0, 185, 0, 109, 3, 0, 185, 0, 109, 3, 0, 87]
abbrev dktJ34_swap_0 : List UInt8 := dkwJ34_swap_0 ++ dktJ34_swap_1
theorem dksJ34_swap_0 : cJ34_swap.data.toList.drop 0 = dktJ34_swap_0 := by decide +kernel
theorem dksJ34_swap_1 : cJ34_swap.data.toList.drop 24 = dktJ34_swap_1 := dk_seg dksJ34_swap_0 24 rfl rfl
theorem dJ34_swap_0 : decode cJ34_swap 0 = .ok (.aload_n 0, 1) := dk_42 (dk_at dksJ34_swap_0 0 rfl rfl)
theorem dJ34_swap_1 : decode cJ34_swap 1 = .ok (.astore_n 3, 1) := dk_78 (dk_at dksJ34_swap_0 1 rfl rfl)
theorem dJ34_swap_2 : decode cJ34_swap 2 = .ok (.aload_n 3, 1) := dk_45 (dk_at dksJ34_swap_0 2 rfl rfl)
theorem dJ34_swap_3 : decode cJ34_swap 3 = .ok (.iload_n 1, 1) := dk_27 (dk_at dksJ34_swap_0 3 rfl rfl)
theorem dJ34_swap_4 : decode cJ34_swap 4 = .ok (.aload_n 3, 1) := dk_45 (dk_at dksJ34_swap_0 4 rfl rfl)
theorem dJ34_swap_5 : decode cJ34_swap 5 = .ok (.iload_n 2, 1) := dk_28 (dk_at dksJ34_swap_0 5 rfl rfl)
theorem dJ34_swap_6 : decode cJ34_swap 6 = .ok (.aload_n 3, 1) := dk_45 (dk_at dksJ34_swap_0 6 rfl rfl)
theorem dJ34_swap_7 : decode cJ34_swap 7 = .ok (.iload_n 1, 1) := dk_27 (dk_at dksJ34_swap_0 7 rfl rfl)
theorem dJ34_swap_8 : decode cJ34_swap 8 = .ok (.invokeinterface 28 2, 5) := by decide +kernel
theorem dJ34_swap_13 : decode cJ34_swap 13 = .ok (.invokeinterface 109 3, 5) := by decide +kernel
theorem dJ34_swap_18 : decode cJ34_swap 18 = .ok (.invokeinterface 109 3, 5) := by decide +kernel
theorem dJ34_swap_23 : decode cJ34_swap 23 = .ok (.pop, 1) := dk_87 (dk_at dksJ34_swap_0 23 rfl rfl)
theorem dJ34_swap_24 : decode cJ34_swap 24 = .ok (.return_, 1) := dk_177 (dk_at dksJ34_swap_1 0 rfl rfl)
theorem q169 : (Jvm.Cond.initialized "java/util/Collections") ∈ lw_all := lw_g (lw_at lw_m1 47 rfl) rfl
theorem q1967 : (Jvm.Cond.static ({ cls := "java/util/Collections", name := "sort", desc := "(Ljava/util/List;)V" } : Jvm.MethodName)) ∈ lw_all := lw_g (lw_at lw_m8 165 rfl) rfl
theorem q1968 : (Jvm.Cond.code ({ cls := "java/util/Collections", name := "sort", desc := "(Ljava/util/List;)V" } : Jvm.MethodName) prog_61_method_2_code (1 : Nat) (Option.none : Option Jvm.ClassFile.FieldType)) ∈ lw_all := lw_g (lw_at lw_m8 166 rfl) rfl
theorem q1969 : (Jvm.Cond.interfaceEntry "java/util/Collections" (7 : Nat)) ∈ lw_tbl := lw_at lw_m8 167 rfl
theorem q1970 : (Jvm.Cond.methodLink "java/util/Collections" (7 : Nat) ({ cls := "java/util/List", name := "sort", desc := "(Ljava/util/Comparator;)V" } : Jvm.MethodName)) ∈ lw_all := lw_g (lw_at lw_m8 168 rfl) rfl
theorem q2647 : (Jvm.Cond.static ({ cls := "java/util/Collections", name := "reverse", desc := "(Ljava/util/List;)V" } : Jvm.MethodName)) ∈ lw_all := lw_g (lw_at lw_m11 125 rfl) rfl
theorem q2648 : (Jvm.Cond.code ({ cls := "java/util/Collections", name := "reverse", desc := "(Ljava/util/List;)V" } : Jvm.MethodName) prog_61_method_11_code (7 : Nat) (Option.none : Option Jvm.ClassFile.FieldType)) ∈ lw_all := lw_g (lw_at lw_m11 126 rfl) rfl
theorem q2649 : (Jvm.Cond.interfaceEntry "java/util/Collections" (15 : Nat)) ∈ lw_tbl := lw_at lw_m11 127 rfl
theorem q2650 : (Jvm.Cond.methodLink "java/util/Collections" (15 : Nat) ({ cls := "java/util/List", name := "size", desc := "()I" } : Jvm.MethodName)) ∈ lw_all := lw_g (lw_at lw_m11 128 rfl) rfl
theorem q2656 : (Jvm.Cond.classLink "java/util/Collections" (13 : Nat) "java/util/RandomAccess") ∈ lw_all := lw_g (lw_at lw_m11 134 rfl) rfl
theorem q2657 : (Jvm.Cond.methodLink "java/util/Collections" (71 : Nat) ({ cls := "java/util/Collections", name := "swap", desc := "(Ljava/util/List;II)V" } : Jvm.MethodName)) ∈ lw_all := lw_g (lw_at lw_m11 135 rfl) rfl
theorem q2658 : (Jvm.Cond.static ({ cls := "java/util/Collections", name := "swap", desc := "(Ljava/util/List;II)V" } : Jvm.MethodName)) ∈ lw_all := lw_g (lw_at lw_m11 136 rfl) rfl
theorem q2659 : (Jvm.Cond.code ({ cls := "java/util/Collections", name := "swap", desc := "(Ljava/util/List;II)V" } : Jvm.MethodName) prog_61_method_15_code (4 : Nat) (Option.none : Option Jvm.ClassFile.FieldType)) ∈ lw_all := lw_g (lw_at lw_m11 137 rfl) rfl
theorem q2660 : (Jvm.Cond.interfaceEntry "java/util/Collections" (28 : Nat)) ∈ lw_tbl := lw_at lw_m11 138 rfl
theorem q2661 : (Jvm.Cond.methodLink "java/util/Collections" (28 : Nat) ({ cls := "java/util/List", name := "get", desc := "(I)Ljava/lang/Object;" } : Jvm.MethodName)) ∈ lw_all := lw_g (lw_at lw_m11 139 rfl) rfl
theorem q2667 : (Jvm.Cond.interfaceEntry "java/util/Collections" (109 : Nat)) ∈ lw_tbl := lw_at lw_m11 145 rfl
theorem q2668 : (Jvm.Cond.methodLink "java/util/Collections" (109 : Nat) ({ cls := "java/util/List", name := "set", desc := "(ILjava/lang/Object;)Ljava/lang/Object;" } : Jvm.MethodName)) ∈ lw_all := lw_g (lw_at lw_m11 146 rfl) rfl
theorem q2674 : (Jvm.Cond.interfaceEntry "java/util/Collections" (38 : Nat)) ∈ lw_tbl := lw_at lw_m11 152 rfl
theorem q2675 : (Jvm.Cond.methodLink "java/util/Collections" (38 : Nat) ({ cls := "java/util/List", name := "listIterator", desc := "()Ljava/util/ListIterator;" } : Jvm.MethodName)) ∈ lw_all := lw_g (lw_at lw_m11 153 rfl) rfl
theorem q2697 : (Jvm.Cond.interfaceEntry "java/util/Collections" (75 : Nat)) ∈ lw_tbl := lw_at lw_m11 175 rfl
theorem q2698 : (Jvm.Cond.methodLink "java/util/Collections" (75 : Nat) ({ cls := "java/util/List", name := "listIterator", desc := "(I)Ljava/util/ListIterator;" } : Jvm.MethodName)) ∈ lw_all := lw_g (lw_at lw_m11 176 rfl) rfl
theorem q2706 : (Jvm.Cond.interfaceEntry "java/util/Collections" (50 : Nat)) ∈ lw_tbl := lw_at lw_m11 184 rfl
theorem q2707 : (Jvm.Cond.methodLink "java/util/Collections" (50 : Nat) ({ cls := "java/util/ListIterator", name := "next", desc := "()Ljava/lang/Object;" } : Jvm.MethodName)) ∈ lw_all := lw_g (lw_at lw_m11 185 rfl) rfl
theorem q2712 : (Jvm.Cond.interfaceEntry "java/util/Collections" (54 : Nat)) ∈ lw_tbl := lw_at lw_m11 190 rfl
theorem q2713 : (Jvm.Cond.methodLink "java/util/Collections" (54 : Nat) ({ cls := "java/util/ListIterator", name := "previous", desc := "()Ljava/lang/Object;" } : Jvm.MethodName)) ∈ lw_all := lw_g (lw_at lw_m11 191 rfl) rfl
theorem q2727 : (Jvm.Cond.interfaceEntry "java/util/Collections" (78 : Nat)) ∈ lw_tbl := lw_at lw_m11 205 rfl
theorem q2728 : (Jvm.Cond.methodLink "java/util/Collections" (78 : Nat) ({ cls := "java/util/ListIterator", name := "set", desc := "(Ljava/lang/Object;)V" } : Jvm.MethodName)) ∈ lw_all := lw_g (lw_at lw_m11 206 rfl) rfl
/-! java/util/ArrayList$ListItr -/
set_option maxRecDepth 100000
def RJ37 : String := "java/util/ArrayList$ListItr"
def TJ37 : u_T := fun k => match k with
  | 0 => ("java/util/ArrayList$Itr", "cursor", "I", false)
  | 1 => ("java/util/ArrayList$Itr", "lastRet", "I", false)
  | 2 => ("java/util/ArrayList$Itr", "expectedModCount", "I", false)
  | 3 => ("java/util/ArrayList$Itr", "this$0", "Ljava/util/ArrayList;", true)
  | _ => ("java/util/ArrayList$ListItr", "this$0", "Ljava/util/ArrayList;", true)
def tyJ37 : Nat → FieldType := fun k => match k with
  | 0 => .int
  | 1 => .int
  | 2 => .int
  | 3 => .object "java/util/ArrayList"
  | _ => .object "java/util/ArrayList"
abbrev wsJ370 : List Cond := u_ws RJ37 TJ37 5
-- two fields of one name: no nmJ37
theorem tyJ37_ok : ∀ k, k < 5 → parseFieldDescriptor (TJ37 k).2.2.1 = some (tyJ37 k) := by decide +kernel
abbrev cJ37_init : ByteArray := prog_56_method_1_code
def yJ37_init : MethodName := ⟨RJ37, "<init>", "(Ljava/util/ArrayList;I)V"⟩
def dkwJ37_init_0 : List UInt8 := [42, 43, 181, 0, 1, 42, 43, 183, 0, 7, 42, 28, 181, 0, 13, 177]
abbrev dktJ37_init_0 : List UInt8 := dkwJ37_init_0 ++ []
theorem dksJ37_init_0 : cJ37_init.data.toList.drop 0 = dktJ37_init_0 := by decide +kernel
theorem dJ37_init_0 : decode cJ37_init 0 = .ok (.aload_n 0, 1) := dk_42 (dk_at dksJ37_init_0 0 rfl rfl)
theorem dJ37_init_1 : decode cJ37_init 1 = .ok (.aload_n 1, 1) := dk_43 (dk_at dksJ37_init_0 1 rfl rfl)
theorem dJ37_init_2 : decode cJ37_init 2 = .ok (.putfield 1, 3) := dk_181 0 1 (dk_at dksJ37_init_0 2 rfl rfl)
theorem dJ37_init_5 : decode cJ37_init 5 = .ok (.aload_n 0, 1) := dk_42 (dk_at dksJ37_init_0 5 rfl rfl)
theorem dJ37_init_6 : decode cJ37_init 6 = .ok (.aload_n 1, 1) := dk_43 (dk_at dksJ37_init_0 6 rfl rfl)
theorem dJ37_init_7 : decode cJ37_init 7 = .ok (.invokespecial 7, 3) := dk_183 0 7 (dk_at dksJ37_init_0 7 rfl rfl)
theorem dJ37_init_10 : decode cJ37_init 10 = .ok (.aload_n 0, 1) := dk_42 (dk_at dksJ37_init_0 10 rfl rfl)
theorem dJ37_init_11 : decode cJ37_init 11 = .ok (.iload_n 2, 1) := dk_28 (dk_at dksJ37_init_0 11 rfl rfl)
theorem dJ37_init_12 : decode cJ37_init 12 = .ok (.putfield 13, 3) := dk_181 0 13 (dk_at dksJ37_init_0 12 rfl rfl)
theorem dJ37_init_15 : decode cJ37_init 15 = .ok (.return_, 1) := dk_177 (dk_at dksJ37_init_0 15 rfl rfl)
abbrev cJ37_previous : ByteArray := prog_56_method_5_code
def yJ37_previous : MethodName := ⟨RJ37, "previous", "()Ljava/lang/Object;"⟩
def dkwJ37_previous_2 : List UInt8 := [181, 0, 13, 44, 42, 27, 90, 181, 0, 34, 50, 176]
abbrev dktJ37_previous_2 : List UInt8 := dkwJ37_previous_2 ++ []
def dkwJ37_previous_1 : List UInt8 := [180, 0, 1, 180, 0, 25, 77, 27, 44, 190, 161, 0, 11, 187, 0, 31, 89, 183, 0, 33, 191, 42, 27]
abbrev dktJ37_previous_1 : List UInt8 := dkwJ37_previous_1 ++ dktJ37_previous_2
def dkwJ37_previous_0 : List UInt8 := [42, 182, 0, 17, 42, 180, 0, 13, 4, 100, 60, 27, 156, 0, 11, 187, 0, 21, 89, 183, 0, 23, 191, 42]
abbrev dktJ37_previous_0 : List UInt8 := dkwJ37_previous_0 ++ dktJ37_previous_1
theorem dksJ37_previous_0 : cJ37_previous.data.toList.drop 0 = dktJ37_previous_0 := by decide +kernel
theorem dksJ37_previous_1 : cJ37_previous.data.toList.drop 24 = dktJ37_previous_1 := dk_seg dksJ37_previous_0 24 rfl rfl
theorem dksJ37_previous_2 : cJ37_previous.data.toList.drop 47 = dktJ37_previous_2 := dk_seg dksJ37_previous_1 23 rfl rfl
theorem dJ37_previous_0 : decode cJ37_previous 0 = .ok (.aload_n 0, 1) := dk_42 (dk_at dksJ37_previous_0 0 rfl rfl)
theorem dJ37_previous_1 : decode cJ37_previous 1 = .ok (.invokevirtual 17, 3) := dk_182 0 17 (dk_at dksJ37_previous_0 1 rfl rfl)
theorem dJ37_previous_4 : decode cJ37_previous 4 = .ok (.aload_n 0, 1) := dk_42 (dk_at dksJ37_previous_0 4 rfl rfl)
theorem dJ37_previous_5 : decode cJ37_previous 5 = .ok (.getfield 13, 3) := dk_180 0 13 (dk_at dksJ37_previous_0 5 rfl rfl)
theorem dJ37_previous_8 : decode cJ37_previous 8 = .ok (.iconst 1, 1) := dk_4 (dk_at dksJ37_previous_0 8 rfl rfl)
theorem dJ37_previous_9 : decode cJ37_previous 9 = .ok (.isub, 1) := dk_100 (dk_at dksJ37_previous_0 9 rfl rfl)
theorem dJ37_previous_10 : decode cJ37_previous 10 = .ok (.istore_n 1, 1) := dk_60 (dk_at dksJ37_previous_0 10 rfl rfl)
theorem dJ37_previous_11 : decode cJ37_previous 11 = .ok (.iload_n 1, 1) := dk_27 (dk_at dksJ37_previous_0 11 rfl rfl)
theorem dJ37_previous_12 : decode cJ37_previous 12 = .ok (.ifCond .ge 11, 3) := dk_156 0 11 (dk_at dksJ37_previous_0 12 rfl rfl)
theorem dJ37_previous_15 : decode cJ37_previous 15 = .ok (.new 21, 3) := dk_187 0 21 (dk_at dksJ37_previous_0 15 rfl rfl)
theorem dJ37_previous_18 : decode cJ37_previous 18 = .ok (.dup, 1) := dk_89 (dk_at dksJ37_previous_0 18 rfl rfl)
theorem dJ37_previous_19 : decode cJ37_previous 19 = .ok (.invokespecial 23, 3) := dk_183 0 23 (dk_at dksJ37_previous_0 19 rfl rfl)
theorem dJ37_previous_22 : decode cJ37_previous 22 = .ok (.athrow, 1) := dk_191 (dk_at dksJ37_previous_0 22 rfl rfl)
theorem dJ37_previous_23 : decode cJ37_previous 23 = .ok (.aload_n 0, 1) := dk_42 (dk_at dksJ37_previous_0 23 rfl rfl)
theorem dJ37_previous_24 : decode cJ37_previous 24 = .ok (.getfield 1, 3) := dk_180 0 1 (dk_at dksJ37_previous_1 0 rfl rfl)
theorem dJ37_previous_27 : decode cJ37_previous 27 = .ok (.getfield 25, 3) := dk_180 0 25 (dk_at dksJ37_previous_1 3 rfl rfl)
theorem dJ37_previous_30 : decode cJ37_previous 30 = .ok (.astore_n 2, 1) := dk_77 (dk_at dksJ37_previous_1 6 rfl rfl)
theorem dJ37_previous_31 : decode cJ37_previous 31 = .ok (.iload_n 1, 1) := dk_27 (dk_at dksJ37_previous_1 7 rfl rfl)
theorem dJ37_previous_32 : decode cJ37_previous 32 = .ok (.aload_n 2, 1) := dk_44 (dk_at dksJ37_previous_1 8 rfl rfl)
theorem dJ37_previous_33 : decode cJ37_previous 33 = .ok (.arraylength, 1) := dk_190 (dk_at dksJ37_previous_1 9 rfl rfl)
theorem dJ37_previous_34 : decode cJ37_previous 34 = .ok (.if_icmp .lt 11, 3) := dk_161 0 11 (dk_at dksJ37_previous_1 10 rfl rfl)
theorem dJ37_previous_37 : decode cJ37_previous 37 = .ok (.new 31, 3) := dk_187 0 31 (dk_at dksJ37_previous_1 13 rfl rfl)
theorem dJ37_previous_40 : decode cJ37_previous 40 = .ok (.dup, 1) := dk_89 (dk_at dksJ37_previous_1 16 rfl rfl)
theorem dJ37_previous_41 : decode cJ37_previous 41 = .ok (.invokespecial 33, 3) := dk_183 0 33 (dk_at dksJ37_previous_1 17 rfl rfl)
theorem dJ37_previous_44 : decode cJ37_previous 44 = .ok (.athrow, 1) := dk_191 (dk_at dksJ37_previous_1 20 rfl rfl)
theorem dJ37_previous_45 : decode cJ37_previous 45 = .ok (.aload_n 0, 1) := dk_42 (dk_at dksJ37_previous_1 21 rfl rfl)
theorem dJ37_previous_46 : decode cJ37_previous 46 = .ok (.iload_n 1, 1) := dk_27 (dk_at dksJ37_previous_1 22 rfl rfl)
theorem dJ37_previous_47 : decode cJ37_previous 47 = .ok (.putfield 13, 3) := dk_181 0 13 (dk_at dksJ37_previous_2 0 rfl rfl)
theorem dJ37_previous_50 : decode cJ37_previous 50 = .ok (.aload_n 2, 1) := dk_44 (dk_at dksJ37_previous_2 3 rfl rfl)
theorem dJ37_previous_51 : decode cJ37_previous 51 = .ok (.aload_n 0, 1) := dk_42 (dk_at dksJ37_previous_2 4 rfl rfl)
theorem dJ37_previous_52 : decode cJ37_previous 52 = .ok (.iload_n 1, 1) := dk_27 (dk_at dksJ37_previous_2 5 rfl rfl)
theorem dJ37_previous_53 : decode cJ37_previous 53 = .ok (.dup_x1, 1) := dk_90 (dk_at dksJ37_previous_2 6 rfl rfl)
theorem dJ37_previous_54 : decode cJ37_previous 54 = .ok (.putfield 34, 3) := dk_181 0 34 (dk_at dksJ37_previous_2 7 rfl rfl)
theorem dJ37_previous_57 : decode cJ37_previous 57 = .ok (.aaload, 1) := dk_50 (dk_at dksJ37_previous_2 10 rfl rfl)
theorem dJ37_previous_58 : decode cJ37_previous 58 = .ok (.areturn, 1) := dk_176 (dk_at dksJ37_previous_2 11 rfl rfl)
abbrev cJ37_set : ByteArray := prog_56_method_6_code
def yJ37_set : MethodName := ⟨RJ37, "set", "(Ljava/lang/Object;)V"⟩
def dkwJ37_set_1 : List UInt8 := [180, 0, 34, 43, 182, 0, 40, 87, 167, 0, 12, 77, 187, 0, 31, 89, 183, 0, 33, 191, 177]
abbrev dktJ37_set_1 : List UInt8 := dkwJ37_set_1 ++ []
def dkwJ37_set_0 : List UInt8 := [42, 180, 0, 34, 156, 0, 11, 187, 0, 37, 89, 183, 0, 39, 191, 42, 182, 0, 17, 42, 180, 0, 1, 42]
abbrev dktJ37_set_0 : List UInt8 := dkwJ37_set_0 ++ dktJ37_set_1
theorem dksJ37_set_0 : cJ37_set.data.toList.drop 0 = dktJ37_set_0 := by decide +kernel
theorem dksJ37_set_1 : cJ37_set.data.toList.drop 24 = dktJ37_set_1 := dk_seg dksJ37_set_0 24 rfl rfl
theorem dJ37_set_0 : decode cJ37_set 0 = .ok (.aload_n 0, 1) := dk_42 (dk_at dksJ37_set_0 0 rfl rfl)
theorem dJ37_set_1 : decode cJ37_set 1 = .ok (.getfield 34, 3) := dk_180 0 34 (dk_at dksJ37_set_0 1 rfl rfl)
theorem dJ37_set_4 : decode cJ37_set 4 = .ok (.ifCond .ge 11, 3) := dk_156 0 11 (dk_at dksJ37_set_0 4 rfl rfl)
theorem dJ37_set_7 : decode cJ37_set 7 = .ok (.new 37, 3) := dk_187 0 37 (dk_at dksJ37_set_0 7 rfl rfl)
theorem dJ37_set_10 : decode cJ37_set 10 = .ok (.dup, 1) := dk_89 (dk_at dksJ37_set_0 10 rfl rfl)
theorem dJ37_set_11 : decode cJ37_set 11 = .ok (.invokespecial 39, 3) := dk_183 0 39 (dk_at dksJ37_set_0 11 rfl rfl)
theorem dJ37_set_14 : decode cJ37_set 14 = .ok (.athrow, 1) := dk_191 (dk_at dksJ37_set_0 14 rfl rfl)
theorem dJ37_set_15 : decode cJ37_set 15 = .ok (.aload_n 0, 1) := dk_42 (dk_at dksJ37_set_0 15 rfl rfl)
theorem dJ37_set_16 : decode cJ37_set 16 = .ok (.invokevirtual 17, 3) := dk_182 0 17 (dk_at dksJ37_set_0 16 rfl rfl)
theorem dJ37_set_19 : decode cJ37_set 19 = .ok (.aload_n 0, 1) := dk_42 (dk_at dksJ37_set_0 19 rfl rfl)
theorem dJ37_set_20 : decode cJ37_set 20 = .ok (.getfield 1, 3) := dk_180 0 1 (dk_at dksJ37_set_0 20 rfl rfl)
theorem dJ37_set_23 : decode cJ37_set 23 = .ok (.aload_n 0, 1) := dk_42 (dk_at dksJ37_set_0 23 rfl rfl)
theorem dJ37_set_24 : decode cJ37_set 24 = .ok (.getfield 34, 3) := dk_180 0 34 (dk_at dksJ37_set_1 0 rfl rfl)
theorem dJ37_set_27 : decode cJ37_set 27 = .ok (.aload_n 1, 1) := dk_43 (dk_at dksJ37_set_1 3 rfl rfl)
theorem dJ37_set_28 : decode cJ37_set 28 = .ok (.invokevirtual 40, 3) := dk_182 0 40 (dk_at dksJ37_set_1 4 rfl rfl)
theorem dJ37_set_31 : decode cJ37_set 31 = .ok (.pop, 1) := dk_87 (dk_at dksJ37_set_1 7 rfl rfl)
theorem dJ37_set_32 : decode cJ37_set 32 = .ok (.goto 12, 3) := dk_167 0 12 (dk_at dksJ37_set_1 8 rfl rfl)
theorem dJ37_set_35 : decode cJ37_set 35 = .ok (.astore_n 2, 1) := dk_77 (dk_at dksJ37_set_1 11 rfl rfl)
theorem dJ37_set_36 : decode cJ37_set 36 = .ok (.new 31, 3) := dk_187 0 31 (dk_at dksJ37_set_1 12 rfl rfl)
theorem dJ37_set_39 : decode cJ37_set 39 = .ok (.dup, 1) := dk_89 (dk_at dksJ37_set_1 15 rfl rfl)
theorem dJ37_set_40 : decode cJ37_set 40 = .ok (.invokespecial 33, 3) := dk_183 0 33 (dk_at dksJ37_set_1 16 rfl rfl)
theorem dJ37_set_43 : decode cJ37_set 43 = .ok (.athrow, 1) := dk_191 (dk_at dksJ37_set_1 19 rfl rfl)
theorem dJ37_set_44 : decode cJ37_set 44 = .ok (.return_, 1) := dk_177 (dk_at dksJ37_set_1 20 rfl rfl)
theorem q173 : (Jvm.Cond.initialized "java/util/ArrayList$ListItr") ∈ lw_all := lw_g (lw_at lw_m1 51 rfl) rfl
theorem q215 : (Jvm.Cond.fieldLink "java/util/ArrayList$ListItr" (25 : Nat) "java/util/ArrayList" "elementData" "[Ljava/lang/Object;") ∈ lw_all := lw_g (lw_at lw_m1 93 rfl) rfl
theorem q726 : (Jvm.Cond.fieldLink "java/util/ArrayList$ListItr" (13 : Nat) "java/util/ArrayList$ListItr" "cursor" "I") ∈ lw_all := lw_g (lw_at lw_m3 124 rfl) rfl
theorem q727 : (Jvm.Cond.sameField "java/util/ArrayList$ListItr" "java/util/ArrayList$Itr" "cursor" "I") ∈ lw_all := lw_g (lw_at lw_m3 125 rfl) rfl
theorem q730 : (Jvm.Cond.fieldLink "java/util/ArrayList$ListItr" (34 : Nat) "java/util/ArrayList$ListItr" "lastRet" "I") ∈ lw_all := lw_g (lw_at lw_m3 128 rfl) rfl
theorem q731 : (Jvm.Cond.sameField "java/util/ArrayList$ListItr" "java/util/ArrayList$Itr" "lastRet" "I") ∈ lw_all := lw_g (lw_at lw_m3 129 rfl) rfl
theorem q753 : (Jvm.Cond.castable "java/util/ArrayList$ListItr" "java/util/Iterator") ∈ lw_tbl := lw_at lw_m3 151 rfl
theorem q754 : (Jvm.Cond.selects "java/util/ArrayList$ListItr" ({ cls := "java/util/Iterator", name := "hasNext", desc := "()Z" } : Jvm.MethodName) ({ cls := "java/util/ArrayList$Itr", name := "hasNext", desc := "()Z" } : Jvm.MethodName)) ∈ lw_all := lw_g (lw_at lw_m3 152 rfl) rfl
theorem q755 : (Jvm.Cond.unhidden "java/util/ArrayList$ListItr" "hasNext" "()Z") ∈ lw_tbl := lw_at lw_m3 153 rfl
theorem q769 : (Jvm.Cond.selects "java/util/ArrayList$ListItr" ({ cls := "java/util/ArrayList$Itr", name := "checkForComodification", desc := "()V" } : Jvm.MethodName) ({ cls := "java/util/ArrayList$Itr", name := "checkForComodification", desc := "()V" } : Jvm.MethodName)) ∈ lw_all := lw_g (lw_at lw_m3 167 rfl) rfl
theorem q792 : (Jvm.Cond.selects "java/util/ArrayList$ListItr" ({ cls := "java/util/Iterator", name := "next", desc := "()Ljava/lang/Object;" } : Jvm.MethodName) ({ cls := "java/util/ArrayList$Itr", name := "next", desc := "()Ljava/lang/Object;" } : Jvm.MethodName)) ∈ lw_all := lw_g (lw_at lw_m3 190 rfl) rfl
theorem q793 : (Jvm.Cond.unhidden "java/util/ArrayList$ListItr" "next" "()Ljava/lang/Object;") ∈ lw_tbl := lw_at lw_m3 191 rfl
theorem q1004 : (Jvm.Cond.selects "java/util/ArrayList$ListItr" ({ cls := "java/lang/Object", name := "getClass", desc := "()Ljava/lang/Class;" } : Jvm.MethodName) ({ cls := "java/lang/Object", name := "getClass", desc := "()Ljava/lang/Class;" } : Jvm.MethodName)) ∈ lw_all := lw_g (lw_at lw_m4 162 rfl) rfl
theorem q2684 : (Jvm.Cond.instantiable "java/util/ArrayList$ListItr" (5 : Nat)) ∈ lw_all := lw_g (lw_at lw_m11 162 rfl) rfl
theorem q2686 : (Jvm.Cond.instanceMethod ({ cls := "java/util/ArrayList$ListItr", name := "<init>", desc := "(Ljava/util/ArrayList;I)V" } : Jvm.MethodName)) ∈ lw_all := lw_g (lw_at lw_m11 164 rfl) rfl
theorem q2687 : (Jvm.Cond.code ({ cls := "java/util/ArrayList$ListItr", name := "<init>", desc := "(Ljava/util/ArrayList;I)V" } : Jvm.MethodName) prog_56_method_1_code (3 : Nat) (Option.none : Option Jvm.ClassFile.FieldType)) ∈ lw_all := lw_g (lw_at lw_m11 165 rfl) rfl
theorem q2688 : (Jvm.Cond.methodLink "java/util/ArrayList$ListItr" (7 : Nat) ({ cls := "java/util/ArrayList$Itr", name := "<init>", desc := "(Ljava/util/ArrayList;)V" } : Jvm.MethodName)) ∈ lw_all := lw_g (lw_at lw_m11 166 rfl) rfl
theorem q2689 : (Jvm.Cond.fieldLink "java/util/ArrayList$ListItr" (1 : Nat) "java/util/ArrayList$ListItr" "this$0" "Ljava/util/ArrayList;") ∈ lw_all := lw_g (lw_at lw_m11 167 rfl) rfl
theorem q2690 : (Jvm.Cond.laysFinal "java/util/ArrayList$ListItr" "java/util/ArrayList$ListItr" "this$0" "Ljava/util/ArrayList;") ∈ lw_all := lw_g (lw_at lw_m11 168 rfl) rfl
theorem q2691 : (Jvm.Cond.soleField "java/util/ArrayList$ListItr" "this$0") ∈ lw_all := lw_g (lw_at lw_m11 169 rfl) rfl
theorem q2692 : (Jvm.Cond.lays "java/util/ArrayList$ListItr" "java/util/ArrayList$Itr" "cursor" "I") ∈ lw_all := lw_g (lw_at lw_m11 170 rfl) rfl
theorem q2693 : (Jvm.Cond.lays "java/util/ArrayList$ListItr" "java/util/ArrayList$Itr" "lastRet" "I") ∈ lw_all := lw_g (lw_at lw_m11 171 rfl) rfl
theorem q2694 : (Jvm.Cond.lays "java/util/ArrayList$ListItr" "java/util/ArrayList$Itr" "expectedModCount" "I") ∈ lw_all := lw_g (lw_at lw_m11 172 rfl) rfl
theorem q2695 : (Jvm.Cond.laysFinal "java/util/ArrayList$ListItr" "java/util/ArrayList$Itr" "this$0" "Ljava/util/ArrayList;") ∈ lw_all := lw_g (lw_at lw_m11 173 rfl) rfl
theorem q2696 : (Jvm.Cond.superclass "java/util/ArrayList$ListItr" "java/util/ArrayList$Itr") ∈ lw_all := lw_g (lw_at lw_m11 174 rfl) rfl
theorem q2710 : (Jvm.Cond.castable "java/util/ArrayList$ListItr" "java/util/ListIterator") ∈ lw_tbl := lw_at lw_m11 188 rfl
theorem q2711 : (Jvm.Cond.selects "java/util/ArrayList$ListItr" ({ cls := "java/util/ListIterator", name := "next", desc := "()Ljava/lang/Object;" } : Jvm.MethodName) ({ cls := "java/util/ArrayList$Itr", name := "next", desc := "()Ljava/lang/Object;" } : Jvm.MethodName)) ∈ lw_all := lw_g (lw_at lw_m11 189 rfl) rfl
theorem q2716 : (Jvm.Cond.selects "java/util/ArrayList$ListItr" ({ cls := "java/util/ListIterator", name := "previous", desc := "()Ljava/lang/Object;" } : Jvm.MethodName) ({ cls := "java/util/ArrayList$ListItr", name := "previous", desc := "()Ljava/lang/Object;" } : Jvm.MethodName)) ∈ lw_all := lw_g (lw_at lw_m11 194 rfl) rfl
theorem q2717 : (Jvm.Cond.unhidden "java/util/ArrayList$ListItr" "previous" "()Ljava/lang/Object;") ∈ lw_tbl := lw_at lw_m11 195 rfl
theorem q2718 : (Jvm.Cond.instanceMethod ({ cls := "java/util/ArrayList$ListItr", name := "previous", desc := "()Ljava/lang/Object;" } : Jvm.MethodName)) ∈ lw_all := lw_g (lw_at lw_m11 196 rfl) rfl
theorem q2719 : (Jvm.Cond.publicMethod ({ cls := "java/util/ArrayList$ListItr", name := "previous", desc := "()Ljava/lang/Object;" } : Jvm.MethodName)) ∈ lw_tbl := lw_at lw_m11 197 rfl
theorem q2720 : (Jvm.Cond.code ({ cls := "java/util/ArrayList$ListItr", name := "previous", desc := "()Ljava/lang/Object;" } : Jvm.MethodName) prog_56_method_5_code (3 : Nat) (Option.some (Jvm.ClassFile.FieldType.object "java/lang/Object"))) ∈ lw_all := lw_g (lw_at lw_m11 198 rfl) rfl
theorem q2721 : (Jvm.Cond.methodLink "java/util/ArrayList$ListItr" (17 : Nat) ({ cls := "java/util/ArrayList$ListItr", name := "checkForComodification", desc := "()V" } : Jvm.MethodName)) ∈ lw_all := lw_g (lw_at lw_m11 199 rfl) rfl
theorem q2722 : (Jvm.Cond.sameMethod "java/util/ArrayList$ListItr" "java/util/ArrayList$Itr" "checkForComodification" "()V") ∈ lw_all := lw_g (lw_at lw_m11 200 rfl) rfl
theorem q2724 : (Jvm.Cond.selects "java/util/ArrayList$ListItr" ({ cls := "java/util/ArrayList$ListItr", name := "checkForComodification", desc := "()V" } : Jvm.MethodName) ({ cls := "java/util/ArrayList$Itr", name := "checkForComodification", desc := "()V" } : Jvm.MethodName)) ∈ lw_all := lw_g (lw_at lw_m11 202 rfl) rfl
theorem q2725 : (Jvm.Cond.classLink "java/util/ArrayList$ListItr" (21 : Nat) "java/util/NoSuchElementException") ∈ lw_all := lw_g (lw_at lw_m11 203 rfl) rfl
theorem q2726 : (Jvm.Cond.methodLink "java/util/ArrayList$ListItr" (23 : Nat) ({ cls := "java/util/NoSuchElementException", name := "<init>", desc := "()V" } : Jvm.MethodName)) ∈ lw_all := lw_g (lw_at lw_m11 204 rfl) rfl
theorem q2731 : (Jvm.Cond.selects "java/util/ArrayList$ListItr" ({ cls := "java/util/ListIterator", name := "set", desc := "(Ljava/lang/Object;)V" } : Jvm.MethodName) ({ cls := "java/util/ArrayList$ListItr", name := "set", desc := "(Ljava/lang/Object;)V" } : Jvm.MethodName)) ∈ lw_all := lw_g (lw_at lw_m11 209 rfl) rfl
theorem q2732 : (Jvm.Cond.unhidden "java/util/ArrayList$ListItr" "set" "(Ljava/lang/Object;)V") ∈ lw_tbl := lw_at lw_m11 210 rfl
theorem q2733 : (Jvm.Cond.instanceMethod ({ cls := "java/util/ArrayList$ListItr", name := "set", desc := "(Ljava/lang/Object;)V" } : Jvm.MethodName)) ∈ lw_all := lw_g (lw_at lw_m11 211 rfl) rfl
theorem q2734 : (Jvm.Cond.publicMethod ({ cls := "java/util/ArrayList$ListItr", name := "set", desc := "(Ljava/lang/Object;)V" } : Jvm.MethodName)) ∈ lw_tbl := lw_at lw_m11 212 rfl
theorem q2735 : (Jvm.Cond.codeWith ({ cls := "java/util/ArrayList$ListItr", name := "set", desc := "(Ljava/lang/Object;)V" } : Jvm.MethodName) prog_56_method_6_code (3 : Nat) (Option.none : Option Jvm.ClassFile.FieldType) [((19 : Nat), (32 : Nat), (35 : Nat), (44 : Nat))]) ∈ lw_all := lw_g (lw_at lw_m11 213 rfl) rfl
theorem q2736 : (Jvm.Cond.classLink "java/util/ArrayList$ListItr" (37 : Nat) "java/lang/IllegalStateException") ∈ lw_all := lw_g (lw_at lw_m11 214 rfl) rfl
theorem q2737 : (Jvm.Cond.methodLink "java/util/ArrayList$ListItr" (39 : Nat) ({ cls := "java/lang/IllegalStateException", name := "<init>", desc := "()V" } : Jvm.MethodName)) ∈ lw_all := lw_g (lw_at lw_m11 215 rfl) rfl
theorem q2738 : (Jvm.Cond.methodLink "java/util/ArrayList$ListItr" (40 : Nat) ({ cls := "java/util/ArrayList", name := "set", desc := "(ILjava/lang/Object;)Ljava/lang/Object;" } : Jvm.MethodName)) ∈ lw_all := lw_g (lw_at lw_m11 216 rfl) rfl
theorem q2739 : (Jvm.Cond.classLink "java/util/ArrayList$ListItr" (31 : Nat) "java/util/ConcurrentModificationException") ∈ lw_all := lw_g (lw_at lw_m11 217 rfl) rfl
theorem q2748 : (Jvm.Cond.methodLink "java/util/ArrayList$ListItr" (33 : Nat) ({ cls := "java/util/ConcurrentModificationException", name := "<init>", desc := "()V" } : Jvm.MethodName)) ∈ lw_all := lw_g (lw_at lw_m11 226 rfl) rfl
theorem q3698 : (Jvm.Cond.castable "java/util/ArrayList$ListItr" "java/lang/Object") ∈ lw_tbl := lw_at lw_m15 216 rfl
theorem in_J37 : ∀ w ∈ wsJ370, w ∈ lw_all := lw_in wsJ370 [2692, 2693, 2694, 2695, 2690] (by decide +kernel) (by decide +kernel)
/-! java/util/ConcurrentModificationException -/
set_option maxRecDepth 100000
def RJ38 : String := "java/util/ConcurrentModificationException"
def TJ38 : u_T := fun k => match k with
  | 0 => ("java/lang/Throwable", "cause", "Ljava/lang/Throwable;", false)
  | 1 => ("java/lang/Throwable", "stackTrace", "[Ljava/lang/StackTraceElement;", false)
  | 2 => ("java/lang/Throwable", "suppressedExceptions", "Ljava/util/List;", false)
  | 3 => ("java/lang/Throwable", "detailMessage", "Ljava/lang/String;", false)
  | 4 => ("java/lang/Throwable", "backtrace", "Ljava/lang/Object;", false)
  | _ => ("java/lang/Throwable", "depth", "I", false)
def tyJ38 : Nat → FieldType := fun k => match k with
  | 0 => .object "java/lang/Throwable"
  | 1 => .array (.object "java/lang/StackTraceElement")
  | 2 => .object "java/util/List"
  | 3 => .object "java/lang/String"
  | 4 => .object "java/lang/Object"
  | _ => .int
abbrev wsJ380 : List Cond := u_ws RJ38 TJ38 6
theorem nmJ38 : ∀ a, a < 6 → ∀ b, b < 6 → a ≠ b → (TJ38 a).2.1 ≠ (TJ38 b).2.1 := by decide +kernel
theorem tyJ38_ok : ∀ k, k < 6 → parseFieldDescriptor (TJ38 k).2.2.1 = some (tyJ38 k) := by decide +kernel
abbrev cJ38_init : ByteArray := prog_64_method_1_code
def yJ38_init : MethodName := ⟨RJ38, "<init>", "()V"⟩
theorem dJ38_init_0 : decode cJ38_init 0 = .ok (.aload_n 0, 1) := by decide +kernel
theorem dJ38_init_1 : decode cJ38_init 1 = .ok (.invokespecial 1, 3) := by decide +kernel
theorem dJ38_init_4 : decode cJ38_init 4 = .ok (.return_, 1) := by decide +kernel
theorem q174 : (Jvm.Cond.initialized "java/util/ConcurrentModificationException") ∈ lw_all := lw_g (lw_at lw_m1 52 rfl) rfl
theorem q577 : (Jvm.Cond.selects "java/util/ConcurrentModificationException" ({ cls := "java/lang/Throwable", name := "fillInStackTrace", desc := "()Ljava/lang/Throwable;" } : Jvm.MethodName) ({ cls := "java/lang/Throwable", name := "fillInStackTrace", desc := "()Ljava/lang/Throwable;" } : Jvm.MethodName)) ∈ lw_all := lw_g (lw_at lw_m2 215 rfl) rfl
theorem q1007 : (Jvm.Cond.selects "java/util/ConcurrentModificationException" ({ cls := "java/lang/Object", name := "getClass", desc := "()Ljava/lang/Class;" } : Jvm.MethodName) ({ cls := "java/lang/Object", name := "getClass", desc := "()Ljava/lang/Class;" } : Jvm.MethodName)) ∈ lw_all := lw_g (lw_at lw_m4 165 rfl) rfl
theorem q2740 : (Jvm.Cond.instantiable "java/util/ConcurrentModificationException" (6 : Nat)) ∈ lw_all := lw_g (lw_at lw_m11 218 rfl) rfl
theorem q2741 : (Jvm.Cond.castable "java/util/ConcurrentModificationException" "java/util/ConcurrentModificationException") ∈ lw_tbl := lw_at lw_m11 219 rfl
theorem q2742 : (Jvm.Cond.selects "java/util/ConcurrentModificationException" ({ cls := "java/lang/Throwable", name := "fillInStackTrace", desc := "(I)Ljava/lang/Throwable;" } : Jvm.MethodName) ({ cls := "java/lang/Throwable", name := "fillInStackTrace", desc := "(I)Ljava/lang/Throwable;" } : Jvm.MethodName)) ∈ lw_all := lw_g (lw_at lw_m11 220 rfl) rfl
theorem q2743 : (Jvm.Cond.lays "java/util/ConcurrentModificationException" "java/lang/Throwable" "cause" "Ljava/lang/Throwable;") ∈ lw_all := lw_g (lw_at lw_m11 221 rfl) rfl
theorem q2744 : (Jvm.Cond.lays "java/util/ConcurrentModificationException" "java/lang/Throwable" "stackTrace" "[Ljava/lang/StackTraceElement;") ∈ lw_all := lw_g (lw_at lw_m11 222 rfl) rfl
theorem q2745 : (Jvm.Cond.lays "java/util/ConcurrentModificationException" "java/lang/Throwable" "suppressedExceptions" "Ljava/util/List;") ∈ lw_all := lw_g (lw_at lw_m11 223 rfl) rfl
theorem q2746 : (Jvm.Cond.lays "java/util/ConcurrentModificationException" "java/lang/Throwable" "detailMessage" "Ljava/lang/String;") ∈ lw_all := lw_g (lw_at lw_m11 224 rfl) rfl
theorem q2747 : (Jvm.Cond.lays "java/util/ConcurrentModificationException" "java/lang/Throwable" "backtrace" "Ljava/lang/Object;") ∈ lw_all := lw_g (lw_at lw_m11 225 rfl) rfl
theorem q2749 : (Jvm.Cond.instanceMethod ({ cls := "java/util/ConcurrentModificationException", name := "<init>", desc := "()V" } : Jvm.MethodName)) ∈ lw_all := lw_g (lw_at lw_m11 227 rfl) rfl
theorem q2750 : (Jvm.Cond.code ({ cls := "java/util/ConcurrentModificationException", name := "<init>", desc := "()V" } : Jvm.MethodName) prog_64_method_1_code (1 : Nat) (Option.none : Option Jvm.ClassFile.FieldType)) ∈ lw_all := lw_g (lw_at lw_m11 228 rfl) rfl
theorem q2751 : (Jvm.Cond.methodLink "java/util/ConcurrentModificationException" (1 : Nat) ({ cls := "java/lang/RuntimeException", name := "<init>", desc := "()V" } : Jvm.MethodName)) ∈ lw_all := lw_g (lw_at lw_m11 229 rfl) rfl
theorem q2752 : (Jvm.Cond.lays "java/util/ConcurrentModificationException" "java/lang/Throwable" "depth" "I") ∈ lw_all := lw_g (lw_at lw_m11 230 rfl) rfl
theorem q2753 : (Jvm.Cond.superclass "java/util/ConcurrentModificationException" "java/lang/RuntimeException") ∈ lw_all := lw_g (lw_at lw_m11 231 rfl) rfl
theorem q3699 : (Jvm.Cond.castable "java/util/ConcurrentModificationException" "java/lang/Object") ∈ lw_tbl := lw_at lw_m15 217 rfl
theorem in_J38 : ∀ w ∈ wsJ380, w ∈ lw_all := lw_in wsJ380 [2743, 2744, 2745, 2746, 2747, 2752] (by decide +kernel) (by decide +kernel)
/-! java/util/AbstractQueue -/
set_option maxRecDepth 100000
def RJ39 : String := "java/util/AbstractQueue"
abbrev cJ39_init : ByteArray := prog_51_method_1_code
def yJ39_init : MethodName := ⟨RJ39, "<init>", "()V"⟩
theorem dJ39_init_0 : decode cJ39_init 0 = .ok (.aload_n 0, 1) := by decide +kernel
theorem dJ39_init_1 : decode cJ39_init 1 = .ok (.invokespecial 1, 3) := by decide +kernel
theorem dJ39_init_4 : decode cJ39_init 4 = .ok (.return_, 1) := by decide +kernel
abbrev cJ39_remove : ByteArray := prog_51_method_3_code
def yJ39_remove : MethodName := ⟨RJ39, "remove", "()Ljava/lang/Object;"⟩
def dkwJ39_remove_0 : List UInt8 := [42, 182, 0, 20, 76, 43, 198, 0, 5, 43, 176, 187, 0, 24, 89, 183, 0, 26, 191]
abbrev dktJ39_remove_0 : List UInt8 := dkwJ39_remove_0 ++ []
theorem dksJ39_remove_0 : cJ39_remove.data.toList.drop 0 = dktJ39_remove_0 := by decide +kernel
theorem dJ39_remove_0 : decode cJ39_remove 0 = .ok (.aload_n 0, 1) := dk_42 (dk_at dksJ39_remove_0 0 rfl rfl)
theorem dJ39_remove_1 : decode cJ39_remove 1 = .ok (.invokevirtual 20, 3) := dk_182 0 20 (dk_at dksJ39_remove_0 1 rfl rfl)
theorem dJ39_remove_4 : decode cJ39_remove 4 = .ok (.astore_n 1, 1) := dk_76 (dk_at dksJ39_remove_0 4 rfl rfl)
theorem dJ39_remove_5 : decode cJ39_remove 5 = .ok (.aload_n 1, 1) := dk_43 (dk_at dksJ39_remove_0 5 rfl rfl)
theorem dJ39_remove_6 : decode cJ39_remove 6 = .ok (.ifnull 5, 3) := dk_198 0 5 (dk_at dksJ39_remove_0 6 rfl rfl)
theorem dJ39_remove_9 : decode cJ39_remove 9 = .ok (.aload_n 1, 1) := dk_43 (dk_at dksJ39_remove_0 9 rfl rfl)
theorem dJ39_remove_10 : decode cJ39_remove 10 = .ok (.areturn, 1) := dk_176 (dk_at dksJ39_remove_0 10 rfl rfl)
theorem dJ39_remove_11 : decode cJ39_remove 11 = .ok (.new 24, 3) := dk_187 0 24 (dk_at dksJ39_remove_0 11 rfl rfl)
theorem dJ39_remove_14 : decode cJ39_remove 14 = .ok (.dup, 1) := dk_89 (dk_at dksJ39_remove_0 14 rfl rfl)
theorem dJ39_remove_15 : decode cJ39_remove 15 = .ok (.invokespecial 26, 3) := dk_183 0 26 (dk_at dksJ39_remove_0 15 rfl rfl)
theorem dJ39_remove_18 : decode cJ39_remove 18 = .ok (.athrow, 1) := dk_191 (dk_at dksJ39_remove_0 18 rfl rfl)
theorem q176 : (Jvm.Cond.initialized "java/util/AbstractQueue") ∈ lw_all := lw_g (lw_at lw_m1 54 rfl) rfl
theorem q2185 : (Jvm.Cond.instanceMethod ({ cls := "java/util/AbstractQueue", name := "<init>", desc := "()V" } : Jvm.MethodName)) ∈ lw_all := lw_g (lw_at lw_m9 143 rfl) rfl
theorem q2186 : (Jvm.Cond.code ({ cls := "java/util/AbstractQueue", name := "<init>", desc := "()V" } : Jvm.MethodName) prog_51_method_1_code (1 : Nat) (Option.none : Option Jvm.ClassFile.FieldType)) ∈ lw_all := lw_g (lw_at lw_m9 144 rfl) rfl
theorem q2187 : (Jvm.Cond.methodLink "java/util/AbstractQueue" (1 : Nat) ({ cls := "java/util/AbstractCollection", name := "<init>", desc := "()V" } : Jvm.MethodName)) ∈ lw_all := lw_g (lw_at lw_m9 145 rfl) rfl
theorem q2290 : (Jvm.Cond.declares ({ cls := "java/util/AbstractQueue", name := "remove", desc := "()Ljava/lang/Object;" } : Jvm.MethodName)) ∈ lw_tbl := lw_at lw_m10 8 rfl
theorem q2292 : (Jvm.Cond.instanceMethod ({ cls := "java/util/AbstractQueue", name := "remove", desc := "()Ljava/lang/Object;" } : Jvm.MethodName)) ∈ lw_all := lw_g (lw_at lw_m10 10 rfl) rfl
theorem q2293 : (Jvm.Cond.code ({ cls := "java/util/AbstractQueue", name := "remove", desc := "()Ljava/lang/Object;" } : Jvm.MethodName) prog_51_method_3_code (2 : Nat) (Option.some (Jvm.ClassFile.FieldType.object "java/lang/Object"))) ∈ lw_all := lw_g (lw_at lw_m10 11 rfl) rfl
theorem q2294 : (Jvm.Cond.superclass "java/util/AbstractQueue" "java/util/AbstractCollection") ∈ lw_all := lw_g (lw_at lw_m10 12 rfl) rfl
theorem q2305 : (Jvm.Cond.classLink "java/util/AbstractQueue" (24 : Nat) "java/util/NoSuchElementException") ∈ lw_all := lw_g (lw_at lw_m10 23 rfl) rfl
theorem q2306 : (Jvm.Cond.methodLink "java/util/AbstractQueue" (26 : Nat) ({ cls := "java/util/NoSuchElementException", name := "<init>", desc := "()V" } : Jvm.MethodName)) ∈ lw_all := lw_g (lw_at lw_m10 24 rfl) rfl
/-! java/util/PriorityQueue -/
set_option maxRecDepth 100000
def RJ40 : String := "java/util/PriorityQueue"
def TJ40 : u_T := fun k => match k with
  | 0 => ("java/util/PriorityQueue", "queue", "[Ljava/lang/Object;", false)
  | 1 => ("java/util/PriorityQueue", "size", "I", false)
  | 2 => ("java/util/PriorityQueue", "comparator", "Ljava/util/Comparator;", true)
  | _ => ("java/util/PriorityQueue", "modCount", "I", false)
def tyJ40 : Nat → FieldType := fun k => match k with
  | 0 => .array (.object "java/lang/Object")
  | 1 => .int
  | 2 => .object "java/util/Comparator"
  | _ => .int
abbrev wsJ400 : List Cond := u_ws RJ40 TJ40 4
theorem nmJ40 : ∀ a, a < 4 → ∀ b, b < 4 → a ≠ b → (TJ40 a).2.1 ≠ (TJ40 b).2.1 := by decide +kernel
theorem tyJ40_ok : ∀ k, k < 4 → parseFieldDescriptor (TJ40 k).2.2.1 = some (tyJ40 k) := by decide +kernel
abbrev cJ40_init : ByteArray := prog_76_method_1_code
def yJ40_init : MethodName := ⟨RJ40, "<init>", "()V"⟩
def dkwJ40_init_0 : List UInt8 := [42, 16, 11, 1, 183, 0, 3, 177]
abbrev dktJ40_init_0 : List UInt8 := dkwJ40_init_0 ++ []
theorem dksJ40_init_0 : cJ40_init.data.toList.drop 0 = dktJ40_init_0 := by decide +kernel
theorem dJ40_init_0 : decode cJ40_init 0 = .ok (.aload_n 0, 1) := dk_42 (dk_at dksJ40_init_0 0 rfl rfl)
theorem dJ40_init_1 : decode cJ40_init 1 = .ok (.bipush 11, 2) := dk_16 11 (dk_at dksJ40_init_0 1 rfl rfl)
theorem dJ40_init_3 : decode cJ40_init 3 = .ok (.aconst_null, 1) := dk_1 (dk_at dksJ40_init_0 3 rfl rfl)
theorem dJ40_init_4 : decode cJ40_init 4 = .ok (.invokespecial 3, 3) := dk_183 0 3 (dk_at dksJ40_init_0 4 rfl rfl)
theorem dJ40_init_7 : decode cJ40_init 7 = .ok (.return_, 1) := dk_177 (dk_at dksJ40_init_0 7 rfl rfl)
abbrev cJ40_init_2 : ByteArray := prog_76_method_4_code
def yJ40_init_2 : MethodName := ⟨RJ40, "<init>", "(ILjava/util/Comparator;)V"⟩
def dkwJ40_init_2_1 : List UInt8 := [181, 0, 17, 42, 44, 181, 0, 21, 177]
abbrev dktJ40_init_2_1 : List UInt8 := dkwJ40_init_2_1 ++ []
def dkwJ40_init_2_0 : List UInt8 := [42, 183, 0, 7, 27, 4, 162, 0, 11, 187, 0, 12, 89, 183, 0, 14, 191, 42, 27, 189, 0, 15]
abbrev dktJ40_init_2_0 : List UInt8 := dkwJ40_init_2_0 ++ dktJ40_init_2_1
theorem dksJ40_init_2_0 : cJ40_init_2.data.toList.drop 0 = dktJ40_init_2_0 := by decide +kernel
theorem dksJ40_init_2_1 : cJ40_init_2.data.toList.drop 22 = dktJ40_init_2_1 := dk_seg dksJ40_init_2_0 22 rfl rfl
theorem dJ40_init_2_0 : decode cJ40_init_2 0 = .ok (.aload_n 0, 1) := dk_42 (dk_at dksJ40_init_2_0 0 rfl rfl)
theorem dJ40_init_2_1 : decode cJ40_init_2 1 = .ok (.invokespecial 7, 3) := dk_183 0 7 (dk_at dksJ40_init_2_0 1 rfl rfl)
theorem dJ40_init_2_4 : decode cJ40_init_2 4 = .ok (.iload_n 1, 1) := dk_27 (dk_at dksJ40_init_2_0 4 rfl rfl)
theorem dJ40_init_2_5 : decode cJ40_init_2 5 = .ok (.iconst 1, 1) := dk_4 (dk_at dksJ40_init_2_0 5 rfl rfl)
theorem dJ40_init_2_6 : decode cJ40_init_2 6 = .ok (.if_icmp .ge 11, 3) := dk_162 0 11 (dk_at dksJ40_init_2_0 6 rfl rfl)
theorem dJ40_init_2_9 : decode cJ40_init_2 9 = .ok (.new 12, 3) := dk_187 0 12 (dk_at dksJ40_init_2_0 9 rfl rfl)
theorem dJ40_init_2_12 : decode cJ40_init_2 12 = .ok (.dup, 1) := dk_89 (dk_at dksJ40_init_2_0 12 rfl rfl)
theorem dJ40_init_2_13 : decode cJ40_init_2 13 = .ok (.invokespecial 14, 3) := dk_183 0 14 (dk_at dksJ40_init_2_0 13 rfl rfl)
theorem dJ40_init_2_16 : decode cJ40_init_2 16 = .ok (.athrow, 1) := dk_191 (dk_at dksJ40_init_2_0 16 rfl rfl)
theorem dJ40_init_2_17 : decode cJ40_init_2 17 = .ok (.aload_n 0, 1) := dk_42 (dk_at dksJ40_init_2_0 17 rfl rfl)
theorem dJ40_init_2_18 : decode cJ40_init_2 18 = .ok (.iload_n 1, 1) := dk_27 (dk_at dksJ40_init_2_0 18 rfl rfl)
theorem dJ40_init_2_19 : decode cJ40_init_2 19 = .ok (.anewarray 15, 3) := dk_189 0 15 (dk_at dksJ40_init_2_0 19 rfl rfl)
theorem dJ40_init_2_22 : decode cJ40_init_2 22 = .ok (.putfield 17, 3) := dk_181 0 17 (dk_at dksJ40_init_2_1 0 rfl rfl)
theorem dJ40_init_2_25 : decode cJ40_init_2 25 = .ok (.aload_n 0, 1) := dk_42 (dk_at dksJ40_init_2_1 3 rfl rfl)
theorem dJ40_init_2_26 : decode cJ40_init_2 26 = .ok (.aload_n 2, 1) := dk_44 (dk_at dksJ40_init_2_1 4 rfl rfl)
theorem dJ40_init_2_27 : decode cJ40_init_2 27 = .ok (.putfield 21, 3) := dk_181 0 21 (dk_at dksJ40_init_2_1 5 rfl rfl)
theorem dJ40_init_2_30 : decode cJ40_init_2 30 = .ok (.return_, 1) := dk_177 (dk_at dksJ40_init_2_1 8 rfl rfl)
abbrev cJ40_add : ByteArray := prog_76_method_13_code
def yJ40_add : MethodName := ⟨RJ40, "add", "(Ljava/lang/Object;)Z"⟩
def dkwJ40_add_0 : List UInt8 := [42, 43, 182, 0, 89, 172]
abbrev dktJ40_add_0 : List UInt8 := dkwJ40_add_0 ++ []
theorem dksJ40_add_0 : cJ40_add.data.toList.drop 0 = dktJ40_add_0 := by decide +kernel
theorem dJ40_add_0 : decode cJ40_add 0 = .ok (.aload_n 0, 1) := dk_42 (dk_at dksJ40_add_0 0 rfl rfl)
theorem dJ40_add_1 : decode cJ40_add 1 = .ok (.aload_n 1, 1) := dk_43 (dk_at dksJ40_add_0 1 rfl rfl)
theorem dJ40_add_2 : decode cJ40_add 2 = .ok (.invokevirtual 89, 3) := dk_182 0 89 (dk_at dksJ40_add_0 2 rfl rfl)
theorem dJ40_add_5 : decode cJ40_add 5 = .ok (.ireturn, 1) := dk_172 (dk_at dksJ40_add_0 5 rfl rfl)
abbrev cJ40_offer : ByteArray := prog_76_method_14_code
def yJ40_offer : MethodName := ⟨RJ40, "offer", "(Ljava/lang/Object;)Z"⟩
def dkwJ40_offer_2 : List UInt8 := [182, 0, 100, 42, 28, 4, 96, 181, 0, 58, 4, 172]
abbrev dktJ40_offer_2 : List UInt8 := dkwJ40_offer_2 ++ []
def dkwJ40_offer_1 : List UInt8 := [180, 0, 58, 61, 28, 42, 180, 0, 17, 190, 161, 0, 10, 42, 28, 4, 96, 182, 0, 96, 42, 28, 43]
abbrev dktJ40_offer_1 : List UInt8 := dkwJ40_offer_1 ++ dktJ40_offer_2
def dkwJ40_offer_0 : List UInt8 := [43, 199, 0, 11, 187, 0, 74, 89, 183, 0, 76, 191, 42, 89, 180, 0, 93, 4, 96, 181, 0, 93, 42]
abbrev dktJ40_offer_0 : List UInt8 := dkwJ40_offer_0 ++ dktJ40_offer_1
theorem dksJ40_offer_0 : cJ40_offer.data.toList.drop 0 = dktJ40_offer_0 := by decide +kernel
theorem dksJ40_offer_1 : cJ40_offer.data.toList.drop 23 = dktJ40_offer_1 := dk_seg dksJ40_offer_0 23 rfl rfl
theorem dksJ40_offer_2 : cJ40_offer.data.toList.drop 46 = dktJ40_offer_2 := dk_seg dksJ40_offer_1 23 rfl rfl
theorem dJ40_offer_0 : decode cJ40_offer 0 = .ok (.aload_n 1, 1) := dk_43 (dk_at dksJ40_offer_0 0 rfl rfl)
theorem dJ40_offer_1 : decode cJ40_offer 1 = .ok (.ifnonnull 11, 3) := dk_199 0 11 (dk_at dksJ40_offer_0 1 rfl rfl)
theorem dJ40_offer_4 : decode cJ40_offer 4 = .ok (.new 74, 3) := dk_187 0 74 (dk_at dksJ40_offer_0 4 rfl rfl)
theorem dJ40_offer_7 : decode cJ40_offer 7 = .ok (.dup, 1) := dk_89 (dk_at dksJ40_offer_0 7 rfl rfl)
theorem dJ40_offer_8 : decode cJ40_offer 8 = .ok (.invokespecial 76, 3) := dk_183 0 76 (dk_at dksJ40_offer_0 8 rfl rfl)
theorem dJ40_offer_11 : decode cJ40_offer 11 = .ok (.athrow, 1) := dk_191 (dk_at dksJ40_offer_0 11 rfl rfl)
theorem dJ40_offer_12 : decode cJ40_offer 12 = .ok (.aload_n 0, 1) := dk_42 (dk_at dksJ40_offer_0 12 rfl rfl)
theorem dJ40_offer_13 : decode cJ40_offer 13 = .ok (.dup, 1) := dk_89 (dk_at dksJ40_offer_0 13 rfl rfl)
theorem dJ40_offer_14 : decode cJ40_offer 14 = .ok (.getfield 93, 3) := dk_180 0 93 (dk_at dksJ40_offer_0 14 rfl rfl)
theorem dJ40_offer_17 : decode cJ40_offer 17 = .ok (.iconst 1, 1) := dk_4 (dk_at dksJ40_offer_0 17 rfl rfl)
theorem dJ40_offer_18 : decode cJ40_offer 18 = .ok (.iadd, 1) := dk_96 (dk_at dksJ40_offer_0 18 rfl rfl)
theorem dJ40_offer_19 : decode cJ40_offer 19 = .ok (.putfield 93, 3) := dk_181 0 93 (dk_at dksJ40_offer_0 19 rfl rfl)
theorem dJ40_offer_22 : decode cJ40_offer 22 = .ok (.aload_n 0, 1) := dk_42 (dk_at dksJ40_offer_0 22 rfl rfl)
theorem dJ40_offer_23 : decode cJ40_offer 23 = .ok (.getfield 58, 3) := dk_180 0 58 (dk_at dksJ40_offer_1 0 rfl rfl)
theorem dJ40_offer_26 : decode cJ40_offer 26 = .ok (.istore_n 2, 1) := dk_61 (dk_at dksJ40_offer_1 3 rfl rfl)
theorem dJ40_offer_27 : decode cJ40_offer 27 = .ok (.iload_n 2, 1) := dk_28 (dk_at dksJ40_offer_1 4 rfl rfl)
theorem dJ40_offer_28 : decode cJ40_offer 28 = .ok (.aload_n 0, 1) := dk_42 (dk_at dksJ40_offer_1 5 rfl rfl)
theorem dJ40_offer_29 : decode cJ40_offer 29 = .ok (.getfield 17, 3) := dk_180 0 17 (dk_at dksJ40_offer_1 6 rfl rfl)
theorem dJ40_offer_32 : decode cJ40_offer 32 = .ok (.arraylength, 1) := dk_190 (dk_at dksJ40_offer_1 9 rfl rfl)
theorem dJ40_offer_33 : decode cJ40_offer 33 = .ok (.if_icmp .lt 10, 3) := dk_161 0 10 (dk_at dksJ40_offer_1 10 rfl rfl)
theorem dJ40_offer_36 : decode cJ40_offer 36 = .ok (.aload_n 0, 1) := dk_42 (dk_at dksJ40_offer_1 13 rfl rfl)
theorem dJ40_offer_37 : decode cJ40_offer 37 = .ok (.iload_n 2, 1) := dk_28 (dk_at dksJ40_offer_1 14 rfl rfl)
theorem dJ40_offer_38 : decode cJ40_offer 38 = .ok (.iconst 1, 1) := dk_4 (dk_at dksJ40_offer_1 15 rfl rfl)
theorem dJ40_offer_39 : decode cJ40_offer 39 = .ok (.iadd, 1) := dk_96 (dk_at dksJ40_offer_1 16 rfl rfl)
theorem dJ40_offer_40 : decode cJ40_offer 40 = .ok (.invokevirtual 96, 3) := dk_182 0 96 (dk_at dksJ40_offer_1 17 rfl rfl)
theorem dJ40_offer_43 : decode cJ40_offer 43 = .ok (.aload_n 0, 1) := dk_42 (dk_at dksJ40_offer_1 20 rfl rfl)
theorem dJ40_offer_44 : decode cJ40_offer 44 = .ok (.iload_n 2, 1) := dk_28 (dk_at dksJ40_offer_1 21 rfl rfl)
theorem dJ40_offer_45 : decode cJ40_offer 45 = .ok (.aload_n 1, 1) := dk_43 (dk_at dksJ40_offer_1 22 rfl rfl)
theorem dJ40_offer_46 : decode cJ40_offer 46 = .ok (.invokevirtual 100, 3) := dk_182 0 100 (dk_at dksJ40_offer_2 0 rfl rfl)
theorem dJ40_offer_49 : decode cJ40_offer 49 = .ok (.aload_n 0, 1) := dk_42 (dk_at dksJ40_offer_2 3 rfl rfl)
theorem dJ40_offer_50 : decode cJ40_offer 50 = .ok (.iload_n 2, 1) := dk_28 (dk_at dksJ40_offer_2 4 rfl rfl)
theorem dJ40_offer_51 : decode cJ40_offer 51 = .ok (.iconst 1, 1) := dk_4 (dk_at dksJ40_offer_2 5 rfl rfl)
theorem dJ40_offer_52 : decode cJ40_offer 52 = .ok (.iadd, 1) := dk_96 (dk_at dksJ40_offer_2 6 rfl rfl)
theorem dJ40_offer_53 : decode cJ40_offer 53 = .ok (.putfield 58, 3) := dk_181 0 58 (dk_at dksJ40_offer_2 7 rfl rfl)
theorem dJ40_offer_56 : decode cJ40_offer 56 = .ok (.iconst 1, 1) := dk_4 (dk_at dksJ40_offer_2 10 rfl rfl)
theorem dJ40_offer_57 : decode cJ40_offer 57 = .ok (.ireturn, 1) := dk_172 (dk_at dksJ40_offer_2 11 rfl rfl)
abbrev cJ40_grow : ByteArray := prog_76_method_12_code
def yJ40_grow : MethodName := ⟨RJ40, "grow", "(I)V"⟩
def dkwJ40_grow_1 : List UInt8 := [122, 184, 0, 80, 62, 42, 42, 180, 0, 17, 29, 184, 0, 86, 181, 0, 17, 177]
abbrev dktJ40_grow_1 : List UInt8 := dkwJ40_grow_1 ++ []
def dkwJ40_grow_0 : List UInt8 := [42, 180, 0, 17, 190, 61, 28, 27, 28, 100, 28, 16, 64, 162, 0, 9, 28, 5, 96, 167, 0, 6, 28, 4]
abbrev dktJ40_grow_0 : List UInt8 := dkwJ40_grow_0 ++ dktJ40_grow_1
theorem dksJ40_grow_0 : cJ40_grow.data.toList.drop 0 = dktJ40_grow_0 := by decide +kernel
theorem dksJ40_grow_1 : cJ40_grow.data.toList.drop 24 = dktJ40_grow_1 := dk_seg dksJ40_grow_0 24 rfl rfl
theorem dJ40_grow_0 : decode cJ40_grow 0 = .ok (.aload_n 0, 1) := dk_42 (dk_at dksJ40_grow_0 0 rfl rfl)
theorem dJ40_grow_1 : decode cJ40_grow 1 = .ok (.getfield 17, 3) := dk_180 0 17 (dk_at dksJ40_grow_0 1 rfl rfl)
theorem dJ40_grow_4 : decode cJ40_grow 4 = .ok (.arraylength, 1) := dk_190 (dk_at dksJ40_grow_0 4 rfl rfl)
theorem dJ40_grow_5 : decode cJ40_grow 5 = .ok (.istore_n 2, 1) := dk_61 (dk_at dksJ40_grow_0 5 rfl rfl)
theorem dJ40_grow_6 : decode cJ40_grow 6 = .ok (.iload_n 2, 1) := dk_28 (dk_at dksJ40_grow_0 6 rfl rfl)
theorem dJ40_grow_7 : decode cJ40_grow 7 = .ok (.iload_n 1, 1) := dk_27 (dk_at dksJ40_grow_0 7 rfl rfl)
theorem dJ40_grow_8 : decode cJ40_grow 8 = .ok (.iload_n 2, 1) := dk_28 (dk_at dksJ40_grow_0 8 rfl rfl)
theorem dJ40_grow_9 : decode cJ40_grow 9 = .ok (.isub, 1) := dk_100 (dk_at dksJ40_grow_0 9 rfl rfl)
theorem dJ40_grow_10 : decode cJ40_grow 10 = .ok (.iload_n 2, 1) := dk_28 (dk_at dksJ40_grow_0 10 rfl rfl)
theorem dJ40_grow_11 : decode cJ40_grow 11 = .ok (.bipush 64, 2) := dk_16 64 (dk_at dksJ40_grow_0 11 rfl rfl)
theorem dJ40_grow_13 : decode cJ40_grow 13 = .ok (.if_icmp .ge 9, 3) := dk_162 0 9 (dk_at dksJ40_grow_0 13 rfl rfl)
theorem dJ40_grow_16 : decode cJ40_grow 16 = .ok (.iload_n 2, 1) := dk_28 (dk_at dksJ40_grow_0 16 rfl rfl)
theorem dJ40_grow_17 : decode cJ40_grow 17 = .ok (.iconst 2, 1) := dk_5 (dk_at dksJ40_grow_0 17 rfl rfl)
theorem dJ40_grow_18 : decode cJ40_grow 18 = .ok (.iadd, 1) := dk_96 (dk_at dksJ40_grow_0 18 rfl rfl)
theorem dJ40_grow_19 : decode cJ40_grow 19 = .ok (.goto 6, 3) := dk_167 0 6 (dk_at dksJ40_grow_0 19 rfl rfl)
theorem dJ40_grow_22 : decode cJ40_grow 22 = .ok (.iload_n 2, 1) := dk_28 (dk_at dksJ40_grow_0 22 rfl rfl)
theorem dJ40_grow_23 : decode cJ40_grow 23 = .ok (.iconst 1, 1) := dk_4 (dk_at dksJ40_grow_0 23 rfl rfl)
theorem dJ40_grow_24 : decode cJ40_grow 24 = .ok (.ishr, 1) := dk_122 (dk_at dksJ40_grow_1 0 rfl rfl)
theorem dJ40_grow_25 : decode cJ40_grow 25 = .ok (.invokestatic 80, 3) := dk_184 0 80 (dk_at dksJ40_grow_1 1 rfl rfl)
theorem dJ40_grow_28 : decode cJ40_grow 28 = .ok (.istore_n 3, 1) := dk_62 (dk_at dksJ40_grow_1 4 rfl rfl)
theorem dJ40_grow_29 : decode cJ40_grow 29 = .ok (.aload_n 0, 1) := dk_42 (dk_at dksJ40_grow_1 5 rfl rfl)
theorem dJ40_grow_30 : decode cJ40_grow 30 = .ok (.aload_n 0, 1) := dk_42 (dk_at dksJ40_grow_1 6 rfl rfl)
theorem dJ40_grow_31 : decode cJ40_grow 31 = .ok (.getfield 17, 3) := dk_180 0 17 (dk_at dksJ40_grow_1 7 rfl rfl)
theorem dJ40_grow_34 : decode cJ40_grow 34 = .ok (.iload_n 3, 1) := dk_29 (dk_at dksJ40_grow_1 10 rfl rfl)
theorem dJ40_grow_35 : decode cJ40_grow 35 = .ok (.invokestatic 86, 3) := dk_184 0 86 (dk_at dksJ40_grow_1 11 rfl rfl)
theorem dJ40_grow_38 : decode cJ40_grow 38 = .ok (.putfield 17, 3) := dk_181 0 17 (dk_at dksJ40_grow_1 14 rfl rfl)
theorem dJ40_grow_41 : decode cJ40_grow 41 = .ok (.return_, 1) := dk_177 (dk_at dksJ40_grow_1 17 rfl rfl)
abbrev cJ40_siftUp : ByteArray := prog_76_method_27_code
def yJ40_siftUp : MethodName := ⟨RJ40, "siftUp", "(ILjava/lang/Object;)V"⟩
def dkwJ40_siftUp_1 : List UInt8 := [44, 42, 180, 0, 17, 184, 0, 140, 177]
abbrev dktJ40_siftUp_1 : List UInt8 := dkwJ40_siftUp_1 ++ []
def dkwJ40_siftUp_0 : List UInt8 := [42, 180, 0, 21, 198, 0, 19, 27, 44, 42, 180, 0, 17, 42, 180, 0, 21, 184, 0, 136, 167, 0, 12, 27]
abbrev dktJ40_siftUp_0 : List UInt8 := dkwJ40_siftUp_0 ++ dktJ40_siftUp_1
theorem dksJ40_siftUp_0 : cJ40_siftUp.data.toList.drop 0 = dktJ40_siftUp_0 := by decide +kernel
theorem dksJ40_siftUp_1 : cJ40_siftUp.data.toList.drop 24 = dktJ40_siftUp_1 := dk_seg dksJ40_siftUp_0 24 rfl rfl
theorem dJ40_siftUp_0 : decode cJ40_siftUp 0 = .ok (.aload_n 0, 1) := dk_42 (dk_at dksJ40_siftUp_0 0 rfl rfl)
theorem dJ40_siftUp_1 : decode cJ40_siftUp 1 = .ok (.getfield 21, 3) := dk_180 0 21 (dk_at dksJ40_siftUp_0 1 rfl rfl)
theorem dJ40_siftUp_4 : decode cJ40_siftUp 4 = .ok (.ifnull 19, 3) := dk_198 0 19 (dk_at dksJ40_siftUp_0 4 rfl rfl)
theorem dJ40_siftUp_7 : decode cJ40_siftUp 7 = .ok (.iload_n 1, 1) := dk_27 (dk_at dksJ40_siftUp_0 7 rfl rfl)
theorem dJ40_siftUp_8 : decode cJ40_siftUp 8 = .ok (.aload_n 2, 1) := dk_44 (dk_at dksJ40_siftUp_0 8 rfl rfl)
theorem dJ40_siftUp_9 : decode cJ40_siftUp 9 = .ok (.aload_n 0, 1) := dk_42 (dk_at dksJ40_siftUp_0 9 rfl rfl)
theorem dJ40_siftUp_10 : decode cJ40_siftUp 10 = .ok (.getfield 17, 3) := dk_180 0 17 (dk_at dksJ40_siftUp_0 10 rfl rfl)
theorem dJ40_siftUp_13 : decode cJ40_siftUp 13 = .ok (.aload_n 0, 1) := dk_42 (dk_at dksJ40_siftUp_0 13 rfl rfl)
theorem dJ40_siftUp_14 : decode cJ40_siftUp 14 = .ok (.getfield 21, 3) := dk_180 0 21 (dk_at dksJ40_siftUp_0 14 rfl rfl)
theorem dJ40_siftUp_17 : decode cJ40_siftUp 17 = .ok (.invokestatic 136, 3) := dk_184 0 136 (dk_at dksJ40_siftUp_0 17 rfl rfl)
theorem dJ40_siftUp_20 : decode cJ40_siftUp 20 = .ok (.goto 12, 3) := dk_167 0 12 (dk_at dksJ40_siftUp_0 20 rfl rfl)
theorem dJ40_siftUp_23 : decode cJ40_siftUp 23 = .ok (.iload_n 1, 1) := dk_27 (dk_at dksJ40_siftUp_0 23 rfl rfl)
theorem dJ40_siftUp_24 : decode cJ40_siftUp 24 = .ok (.aload_n 2, 1) := dk_44 (dk_at dksJ40_siftUp_1 0 rfl rfl)
theorem dJ40_siftUp_25 : decode cJ40_siftUp 25 = .ok (.aload_n 0, 1) := dk_42 (dk_at dksJ40_siftUp_1 1 rfl rfl)
theorem dJ40_siftUp_26 : decode cJ40_siftUp 26 = .ok (.getfield 17, 3) := dk_180 0 17 (dk_at dksJ40_siftUp_1 2 rfl rfl)
theorem dJ40_siftUp_29 : decode cJ40_siftUp 29 = .ok (.invokestatic 140, 3) := dk_184 0 140 (dk_at dksJ40_siftUp_1 5 rfl rfl)
theorem dJ40_siftUp_32 : decode cJ40_siftUp 32 = .ok (.return_, 1) := dk_177 (dk_at dksJ40_siftUp_1 8 rfl rfl)
abbrev cJ40_siftUpUsingComparator : ByteArray := prog_76_method_29_code
def yJ40_siftUpUsingComparator : MethodName := ⟨RJ40, "siftUpUsingComparator", "(ILjava/lang/Object;[Ljava/lang/Object;Ljava/util/Comparator;)V"⟩
def dkwJ40_siftUpUsingComparator_2 : List UInt8 := [43, 83, 177]
abbrev dktJ40_siftUpUsingComparator_2 : List UInt8 := dkwJ40_siftUpUsingComparator_2 ++ []
def dkwJ40_siftUpUsingComparator_1 : List UInt8 := [185, 0, 149, 3, 0, 155, 0, 6, 167, 0, 14, 44, 26, 25, 5, 83, 21, 4, 59, 167, 255, 216, 44, 26]
abbrev dktJ40_siftUpUsingComparator_1 : List UInt8 := dkwJ40_siftUpUsingComparator_1 ++ dktJ40_siftUpUsingComparator_2
def dkwJ40_siftUpUsingComparator_0 : List UInt8 := [26, 158, 0, 42, 26, 4, 100, 4, 124, 54, 4, 44, 21, 4, 50, 58, 5, 45, 43, 25, 5]
abbrev dktJ40_siftUpUsingComparator_0 : List UInt8 := dkwJ40_siftUpUsingComparator_0 ++ dktJ40_siftUpUsingComparator_1
theorem dksJ40_siftUpUsingComparator_0 : cJ40_siftUpUsingComparator.data.toList.drop 0 = dktJ40_siftUpUsingComparator_0 := by decide +kernel
theorem dksJ40_siftUpUsingComparator_1 : cJ40_siftUpUsingComparator.data.toList.drop 21 = dktJ40_siftUpUsingComparator_1 := dk_seg dksJ40_siftUpUsingComparator_0 21 rfl rfl
theorem dksJ40_siftUpUsingComparator_2 : cJ40_siftUpUsingComparator.data.toList.drop 45 = dktJ40_siftUpUsingComparator_2 := dk_seg dksJ40_siftUpUsingComparator_1 24 rfl rfl
theorem dJ40_siftUpUsingComparator_0 : decode cJ40_siftUpUsingComparator 0 = .ok (.iload_n 0, 1) := dk_26 (dk_at dksJ40_siftUpUsingComparator_0 0 rfl rfl)
theorem dJ40_siftUpUsingComparator_1 : decode cJ40_siftUpUsingComparator 1 = .ok (.ifCond .le 42, 3) := dk_158 0 42 (dk_at dksJ40_siftUpUsingComparator_0 1 rfl rfl)
theorem dJ40_siftUpUsingComparator_4 : decode cJ40_siftUpUsingComparator 4 = .ok (.iload_n 0, 1) := dk_26 (dk_at dksJ40_siftUpUsingComparator_0 4 rfl rfl)
theorem dJ40_siftUpUsingComparator_5 : decode cJ40_siftUpUsingComparator 5 = .ok (.iconst 1, 1) := dk_4 (dk_at dksJ40_siftUpUsingComparator_0 5 rfl rfl)
theorem dJ40_siftUpUsingComparator_6 : decode cJ40_siftUpUsingComparator 6 = .ok (.isub, 1) := dk_100 (dk_at dksJ40_siftUpUsingComparator_0 6 rfl rfl)
theorem dJ40_siftUpUsingComparator_7 : decode cJ40_siftUpUsingComparator 7 = .ok (.iconst 1, 1) := dk_4 (dk_at dksJ40_siftUpUsingComparator_0 7 rfl rfl)
theorem dJ40_siftUpUsingComparator_8 : decode cJ40_siftUpUsingComparator 8 = .ok (.iushr, 1) := dk_124 (dk_at dksJ40_siftUpUsingComparator_0 8 rfl rfl)
theorem dJ40_siftUpUsingComparator_9 : decode cJ40_siftUpUsingComparator 9 = .ok (.istore 4, 2) := dk_54 4 (dk_at dksJ40_siftUpUsingComparator_0 9 rfl rfl)
theorem dJ40_siftUpUsingComparator_11 : decode cJ40_siftUpUsingComparator 11 = .ok (.aload_n 2, 1) := dk_44 (dk_at dksJ40_siftUpUsingComparator_0 11 rfl rfl)
theorem dJ40_siftUpUsingComparator_12 : decode cJ40_siftUpUsingComparator 12 = .ok (.iload 4, 2) := dk_21 4 (dk_at dksJ40_siftUpUsingComparator_0 12 rfl rfl)
theorem dJ40_siftUpUsingComparator_14 : decode cJ40_siftUpUsingComparator 14 = .ok (.aaload, 1) := dk_50 (dk_at dksJ40_siftUpUsingComparator_0 14 rfl rfl)
theorem dJ40_siftUpUsingComparator_15 : decode cJ40_siftUpUsingComparator 15 = .ok (.astore 5, 2) := dk_58 5 (dk_at dksJ40_siftUpUsingComparator_0 15 rfl rfl)
theorem dJ40_siftUpUsingComparator_17 : decode cJ40_siftUpUsingComparator 17 = .ok (.aload_n 3, 1) := dk_45 (dk_at dksJ40_siftUpUsingComparator_0 17 rfl rfl)
theorem dJ40_siftUpUsingComparator_18 : decode cJ40_siftUpUsingComparator 18 = .ok (.aload_n 1, 1) := dk_43 (dk_at dksJ40_siftUpUsingComparator_0 18 rfl rfl)
theorem dJ40_siftUpUsingComparator_19 : decode cJ40_siftUpUsingComparator 19 = .ok (.aload 5, 2) := dk_25 5 (dk_at dksJ40_siftUpUsingComparator_0 19 rfl rfl)
theorem dJ40_siftUpUsingComparator_21 : decode cJ40_siftUpUsingComparator 21 = .ok (.invokeinterface 149 3, 5) := by decide +kernel
theorem dJ40_siftUpUsingComparator_26 : decode cJ40_siftUpUsingComparator 26 = .ok (.ifCond .lt 6, 3) := dk_155 0 6 (dk_at dksJ40_siftUpUsingComparator_1 5 rfl rfl)
theorem dJ40_siftUpUsingComparator_29 : decode cJ40_siftUpUsingComparator 29 = .ok (.goto 14, 3) := dk_167 0 14 (dk_at dksJ40_siftUpUsingComparator_1 8 rfl rfl)
theorem dJ40_siftUpUsingComparator_32 : decode cJ40_siftUpUsingComparator 32 = .ok (.aload_n 2, 1) := dk_44 (dk_at dksJ40_siftUpUsingComparator_1 11 rfl rfl)
theorem dJ40_siftUpUsingComparator_33 : decode cJ40_siftUpUsingComparator 33 = .ok (.iload_n 0, 1) := dk_26 (dk_at dksJ40_siftUpUsingComparator_1 12 rfl rfl)
theorem dJ40_siftUpUsingComparator_34 : decode cJ40_siftUpUsingComparator 34 = .ok (.aload 5, 2) := dk_25 5 (dk_at dksJ40_siftUpUsingComparator_1 13 rfl rfl)
theorem dJ40_siftUpUsingComparator_36 : decode cJ40_siftUpUsingComparator 36 = .ok (.aastore, 1) := dk_83 (dk_at dksJ40_siftUpUsingComparator_1 15 rfl rfl)
theorem dJ40_siftUpUsingComparator_37 : decode cJ40_siftUpUsingComparator 37 = .ok (.iload 4, 2) := dk_21 4 (dk_at dksJ40_siftUpUsingComparator_1 16 rfl rfl)
theorem dJ40_siftUpUsingComparator_39 : decode cJ40_siftUpUsingComparator 39 = .ok (.istore_n 0, 1) := dk_59 (dk_at dksJ40_siftUpUsingComparator_1 18 rfl rfl)
theorem dJ40_siftUpUsingComparator_40 : decode cJ40_siftUpUsingComparator 40 = .ok (.goto (-40), 3) := dk_167 255 216 (dk_at dksJ40_siftUpUsingComparator_1 19 rfl rfl)
theorem dJ40_siftUpUsingComparator_43 : decode cJ40_siftUpUsingComparator 43 = .ok (.aload_n 2, 1) := dk_44 (dk_at dksJ40_siftUpUsingComparator_1 22 rfl rfl)
theorem dJ40_siftUpUsingComparator_44 : decode cJ40_siftUpUsingComparator 44 = .ok (.iload_n 0, 1) := dk_26 (dk_at dksJ40_siftUpUsingComparator_1 23 rfl rfl)
theorem dJ40_siftUpUsingComparator_45 : decode cJ40_siftUpUsingComparator 45 = .ok (.aload_n 1, 1) := dk_43 (dk_at dksJ40_siftUpUsingComparator_2 0 rfl rfl)
theorem dJ40_siftUpUsingComparator_46 : decode cJ40_siftUpUsingComparator 46 = .ok (.aastore, 1) := dk_83 (dk_at dksJ40_siftUpUsingComparator_2 1 rfl rfl)
theorem dJ40_siftUpUsingComparator_47 : decode cJ40_siftUpUsingComparator 47 = .ok (.return_, 1) := dk_177 (dk_at dksJ40_siftUpUsingComparator_2 2 rfl rfl)
abbrev cJ40_siftUpComparable : ByteArray := prog_76_method_28_code
def yJ40_siftUpComparable : MethodName := ⟨RJ40, "siftUpComparable", "(ILjava/lang/Object;[Ljava/lang/Object;)V"⟩
def dkwJ40_siftUpComparable_2 : List UInt8 := [44, 26, 45, 83, 177]
abbrev dktJ40_siftUpComparable_2 : List UInt8 := dkwJ40_siftUpComparable_2 ++ []
def dkwJ40_siftUpComparable_1 : List UInt8 := [25, 5, 185, 0, 146, 2, 0, 155, 0, 6, 167, 0, 14, 44, 26, 25, 5, 83, 21, 4, 59, 167, 255, 217]
abbrev dktJ40_siftUpComparable_1 : List UInt8 := dkwJ40_siftUpComparable_1 ++ dktJ40_siftUpComparable_2
def dkwJ40_siftUpComparable_0 : List UInt8 := [43, 192, 0, 144, 78, 26, 158, 0, 41, 26, 4, 100, 4, 124, 54, 4, 44, 21, 4, 50, 58, 5, 45]
abbrev dktJ40_siftUpComparable_0 : List UInt8 := dkwJ40_siftUpComparable_0 ++ dktJ40_siftUpComparable_1
theorem dksJ40_siftUpComparable_0 : cJ40_siftUpComparable.data.toList.drop 0 = dktJ40_siftUpComparable_0 := by decide +kernel
theorem dksJ40_siftUpComparable_1 : cJ40_siftUpComparable.data.toList.drop 23 = dktJ40_siftUpComparable_1 := dk_seg dksJ40_siftUpComparable_0 23 rfl rfl
theorem dksJ40_siftUpComparable_2 : cJ40_siftUpComparable.data.toList.drop 47 = dktJ40_siftUpComparable_2 := dk_seg dksJ40_siftUpComparable_1 24 rfl rfl
theorem dJ40_siftUpComparable_0 : decode cJ40_siftUpComparable 0 = .ok (.aload_n 1, 1) := dk_43 (dk_at dksJ40_siftUpComparable_0 0 rfl rfl)
theorem dJ40_siftUpComparable_1 : decode cJ40_siftUpComparable 1 = .ok (.checkcast 144, 3) := dk_192 0 144 (dk_at dksJ40_siftUpComparable_0 1 rfl rfl)
theorem dJ40_siftUpComparable_4 : decode cJ40_siftUpComparable 4 = .ok (.astore_n 3, 1) := dk_78 (dk_at dksJ40_siftUpComparable_0 4 rfl rfl)
theorem dJ40_siftUpComparable_5 : decode cJ40_siftUpComparable 5 = .ok (.iload_n 0, 1) := dk_26 (dk_at dksJ40_siftUpComparable_0 5 rfl rfl)
theorem dJ40_siftUpComparable_6 : decode cJ40_siftUpComparable 6 = .ok (.ifCond .le 41, 3) := dk_158 0 41 (dk_at dksJ40_siftUpComparable_0 6 rfl rfl)
theorem dJ40_siftUpComparable_9 : decode cJ40_siftUpComparable 9 = .ok (.iload_n 0, 1) := dk_26 (dk_at dksJ40_siftUpComparable_0 9 rfl rfl)
theorem dJ40_siftUpComparable_10 : decode cJ40_siftUpComparable 10 = .ok (.iconst 1, 1) := dk_4 (dk_at dksJ40_siftUpComparable_0 10 rfl rfl)
theorem dJ40_siftUpComparable_11 : decode cJ40_siftUpComparable 11 = .ok (.isub, 1) := dk_100 (dk_at dksJ40_siftUpComparable_0 11 rfl rfl)
theorem dJ40_siftUpComparable_12 : decode cJ40_siftUpComparable 12 = .ok (.iconst 1, 1) := dk_4 (dk_at dksJ40_siftUpComparable_0 12 rfl rfl)
theorem dJ40_siftUpComparable_13 : decode cJ40_siftUpComparable 13 = .ok (.iushr, 1) := dk_124 (dk_at dksJ40_siftUpComparable_0 13 rfl rfl)
theorem dJ40_siftUpComparable_14 : decode cJ40_siftUpComparable 14 = .ok (.istore 4, 2) := dk_54 4 (dk_at dksJ40_siftUpComparable_0 14 rfl rfl)
theorem dJ40_siftUpComparable_16 : decode cJ40_siftUpComparable 16 = .ok (.aload_n 2, 1) := dk_44 (dk_at dksJ40_siftUpComparable_0 16 rfl rfl)
theorem dJ40_siftUpComparable_17 : decode cJ40_siftUpComparable 17 = .ok (.iload 4, 2) := dk_21 4 (dk_at dksJ40_siftUpComparable_0 17 rfl rfl)
theorem dJ40_siftUpComparable_19 : decode cJ40_siftUpComparable 19 = .ok (.aaload, 1) := dk_50 (dk_at dksJ40_siftUpComparable_0 19 rfl rfl)
theorem dJ40_siftUpComparable_20 : decode cJ40_siftUpComparable 20 = .ok (.astore 5, 2) := dk_58 5 (dk_at dksJ40_siftUpComparable_0 20 rfl rfl)
theorem dJ40_siftUpComparable_22 : decode cJ40_siftUpComparable 22 = .ok (.aload_n 3, 1) := dk_45 (dk_at dksJ40_siftUpComparable_0 22 rfl rfl)
theorem dJ40_siftUpComparable_23 : decode cJ40_siftUpComparable 23 = .ok (.aload 5, 2) := dk_25 5 (dk_at dksJ40_siftUpComparable_1 0 rfl rfl)
theorem dJ40_siftUpComparable_25 : decode cJ40_siftUpComparable 25 = .ok (.invokeinterface 146 2, 5) := by decide +kernel
theorem dJ40_siftUpComparable_30 : decode cJ40_siftUpComparable 30 = .ok (.ifCond .lt 6, 3) := dk_155 0 6 (dk_at dksJ40_siftUpComparable_1 7 rfl rfl)
theorem dJ40_siftUpComparable_33 : decode cJ40_siftUpComparable 33 = .ok (.goto 14, 3) := dk_167 0 14 (dk_at dksJ40_siftUpComparable_1 10 rfl rfl)
theorem dJ40_siftUpComparable_36 : decode cJ40_siftUpComparable 36 = .ok (.aload_n 2, 1) := dk_44 (dk_at dksJ40_siftUpComparable_1 13 rfl rfl)
theorem dJ40_siftUpComparable_37 : decode cJ40_siftUpComparable 37 = .ok (.iload_n 0, 1) := dk_26 (dk_at dksJ40_siftUpComparable_1 14 rfl rfl)
theorem dJ40_siftUpComparable_38 : decode cJ40_siftUpComparable 38 = .ok (.aload 5, 2) := dk_25 5 (dk_at dksJ40_siftUpComparable_1 15 rfl rfl)
theorem dJ40_siftUpComparable_40 : decode cJ40_siftUpComparable 40 = .ok (.aastore, 1) := dk_83 (dk_at dksJ40_siftUpComparable_1 17 rfl rfl)
theorem dJ40_siftUpComparable_41 : decode cJ40_siftUpComparable 41 = .ok (.iload 4, 2) := dk_21 4 (dk_at dksJ40_siftUpComparable_1 18 rfl rfl)
theorem dJ40_siftUpComparable_43 : decode cJ40_siftUpComparable 43 = .ok (.istore_n 0, 1) := dk_59 (dk_at dksJ40_siftUpComparable_1 20 rfl rfl)
theorem dJ40_siftUpComparable_44 : decode cJ40_siftUpComparable 44 = .ok (.goto (-39), 3) := dk_167 255 217 (dk_at dksJ40_siftUpComparable_1 21 rfl rfl)
theorem dJ40_siftUpComparable_47 : decode cJ40_siftUpComparable 47 = .ok (.aload_n 2, 1) := dk_44 (dk_at dksJ40_siftUpComparable_2 0 rfl rfl)
theorem dJ40_siftUpComparable_48 : decode cJ40_siftUpComparable 48 = .ok (.iload_n 0, 1) := dk_26 (dk_at dksJ40_siftUpComparable_2 1 rfl rfl)
theorem dJ40_siftUpComparable_49 : decode cJ40_siftUpComparable 49 = .ok (.aload_n 3, 1) := dk_45 (dk_at dksJ40_siftUpComparable_2 2 rfl rfl)
theorem dJ40_siftUpComparable_50 : decode cJ40_siftUpComparable 50 = .ok (.aastore, 1) := dk_83 (dk_at dksJ40_siftUpComparable_2 3 rfl rfl)
theorem dJ40_siftUpComparable_51 : decode cJ40_siftUpComparable 51 = .ok (.return_, 1) := dk_177 (dk_at dksJ40_siftUpComparable_2 4 rfl rfl)
abbrev cJ40_size : ByteArray := prog_76_method_23_code
def yJ40_size : MethodName := ⟨RJ40, "size", "()I"⟩
theorem dJ40_size_0 : decode cJ40_size 0 = .ok (.aload_n 0, 1) := by decide +kernel
theorem dJ40_size_1 : decode cJ40_size 1 = .ok (.getfield 58, 3) := by decide +kernel
theorem dJ40_size_4 : decode cJ40_size 4 = .ok (.ireturn, 1) := by decide +kernel
abbrev cJ40_poll : ByteArray := prog_76_method_25_code
def yJ40_poll : MethodName := ⟨RJ40, "poll", "()Ljava/lang/Object;"⟩
def dkwJ40_poll_3 : List UInt8 := [43, 29, 25, 5, 184, 0, 129, 44, 176]
abbrev dktJ40_poll_3 : List UInt8 := dkwJ40_poll_3 ++ []
def dkwJ40_poll_2 : List UInt8 := [42, 180, 0, 21, 89, 58, 5, 199, 0, 14, 3, 25, 4, 43, 29, 184, 0, 125, 167, 0, 13, 3, 25, 4]
abbrev dktJ40_poll_2 : List UInt8 := dkwJ40_poll_2 ++ dktJ40_poll_3
def dkwJ40_poll_1 : List UInt8 := [42, 89, 180, 0, 58, 4, 100, 90, 181, 0, 58, 89, 62, 50, 58, 4, 43, 29, 1, 83, 29, 158, 0, 34]
abbrev dktJ40_poll_1 : List UInt8 := dkwJ40_poll_1 ++ dktJ40_poll_2
def dkwJ40_poll_0 : List UInt8 := [42, 180, 0, 17, 89, 76, 3, 50, 89, 77, 198, 0, 69, 42, 89, 180, 0, 93, 4, 96, 181, 0, 93, 43]
abbrev dktJ40_poll_0 : List UInt8 := dkwJ40_poll_0 ++ dktJ40_poll_1
theorem dksJ40_poll_0 : cJ40_poll.data.toList.drop 0 = dktJ40_poll_0 := by decide +kernel
theorem dksJ40_poll_1 : cJ40_poll.data.toList.drop 24 = dktJ40_poll_1 := dk_seg dksJ40_poll_0 24 rfl rfl
theorem dksJ40_poll_2 : cJ40_poll.data.toList.drop 48 = dktJ40_poll_2 := dk_seg dksJ40_poll_1 24 rfl rfl
theorem dksJ40_poll_3 : cJ40_poll.data.toList.drop 72 = dktJ40_poll_3 := dk_seg dksJ40_poll_2 24 rfl rfl
theorem dJ40_poll_0 : decode cJ40_poll 0 = .ok (.aload_n 0, 1) := dk_42 (dk_at dksJ40_poll_0 0 rfl rfl)
theorem dJ40_poll_1 : decode cJ40_poll 1 = .ok (.getfield 17, 3) := dk_180 0 17 (dk_at dksJ40_poll_0 1 rfl rfl)
theorem dJ40_poll_4 : decode cJ40_poll 4 = .ok (.dup, 1) := dk_89 (dk_at dksJ40_poll_0 4 rfl rfl)
theorem dJ40_poll_5 : decode cJ40_poll 5 = .ok (.astore_n 1, 1) := dk_76 (dk_at dksJ40_poll_0 5 rfl rfl)
theorem dJ40_poll_6 : decode cJ40_poll 6 = .ok (.iconst 0, 1) := dk_3 (dk_at dksJ40_poll_0 6 rfl rfl)
theorem dJ40_poll_7 : decode cJ40_poll 7 = .ok (.aaload, 1) := dk_50 (dk_at dksJ40_poll_0 7 rfl rfl)
theorem dJ40_poll_8 : decode cJ40_poll 8 = .ok (.dup, 1) := dk_89 (dk_at dksJ40_poll_0 8 rfl rfl)
theorem dJ40_poll_9 : decode cJ40_poll 9 = .ok (.astore_n 2, 1) := dk_77 (dk_at dksJ40_poll_0 9 rfl rfl)
theorem dJ40_poll_10 : decode cJ40_poll 10 = .ok (.ifnull 69, 3) := dk_198 0 69 (dk_at dksJ40_poll_0 10 rfl rfl)
theorem dJ40_poll_13 : decode cJ40_poll 13 = .ok (.aload_n 0, 1) := dk_42 (dk_at dksJ40_poll_0 13 rfl rfl)
theorem dJ40_poll_14 : decode cJ40_poll 14 = .ok (.dup, 1) := dk_89 (dk_at dksJ40_poll_0 14 rfl rfl)
theorem dJ40_poll_15 : decode cJ40_poll 15 = .ok (.getfield 93, 3) := dk_180 0 93 (dk_at dksJ40_poll_0 15 rfl rfl)
theorem dJ40_poll_18 : decode cJ40_poll 18 = .ok (.iconst 1, 1) := dk_4 (dk_at dksJ40_poll_0 18 rfl rfl)
theorem dJ40_poll_19 : decode cJ40_poll 19 = .ok (.iadd, 1) := dk_96 (dk_at dksJ40_poll_0 19 rfl rfl)
theorem dJ40_poll_20 : decode cJ40_poll 20 = .ok (.putfield 93, 3) := dk_181 0 93 (dk_at dksJ40_poll_0 20 rfl rfl)
theorem dJ40_poll_23 : decode cJ40_poll 23 = .ok (.aload_n 1, 1) := dk_43 (dk_at dksJ40_poll_0 23 rfl rfl)
theorem dJ40_poll_24 : decode cJ40_poll 24 = .ok (.aload_n 0, 1) := dk_42 (dk_at dksJ40_poll_1 0 rfl rfl)
theorem dJ40_poll_25 : decode cJ40_poll 25 = .ok (.dup, 1) := dk_89 (dk_at dksJ40_poll_1 1 rfl rfl)
theorem dJ40_poll_26 : decode cJ40_poll 26 = .ok (.getfield 58, 3) := dk_180 0 58 (dk_at dksJ40_poll_1 2 rfl rfl)
theorem dJ40_poll_29 : decode cJ40_poll 29 = .ok (.iconst 1, 1) := dk_4 (dk_at dksJ40_poll_1 5 rfl rfl)
theorem dJ40_poll_30 : decode cJ40_poll 30 = .ok (.isub, 1) := dk_100 (dk_at dksJ40_poll_1 6 rfl rfl)
theorem dJ40_poll_31 : decode cJ40_poll 31 = .ok (.dup_x1, 1) := dk_90 (dk_at dksJ40_poll_1 7 rfl rfl)
theorem dJ40_poll_32 : decode cJ40_poll 32 = .ok (.putfield 58, 3) := dk_181 0 58 (dk_at dksJ40_poll_1 8 rfl rfl)
theorem dJ40_poll_35 : decode cJ40_poll 35 = .ok (.dup, 1) := dk_89 (dk_at dksJ40_poll_1 11 rfl rfl)
theorem dJ40_poll_36 : decode cJ40_poll 36 = .ok (.istore_n 3, 1) := dk_62 (dk_at dksJ40_poll_1 12 rfl rfl)
theorem dJ40_poll_37 : decode cJ40_poll 37 = .ok (.aaload, 1) := dk_50 (dk_at dksJ40_poll_1 13 rfl rfl)
theorem dJ40_poll_38 : decode cJ40_poll 38 = .ok (.astore 4, 2) := dk_58 4 (dk_at dksJ40_poll_1 14 rfl rfl)
theorem dJ40_poll_40 : decode cJ40_poll 40 = .ok (.aload_n 1, 1) := dk_43 (dk_at dksJ40_poll_1 16 rfl rfl)
theorem dJ40_poll_41 : decode cJ40_poll 41 = .ok (.iload_n 3, 1) := dk_29 (dk_at dksJ40_poll_1 17 rfl rfl)
theorem dJ40_poll_42 : decode cJ40_poll 42 = .ok (.aconst_null, 1) := dk_1 (dk_at dksJ40_poll_1 18 rfl rfl)
theorem dJ40_poll_43 : decode cJ40_poll 43 = .ok (.aastore, 1) := dk_83 (dk_at dksJ40_poll_1 19 rfl rfl)
theorem dJ40_poll_44 : decode cJ40_poll 44 = .ok (.iload_n 3, 1) := dk_29 (dk_at dksJ40_poll_1 20 rfl rfl)
theorem dJ40_poll_45 : decode cJ40_poll 45 = .ok (.ifCond .le 34, 3) := dk_158 0 34 (dk_at dksJ40_poll_1 21 rfl rfl)
theorem dJ40_poll_48 : decode cJ40_poll 48 = .ok (.aload_n 0, 1) := dk_42 (dk_at dksJ40_poll_2 0 rfl rfl)
theorem dJ40_poll_49 : decode cJ40_poll 49 = .ok (.getfield 21, 3) := dk_180 0 21 (dk_at dksJ40_poll_2 1 rfl rfl)
theorem dJ40_poll_52 : decode cJ40_poll 52 = .ok (.dup, 1) := dk_89 (dk_at dksJ40_poll_2 4 rfl rfl)
theorem dJ40_poll_53 : decode cJ40_poll 53 = .ok (.astore 5, 2) := dk_58 5 (dk_at dksJ40_poll_2 5 rfl rfl)
theorem dJ40_poll_55 : decode cJ40_poll 55 = .ok (.ifnonnull 14, 3) := dk_199 0 14 (dk_at dksJ40_poll_2 7 rfl rfl)
theorem dJ40_poll_58 : decode cJ40_poll 58 = .ok (.iconst 0, 1) := dk_3 (dk_at dksJ40_poll_2 10 rfl rfl)
theorem dJ40_poll_59 : decode cJ40_poll 59 = .ok (.aload 4, 2) := dk_25 4 (dk_at dksJ40_poll_2 11 rfl rfl)
theorem dJ40_poll_61 : decode cJ40_poll 61 = .ok (.aload_n 1, 1) := dk_43 (dk_at dksJ40_poll_2 13 rfl rfl)
theorem dJ40_poll_62 : decode cJ40_poll 62 = .ok (.iload_n 3, 1) := dk_29 (dk_at dksJ40_poll_2 14 rfl rfl)
theorem dJ40_poll_63 : decode cJ40_poll 63 = .ok (.invokestatic 125, 3) := dk_184 0 125 (dk_at dksJ40_poll_2 15 rfl rfl)
theorem dJ40_poll_66 : decode cJ40_poll 66 = .ok (.goto 13, 3) := dk_167 0 13 (dk_at dksJ40_poll_2 18 rfl rfl)
theorem dJ40_poll_69 : decode cJ40_poll 69 = .ok (.iconst 0, 1) := dk_3 (dk_at dksJ40_poll_2 21 rfl rfl)
theorem dJ40_poll_70 : decode cJ40_poll 70 = .ok (.aload 4, 2) := dk_25 4 (dk_at dksJ40_poll_2 22 rfl rfl)
theorem dJ40_poll_72 : decode cJ40_poll 72 = .ok (.aload_n 1, 1) := dk_43 (dk_at dksJ40_poll_3 0 rfl rfl)
theorem dJ40_poll_73 : decode cJ40_poll 73 = .ok (.iload_n 3, 1) := dk_29 (dk_at dksJ40_poll_3 1 rfl rfl)
theorem dJ40_poll_74 : decode cJ40_poll 74 = .ok (.aload 5, 2) := dk_25 5 (dk_at dksJ40_poll_3 2 rfl rfl)
theorem dJ40_poll_76 : decode cJ40_poll 76 = .ok (.invokestatic 129, 3) := dk_184 0 129 (dk_at dksJ40_poll_3 4 rfl rfl)
theorem dJ40_poll_79 : decode cJ40_poll 79 = .ok (.aload_n 2, 1) := dk_44 (dk_at dksJ40_poll_3 7 rfl rfl)
theorem dJ40_poll_80 : decode cJ40_poll 80 = .ok (.areturn, 1) := dk_176 (dk_at dksJ40_poll_3 8 rfl rfl)
abbrev cJ40_siftDownComparable : ByteArray := prog_76_method_31_code
def yJ40_siftDownComparable : MethodName := ⟨RJ40, "siftDownComparable", "(ILjava/lang/Object;[Ljava/lang/Object;I)V"⟩
def dkwJ40_siftDownComparable_4 : List UInt8 := [25, 4, 83, 177]
abbrev dktJ40_siftDownComparable_4 : List UInt8 := dkwJ40_siftDownComparable_4 ++ []
def dkwJ40_siftDownComparable_3 : List UInt8 := [185, 0, 146, 2, 0, 157, 0, 6, 167, 0, 14, 44, 26, 25, 7, 83, 21, 6, 59, 167, 255, 176, 44, 26]
abbrev dktJ40_siftDownComparable_3 : List UInt8 := dkwJ40_siftDownComparable_3 ++ dktJ40_siftDownComparable_4
def dkwJ40_siftDownComparable_2 : List UInt8 := [21, 8, 50, 185, 0, 146, 2, 0, 158, 0, 12, 44, 21, 8, 89, 54, 6, 50, 58, 7, 25, 4, 25, 7]
abbrev dktJ40_siftDownComparable_2 : List UInt8 := dkwJ40_siftDownComparable_2 ++ dktJ40_siftDownComparable_3
def dkwJ40_siftDownComparable_1 : List UInt8 := [44, 21, 6, 50, 58, 7, 21, 6, 4, 96, 54, 8, 21, 8, 29, 162, 0, 29, 25, 7, 192, 0, 144, 44]
abbrev dktJ40_siftDownComparable_1 : List UInt8 := dkwJ40_siftDownComparable_1 ++ dktJ40_siftDownComparable_2
def dkwJ40_siftDownComparable_0 : List UInt8 := [43, 192, 0, 144, 58, 4, 29, 4, 124, 54, 5, 26, 21, 5, 162, 0, 80, 26, 4, 120, 4, 96, 54, 6]
abbrev dktJ40_siftDownComparable_0 : List UInt8 := dkwJ40_siftDownComparable_0 ++ dktJ40_siftDownComparable_1
theorem dksJ40_siftDownComparable_0 : cJ40_siftDownComparable.data.toList.drop 0 = dktJ40_siftDownComparable_0 := by decide +kernel
theorem dksJ40_siftDownComparable_1 : cJ40_siftDownComparable.data.toList.drop 24 = dktJ40_siftDownComparable_1 := dk_seg dksJ40_siftDownComparable_0 24 rfl rfl
theorem dksJ40_siftDownComparable_2 : cJ40_siftDownComparable.data.toList.drop 48 = dktJ40_siftDownComparable_2 := dk_seg dksJ40_siftDownComparable_1 24 rfl rfl
theorem dksJ40_siftDownComparable_3 : cJ40_siftDownComparable.data.toList.drop 72 = dktJ40_siftDownComparable_3 := dk_seg dksJ40_siftDownComparable_2 24 rfl rfl
theorem dksJ40_siftDownComparable_4 : cJ40_siftDownComparable.data.toList.drop 96 = dktJ40_siftDownComparable_4 := dk_seg dksJ40_siftDownComparable_3 24 rfl rfl
theorem dJ40_siftDownComparable_0 : decode cJ40_siftDownComparable 0 = .ok (.aload_n 1, 1) := dk_43 (dk_at dksJ40_siftDownComparable_0 0 rfl rfl)
theorem dJ40_siftDownComparable_1 : decode cJ40_siftDownComparable 1 = .ok (.checkcast 144, 3) := dk_192 0 144 (dk_at dksJ40_siftDownComparable_0 1 rfl rfl)
theorem dJ40_siftDownComparable_4 : decode cJ40_siftDownComparable 4 = .ok (.astore 4, 2) := dk_58 4 (dk_at dksJ40_siftDownComparable_0 4 rfl rfl)
theorem dJ40_siftDownComparable_6 : decode cJ40_siftDownComparable 6 = .ok (.iload_n 3, 1) := dk_29 (dk_at dksJ40_siftDownComparable_0 6 rfl rfl)
theorem dJ40_siftDownComparable_7 : decode cJ40_siftDownComparable 7 = .ok (.iconst 1, 1) := dk_4 (dk_at dksJ40_siftDownComparable_0 7 rfl rfl)
theorem dJ40_siftDownComparable_8 : decode cJ40_siftDownComparable 8 = .ok (.iushr, 1) := dk_124 (dk_at dksJ40_siftDownComparable_0 8 rfl rfl)
theorem dJ40_siftDownComparable_9 : decode cJ40_siftDownComparable 9 = .ok (.istore 5, 2) := dk_54 5 (dk_at dksJ40_siftDownComparable_0 9 rfl rfl)
theorem dJ40_siftDownComparable_11 : decode cJ40_siftDownComparable 11 = .ok (.iload_n 0, 1) := dk_26 (dk_at dksJ40_siftDownComparable_0 11 rfl rfl)
theorem dJ40_siftDownComparable_12 : decode cJ40_siftDownComparable 12 = .ok (.iload 5, 2) := dk_21 5 (dk_at dksJ40_siftDownComparable_0 12 rfl rfl)
theorem dJ40_siftDownComparable_14 : decode cJ40_siftDownComparable 14 = .ok (.if_icmp .ge 80, 3) := dk_162 0 80 (dk_at dksJ40_siftDownComparable_0 14 rfl rfl)
theorem dJ40_siftDownComparable_17 : decode cJ40_siftDownComparable 17 = .ok (.iload_n 0, 1) := dk_26 (dk_at dksJ40_siftDownComparable_0 17 rfl rfl)
theorem dJ40_siftDownComparable_18 : decode cJ40_siftDownComparable 18 = .ok (.iconst 1, 1) := dk_4 (dk_at dksJ40_siftDownComparable_0 18 rfl rfl)
theorem dJ40_siftDownComparable_19 : decode cJ40_siftDownComparable 19 = .ok (.ishl, 1) := dk_120 (dk_at dksJ40_siftDownComparable_0 19 rfl rfl)
theorem dJ40_siftDownComparable_20 : decode cJ40_siftDownComparable 20 = .ok (.iconst 1, 1) := dk_4 (dk_at dksJ40_siftDownComparable_0 20 rfl rfl)
theorem dJ40_siftDownComparable_21 : decode cJ40_siftDownComparable 21 = .ok (.iadd, 1) := dk_96 (dk_at dksJ40_siftDownComparable_0 21 rfl rfl)
theorem dJ40_siftDownComparable_22 : decode cJ40_siftDownComparable 22 = .ok (.istore 6, 2) := dk_54 6 (dk_at dksJ40_siftDownComparable_0 22 rfl rfl)
theorem dJ40_siftDownComparable_24 : decode cJ40_siftDownComparable 24 = .ok (.aload_n 2, 1) := dk_44 (dk_at dksJ40_siftDownComparable_1 0 rfl rfl)
theorem dJ40_siftDownComparable_25 : decode cJ40_siftDownComparable 25 = .ok (.iload 6, 2) := dk_21 6 (dk_at dksJ40_siftDownComparable_1 1 rfl rfl)
theorem dJ40_siftDownComparable_27 : decode cJ40_siftDownComparable 27 = .ok (.aaload, 1) := dk_50 (dk_at dksJ40_siftDownComparable_1 3 rfl rfl)
theorem dJ40_siftDownComparable_28 : decode cJ40_siftDownComparable 28 = .ok (.astore 7, 2) := dk_58 7 (dk_at dksJ40_siftDownComparable_1 4 rfl rfl)
theorem dJ40_siftDownComparable_30 : decode cJ40_siftDownComparable 30 = .ok (.iload 6, 2) := dk_21 6 (dk_at dksJ40_siftDownComparable_1 6 rfl rfl)
theorem dJ40_siftDownComparable_32 : decode cJ40_siftDownComparable 32 = .ok (.iconst 1, 1) := dk_4 (dk_at dksJ40_siftDownComparable_1 8 rfl rfl)
theorem dJ40_siftDownComparable_33 : decode cJ40_siftDownComparable 33 = .ok (.iadd, 1) := dk_96 (dk_at dksJ40_siftDownComparable_1 9 rfl rfl)
theorem dJ40_siftDownComparable_34 : decode cJ40_siftDownComparable 34 = .ok (.istore 8, 2) := dk_54 8 (dk_at dksJ40_siftDownComparable_1 10 rfl rfl)
theorem dJ40_siftDownComparable_36 : decode cJ40_siftDownComparable 36 = .ok (.iload 8, 2) := dk_21 8 (dk_at dksJ40_siftDownComparable_1 12 rfl rfl)
theorem dJ40_siftDownComparable_38 : decode cJ40_siftDownComparable 38 = .ok (.iload_n 3, 1) := dk_29 (dk_at dksJ40_siftDownComparable_1 14 rfl rfl)
theorem dJ40_siftDownComparable_39 : decode cJ40_siftDownComparable 39 = .ok (.if_icmp .ge 29, 3) := dk_162 0 29 (dk_at dksJ40_siftDownComparable_1 15 rfl rfl)
theorem dJ40_siftDownComparable_42 : decode cJ40_siftDownComparable 42 = .ok (.aload 7, 2) := dk_25 7 (dk_at dksJ40_siftDownComparable_1 18 rfl rfl)
theorem dJ40_siftDownComparable_44 : decode cJ40_siftDownComparable 44 = .ok (.checkcast 144, 3) := dk_192 0 144 (dk_at dksJ40_siftDownComparable_1 20 rfl rfl)
theorem dJ40_siftDownComparable_47 : decode cJ40_siftDownComparable 47 = .ok (.aload_n 2, 1) := dk_44 (dk_at dksJ40_siftDownComparable_1 23 rfl rfl)
theorem dJ40_siftDownComparable_48 : decode cJ40_siftDownComparable 48 = .ok (.iload 8, 2) := dk_21 8 (dk_at dksJ40_siftDownComparable_2 0 rfl rfl)
theorem dJ40_siftDownComparable_50 : decode cJ40_siftDownComparable 50 = .ok (.aaload, 1) := dk_50 (dk_at dksJ40_siftDownComparable_2 2 rfl rfl)
theorem dJ40_siftDownComparable_51 : decode cJ40_siftDownComparable 51 = .ok (.invokeinterface 146 2, 5) := by decide +kernel
theorem dJ40_siftDownComparable_56 : decode cJ40_siftDownComparable 56 = .ok (.ifCond .le 12, 3) := dk_158 0 12 (dk_at dksJ40_siftDownComparable_2 8 rfl rfl)
theorem dJ40_siftDownComparable_59 : decode cJ40_siftDownComparable 59 = .ok (.aload_n 2, 1) := dk_44 (dk_at dksJ40_siftDownComparable_2 11 rfl rfl)
theorem dJ40_siftDownComparable_60 : decode cJ40_siftDownComparable 60 = .ok (.iload 8, 2) := dk_21 8 (dk_at dksJ40_siftDownComparable_2 12 rfl rfl)
theorem dJ40_siftDownComparable_62 : decode cJ40_siftDownComparable 62 = .ok (.dup, 1) := dk_89 (dk_at dksJ40_siftDownComparable_2 14 rfl rfl)
theorem dJ40_siftDownComparable_63 : decode cJ40_siftDownComparable 63 = .ok (.istore 6, 2) := dk_54 6 (dk_at dksJ40_siftDownComparable_2 15 rfl rfl)
theorem dJ40_siftDownComparable_65 : decode cJ40_siftDownComparable 65 = .ok (.aaload, 1) := dk_50 (dk_at dksJ40_siftDownComparable_2 17 rfl rfl)
theorem dJ40_siftDownComparable_66 : decode cJ40_siftDownComparable 66 = .ok (.astore 7, 2) := dk_58 7 (dk_at dksJ40_siftDownComparable_2 18 rfl rfl)
theorem dJ40_siftDownComparable_68 : decode cJ40_siftDownComparable 68 = .ok (.aload 4, 2) := dk_25 4 (dk_at dksJ40_siftDownComparable_2 20 rfl rfl)
theorem dJ40_siftDownComparable_70 : decode cJ40_siftDownComparable 70 = .ok (.aload 7, 2) := dk_25 7 (dk_at dksJ40_siftDownComparable_2 22 rfl rfl)
theorem dJ40_siftDownComparable_72 : decode cJ40_siftDownComparable 72 = .ok (.invokeinterface 146 2, 5) := by decide +kernel
theorem dJ40_siftDownComparable_77 : decode cJ40_siftDownComparable 77 = .ok (.ifCond .gt 6, 3) := dk_157 0 6 (dk_at dksJ40_siftDownComparable_3 5 rfl rfl)
theorem dJ40_siftDownComparable_80 : decode cJ40_siftDownComparable 80 = .ok (.goto 14, 3) := dk_167 0 14 (dk_at dksJ40_siftDownComparable_3 8 rfl rfl)
theorem dJ40_siftDownComparable_83 : decode cJ40_siftDownComparable 83 = .ok (.aload_n 2, 1) := dk_44 (dk_at dksJ40_siftDownComparable_3 11 rfl rfl)
theorem dJ40_siftDownComparable_84 : decode cJ40_siftDownComparable 84 = .ok (.iload_n 0, 1) := dk_26 (dk_at dksJ40_siftDownComparable_3 12 rfl rfl)
theorem dJ40_siftDownComparable_85 : decode cJ40_siftDownComparable 85 = .ok (.aload 7, 2) := dk_25 7 (dk_at dksJ40_siftDownComparable_3 13 rfl rfl)
theorem dJ40_siftDownComparable_87 : decode cJ40_siftDownComparable 87 = .ok (.aastore, 1) := dk_83 (dk_at dksJ40_siftDownComparable_3 15 rfl rfl)
theorem dJ40_siftDownComparable_88 : decode cJ40_siftDownComparable 88 = .ok (.iload 6, 2) := dk_21 6 (dk_at dksJ40_siftDownComparable_3 16 rfl rfl)
theorem dJ40_siftDownComparable_90 : decode cJ40_siftDownComparable 90 = .ok (.istore_n 0, 1) := dk_59 (dk_at dksJ40_siftDownComparable_3 18 rfl rfl)
theorem dJ40_siftDownComparable_91 : decode cJ40_siftDownComparable 91 = .ok (.goto (-80), 3) := dk_167 255 176 (dk_at dksJ40_siftDownComparable_3 19 rfl rfl)
theorem dJ40_siftDownComparable_94 : decode cJ40_siftDownComparable 94 = .ok (.aload_n 2, 1) := dk_44 (dk_at dksJ40_siftDownComparable_3 22 rfl rfl)
theorem dJ40_siftDownComparable_95 : decode cJ40_siftDownComparable 95 = .ok (.iload_n 0, 1) := dk_26 (dk_at dksJ40_siftDownComparable_3 23 rfl rfl)
theorem dJ40_siftDownComparable_96 : decode cJ40_siftDownComparable 96 = .ok (.aload 4, 2) := dk_25 4 (dk_at dksJ40_siftDownComparable_4 0 rfl rfl)
theorem dJ40_siftDownComparable_98 : decode cJ40_siftDownComparable 98 = .ok (.aastore, 1) := dk_83 (dk_at dksJ40_siftDownComparable_4 2 rfl rfl)
theorem dJ40_siftDownComparable_99 : decode cJ40_siftDownComparable 99 = .ok (.return_, 1) := dk_177 (dk_at dksJ40_siftDownComparable_4 3 rfl rfl)
abbrev cJ40_siftDownUsingComparator : ByteArray := prog_76_method_32_code
def yJ40_siftDownUsingComparator : MethodName := ⟨RJ40, "siftDownUsingComparator", "(ILjava/lang/Object;[Ljava/lang/Object;ILjava/util/Comparator;)V"⟩
def dkwJ40_siftDownUsingComparator_4 : List UInt8 := [43, 83, 177]
abbrev dktJ40_siftDownUsingComparator_4 : List UInt8 := dkwJ40_siftDownUsingComparator_4 ++ []
def dkwJ40_siftDownUsingComparator_3 : List UInt8 := [185, 0, 149, 3, 0, 157, 0, 6, 167, 0, 14, 44, 26, 25, 7, 83, 21, 6, 59, 167, 255, 176, 44, 26]
abbrev dktJ40_siftDownUsingComparator_3 : List UInt8 := dkwJ40_siftDownUsingComparator_3 ++ dktJ40_siftDownUsingComparator_4
def dkwJ40_siftDownUsingComparator_2 : List UInt8 := [185, 0, 149, 3, 0, 158, 0, 12, 44, 21, 8, 89, 54, 6, 50, 58, 7, 25, 4, 43, 25, 7]
abbrev dktJ40_siftDownUsingComparator_2 : List UInt8 := dkwJ40_siftDownUsingComparator_2 ++ dktJ40_siftDownUsingComparator_3
def dkwJ40_siftDownUsingComparator_1 : List UInt8 := [21, 6, 4, 96, 54, 8, 21, 8, 29, 162, 0, 28, 25, 4, 25, 7, 44, 21, 8, 50]
abbrev dktJ40_siftDownUsingComparator_1 : List UInt8 := dkwJ40_siftDownUsingComparator_1 ++ dktJ40_siftDownUsingComparator_2
def dkwJ40_siftDownUsingComparator_0 : List UInt8 := [29, 4, 124, 54, 5, 26, 21, 5, 162, 0, 80, 26, 4, 120, 4, 96, 54, 6, 44, 21, 6, 50, 58, 7]
abbrev dktJ40_siftDownUsingComparator_0 : List UInt8 := dkwJ40_siftDownUsingComparator_0 ++ dktJ40_siftDownUsingComparator_1
theorem dksJ40_siftDownUsingComparator_0 : cJ40_siftDownUsingComparator.data.toList.drop 0 = dktJ40_siftDownUsingComparator_0 := by decide +kernel
theorem dksJ40_siftDownUsingComparator_1 : cJ40_siftDownUsingComparator.data.toList.drop 24 = dktJ40_siftDownUsingComparator_1 := dk_seg dksJ40_siftDownUsingComparator_0 24 rfl rfl
theorem dksJ40_siftDownUsingComparator_2 : cJ40_siftDownUsingComparator.data.toList.drop 44 = dktJ40_siftDownUsingComparator_2 := dk_seg dksJ40_siftDownUsingComparator_1 20 rfl rfl
theorem dksJ40_siftDownUsingComparator_3 : cJ40_siftDownUsingComparator.data.toList.drop 66 = dktJ40_siftDownUsingComparator_3 := dk_seg dksJ40_siftDownUsingComparator_2 22 rfl rfl
theorem dksJ40_siftDownUsingComparator_4 : cJ40_siftDownUsingComparator.data.toList.drop 90 = dktJ40_siftDownUsingComparator_4 := dk_seg dksJ40_siftDownUsingComparator_3 24 rfl rfl
theorem dJ40_siftDownUsingComparator_0 : decode cJ40_siftDownUsingComparator 0 = .ok (.iload_n 3, 1) := dk_29 (dk_at dksJ40_siftDownUsingComparator_0 0 rfl rfl)
theorem dJ40_siftDownUsingComparator_1 : decode cJ40_siftDownUsingComparator 1 = .ok (.iconst 1, 1) := dk_4 (dk_at dksJ40_siftDownUsingComparator_0 1 rfl rfl)
theorem dJ40_siftDownUsingComparator_2 : decode cJ40_siftDownUsingComparator 2 = .ok (.iushr, 1) := dk_124 (dk_at dksJ40_siftDownUsingComparator_0 2 rfl rfl)
theorem dJ40_siftDownUsingComparator_3 : decode cJ40_siftDownUsingComparator 3 = .ok (.istore 5, 2) := dk_54 5 (dk_at dksJ40_siftDownUsingComparator_0 3 rfl rfl)
theorem dJ40_siftDownUsingComparator_5 : decode cJ40_siftDownUsingComparator 5 = .ok (.iload_n 0, 1) := dk_26 (dk_at dksJ40_siftDownUsingComparator_0 5 rfl rfl)
theorem dJ40_siftDownUsingComparator_6 : decode cJ40_siftDownUsingComparator 6 = .ok (.iload 5, 2) := dk_21 5 (dk_at dksJ40_siftDownUsingComparator_0 6 rfl rfl)
theorem dJ40_siftDownUsingComparator_8 : decode cJ40_siftDownUsingComparator 8 = .ok (.if_icmp .ge 80, 3) := dk_162 0 80 (dk_at dksJ40_siftDownUsingComparator_0 8 rfl rfl)
theorem dJ40_siftDownUsingComparator_11 : decode cJ40_siftDownUsingComparator 11 = .ok (.iload_n 0, 1) := dk_26 (dk_at dksJ40_siftDownUsingComparator_0 11 rfl rfl)
theorem dJ40_siftDownUsingComparator_12 : decode cJ40_siftDownUsingComparator 12 = .ok (.iconst 1, 1) := dk_4 (dk_at dksJ40_siftDownUsingComparator_0 12 rfl rfl)
theorem dJ40_siftDownUsingComparator_13 : decode cJ40_siftDownUsingComparator 13 = .ok (.ishl, 1) := dk_120 (dk_at dksJ40_siftDownUsingComparator_0 13 rfl rfl)
theorem dJ40_siftDownUsingComparator_14 : decode cJ40_siftDownUsingComparator 14 = .ok (.iconst 1, 1) := dk_4 (dk_at dksJ40_siftDownUsingComparator_0 14 rfl rfl)
theorem dJ40_siftDownUsingComparator_15 : decode cJ40_siftDownUsingComparator 15 = .ok (.iadd, 1) := dk_96 (dk_at dksJ40_siftDownUsingComparator_0 15 rfl rfl)
theorem dJ40_siftDownUsingComparator_16 : decode cJ40_siftDownUsingComparator 16 = .ok (.istore 6, 2) := dk_54 6 (dk_at dksJ40_siftDownUsingComparator_0 16 rfl rfl)
theorem dJ40_siftDownUsingComparator_18 : decode cJ40_siftDownUsingComparator 18 = .ok (.aload_n 2, 1) := dk_44 (dk_at dksJ40_siftDownUsingComparator_0 18 rfl rfl)
theorem dJ40_siftDownUsingComparator_19 : decode cJ40_siftDownUsingComparator 19 = .ok (.iload 6, 2) := dk_21 6 (dk_at dksJ40_siftDownUsingComparator_0 19 rfl rfl)
theorem dJ40_siftDownUsingComparator_21 : decode cJ40_siftDownUsingComparator 21 = .ok (.aaload, 1) := dk_50 (dk_at dksJ40_siftDownUsingComparator_0 21 rfl rfl)
theorem dJ40_siftDownUsingComparator_22 : decode cJ40_siftDownUsingComparator 22 = .ok (.astore 7, 2) := dk_58 7 (dk_at dksJ40_siftDownUsingComparator_0 22 rfl rfl)
theorem dJ40_siftDownUsingComparator_24 : decode cJ40_siftDownUsingComparator 24 = .ok (.iload 6, 2) := dk_21 6 (dk_at dksJ40_siftDownUsingComparator_1 0 rfl rfl)
theorem dJ40_siftDownUsingComparator_26 : decode cJ40_siftDownUsingComparator 26 = .ok (.iconst 1, 1) := dk_4 (dk_at dksJ40_siftDownUsingComparator_1 2 rfl rfl)
theorem dJ40_siftDownUsingComparator_27 : decode cJ40_siftDownUsingComparator 27 = .ok (.iadd, 1) := dk_96 (dk_at dksJ40_siftDownUsingComparator_1 3 rfl rfl)
theorem dJ40_siftDownUsingComparator_28 : decode cJ40_siftDownUsingComparator 28 = .ok (.istore 8, 2) := dk_54 8 (dk_at dksJ40_siftDownUsingComparator_1 4 rfl rfl)
theorem dJ40_siftDownUsingComparator_30 : decode cJ40_siftDownUsingComparator 30 = .ok (.iload 8, 2) := dk_21 8 (dk_at dksJ40_siftDownUsingComparator_1 6 rfl rfl)
theorem dJ40_siftDownUsingComparator_32 : decode cJ40_siftDownUsingComparator 32 = .ok (.iload_n 3, 1) := dk_29 (dk_at dksJ40_siftDownUsingComparator_1 8 rfl rfl)
theorem dJ40_siftDownUsingComparator_33 : decode cJ40_siftDownUsingComparator 33 = .ok (.if_icmp .ge 28, 3) := dk_162 0 28 (dk_at dksJ40_siftDownUsingComparator_1 9 rfl rfl)
theorem dJ40_siftDownUsingComparator_36 : decode cJ40_siftDownUsingComparator 36 = .ok (.aload 4, 2) := dk_25 4 (dk_at dksJ40_siftDownUsingComparator_1 12 rfl rfl)
theorem dJ40_siftDownUsingComparator_38 : decode cJ40_siftDownUsingComparator 38 = .ok (.aload 7, 2) := dk_25 7 (dk_at dksJ40_siftDownUsingComparator_1 14 rfl rfl)
theorem dJ40_siftDownUsingComparator_40 : decode cJ40_siftDownUsingComparator 40 = .ok (.aload_n 2, 1) := dk_44 (dk_at dksJ40_siftDownUsingComparator_1 16 rfl rfl)
theorem dJ40_siftDownUsingComparator_41 : decode cJ40_siftDownUsingComparator 41 = .ok (.iload 8, 2) := dk_21 8 (dk_at dksJ40_siftDownUsingComparator_1 17 rfl rfl)
theorem dJ40_siftDownUsingComparator_43 : decode cJ40_siftDownUsingComparator 43 = .ok (.aaload, 1) := dk_50 (dk_at dksJ40_siftDownUsingComparator_1 19 rfl rfl)
theorem dJ40_siftDownUsingComparator_44 : decode cJ40_siftDownUsingComparator 44 = .ok (.invokeinterface 149 3, 5) := by decide +kernel
theorem dJ40_siftDownUsingComparator_49 : decode cJ40_siftDownUsingComparator 49 = .ok (.ifCond .le 12, 3) := dk_158 0 12 (dk_at dksJ40_siftDownUsingComparator_2 5 rfl rfl)
theorem dJ40_siftDownUsingComparator_52 : decode cJ40_siftDownUsingComparator 52 = .ok (.aload_n 2, 1) := dk_44 (dk_at dksJ40_siftDownUsingComparator_2 8 rfl rfl)
theorem dJ40_siftDownUsingComparator_53 : decode cJ40_siftDownUsingComparator 53 = .ok (.iload 8, 2) := dk_21 8 (dk_at dksJ40_siftDownUsingComparator_2 9 rfl rfl)
theorem dJ40_siftDownUsingComparator_55 : decode cJ40_siftDownUsingComparator 55 = .ok (.dup, 1) := dk_89 (dk_at dksJ40_siftDownUsingComparator_2 11 rfl rfl)
theorem dJ40_siftDownUsingComparator_56 : decode cJ40_siftDownUsingComparator 56 = .ok (.istore 6, 2) := dk_54 6 (dk_at dksJ40_siftDownUsingComparator_2 12 rfl rfl)
theorem dJ40_siftDownUsingComparator_58 : decode cJ40_siftDownUsingComparator 58 = .ok (.aaload, 1) := dk_50 (dk_at dksJ40_siftDownUsingComparator_2 14 rfl rfl)
theorem dJ40_siftDownUsingComparator_59 : decode cJ40_siftDownUsingComparator 59 = .ok (.astore 7, 2) := dk_58 7 (dk_at dksJ40_siftDownUsingComparator_2 15 rfl rfl)
theorem dJ40_siftDownUsingComparator_61 : decode cJ40_siftDownUsingComparator 61 = .ok (.aload 4, 2) := dk_25 4 (dk_at dksJ40_siftDownUsingComparator_2 17 rfl rfl)
theorem dJ40_siftDownUsingComparator_63 : decode cJ40_siftDownUsingComparator 63 = .ok (.aload_n 1, 1) := dk_43 (dk_at dksJ40_siftDownUsingComparator_2 19 rfl rfl)
theorem dJ40_siftDownUsingComparator_64 : decode cJ40_siftDownUsingComparator 64 = .ok (.aload 7, 2) := dk_25 7 (dk_at dksJ40_siftDownUsingComparator_2 20 rfl rfl)
theorem dJ40_siftDownUsingComparator_66 : decode cJ40_siftDownUsingComparator 66 = .ok (.invokeinterface 149 3, 5) := by decide +kernel
theorem dJ40_siftDownUsingComparator_71 : decode cJ40_siftDownUsingComparator 71 = .ok (.ifCond .gt 6, 3) := dk_157 0 6 (dk_at dksJ40_siftDownUsingComparator_3 5 rfl rfl)
theorem dJ40_siftDownUsingComparator_74 : decode cJ40_siftDownUsingComparator 74 = .ok (.goto 14, 3) := dk_167 0 14 (dk_at dksJ40_siftDownUsingComparator_3 8 rfl rfl)
theorem dJ40_siftDownUsingComparator_77 : decode cJ40_siftDownUsingComparator 77 = .ok (.aload_n 2, 1) := dk_44 (dk_at dksJ40_siftDownUsingComparator_3 11 rfl rfl)
theorem dJ40_siftDownUsingComparator_78 : decode cJ40_siftDownUsingComparator 78 = .ok (.iload_n 0, 1) := dk_26 (dk_at dksJ40_siftDownUsingComparator_3 12 rfl rfl)
theorem dJ40_siftDownUsingComparator_79 : decode cJ40_siftDownUsingComparator 79 = .ok (.aload 7, 2) := dk_25 7 (dk_at dksJ40_siftDownUsingComparator_3 13 rfl rfl)
theorem dJ40_siftDownUsingComparator_81 : decode cJ40_siftDownUsingComparator 81 = .ok (.aastore, 1) := dk_83 (dk_at dksJ40_siftDownUsingComparator_3 15 rfl rfl)
theorem dJ40_siftDownUsingComparator_82 : decode cJ40_siftDownUsingComparator 82 = .ok (.iload 6, 2) := dk_21 6 (dk_at dksJ40_siftDownUsingComparator_3 16 rfl rfl)
theorem dJ40_siftDownUsingComparator_84 : decode cJ40_siftDownUsingComparator 84 = .ok (.istore_n 0, 1) := dk_59 (dk_at dksJ40_siftDownUsingComparator_3 18 rfl rfl)
theorem dJ40_siftDownUsingComparator_85 : decode cJ40_siftDownUsingComparator 85 = .ok (.goto (-80), 3) := dk_167 255 176 (dk_at dksJ40_siftDownUsingComparator_3 19 rfl rfl)
theorem dJ40_siftDownUsingComparator_88 : decode cJ40_siftDownUsingComparator 88 = .ok (.aload_n 2, 1) := dk_44 (dk_at dksJ40_siftDownUsingComparator_3 22 rfl rfl)
theorem dJ40_siftDownUsingComparator_89 : decode cJ40_siftDownUsingComparator 89 = .ok (.iload_n 0, 1) := dk_26 (dk_at dksJ40_siftDownUsingComparator_3 23 rfl rfl)
theorem dJ40_siftDownUsingComparator_90 : decode cJ40_siftDownUsingComparator 90 = .ok (.aload_n 1, 1) := dk_43 (dk_at dksJ40_siftDownUsingComparator_4 0 rfl rfl)
theorem dJ40_siftDownUsingComparator_91 : decode cJ40_siftDownUsingComparator 91 = .ok (.aastore, 1) := dk_83 (dk_at dksJ40_siftDownUsingComparator_4 1 rfl rfl)
theorem dJ40_siftDownUsingComparator_92 : decode cJ40_siftDownUsingComparator 92 = .ok (.return_, 1) := dk_177 (dk_at dksJ40_siftDownUsingComparator_4 2 rfl rfl)
theorem q177 : (Jvm.Cond.initialized "java/util/PriorityQueue") ∈ lw_all := lw_g (lw_at lw_m1 55 rfl) rfl
theorem q1009 : (Jvm.Cond.selects "java/util/PriorityQueue" ({ cls := "java/lang/Object", name := "getClass", desc := "()Ljava/lang/Class;" } : Jvm.MethodName) ({ cls := "java/lang/Object", name := "getClass", desc := "()Ljava/lang/Class;" } : Jvm.MethodName)) ∈ lw_all := lw_g (lw_at lw_m4 167 rfl) rfl
theorem q2177 : (Jvm.Cond.instantiable "java/util/PriorityQueue" (4 : Nat)) ∈ lw_all := lw_g (lw_at lw_m9 135 rfl) rfl
theorem q2179 : (Jvm.Cond.instanceMethod ({ cls := "java/util/PriorityQueue", name := "<init>", desc := "()V" } : Jvm.MethodName)) ∈ lw_all := lw_g (lw_at lw_m9 137 rfl) rfl
theorem q2180 : (Jvm.Cond.code ({ cls := "java/util/PriorityQueue", name := "<init>", desc := "()V" } : Jvm.MethodName) prog_76_method_1_code (1 : Nat) (Option.none : Option Jvm.ClassFile.FieldType)) ∈ lw_all := lw_g (lw_at lw_m9 138 rfl) rfl
theorem q2181 : (Jvm.Cond.methodLink "java/util/PriorityQueue" (3 : Nat) ({ cls := "java/util/PriorityQueue", name := "<init>", desc := "(ILjava/util/Comparator;)V" } : Jvm.MethodName)) ∈ lw_all := lw_g (lw_at lw_m9 139 rfl) rfl
theorem q2182 : (Jvm.Cond.instanceMethod ({ cls := "java/util/PriorityQueue", name := "<init>", desc := "(ILjava/util/Comparator;)V" } : Jvm.MethodName)) ∈ lw_all := lw_g (lw_at lw_m9 140 rfl) rfl
theorem q2183 : (Jvm.Cond.code ({ cls := "java/util/PriorityQueue", name := "<init>", desc := "(ILjava/util/Comparator;)V" } : Jvm.MethodName) prog_76_method_4_code (3 : Nat) (Option.none : Option Jvm.ClassFile.FieldType)) ∈ lw_all := lw_g (lw_at lw_m9 141 rfl) rfl
theorem q2184 : (Jvm.Cond.methodLink "java/util/PriorityQueue" (7 : Nat) ({ cls := "java/util/AbstractQueue", name := "<init>", desc := "()V" } : Jvm.MethodName)) ∈ lw_all := lw_g (lw_at lw_m9 142 rfl) rfl
theorem q2188 : (Jvm.Cond.classLink "java/util/PriorityQueue" (12 : Nat) "java/lang/IllegalArgumentException") ∈ lw_all := lw_g (lw_at lw_m9 146 rfl) rfl
theorem q2189 : (Jvm.Cond.methodLink "java/util/PriorityQueue" (14 : Nat) ({ cls := "java/lang/IllegalArgumentException", name := "<init>", desc := "()V" } : Jvm.MethodName)) ∈ lw_all := lw_g (lw_at lw_m9 147 rfl) rfl
theorem q2190 : (Jvm.Cond.classLink "java/util/PriorityQueue" (15 : Nat) "java/lang/Object") ∈ lw_all := lw_g (lw_at lw_m9 148 rfl) rfl
theorem q2191 : (Jvm.Cond.fieldLink "java/util/PriorityQueue" (17 : Nat) "java/util/PriorityQueue" "queue" "[Ljava/lang/Object;") ∈ lw_all := lw_g (lw_at lw_m9 149 rfl) rfl
theorem q2192 : (Jvm.Cond.fieldLink "java/util/PriorityQueue" (58 : Nat) "java/util/PriorityQueue" "size" "I") ∈ lw_all := lw_g (lw_at lw_m9 150 rfl) rfl
theorem q2193 : (Jvm.Cond.fieldLink "java/util/PriorityQueue" (21 : Nat) "java/util/PriorityQueue" "comparator" "Ljava/util/Comparator;") ∈ lw_all := lw_g (lw_at lw_m9 151 rfl) rfl
theorem q2194 : (Jvm.Cond.fieldLink "java/util/PriorityQueue" (93 : Nat) "java/util/PriorityQueue" "modCount" "I") ∈ lw_all := lw_g (lw_at lw_m9 152 rfl) rfl
theorem q2195 : (Jvm.Cond.lays "java/util/PriorityQueue" "java/util/PriorityQueue" "queue" "[Ljava/lang/Object;") ∈ lw_all := lw_g (lw_at lw_m9 153 rfl) rfl
theorem q2196 : (Jvm.Cond.soleField "java/util/PriorityQueue" "queue") ∈ lw_all := lw_g (lw_at lw_m9 154 rfl) rfl
theorem q2197 : (Jvm.Cond.lays "java/util/PriorityQueue" "java/util/PriorityQueue" "size" "I") ∈ lw_all := lw_g (lw_at lw_m9 155 rfl) rfl
theorem q2198 : (Jvm.Cond.soleField "java/util/PriorityQueue" "size") ∈ lw_all := lw_g (lw_at lw_m9 156 rfl) rfl
theorem q2199 : (Jvm.Cond.laysFinal "java/util/PriorityQueue" "java/util/PriorityQueue" "comparator" "Ljava/util/Comparator;") ∈ lw_all := lw_g (lw_at lw_m9 157 rfl) rfl
theorem q2200 : (Jvm.Cond.soleField "java/util/PriorityQueue" "comparator") ∈ lw_all := lw_g (lw_at lw_m9 158 rfl) rfl
theorem q2201 : (Jvm.Cond.lays "java/util/PriorityQueue" "java/util/PriorityQueue" "modCount" "I") ∈ lw_all := lw_g (lw_at lw_m9 159 rfl) rfl
theorem q2202 : (Jvm.Cond.soleField "java/util/PriorityQueue" "modCount") ∈ lw_all := lw_g (lw_at lw_m9 160 rfl) rfl
theorem q2203 : (Jvm.Cond.superclass "java/util/PriorityQueue" "java/util/AbstractQueue") ∈ lw_all := lw_g (lw_at lw_m9 161 rfl) rfl
theorem q2227 : (Jvm.Cond.instanceMethod ({ cls := "java/util/PriorityQueue", name := "add", desc := "(Ljava/lang/Object;)Z" } : Jvm.MethodName)) ∈ lw_all := lw_g (lw_at lw_m9 185 rfl) rfl
theorem q2228 : (Jvm.Cond.selects "java/util/PriorityQueue" ({ cls := "java/util/PriorityQueue", name := "add", desc := "(Ljava/lang/Object;)Z" } : Jvm.MethodName) ({ cls := "java/util/PriorityQueue", name := "add", desc := "(Ljava/lang/Object;)Z" } : Jvm.MethodName)) ∈ lw_all := lw_g (lw_at lw_m9 186 rfl) rfl
theorem q2229 : (Jvm.Cond.code ({ cls := "java/util/PriorityQueue", name := "add", desc := "(Ljava/lang/Object;)Z" } : Jvm.MethodName) prog_76_method_13_code (2 : Nat) (Option.some Jvm.ClassFile.FieldType.boolean)) ∈ lw_all := lw_g (lw_at lw_m9 187 rfl) rfl
theorem q2230 : (Jvm.Cond.methodLink "java/util/PriorityQueue" (89 : Nat) ({ cls := "java/util/PriorityQueue", name := "offer", desc := "(Ljava/lang/Object;)Z" } : Jvm.MethodName)) ∈ lw_all := lw_g (lw_at lw_m9 188 rfl) rfl
theorem q2231 : (Jvm.Cond.instanceMethod ({ cls := "java/util/PriorityQueue", name := "offer", desc := "(Ljava/lang/Object;)Z" } : Jvm.MethodName)) ∈ lw_all := lw_g (lw_at lw_m9 189 rfl) rfl
theorem q2232 : (Jvm.Cond.selects "java/util/PriorityQueue" ({ cls := "java/util/PriorityQueue", name := "offer", desc := "(Ljava/lang/Object;)Z" } : Jvm.MethodName) ({ cls := "java/util/PriorityQueue", name := "offer", desc := "(Ljava/lang/Object;)Z" } : Jvm.MethodName)) ∈ lw_all := lw_g (lw_at lw_m9 190 rfl) rfl
theorem q2233 : (Jvm.Cond.code ({ cls := "java/util/PriorityQueue", name := "offer", desc := "(Ljava/lang/Object;)Z" } : Jvm.MethodName) prog_76_method_14_code (3 : Nat) (Option.some Jvm.ClassFile.FieldType.boolean)) ∈ lw_all := lw_g (lw_at lw_m9 191 rfl) rfl
theorem q2234 : (Jvm.Cond.methodLink "java/util/PriorityQueue" (96 : Nat) ({ cls := "java/util/PriorityQueue", name := "grow", desc := "(I)V" } : Jvm.MethodName)) ∈ lw_all := lw_g (lw_at lw_m9 192 rfl) rfl
theorem q2235 : (Jvm.Cond.privateMethod ({ cls := "java/util/PriorityQueue", name := "grow", desc := "(I)V" } : Jvm.MethodName)) ∈ lw_tbl := lw_at lw_m9 193 rfl
theorem q2236 : (Jvm.Cond.instanceMethod ({ cls := "java/util/PriorityQueue", name := "grow", desc := "(I)V" } : Jvm.MethodName)) ∈ lw_all := lw_g (lw_at lw_m9 194 rfl) rfl
theorem q2237 : (Jvm.Cond.code ({ cls := "java/util/PriorityQueue", name := "grow", desc := "(I)V" } : Jvm.MethodName) prog_76_method_12_code (4 : Nat) (Option.none : Option Jvm.ClassFile.FieldType)) ∈ lw_all := lw_g (lw_at lw_m9 195 rfl) rfl
theorem q2238 : (Jvm.Cond.methodLink "java/util/PriorityQueue" (80 : Nat) ({ cls := "jdk/internal/util/ArraysSupport", name := "newLength", desc := "(III)I" } : Jvm.MethodName)) ∈ lw_all := lw_g (lw_at lw_m9 196 rfl) rfl
theorem q2239 : (Jvm.Cond.methodLink "java/util/PriorityQueue" (86 : Nat) ({ cls := "java/util/Arrays", name := "copyOf", desc := "([Ljava/lang/Object;I)[Ljava/lang/Object;" } : Jvm.MethodName)) ∈ lw_all := lw_g (lw_at lw_m9 197 rfl) rfl
theorem q2240 : (Jvm.Cond.methodLink "java/util/PriorityQueue" (100 : Nat) ({ cls := "java/util/PriorityQueue", name := "siftUp", desc := "(ILjava/lang/Object;)V" } : Jvm.MethodName)) ∈ lw_all := lw_g (lw_at lw_m9 198 rfl) rfl
theorem q2241 : (Jvm.Cond.privateMethod ({ cls := "java/util/PriorityQueue", name := "siftUp", desc := "(ILjava/lang/Object;)V" } : Jvm.MethodName)) ∈ lw_tbl := lw_at lw_m9 199 rfl
theorem q2242 : (Jvm.Cond.instanceMethod ({ cls := "java/util/PriorityQueue", name := "siftUp", desc := "(ILjava/lang/Object;)V" } : Jvm.MethodName)) ∈ lw_all := lw_g (lw_at lw_m9 200 rfl) rfl
theorem q2243 : (Jvm.Cond.code ({ cls := "java/util/PriorityQueue", name := "siftUp", desc := "(ILjava/lang/Object;)V" } : Jvm.MethodName) prog_76_method_27_code (3 : Nat) (Option.none : Option Jvm.ClassFile.FieldType)) ∈ lw_all := lw_g (lw_at lw_m9 201 rfl) rfl
theorem q2244 : (Jvm.Cond.methodLink "java/util/PriorityQueue" (136 : Nat) ({ cls := "java/util/PriorityQueue", name := "siftUpUsingComparator", desc := "(ILjava/lang/Object;[Ljava/lang/Object;Ljava/util/Comparator;)V" } : Jvm.MethodName)) ∈ lw_all := lw_g (lw_at lw_m9 202 rfl) rfl
theorem q2245 : (Jvm.Cond.static ({ cls := "java/util/PriorityQueue", name := "siftUpUsingComparator", desc := "(ILjava/lang/Object;[Ljava/lang/Object;Ljava/util/Comparator;)V" } : Jvm.MethodName)) ∈ lw_all := lw_g (lw_at lw_m9 203 rfl) rfl
theorem q2246 : (Jvm.Cond.code ({ cls := "java/util/PriorityQueue", name := "siftUpUsingComparator", desc := "(ILjava/lang/Object;[Ljava/lang/Object;Ljava/util/Comparator;)V" } : Jvm.MethodName) prog_76_method_29_code (6 : Nat) (Option.none : Option Jvm.ClassFile.FieldType)) ∈ lw_all := lw_g (lw_at lw_m9 204 rfl) rfl
theorem q2247 : (Jvm.Cond.interfaceEntry "java/util/PriorityQueue" (149 : Nat)) ∈ lw_tbl := lw_at lw_m9 205 rfl
theorem q2248 : (Jvm.Cond.methodLink "java/util/PriorityQueue" (149 : Nat) ({ cls := "java/util/Comparator", name := "compare", desc := "(Ljava/lang/Object;Ljava/lang/Object;)I" } : Jvm.MethodName)) ∈ lw_all := lw_g (lw_at lw_m9 206 rfl) rfl
theorem q2249 : (Jvm.Cond.methodLink "java/util/PriorityQueue" (140 : Nat) ({ cls := "java/util/PriorityQueue", name := "siftUpComparable", desc := "(ILjava/lang/Object;[Ljava/lang/Object;)V" } : Jvm.MethodName)) ∈ lw_all := lw_g (lw_at lw_m9 207 rfl) rfl
theorem q2250 : (Jvm.Cond.static ({ cls := "java/util/PriorityQueue", name := "siftUpComparable", desc := "(ILjava/lang/Object;[Ljava/lang/Object;)V" } : Jvm.MethodName)) ∈ lw_all := lw_g (lw_at lw_m9 208 rfl) rfl
theorem q2251 : (Jvm.Cond.code ({ cls := "java/util/PriorityQueue", name := "siftUpComparable", desc := "(ILjava/lang/Object;[Ljava/lang/Object;)V" } : Jvm.MethodName) prog_76_method_28_code (6 : Nat) (Option.none : Option Jvm.ClassFile.FieldType)) ∈ lw_all := lw_g (lw_at lw_m9 209 rfl) rfl
theorem q2252 : (Jvm.Cond.classLink "java/util/PriorityQueue" (144 : Nat) "java/lang/Comparable") ∈ lw_all := lw_g (lw_at lw_m9 210 rfl) rfl
theorem q2253 : (Jvm.Cond.interfaceEntry "java/util/PriorityQueue" (146 : Nat)) ∈ lw_tbl := lw_at lw_m9 211 rfl
theorem q2254 : (Jvm.Cond.methodLink "java/util/PriorityQueue" (146 : Nat) ({ cls := "java/lang/Comparable", name := "compareTo", desc := "(Ljava/lang/Object;)I" } : Jvm.MethodName)) ∈ lw_all := lw_g (lw_at lw_m9 212 rfl) rfl
theorem q2256 : (Jvm.Cond.sameMethod "java/util/PriorityQueue" "java/util/AbstractCollection" "isEmpty" "()Z") ∈ lw_all := lw_g (lw_at lw_m9 214 rfl) rfl
theorem q2258 : (Jvm.Cond.selects "java/util/PriorityQueue" ({ cls := "java/util/PriorityQueue", name := "isEmpty", desc := "()Z" } : Jvm.MethodName) ({ cls := "java/util/AbstractCollection", name := "isEmpty", desc := "()Z" } : Jvm.MethodName)) ∈ lw_all := lw_g (lw_at lw_m9 216 rfl) rfl
theorem q2271 : (Jvm.Cond.selects "java/util/PriorityQueue" ({ cls := "java/util/AbstractCollection", name := "size", desc := "()I" } : Jvm.MethodName) ({ cls := "java/util/PriorityQueue", name := "size", desc := "()I" } : Jvm.MethodName)) ∈ lw_all := lw_g (lw_at lw_m9 229 rfl) rfl
theorem q2272 : (Jvm.Cond.instanceMethod ({ cls := "java/util/PriorityQueue", name := "size", desc := "()I" } : Jvm.MethodName)) ∈ lw_all := lw_g (lw_at lw_m9 230 rfl) rfl
theorem q2273 : (Jvm.Cond.code ({ cls := "java/util/PriorityQueue", name := "size", desc := "()I" } : Jvm.MethodName) prog_76_method_23_code (1 : Nat) (Option.some Jvm.ClassFile.FieldType.int)) ∈ lw_all := lw_g (lw_at lw_m9 231 rfl) rfl
theorem q2289 : (Jvm.Cond.sameMethod "java/util/PriorityQueue" "java/util/AbstractQueue" "remove" "()Ljava/lang/Object;") ∈ lw_all := lw_g (lw_at lw_m10 7 rfl) rfl
theorem q2291 : (Jvm.Cond.selects "java/util/PriorityQueue" ({ cls := "java/util/PriorityQueue", name := "remove", desc := "()Ljava/lang/Object;" } : Jvm.MethodName) ({ cls := "java/util/AbstractQueue", name := "remove", desc := "()Ljava/lang/Object;" } : Jvm.MethodName)) ∈ lw_all := lw_g (lw_at lw_m10 9 rfl) rfl
theorem q2296 : (Jvm.Cond.selects "java/util/PriorityQueue" ({ cls := "java/util/Queue", name := "poll", desc := "()Ljava/lang/Object;" } : Jvm.MethodName) ({ cls := "java/util/PriorityQueue", name := "poll", desc := "()Ljava/lang/Object;" } : Jvm.MethodName)) ∈ lw_all := lw_g (lw_at lw_m10 14 rfl) rfl
theorem q2297 : (Jvm.Cond.instanceMethod ({ cls := "java/util/PriorityQueue", name := "poll", desc := "()Ljava/lang/Object;" } : Jvm.MethodName)) ∈ lw_all := lw_g (lw_at lw_m10 15 rfl) rfl
theorem q2298 : (Jvm.Cond.code ({ cls := "java/util/PriorityQueue", name := "poll", desc := "()Ljava/lang/Object;" } : Jvm.MethodName) prog_76_method_25_code (6 : Nat) (Option.some (Jvm.ClassFile.FieldType.object "java/lang/Object"))) ∈ lw_all := lw_g (lw_at lw_m10 16 rfl) rfl
theorem q2299 : (Jvm.Cond.methodLink "java/util/PriorityQueue" (125 : Nat) ({ cls := "java/util/PriorityQueue", name := "siftDownComparable", desc := "(ILjava/lang/Object;[Ljava/lang/Object;I)V" } : Jvm.MethodName)) ∈ lw_all := lw_g (lw_at lw_m10 17 rfl) rfl
theorem q2300 : (Jvm.Cond.static ({ cls := "java/util/PriorityQueue", name := "siftDownComparable", desc := "(ILjava/lang/Object;[Ljava/lang/Object;I)V" } : Jvm.MethodName)) ∈ lw_all := lw_g (lw_at lw_m10 18 rfl) rfl
theorem q2301 : (Jvm.Cond.code ({ cls := "java/util/PriorityQueue", name := "siftDownComparable", desc := "(ILjava/lang/Object;[Ljava/lang/Object;I)V" } : Jvm.MethodName) prog_76_method_31_code (9 : Nat) (Option.none : Option Jvm.ClassFile.FieldType)) ∈ lw_all := lw_g (lw_at lw_m10 19 rfl) rfl
theorem q2302 : (Jvm.Cond.methodLink "java/util/PriorityQueue" (129 : Nat) ({ cls := "java/util/PriorityQueue", name := "siftDownUsingComparator", desc := "(ILjava/lang/Object;[Ljava/lang/Object;ILjava/util/Comparator;)V" } : Jvm.MethodName)) ∈ lw_all := lw_g (lw_at lw_m10 20 rfl) rfl
theorem q2303 : (Jvm.Cond.static ({ cls := "java/util/PriorityQueue", name := "siftDownUsingComparator", desc := "(ILjava/lang/Object;[Ljava/lang/Object;ILjava/util/Comparator;)V" } : Jvm.MethodName)) ∈ lw_all := lw_g (lw_at lw_m10 21 rfl) rfl
theorem q2304 : (Jvm.Cond.code ({ cls := "java/util/PriorityQueue", name := "siftDownUsingComparator", desc := "(ILjava/lang/Object;[Ljava/lang/Object;ILjava/util/Comparator;)V" } : Jvm.MethodName) prog_76_method_32_code (9 : Nat) (Option.none : Option Jvm.ClassFile.FieldType)) ∈ lw_all := lw_g (lw_at lw_m10 22 rfl) rfl
theorem q3701 : (Jvm.Cond.castable "java/util/PriorityQueue" "java/lang/Object") ∈ lw_tbl := lw_at lw_m15 219 rfl
theorem in_J40 : ∀ w ∈ wsJ400, w ∈ lw_all := lw_in wsJ400 [2195, 2197, 2199, 2201] (by decide +kernel) (by decide +kernel)
/-! java/util/AbstractSet -/
set_option maxRecDepth 100000
def RJ42 : String := "java/util/AbstractSet"
abbrev cJ42_init : ByteArray := prog_52_method_1_code
def yJ42_init : MethodName := ⟨RJ42, "<init>", "()V"⟩
theorem dJ42_init_0 : decode cJ42_init 0 = .ok (.aload_n 0, 1) := by decide +kernel
theorem dJ42_init_1 : decode cJ42_init 1 = .ok (.invokespecial 1, 3) := by decide +kernel
theorem dJ42_init_4 : decode cJ42_init 4 = .ok (.return_, 1) := by decide +kernel
theorem q181 : (Jvm.Cond.initialized "java/util/AbstractSet") ∈ lw_all := lw_g (lw_at lw_m1 59 rfl) rfl
theorem q2532 : (Jvm.Cond.instanceMethod ({ cls := "java/util/AbstractSet", name := "<init>", desc := "()V" } : Jvm.MethodName)) ∈ lw_all := lw_g (lw_at lw_m11 10 rfl) rfl
theorem q2533 : (Jvm.Cond.code ({ cls := "java/util/AbstractSet", name := "<init>", desc := "()V" } : Jvm.MethodName) prog_52_method_1_code (1 : Nat) (Option.none : Option Jvm.ClassFile.FieldType)) ∈ lw_all := lw_g (lw_at lw_m11 11 rfl) rfl
theorem q2534 : (Jvm.Cond.methodLink "java/util/AbstractSet" (1 : Nat) ({ cls := "java/util/AbstractCollection", name := "<init>", desc := "()V" } : Jvm.MethodName)) ∈ lw_all := lw_g (lw_at lw_m11 12 rfl) rfl
/-! java/util/TreeSet -/
set_option maxRecDepth 100000
def RJ43 : String := "java/util/TreeSet"
def TJ43 : u_T := fun k => match k with
  | _ => ("java/util/TreeSet", "m", "Ljava/util/NavigableMap;", false)
def tyJ43 : Nat → FieldType := fun k => match k with
  | _ => .object "java/util/NavigableMap"
abbrev wsJ430 : List Cond := u_ws RJ43 TJ43 1
theorem nmJ43 : ∀ a, a < 1 → ∀ b, b < 1 → a ≠ b → (TJ43 a).2.1 ≠ (TJ43 b).2.1 := by decide +kernel
theorem tyJ43_ok : ∀ k, k < 1 → parseFieldDescriptor (TJ43 k).2.2.1 = some (tyJ43 k) := by decide +kernel
abbrev cJ43_size : ByteArray := prog_89_method_9_code
def yJ43_size : MethodName := ⟨RJ43, "size", "()I"⟩
def dkwJ43_size_0 : List UInt8 := [42, 180, 0, 7, 185, 0, 53, 1, 0, 172]
abbrev dktJ43_size_0 : List UInt8 := dkwJ43_size_0 ++ []
theorem dksJ43_size_0 : cJ43_size.data.toList.drop 0 = dktJ43_size_0 := by decide +kernel
theorem dJ43_size_0 : decode cJ43_size 0 = .ok (.aload_n 0, 1) := dk_42 (dk_at dksJ43_size_0 0 rfl rfl)
theorem dJ43_size_1 : decode cJ43_size 1 = .ok (.getfield 7, 3) := dk_180 0 7 (dk_at dksJ43_size_0 1 rfl rfl)
theorem dJ43_size_4 : decode cJ43_size 4 = .ok (.invokeinterface 53 1, 5) := by decide +kernel
theorem dJ43_size_9 : decode cJ43_size 9 = .ok (.ireturn, 1) := dk_172 (dk_at dksJ43_size_0 9 rfl rfl)
abbrev cJ43_init : ByteArray := prog_89_method_2_code
def yJ43_init : MethodName := ⟨RJ43, "<init>", "()V"⟩
def dkwJ43_init_0 : List UInt8 := [42, 187, 0, 13, 89, 183, 0, 15, 183, 0, 16, 177]
abbrev dktJ43_init_0 : List UInt8 := dkwJ43_init_0 ++ []
theorem dksJ43_init_0 : cJ43_init.data.toList.drop 0 = dktJ43_init_0 := by decide +kernel
theorem dJ43_init_0 : decode cJ43_init 0 = .ok (.aload_n 0, 1) := dk_42 (dk_at dksJ43_init_0 0 rfl rfl)
theorem dJ43_init_1 : decode cJ43_init 1 = .ok (.new 13, 3) := dk_187 0 13 (dk_at dksJ43_init_0 1 rfl rfl)
theorem dJ43_init_4 : decode cJ43_init 4 = .ok (.dup, 1) := dk_89 (dk_at dksJ43_init_0 4 rfl rfl)
theorem dJ43_init_5 : decode cJ43_init 5 = .ok (.invokespecial 15, 3) := dk_183 0 15 (dk_at dksJ43_init_0 5 rfl rfl)
theorem dJ43_init_8 : decode cJ43_init 8 = .ok (.invokespecial 16, 3) := dk_183 0 16 (dk_at dksJ43_init_0 8 rfl rfl)
theorem dJ43_init_11 : decode cJ43_init 11 = .ok (.return_, 1) := dk_177 (dk_at dksJ43_init_0 11 rfl rfl)
abbrev cJ43_init_2 : ByteArray := prog_89_method_1_code
def yJ43_init_2 : MethodName := ⟨RJ43, "<init>", "(Ljava/util/NavigableMap;)V"⟩
def dkwJ43_init_2_0 : List UInt8 := [42, 183, 0, 1, 42, 43, 181, 0, 7, 177]
abbrev dktJ43_init_2_0 : List UInt8 := dkwJ43_init_2_0 ++ []
theorem dksJ43_init_2_0 : cJ43_init_2.data.toList.drop 0 = dktJ43_init_2_0 := by decide +kernel
theorem dJ43_init_2_0 : decode cJ43_init_2 0 = .ok (.aload_n 0, 1) := dk_42 (dk_at dksJ43_init_2_0 0 rfl rfl)
theorem dJ43_init_2_1 : decode cJ43_init_2 1 = .ok (.invokespecial 1, 3) := dk_183 0 1 (dk_at dksJ43_init_2_0 1 rfl rfl)
theorem dJ43_init_2_4 : decode cJ43_init_2 4 = .ok (.aload_n 0, 1) := dk_42 (dk_at dksJ43_init_2_0 4 rfl rfl)
theorem dJ43_init_2_5 : decode cJ43_init_2 5 = .ok (.aload_n 1, 1) := dk_43 (dk_at dksJ43_init_2_0 5 rfl rfl)
theorem dJ43_init_2_6 : decode cJ43_init_2 6 = .ok (.putfield 7, 3) := dk_181 0 7 (dk_at dksJ43_init_2_0 6 rfl rfl)
theorem dJ43_init_2_9 : decode cJ43_init_2 9 = .ok (.return_, 1) := dk_177 (dk_at dksJ43_init_2_0 9 rfl rfl)
abbrev cJ43_add : ByteArray := prog_89_method_12_code
def yJ43_add : MethodName := ⟨RJ43, "add", "(Ljava/lang/Object;)Z"⟩
def dkwJ43_add_0 : List UInt8 := [42, 180, 0, 7, 43, 178, 0, 65, 185, 0, 69, 3, 0, 199, 0, 7, 4, 167, 0, 4, 3, 172]
abbrev dktJ43_add_0 : List UInt8 := dkwJ43_add_0 ++ []
theorem dksJ43_add_0 : cJ43_add.data.toList.drop 0 = dktJ43_add_0 := by decide +kernel
theorem dJ43_add_0 : decode cJ43_add 0 = .ok (.aload_n 0, 1) := dk_42 (dk_at dksJ43_add_0 0 rfl rfl)
theorem dJ43_add_1 : decode cJ43_add 1 = .ok (.getfield 7, 3) := dk_180 0 7 (dk_at dksJ43_add_0 1 rfl rfl)
theorem dJ43_add_4 : decode cJ43_add 4 = .ok (.aload_n 1, 1) := dk_43 (dk_at dksJ43_add_0 4 rfl rfl)
theorem dJ43_add_5 : decode cJ43_add 5 = .ok (.getstatic 65, 3) := dk_178 0 65 (dk_at dksJ43_add_0 5 rfl rfl)
theorem dJ43_add_8 : decode cJ43_add 8 = .ok (.invokeinterface 69 3, 5) := by decide +kernel
theorem dJ43_add_13 : decode cJ43_add 13 = .ok (.ifnonnull 7, 3) := dk_199 0 7 (dk_at dksJ43_add_0 13 rfl rfl)
theorem dJ43_add_16 : decode cJ43_add 16 = .ok (.iconst 1, 1) := dk_4 (dk_at dksJ43_add_0 16 rfl rfl)
theorem dJ43_add_17 : decode cJ43_add 17 = .ok (.goto 4, 3) := dk_167 0 4 (dk_at dksJ43_add_0 17 rfl rfl)
theorem dJ43_add_20 : decode cJ43_add 20 = .ok (.iconst 0, 1) := dk_3 (dk_at dksJ43_add_0 20 rfl rfl)
theorem dJ43_add_21 : decode cJ43_add 21 = .ok (.ireturn, 1) := dk_172 (dk_at dksJ43_add_0 21 rfl rfl)
abbrev cJ43_isEmpty : ByteArray := prog_89_method_10_code
def yJ43_isEmpty : MethodName := ⟨RJ43, "isEmpty", "()Z"⟩
def dkwJ43_isEmpty_0 : List UInt8 := [42, 180, 0, 7, 185, 0, 57, 1, 0, 172]
abbrev dktJ43_isEmpty_0 : List UInt8 := dkwJ43_isEmpty_0 ++ []
theorem dksJ43_isEmpty_0 : cJ43_isEmpty.data.toList.drop 0 = dktJ43_isEmpty_0 := by decide +kernel
theorem dJ43_isEmpty_0 : decode cJ43_isEmpty 0 = .ok (.aload_n 0, 1) := dk_42 (dk_at dksJ43_isEmpty_0 0 rfl rfl)
theorem dJ43_isEmpty_1 : decode cJ43_isEmpty 1 = .ok (.getfield 7, 3) := dk_180 0 7 (dk_at dksJ43_isEmpty_0 1 rfl rfl)
theorem dJ43_isEmpty_4 : decode cJ43_isEmpty 4 = .ok (.invokeinterface 57 1, 5) := by decide +kernel
theorem dJ43_isEmpty_9 : decode cJ43_isEmpty 9 = .ok (.ireturn, 1) := dk_172 (dk_at dksJ43_isEmpty_0 9 rfl rfl)
abbrev cJ43_pollLast : ByteArray := prog_89_method_30_code
def yJ43_pollLast : MethodName := ⟨RJ43, "pollLast", "()Ljava/lang/Object;"⟩
def dkwJ43_pollLast_1 : List UInt8 := [176]
abbrev dktJ43_pollLast_1 : List UInt8 := dkwJ43_pollLast_1 ++ []
def dkwJ43_pollLast_0 : List UInt8 := [42, 180, 0, 7, 185, 0, 146, 1, 0, 76, 43, 199, 0, 7, 1, 167, 0, 9, 43, 185, 0, 141, 1, 0]
abbrev dktJ43_pollLast_0 : List UInt8 := dkwJ43_pollLast_0 ++ dktJ43_pollLast_1
theorem dksJ43_pollLast_0 : cJ43_pollLast.data.toList.drop 0 = dktJ43_pollLast_0 := by decide +kernel
theorem dksJ43_pollLast_1 : cJ43_pollLast.data.toList.drop 24 = dktJ43_pollLast_1 := dk_seg dksJ43_pollLast_0 24 rfl rfl
theorem dJ43_pollLast_0 : decode cJ43_pollLast 0 = .ok (.aload_n 0, 1) := dk_42 (dk_at dksJ43_pollLast_0 0 rfl rfl)
theorem dJ43_pollLast_1 : decode cJ43_pollLast 1 = .ok (.getfield 7, 3) := dk_180 0 7 (dk_at dksJ43_pollLast_0 1 rfl rfl)
theorem dJ43_pollLast_4 : decode cJ43_pollLast 4 = .ok (.invokeinterface 146 1, 5) := by decide +kernel
theorem dJ43_pollLast_9 : decode cJ43_pollLast 9 = .ok (.astore_n 1, 1) := dk_76 (dk_at dksJ43_pollLast_0 9 rfl rfl)
theorem dJ43_pollLast_10 : decode cJ43_pollLast 10 = .ok (.aload_n 1, 1) := dk_43 (dk_at dksJ43_pollLast_0 10 rfl rfl)
theorem dJ43_pollLast_11 : decode cJ43_pollLast 11 = .ok (.ifnonnull 7, 3) := dk_199 0 7 (dk_at dksJ43_pollLast_0 11 rfl rfl)
theorem dJ43_pollLast_14 : decode cJ43_pollLast 14 = .ok (.aconst_null, 1) := dk_1 (dk_at dksJ43_pollLast_0 14 rfl rfl)
theorem dJ43_pollLast_15 : decode cJ43_pollLast 15 = .ok (.goto 9, 3) := dk_167 0 9 (dk_at dksJ43_pollLast_0 15 rfl rfl)
theorem dJ43_pollLast_18 : decode cJ43_pollLast 18 = .ok (.aload_n 1, 1) := dk_43 (dk_at dksJ43_pollLast_0 18 rfl rfl)
theorem dJ43_pollLast_19 : decode cJ43_pollLast 19 = .ok (.invokeinterface 141 1, 5) := by decide +kernel
theorem dJ43_pollLast_24 : decode cJ43_pollLast 24 = .ok (.areturn, 1) := dk_176 (dk_at dksJ43_pollLast_1 0 rfl rfl)
theorem q182 : (Jvm.Cond.initialized "java/util/TreeSet") ∈ lw_all := lw_g (lw_at lw_m1 60 rfl) rfl
theorem q1013 : (Jvm.Cond.selects "java/util/TreeSet" ({ cls := "java/lang/Object", name := "getClass", desc := "()Ljava/lang/Class;" } : Jvm.MethodName) ({ cls := "java/lang/Object", name := "getClass", desc := "()Ljava/lang/Class;" } : Jvm.MethodName)) ∈ lw_all := lw_g (lw_at lw_m4 171 rfl) rfl
theorem q2278 : (Jvm.Cond.selects "java/util/TreeSet" ({ cls := "java/util/AbstractCollection", name := "size", desc := "()I" } : Jvm.MethodName) ({ cls := "java/util/TreeSet", name := "size", desc := "()I" } : Jvm.MethodName)) ∈ lw_all := lw_g (lw_at lw_m9 236 rfl) rfl
theorem q2279 : (Jvm.Cond.instanceMethod ({ cls := "java/util/TreeSet", name := "size", desc := "()I" } : Jvm.MethodName)) ∈ lw_all := lw_g (lw_at lw_m9 237 rfl) rfl
theorem q2280 : (Jvm.Cond.code ({ cls := "java/util/TreeSet", name := "size", desc := "()I" } : Jvm.MethodName) prog_89_method_9_code (1 : Nat) (Option.some Jvm.ClassFile.FieldType.int)) ∈ lw_all := lw_g (lw_at lw_m9 238 rfl) rfl
theorem q2281 : (Jvm.Cond.interfaceEntry "java/util/TreeSet" (53 : Nat)) ∈ lw_tbl := lw_at lw_m9 239 rfl
theorem q2522 : (Jvm.Cond.instantiable "java/util/TreeSet" (1 : Nat)) ∈ lw_all := lw_g (lw_at lw_m11 0 rfl) rfl
theorem q2524 : (Jvm.Cond.instanceMethod ({ cls := "java/util/TreeSet", name := "<init>", desc := "()V" } : Jvm.MethodName)) ∈ lw_all := lw_g (lw_at lw_m11 2 rfl) rfl
theorem q2525 : (Jvm.Cond.code ({ cls := "java/util/TreeSet", name := "<init>", desc := "()V" } : Jvm.MethodName) prog_89_method_2_code (1 : Nat) (Option.none : Option Jvm.ClassFile.FieldType)) ∈ lw_all := lw_g (lw_at lw_m11 3 rfl) rfl
theorem q2526 : (Jvm.Cond.classLink "java/util/TreeSet" (13 : Nat) "java/util/TreeMap") ∈ lw_all := lw_g (lw_at lw_m11 4 rfl) rfl
theorem q2527 : (Jvm.Cond.methodLink "java/util/TreeSet" (15 : Nat) ({ cls := "java/util/TreeMap", name := "<init>", desc := "()V" } : Jvm.MethodName)) ∈ lw_all := lw_g (lw_at lw_m11 5 rfl) rfl
theorem q2528 : (Jvm.Cond.methodLink "java/util/TreeSet" (16 : Nat) ({ cls := "java/util/TreeSet", name := "<init>", desc := "(Ljava/util/NavigableMap;)V" } : Jvm.MethodName)) ∈ lw_all := lw_g (lw_at lw_m11 6 rfl) rfl
theorem q2529 : (Jvm.Cond.instanceMethod ({ cls := "java/util/TreeSet", name := "<init>", desc := "(Ljava/util/NavigableMap;)V" } : Jvm.MethodName)) ∈ lw_all := lw_g (lw_at lw_m11 7 rfl) rfl
theorem q2530 : (Jvm.Cond.code ({ cls := "java/util/TreeSet", name := "<init>", desc := "(Ljava/util/NavigableMap;)V" } : Jvm.MethodName) prog_89_method_1_code (2 : Nat) (Option.none : Option Jvm.ClassFile.FieldType)) ∈ lw_all := lw_g (lw_at lw_m11 8 rfl) rfl
theorem q2531 : (Jvm.Cond.methodLink "java/util/TreeSet" (1 : Nat) ({ cls := "java/util/AbstractSet", name := "<init>", desc := "()V" } : Jvm.MethodName)) ∈ lw_all := lw_g (lw_at lw_m11 9 rfl) rfl
theorem q2535 : (Jvm.Cond.fieldLink "java/util/TreeSet" (7 : Nat) "java/util/TreeSet" "m" "Ljava/util/NavigableMap;") ∈ lw_all := lw_g (lw_at lw_m11 13 rfl) rfl
theorem q2536 : (Jvm.Cond.lays "java/util/TreeSet" "java/util/TreeSet" "m" "Ljava/util/NavigableMap;") ∈ lw_all := lw_g (lw_at lw_m11 14 rfl) rfl
theorem q2537 : (Jvm.Cond.soleField "java/util/TreeSet" "m") ∈ lw_all := lw_g (lw_at lw_m11 15 rfl) rfl
theorem q2538 : (Jvm.Cond.superclass "java/util/TreeSet" "java/util/AbstractSet") ∈ lw_all := lw_g (lw_at lw_m11 16 rfl) rfl
theorem q2540 : (Jvm.Cond.instanceMethod ({ cls := "java/util/TreeSet", name := "add", desc := "(Ljava/lang/Object;)Z" } : Jvm.MethodName)) ∈ lw_all := lw_g (lw_at lw_m11 18 rfl) rfl
theorem q2541 : (Jvm.Cond.selects "java/util/TreeSet" ({ cls := "java/util/TreeSet", name := "add", desc := "(Ljava/lang/Object;)Z" } : Jvm.MethodName) ({ cls := "java/util/TreeSet", name := "add", desc := "(Ljava/lang/Object;)Z" } : Jvm.MethodName)) ∈ lw_all := lw_g (lw_at lw_m11 19 rfl) rfl
theorem q2542 : (Jvm.Cond.code ({ cls := "java/util/TreeSet", name := "add", desc := "(Ljava/lang/Object;)Z" } : Jvm.MethodName) prog_89_method_12_code (2 : Nat) (Option.some Jvm.ClassFile.FieldType.boolean)) ∈ lw_all := lw_g (lw_at lw_m11 20 rfl) rfl
theorem q2543 : (Jvm.Cond.fieldLink "java/util/TreeSet" (65 : Nat) "java/util/TreeSet" "PRESENT" "Ljava/lang/Object;") ∈ lw_all := lw_g (lw_at lw_m11 21 rfl) rfl
theorem q2544 : (Jvm.Cond.laysStatic "java/util/TreeSet" "PRESENT" "Ljava/lang/Object;") ∈ lw_tbl := lw_at lw_m11 22 rfl
theorem q2545 : (Jvm.Cond.interfaceEntry "java/util/TreeSet" (69 : Nat)) ∈ lw_tbl := lw_at lw_m11 23 rfl
theorem q2552 : (Jvm.Cond.instanceMethod ({ cls := "java/util/TreeSet", name := "isEmpty", desc := "()Z" } : Jvm.MethodName)) ∈ lw_all := lw_g (lw_at lw_m11 30 rfl) rfl
theorem q2553 : (Jvm.Cond.selects "java/util/TreeSet" ({ cls := "java/util/TreeSet", name := "isEmpty", desc := "()Z" } : Jvm.MethodName) ({ cls := "java/util/TreeSet", name := "isEmpty", desc := "()Z" } : Jvm.MethodName)) ∈ lw_all := lw_g (lw_at lw_m11 31 rfl) rfl
theorem q2554 : (Jvm.Cond.code ({ cls := "java/util/TreeSet", name := "isEmpty", desc := "()Z" } : Jvm.MethodName) prog_89_method_10_code (1 : Nat) (Option.some Jvm.ClassFile.FieldType.boolean)) ∈ lw_all := lw_g (lw_at lw_m11 32 rfl) rfl
theorem q2555 : (Jvm.Cond.interfaceEntry "java/util/TreeSet" (57 : Nat)) ∈ lw_tbl := lw_at lw_m11 33 rfl
theorem q2569 : (Jvm.Cond.instanceMethod ({ cls := "java/util/TreeSet", name := "pollLast", desc := "()Ljava/lang/Object;" } : Jvm.MethodName)) ∈ lw_all := lw_g (lw_at lw_m11 47 rfl) rfl
theorem q2570 : (Jvm.Cond.selects "java/util/TreeSet" ({ cls := "java/util/TreeSet", name := "pollLast", desc := "()Ljava/lang/Object;" } : Jvm.MethodName) ({ cls := "java/util/TreeSet", name := "pollLast", desc := "()Ljava/lang/Object;" } : Jvm.MethodName)) ∈ lw_all := lw_g (lw_at lw_m11 48 rfl) rfl
theorem q2571 : (Jvm.Cond.code ({ cls := "java/util/TreeSet", name := "pollLast", desc := "()Ljava/lang/Object;" } : Jvm.MethodName) prog_89_method_30_code (2 : Nat) (Option.some (Jvm.ClassFile.FieldType.object "java/lang/Object"))) ∈ lw_all := lw_g (lw_at lw_m11 49 rfl) rfl
theorem q2572 : (Jvm.Cond.interfaceEntry "java/util/TreeSet" (146 : Nat)) ∈ lw_tbl := lw_at lw_m11 50 rfl
theorem q2573 : (Jvm.Cond.methodLink "java/util/TreeSet" (146 : Nat) ({ cls := "java/util/NavigableMap", name := "pollLastEntry", desc := "()Ljava/util/Map$Entry;" } : Jvm.MethodName)) ∈ lw_all := lw_g (lw_at lw_m11 51 rfl) rfl
theorem q2631 : (Jvm.Cond.interfaceEntry "java/util/TreeSet" (141 : Nat)) ∈ lw_tbl := lw_at lw_m11 109 rfl
theorem q2632 : (Jvm.Cond.methodLink "java/util/TreeSet" (141 : Nat) ({ cls := "java/util/Map$Entry", name := "getKey", desc := "()Ljava/lang/Object;" } : Jvm.MethodName)) ∈ lw_all := lw_g (lw_at lw_m11 110 rfl) rfl
theorem q3704 : (Jvm.Cond.castable "java/util/TreeSet" "java/lang/Object") ∈ lw_tbl := lw_at lw_m15 222 rfl
theorem in_J43 : ∀ w ∈ wsJ430, w ∈ lw_all := lw_in wsJ430 [2536] (by decide +kernel) (by decide +kernel)
/-! java/util/TreeMap$EntrySet -/
set_option maxRecDepth 100000
def RJ44 : String := "java/util/TreeMap$EntrySet"
abbrev cJ44_size : ByteArray := prog_88_method_5_code
def yJ44_size : MethodName := ⟨RJ44, "size", "()I"⟩
def dkwJ44_size_0 : List UInt8 := [42, 180, 0, 1, 182, 0, 48, 172]
abbrev dktJ44_size_0 : List UInt8 := dkwJ44_size_0 ++ []
theorem dksJ44_size_0 : cJ44_size.data.toList.drop 0 = dktJ44_size_0 := by decide +kernel
theorem dJ44_size_0 : decode cJ44_size 0 = .ok (.aload_n 0, 1) := dk_42 (dk_at dksJ44_size_0 0 rfl rfl)
theorem dJ44_size_1 : decode cJ44_size 1 = .ok (.getfield 1, 3) := dk_180 0 1 (dk_at dksJ44_size_0 1 rfl rfl)
theorem dJ44_size_4 : decode cJ44_size 4 = .ok (.invokevirtual 48, 3) := dk_182 0 48 (dk_at dksJ44_size_0 4 rfl rfl)
theorem dJ44_size_7 : decode cJ44_size 7 = .ok (.ireturn, 1) := dk_172 (dk_at dksJ44_size_0 7 rfl rfl)
theorem q183 : (Jvm.Cond.initialized "java/util/TreeMap$EntrySet") ∈ lw_all := lw_g (lw_at lw_m1 61 rfl) rfl
theorem q1012 : (Jvm.Cond.selects "java/util/TreeMap$EntrySet" ({ cls := "java/lang/Object", name := "getClass", desc := "()Ljava/lang/Class;" } : Jvm.MethodName) ({ cls := "java/lang/Object", name := "getClass", desc := "()Ljava/lang/Class;" } : Jvm.MethodName)) ∈ lw_all := lw_g (lw_at lw_m4 170 rfl) rfl
theorem q2274 : (Jvm.Cond.selects "java/util/TreeMap$EntrySet" ({ cls := "java/util/AbstractCollection", name := "size", desc := "()I" } : Jvm.MethodName) ({ cls := "java/util/TreeMap$EntrySet", name := "size", desc := "()I" } : Jvm.MethodName)) ∈ lw_all := lw_g (lw_at lw_m9 232 rfl) rfl
theorem q2275 : (Jvm.Cond.instanceMethod ({ cls := "java/util/TreeMap$EntrySet", name := "size", desc := "()I" } : Jvm.MethodName)) ∈ lw_all := lw_g (lw_at lw_m9 233 rfl) rfl
theorem q2276 : (Jvm.Cond.code ({ cls := "java/util/TreeMap$EntrySet", name := "size", desc := "()I" } : Jvm.MethodName) prog_88_method_5_code (1 : Nat) (Option.some Jvm.ClassFile.FieldType.int)) ∈ lw_all := lw_g (lw_at lw_m9 234 rfl) rfl
theorem q2277 : (Jvm.Cond.methodLink "java/util/TreeMap$EntrySet" (48 : Nat) ({ cls := "java/util/TreeMap", name := "size", desc := "()I" } : Jvm.MethodName)) ∈ lw_all := lw_g (lw_at lw_m9 235 rfl) rfl
theorem q3705 : (Jvm.Cond.castable "java/util/TreeMap$EntrySet" "java/lang/Object") ∈ lw_tbl := lw_at lw_m15 223 rfl
theorem q3721 : (Jvm.Cond.fieldLink "java/util/TreeMap$EntrySet" (1 : Nat) "java/util/TreeMap$EntrySet" "this$0" "Ljava/util/TreeMap;") ∈ lw_all := lw_g (lw_at lw_m15 239 rfl) rfl
/-! java/util/AbstractMap$SimpleImmutableEntry -/
set_option maxRecDepth 100000
def RJ45 : String := "java/util/AbstractMap$SimpleImmutableEntry"
def TJ45 : u_T := fun k => match k with
  | 0 => ("java/util/AbstractMap$SimpleImmutableEntry", "key", "Ljava/lang/Object;", true)
  | _ => ("java/util/AbstractMap$SimpleImmutableEntry", "value", "Ljava/lang/Object;", true)
def tyJ45 : Nat → FieldType := fun k => match k with
  | 0 => .object "java/lang/Object"
  | _ => .object "java/lang/Object"
abbrev wsJ450 : List Cond := u_ws RJ45 TJ45 2
theorem nmJ45 : ∀ a, a < 2 → ∀ b, b < 2 → a ≠ b → (TJ45 a).2.1 ≠ (TJ45 b).2.1 := by decide +kernel
theorem tyJ45_ok : ∀ k, k < 2 → parseFieldDescriptor (TJ45 k).2.2.1 = some (tyJ45 k) := by decide +kernel
abbrev cJ45_init : ByteArray := prog_50_method_2_code
def yJ45_init : MethodName := ⟨RJ45, "<init>", "(Ljava/util/Map$Entry;)V"⟩
def dkwJ45_init_1 : List UInt8 := [177]
abbrev dktJ45_init_1 : List UInt8 := dkwJ45_init_1 ++ []
def dkwJ45_init_0 : List UInt8 := [42, 183, 0, 1, 42, 43, 185, 0, 16, 1, 0, 181, 0, 7, 42, 43, 185, 0, 22, 1, 0, 181, 0, 13]
abbrev dktJ45_init_0 : List UInt8 := dkwJ45_init_0 ++ dktJ45_init_1
theorem dksJ45_init_0 : cJ45_init.data.toList.drop 0 = dktJ45_init_0 := by decide +kernel
theorem dksJ45_init_1 : cJ45_init.data.toList.drop 24 = dktJ45_init_1 := dk_seg dksJ45_init_0 24 rfl rfl
theorem dJ45_init_0 : decode cJ45_init 0 = .ok (.aload_n 0, 1) := dk_42 (dk_at dksJ45_init_0 0 rfl rfl)
theorem dJ45_init_1 : decode cJ45_init 1 = .ok (.invokespecial 1, 3) := dk_183 0 1 (dk_at dksJ45_init_0 1 rfl rfl)
theorem dJ45_init_4 : decode cJ45_init 4 = .ok (.aload_n 0, 1) := dk_42 (dk_at dksJ45_init_0 4 rfl rfl)
theorem dJ45_init_5 : decode cJ45_init 5 = .ok (.aload_n 1, 1) := dk_43 (dk_at dksJ45_init_0 5 rfl rfl)
theorem dJ45_init_6 : decode cJ45_init 6 = .ok (.invokeinterface 16 1, 5) := by decide +kernel
theorem dJ45_init_11 : decode cJ45_init 11 = .ok (.putfield 7, 3) := dk_181 0 7 (dk_at dksJ45_init_0 11 rfl rfl)
theorem dJ45_init_14 : decode cJ45_init 14 = .ok (.aload_n 0, 1) := dk_42 (dk_at dksJ45_init_0 14 rfl rfl)
theorem dJ45_init_15 : decode cJ45_init 15 = .ok (.aload_n 1, 1) := dk_43 (dk_at dksJ45_init_0 15 rfl rfl)
theorem dJ45_init_16 : decode cJ45_init 16 = .ok (.invokeinterface 22 1, 5) := by decide +kernel
theorem dJ45_init_21 : decode cJ45_init 21 = .ok (.putfield 13, 3) := dk_181 0 13 (dk_at dksJ45_init_0 21 rfl rfl)
theorem dJ45_init_24 : decode cJ45_init 24 = .ok (.return_, 1) := dk_177 (dk_at dksJ45_init_1 0 rfl rfl)
abbrev cJ45_getKey : ByteArray := prog_50_method_3_code
def yJ45_getKey : MethodName := ⟨RJ45, "getKey", "()Ljava/lang/Object;"⟩
theorem dJ45_getKey_0 : decode cJ45_getKey 0 = .ok (.aload_n 0, 1) := by decide +kernel
theorem dJ45_getKey_1 : decode cJ45_getKey 1 = .ok (.getfield 7, 3) := by decide +kernel
theorem dJ45_getKey_4 : decode cJ45_getKey 4 = .ok (.areturn, 1) := by decide +kernel
abbrev cJ45_getValue : ByteArray := prog_50_method_4_code
def yJ45_getValue : MethodName := ⟨RJ45, "getValue", "()Ljava/lang/Object;"⟩
theorem dJ45_getValue_0 : decode cJ45_getValue 0 = .ok (.aload_n 0, 1) := by decide +kernel
theorem dJ45_getValue_1 : decode cJ45_getValue 1 = .ok (.getfield 13, 3) := by decide +kernel
theorem dJ45_getValue_4 : decode cJ45_getValue 4 = .ok (.areturn, 1) := by decide +kernel
theorem q184 : (Jvm.Cond.initialized "java/util/AbstractMap$SimpleImmutableEntry") ∈ lw_all := lw_g (lw_at lw_m1 62 rfl) rfl
theorem q1000 : (Jvm.Cond.selects "java/util/AbstractMap$SimpleImmutableEntry" ({ cls := "java/lang/Object", name := "getClass", desc := "()Ljava/lang/Class;" } : Jvm.MethodName) ({ cls := "java/lang/Object", name := "getClass", desc := "()Ljava/lang/Class;" } : Jvm.MethodName)) ∈ lw_all := lw_g (lw_at lw_m4 158 rfl) rfl
theorem q2589 : (Jvm.Cond.instantiable "java/util/AbstractMap$SimpleImmutableEntry" (2 : Nat)) ∈ lw_all := lw_g (lw_at lw_m11 67 rfl) rfl
theorem q2591 : (Jvm.Cond.instanceMethod ({ cls := "java/util/AbstractMap$SimpleImmutableEntry", name := "<init>", desc := "(Ljava/util/Map$Entry;)V" } : Jvm.MethodName)) ∈ lw_all := lw_g (lw_at lw_m11 69 rfl) rfl
theorem q2592 : (Jvm.Cond.code ({ cls := "java/util/AbstractMap$SimpleImmutableEntry", name := "<init>", desc := "(Ljava/util/Map$Entry;)V" } : Jvm.MethodName) prog_50_method_2_code (2 : Nat) (Option.none : Option Jvm.ClassFile.FieldType)) ∈ lw_all := lw_g (lw_at lw_m11 70 rfl) rfl
theorem q2593 : (Jvm.Cond.methodLink "java/util/AbstractMap$SimpleImmutableEntry" (1 : Nat) ({ cls := "java/lang/Object", name := "<init>", desc := "()V" } : Jvm.MethodName)) ∈ lw_all := lw_g (lw_at lw_m11 71 rfl) rfl
theorem q2594 : (Jvm.Cond.interfaceEntry "java/util/AbstractMap$SimpleImmutableEntry" (16 : Nat)) ∈ lw_tbl := lw_at lw_m11 72 rfl
theorem q2595 : (Jvm.Cond.methodLink "java/util/AbstractMap$SimpleImmutableEntry" (16 : Nat) ({ cls := "java/util/Map$Entry", name := "getKey", desc := "()Ljava/lang/Object;" } : Jvm.MethodName)) ∈ lw_all := lw_g (lw_at lw_m11 73 rfl) rfl
theorem q2598 : (Jvm.Cond.castable "java/util/AbstractMap$SimpleImmutableEntry" "java/util/Map$Entry") ∈ lw_tbl := lw_at lw_m11 76 rfl
theorem q2599 : (Jvm.Cond.selects "java/util/AbstractMap$SimpleImmutableEntry" ({ cls := "java/util/Map$Entry", name := "getKey", desc := "()Ljava/lang/Object;" } : Jvm.MethodName) ({ cls := "java/util/AbstractMap$SimpleImmutableEntry", name := "getKey", desc := "()Ljava/lang/Object;" } : Jvm.MethodName)) ∈ lw_all := lw_g (lw_at lw_m11 77 rfl) rfl
theorem q2600 : (Jvm.Cond.unhidden "java/util/AbstractMap$SimpleImmutableEntry" "getKey" "()Ljava/lang/Object;") ∈ lw_tbl := lw_at lw_m11 78 rfl
theorem q2601 : (Jvm.Cond.instanceMethod ({ cls := "java/util/AbstractMap$SimpleImmutableEntry", name := "getKey", desc := "()Ljava/lang/Object;" } : Jvm.MethodName)) ∈ lw_all := lw_g (lw_at lw_m11 79 rfl) rfl
theorem q2602 : (Jvm.Cond.publicMethod ({ cls := "java/util/AbstractMap$SimpleImmutableEntry", name := "getKey", desc := "()Ljava/lang/Object;" } : Jvm.MethodName)) ∈ lw_tbl := lw_at lw_m11 80 rfl
theorem q2603 : (Jvm.Cond.code ({ cls := "java/util/AbstractMap$SimpleImmutableEntry", name := "getKey", desc := "()Ljava/lang/Object;" } : Jvm.MethodName) prog_50_method_3_code (1 : Nat) (Option.some (Jvm.ClassFile.FieldType.object "java/lang/Object"))) ∈ lw_all := lw_g (lw_at lw_m11 81 rfl) rfl
theorem q2610 : (Jvm.Cond.interfaceEntry "java/util/AbstractMap$SimpleImmutableEntry" (22 : Nat)) ∈ lw_tbl := lw_at lw_m11 88 rfl
theorem q2611 : (Jvm.Cond.methodLink "java/util/AbstractMap$SimpleImmutableEntry" (22 : Nat) ({ cls := "java/util/Map$Entry", name := "getValue", desc := "()Ljava/lang/Object;" } : Jvm.MethodName)) ∈ lw_all := lw_g (lw_at lw_m11 89 rfl) rfl
theorem q2614 : (Jvm.Cond.selects "java/util/AbstractMap$SimpleImmutableEntry" ({ cls := "java/util/Map$Entry", name := "getValue", desc := "()Ljava/lang/Object;" } : Jvm.MethodName) ({ cls := "java/util/AbstractMap$SimpleImmutableEntry", name := "getValue", desc := "()Ljava/lang/Object;" } : Jvm.MethodName)) ∈ lw_all := lw_g (lw_at lw_m11 92 rfl) rfl
theorem q2615 : (Jvm.Cond.unhidden "java/util/AbstractMap$SimpleImmutableEntry" "getValue" "()Ljava/lang/Object;") ∈ lw_tbl := lw_at lw_m11 93 rfl
theorem q2616 : (Jvm.Cond.instanceMethod ({ cls := "java/util/AbstractMap$SimpleImmutableEntry", name := "getValue", desc := "()Ljava/lang/Object;" } : Jvm.MethodName)) ∈ lw_all := lw_g (lw_at lw_m11 94 rfl) rfl
theorem q2617 : (Jvm.Cond.publicMethod ({ cls := "java/util/AbstractMap$SimpleImmutableEntry", name := "getValue", desc := "()Ljava/lang/Object;" } : Jvm.MethodName)) ∈ lw_tbl := lw_at lw_m11 95 rfl
theorem q2618 : (Jvm.Cond.code ({ cls := "java/util/AbstractMap$SimpleImmutableEntry", name := "getValue", desc := "()Ljava/lang/Object;" } : Jvm.MethodName) prog_50_method_4_code (1 : Nat) (Option.some (Jvm.ClassFile.FieldType.object "java/lang/Object"))) ∈ lw_all := lw_g (lw_at lw_m11 96 rfl) rfl
theorem q2624 : (Jvm.Cond.fieldLink "java/util/AbstractMap$SimpleImmutableEntry" (7 : Nat) "java/util/AbstractMap$SimpleImmutableEntry" "key" "Ljava/lang/Object;") ∈ lw_all := lw_g (lw_at lw_m11 102 rfl) rfl
theorem q2625 : (Jvm.Cond.fieldLink "java/util/AbstractMap$SimpleImmutableEntry" (13 : Nat) "java/util/AbstractMap$SimpleImmutableEntry" "value" "Ljava/lang/Object;") ∈ lw_all := lw_g (lw_at lw_m11 103 rfl) rfl
theorem q2626 : (Jvm.Cond.laysFinal "java/util/AbstractMap$SimpleImmutableEntry" "java/util/AbstractMap$SimpleImmutableEntry" "key" "Ljava/lang/Object;") ∈ lw_all := lw_g (lw_at lw_m11 104 rfl) rfl
theorem q2627 : (Jvm.Cond.soleField "java/util/AbstractMap$SimpleImmutableEntry" "key") ∈ lw_all := lw_g (lw_at lw_m11 105 rfl) rfl
theorem q2628 : (Jvm.Cond.laysFinal "java/util/AbstractMap$SimpleImmutableEntry" "java/util/AbstractMap$SimpleImmutableEntry" "value" "Ljava/lang/Object;") ∈ lw_all := lw_g (lw_at lw_m11 106 rfl) rfl
theorem q2629 : (Jvm.Cond.soleField "java/util/AbstractMap$SimpleImmutableEntry" "value") ∈ lw_all := lw_g (lw_at lw_m11 107 rfl) rfl
theorem q2630 : (Jvm.Cond.superclass "java/util/AbstractMap$SimpleImmutableEntry" "java/lang/Object") ∈ lw_all := lw_g (lw_at lw_m11 108 rfl) rfl
theorem q3706 : (Jvm.Cond.castable "java/util/AbstractMap$SimpleImmutableEntry" "java/lang/Object") ∈ lw_tbl := lw_at lw_m15 224 rfl
theorem in_J45 : ∀ w ∈ wsJ450, w ∈ lw_all := lw_in wsJ450 [2626, 2628] (by decide +kernel) (by decide +kernel)
/-! java/lang/ArithmeticException -/
set_option maxRecDepth 100000
def RJ47 : String := "java/lang/ArithmeticException"
def TJ47 : u_T := fun k => match k with
  | 0 => ("java/lang/Throwable", "backtrace", "Ljava/lang/Object;", false)
  | 1 => ("java/lang/Throwable", "detailMessage", "Ljava/lang/String;", false)
  | 2 => ("java/lang/Throwable", "cause", "Ljava/lang/Throwable;", false)
  | 3 => ("java/lang/Throwable", "stackTrace", "[Ljava/lang/StackTraceElement;", false)
  | 4 => ("java/lang/Throwable", "depth", "I", false)
  | _ => ("java/lang/Throwable", "suppressedExceptions", "Ljava/util/List;", false)
def tyJ47 : Nat → FieldType := fun k => match k with
  | 0 => .object "java/lang/Object"
  | 1 => .object "java/lang/String"
  | 2 => .object "java/lang/Throwable"
  | 3 => .array (.object "java/lang/StackTraceElement")
  | 4 => .int
  | _ => .object "java/util/List"
abbrev wsJ470 : List Cond := u_ws RJ47 TJ47 6
theorem nmJ47 : ∀ a, a < 6 → ∀ b, b < 6 → a ≠ b → (TJ47 a).2.1 ≠ (TJ47 b).2.1 := by decide +kernel
theorem tyJ47_ok : ∀ k, k < 6 → parseFieldDescriptor (TJ47 k).2.2.1 = some (tyJ47 k) := by decide +kernel
abbrev cJ47_init : ByteArray := prog_19_method_2_code
def yJ47_init : MethodName := ⟨RJ47, "<init>", "(Ljava/lang/String;)V"⟩
def dkwJ47_init_0 : List UInt8 := [42, 43, 183, 0, 7, 177]
abbrev dktJ47_init_0 : List UInt8 := dkwJ47_init_0 ++ []
theorem dksJ47_init_0 : cJ47_init.data.toList.drop 0 = dktJ47_init_0 := by decide +kernel
theorem dJ47_init_0 : decode cJ47_init 0 = .ok (.aload_n 0, 1) := dk_42 (dk_at dksJ47_init_0 0 rfl rfl)
theorem dJ47_init_1 : decode cJ47_init 1 = .ok (.aload_n 1, 1) := dk_43 (dk_at dksJ47_init_0 1 rfl rfl)
theorem dJ47_init_2 : decode cJ47_init 2 = .ok (.invokespecial 7, 3) := dk_183 0 7 (dk_at dksJ47_init_0 2 rfl rfl)
theorem dJ47_init_5 : decode cJ47_init 5 = .ok (.return_, 1) := dk_177 (dk_at dksJ47_init_0 5 rfl rfl)
abbrev cJ47_init_2 : ByteArray := prog_19_method_1_code
def yJ47_init_2 : MethodName := ⟨RJ47, "<init>", "()V"⟩
theorem dJ47_init_2_0 : decode cJ47_init_2 0 = .ok (.aload_n 0, 1) := by decide +kernel
theorem dJ47_init_2_1 : decode cJ47_init_2 1 = .ok (.invokespecial 1, 3) := by decide +kernel
theorem dJ47_init_2_4 : decode cJ47_init_2 4 = .ok (.return_, 1) := by decide +kernel
theorem q188 : (Jvm.Cond.initialized "java/lang/ArithmeticException") ∈ lw_all := lw_g (lw_at lw_m1 66 rfl) rfl
theorem q571 : (Jvm.Cond.selects "java/lang/ArithmeticException" ({ cls := "java/lang/Throwable", name := "fillInStackTrace", desc := "()Ljava/lang/Throwable;" } : Jvm.MethodName) ({ cls := "java/lang/Throwable", name := "fillInStackTrace", desc := "()Ljava/lang/Throwable;" } : Jvm.MethodName)) ∈ lw_all := lw_g (lw_at lw_m2 209 rfl) rfl
theorem q990 : (Jvm.Cond.selects "java/lang/ArithmeticException" ({ cls := "java/lang/Object", name := "getClass", desc := "()Ljava/lang/Class;" } : Jvm.MethodName) ({ cls := "java/lang/Object", name := "getClass", desc := "()Ljava/lang/Class;" } : Jvm.MethodName)) ∈ lw_all := lw_g (lw_at lw_m4 148 rfl) rfl
theorem q3037 : (Jvm.Cond.instantiable "java/lang/ArithmeticException" (6 : Nat)) ∈ lw_all := lw_g (lw_at lw_m13 35 rfl) rfl
theorem q3038 : (Jvm.Cond.instanceMethod ({ cls := "java/lang/ArithmeticException", name := "<init>", desc := "(Ljava/lang/String;)V" } : Jvm.MethodName)) ∈ lw_all := lw_g (lw_at lw_m13 36 rfl) rfl
theorem q3039 : (Jvm.Cond.code ({ cls := "java/lang/ArithmeticException", name := "<init>", desc := "(Ljava/lang/String;)V" } : Jvm.MethodName) prog_19_method_2_code (2 : Nat) (Option.none : Option Jvm.ClassFile.FieldType)) ∈ lw_all := lw_g (lw_at lw_m13 37 rfl) rfl
theorem q3040 : (Jvm.Cond.methodLink "java/lang/ArithmeticException" (7 : Nat) ({ cls := "java/lang/RuntimeException", name := "<init>", desc := "(Ljava/lang/String;)V" } : Jvm.MethodName)) ∈ lw_all := lw_g (lw_at lw_m13 38 rfl) rfl
theorem q3041 : (Jvm.Cond.lays "java/lang/ArithmeticException" "java/lang/Throwable" "backtrace" "Ljava/lang/Object;") ∈ lw_all := lw_g (lw_at lw_m13 39 rfl) rfl
theorem q3042 : (Jvm.Cond.lays "java/lang/ArithmeticException" "java/lang/Throwable" "detailMessage" "Ljava/lang/String;") ∈ lw_all := lw_g (lw_at lw_m13 40 rfl) rfl
theorem q3043 : (Jvm.Cond.lays "java/lang/ArithmeticException" "java/lang/Throwable" "cause" "Ljava/lang/Throwable;") ∈ lw_all := lw_g (lw_at lw_m13 41 rfl) rfl
theorem q3044 : (Jvm.Cond.lays "java/lang/ArithmeticException" "java/lang/Throwable" "stackTrace" "[Ljava/lang/StackTraceElement;") ∈ lw_all := lw_g (lw_at lw_m13 42 rfl) rfl
theorem q3045 : (Jvm.Cond.lays "java/lang/ArithmeticException" "java/lang/Throwable" "depth" "I") ∈ lw_all := lw_g (lw_at lw_m13 43 rfl) rfl
theorem q3046 : (Jvm.Cond.lays "java/lang/ArithmeticException" "java/lang/Throwable" "suppressedExceptions" "Ljava/util/List;") ∈ lw_all := lw_g (lw_at lw_m13 44 rfl) rfl
theorem q3047 : (Jvm.Cond.superclass "java/lang/ArithmeticException" "java/lang/RuntimeException") ∈ lw_all := lw_g (lw_at lw_m13 45 rfl) rfl
theorem q3048 : (Jvm.Cond.castable "java/lang/ArithmeticException" "java/lang/ArithmeticException") ∈ lw_tbl := lw_at lw_m13 46 rfl
theorem q3049 : (Jvm.Cond.selects "java/lang/ArithmeticException" ({ cls := "java/lang/Throwable", name := "fillInStackTrace", desc := "(I)Ljava/lang/Throwable;" } : Jvm.MethodName) ({ cls := "java/lang/Throwable", name := "fillInStackTrace", desc := "(I)Ljava/lang/Throwable;" } : Jvm.MethodName)) ∈ lw_all := lw_g (lw_at lw_m13 47 rfl) rfl
theorem q3056 : (Jvm.Cond.instanceMethod ({ cls := "java/lang/ArithmeticException", name := "<init>", desc := "()V" } : Jvm.MethodName)) ∈ lw_all := lw_g (lw_at lw_m13 54 rfl) rfl
theorem q3057 : (Jvm.Cond.code ({ cls := "java/lang/ArithmeticException", name := "<init>", desc := "()V" } : Jvm.MethodName) prog_19_method_1_code (1 : Nat) (Option.none : Option Jvm.ClassFile.FieldType)) ∈ lw_all := lw_g (lw_at lw_m13 55 rfl) rfl
theorem q3058 : (Jvm.Cond.methodLink "java/lang/ArithmeticException" (1 : Nat) ({ cls := "java/lang/RuntimeException", name := "<init>", desc := "()V" } : Jvm.MethodName)) ∈ lw_all := lw_g (lw_at lw_m13 56 rfl) rfl
theorem q3709 : (Jvm.Cond.castable "java/lang/ArithmeticException" "java/lang/Object") ∈ lw_tbl := lw_at lw_m15 227 rfl
theorem in_J47 : ∀ w ∈ wsJ470, w ∈ lw_all := lw_in wsJ470 [3041, 3042, 3043, 3044, 3045, 3046] (by decide +kernel) (by decide +kernel)
/-! java/lang/Object -/
set_option maxRecDepth 100000
def RJ48 : String := "java/lang/Object"
abbrev cJ48_init : ByteArray := object_method_1_code
def yJ48_init : MethodName := ⟨RJ48, "<init>", "()V"⟩
theorem dJ48_init_0 : decode cJ48_init 0 = .ok (.return_, 1) := by decide +kernel
theorem q195 : (Jvm.Cond.instanceMethod ({ cls := "java/lang/Object", name := "<init>", desc := "()V" } : Jvm.MethodName)) ∈ lw_all := lw_g (lw_at lw_m1 73 rfl) rfl
theorem q196 : (Jvm.Cond.code ({ cls := "java/lang/Object", name := "<init>", desc := "()V" } : Jvm.MethodName) object_method_1_code (1 : Nat) (Option.none : Option Jvm.ClassFile.FieldType)) ∈ lw_all := lw_g (lw_at lw_m1 74 rfl) rfl
theorem q398 : (Jvm.Cond.native ({ cls := "java/lang/Object", name := "clone", desc := "()Ljava/lang/Object;" } : Jvm.MethodName)) ∈ lw_all := lw_g (lw_at lw_m2 36 rfl) rfl
theorem q399 : (Jvm.Cond.instanceMethod ({ cls := "java/lang/Object", name := "clone", desc := "()Ljava/lang/Object;" } : Jvm.MethodName)) ∈ lw_all := lw_g (lw_at lw_m2 37 rfl) rfl
theorem q974 : (Jvm.Cond.instanceMethod ({ cls := "java/lang/Object", name := "getClass", desc := "()Ljava/lang/Class;" } : Jvm.MethodName)) ∈ lw_all := lw_g (lw_at lw_m4 132 rfl) rfl
theorem q975 : (Jvm.Cond.sameMethod "java/lang/Object" "java/lang/Object" "getClass" "()Ljava/lang/Class;") ∈ lw_all := lw_g (lw_at lw_m4 133 rfl) rfl
theorem q1015 : (Jvm.Cond.native ({ cls := "java/lang/Object", name := "getClass", desc := "()Ljava/lang/Class;" } : Jvm.MethodName)) ∈ lw_all := lw_g (lw_at lw_m4 173 rfl) rfl
theorem q3667 : (Jvm.Cond.initialized "java/lang/Object") ∈ lw_all := lw_g (lw_at lw_m15 185 rfl) rfl
theorem q3713 : (Jvm.Cond.declares ({ cls := "java/lang/Object", name := "getClass", desc := "()Ljava/lang/Class;" } : Jvm.MethodName)) ∈ lw_tbl := lw_at lw_m15 231 rfl
