/-! java/util/ComparableTimSort -/
set_option maxRecDepth 100000
def RJ35 : String := "java/util/ComparableTimSort"
def TJ35 : u_T := fun k => match k with
  | 0 => ("java/util/ComparableTimSort", "a", "[Ljava/lang/Object;", true)
  | 1 => ("java/util/ComparableTimSort", "minGallop", "I", false)
  | 2 => ("java/util/ComparableTimSort", "tmp", "[Ljava/lang/Object;", false)
  | 3 => ("java/util/ComparableTimSort", "tmpBase", "I", false)
  | 4 => ("java/util/ComparableTimSort", "tmpLen", "I", false)
  | 5 => ("java/util/ComparableTimSort", "stackSize", "I", false)
  | 6 => ("java/util/ComparableTimSort", "runBase", "[I", true)
  | _ => ("java/util/ComparableTimSort", "runLen", "[I", true)
def tyJ35 : Nat → FieldType := fun k => match k with
  | 0 => .array (.object "java/lang/Object")
  | 1 => .int
  | 2 => .array (.object "java/lang/Object")
  | 3 => .int
  | 4 => .int
  | 5 => .int
  | 6 => .array .int
  | _ => .array .int
abbrev wsJ350 : List Cond := u_ws RJ35 TJ35 8
theorem nmJ35 : ∀ a, a < 8 → ∀ b, b < 8 → a ≠ b → (TJ35 a).2.1 ≠ (TJ35 b).2.1 := by decide +kernel
theorem tyJ35_ok : ∀ k, k < 8 → parseFieldDescriptor (TJ35 k).2.2.1 = some (tyJ35 k) := by decide +kernel
abbrev cJ35_sort : ByteArray := prog_62_method_2_code
def yJ35_sort : MethodName := ⟨RJ35, "sort", "([Ljava/lang/Object;II[Ljava/lang/Object;II)V"⟩
def dkwJ35_sort_9 : List UInt8 := [187, 0, 41, 89, 183, 0, 43, 191, 177]
abbrev dktJ35_sort_9 : List UInt8 := dkwJ35_sort_9 ++ []
def dkwJ35_sort_8 : List UInt8 := [183, 0, 43, 191, 25, 7, 182, 0, 66, 178, 0, 37, 154, 0, 20, 25, 7, 180, 0, 13, 4, 159, 0, 11]
abbrev dktJ35_sort_8 : List UInt8 := dkwJ35_sort_8 ++ dktJ35_sort_9
def dkwJ35_sort_7 : List UInt8 := [100, 54, 6, 21, 6, 154, 255, 181, 178, 0, 37, 154, 0, 16, 27, 28, 159, 0, 11, 187, 0, 41, 89]
abbrev dktJ35_sort_7 : List UInt8 := dkwJ35_sort_7 ++ dktJ35_sort_8
def dkwJ35_sort_6 : List UInt8 := [54, 9, 25, 7, 27, 21, 9, 182, 0, 59, 25, 7, 182, 0, 63, 27, 21, 9, 96, 60, 21, 6, 21, 9]
abbrev dktJ35_sort_6 : List UInt8 := dkwJ35_sort_6 ++ dktJ35_sort_7
def dkwJ35_sort_5 : List UInt8 := [21, 6, 167, 0, 5, 21, 8, 54, 10, 42, 27, 27, 21, 10, 96, 27, 21, 9, 96, 184, 0, 48, 21, 10]
abbrev dktJ35_sort_5 : List UInt8 := dkwJ35_sort_5 ++ dktJ35_sort_6
def dkwJ35_sort_4 : List UInt8 := [54, 8, 42, 27, 28, 184, 0, 44, 54, 9, 21, 9, 21, 8, 162, 0, 36, 21, 6, 21, 8, 163, 0, 8]
abbrev dktJ35_sort_4 : List UInt8 := dkwJ35_sort_4 ++ dktJ35_sort_5
def dkwJ35_sort_3 : List UInt8 := [184, 0, 48, 177, 187, 0, 7, 89, 42, 45, 21, 4, 21, 5, 183, 0, 52, 58, 7, 21, 6, 184, 0, 55]
abbrev dktJ35_sort_3 : List UInt8 := dkwJ35_sort_3 ++ dktJ35_sort_4
def dkwJ35_sort_2 : List UInt8 := [21, 6, 16, 32, 162, 0, 22, 42, 27, 28, 184, 0, 44, 54, 7, 42, 27, 28, 27, 21, 7, 96]
abbrev dktJ35_sort_2 : List UInt8 := dkwJ35_sort_2 ++ dktJ35_sort_3
def dkwJ35_sort_1 : List UInt8 := [164, 0, 11, 187, 0, 41, 89, 183, 0, 43, 191, 28, 27, 100, 54, 6, 21, 6, 5, 162, 0, 4, 177]
abbrev dktJ35_sort_1 : List UInt8 := dkwJ35_sort_1 ++ dktJ35_sort_2
def dkwJ35_sort_0 : List UInt8 := [178, 0, 37, 154, 0, 30, 42, 198, 0, 18, 27, 155, 0, 14, 27, 28, 163, 0, 9, 28, 42, 190]
abbrev dktJ35_sort_0 : List UInt8 := dkwJ35_sort_0 ++ dktJ35_sort_1
theorem dksJ35_sort_0 : cJ35_sort.data.toList.drop 0 = dktJ35_sort_0 := by decide +kernel
theorem dksJ35_sort_1 : cJ35_sort.data.toList.drop 22 = dktJ35_sort_1 := dk_seg dksJ35_sort_0 22 rfl rfl
theorem dksJ35_sort_2 : cJ35_sort.data.toList.drop 45 = dktJ35_sort_2 := dk_seg dksJ35_sort_1 23 rfl rfl
theorem dksJ35_sort_3 : cJ35_sort.data.toList.drop 67 = dktJ35_sort_3 := dk_seg dksJ35_sort_2 22 rfl rfl
theorem dksJ35_sort_4 : cJ35_sort.data.toList.drop 91 = dktJ35_sort_4 := dk_seg dksJ35_sort_3 24 rfl rfl
theorem dksJ35_sort_5 : cJ35_sort.data.toList.drop 115 = dktJ35_sort_5 := dk_seg dksJ35_sort_4 24 rfl rfl
theorem dksJ35_sort_6 : cJ35_sort.data.toList.drop 139 = dktJ35_sort_6 := dk_seg dksJ35_sort_5 24 rfl rfl
theorem dksJ35_sort_7 : cJ35_sort.data.toList.drop 163 = dktJ35_sort_7 := dk_seg dksJ35_sort_6 24 rfl rfl
theorem dksJ35_sort_8 : cJ35_sort.data.toList.drop 186 = dktJ35_sort_8 := dk_seg dksJ35_sort_7 23 rfl rfl
theorem dksJ35_sort_9 : cJ35_sort.data.toList.drop 210 = dktJ35_sort_9 := dk_seg dksJ35_sort_8 24 rfl rfl
theorem dJ35_sort_0 : decode cJ35_sort 0 = .ok (.getstatic 37, 3) := dk_178 0 37 (dk_at dksJ35_sort_0 0 rfl rfl)
theorem dJ35_sort_3 : decode cJ35_sort 3 = .ok (.ifCond .ne 30, 3) := dk_154 0 30 (dk_at dksJ35_sort_0 3 rfl rfl)
theorem dJ35_sort_6 : decode cJ35_sort 6 = .ok (.aload_n 0, 1) := dk_42 (dk_at dksJ35_sort_0 6 rfl rfl)
theorem dJ35_sort_7 : decode cJ35_sort 7 = .ok (.ifnull 18, 3) := dk_198 0 18 (dk_at dksJ35_sort_0 7 rfl rfl)
theorem dJ35_sort_10 : decode cJ35_sort 10 = .ok (.iload_n 1, 1) := dk_27 (dk_at dksJ35_sort_0 10 rfl rfl)
theorem dJ35_sort_11 : decode cJ35_sort 11 = .ok (.ifCond .lt 14, 3) := dk_155 0 14 (dk_at dksJ35_sort_0 11 rfl rfl)
theorem dJ35_sort_14 : decode cJ35_sort 14 = .ok (.iload_n 1, 1) := dk_27 (dk_at dksJ35_sort_0 14 rfl rfl)
theorem dJ35_sort_15 : decode cJ35_sort 15 = .ok (.iload_n 2, 1) := dk_28 (dk_at dksJ35_sort_0 15 rfl rfl)
theorem dJ35_sort_16 : decode cJ35_sort 16 = .ok (.if_icmp .gt 9, 3) := dk_163 0 9 (dk_at dksJ35_sort_0 16 rfl rfl)
theorem dJ35_sort_19 : decode cJ35_sort 19 = .ok (.iload_n 2, 1) := dk_28 (dk_at dksJ35_sort_0 19 rfl rfl)
theorem dJ35_sort_20 : decode cJ35_sort 20 = .ok (.aload_n 0, 1) := dk_42 (dk_at dksJ35_sort_0 20 rfl rfl)
theorem dJ35_sort_21 : decode cJ35_sort 21 = .ok (.arraylength, 1) := dk_190 (dk_at dksJ35_sort_0 21 rfl rfl)
theorem dJ35_sort_22 : decode cJ35_sort 22 = .ok (.if_icmp .le 11, 3) := dk_164 0 11 (dk_at dksJ35_sort_1 0 rfl rfl)
theorem dJ35_sort_25 : decode cJ35_sort 25 = .ok (.new 41, 3) := dk_187 0 41 (dk_at dksJ35_sort_1 3 rfl rfl)
theorem dJ35_sort_28 : decode cJ35_sort 28 = .ok (.dup, 1) := dk_89 (dk_at dksJ35_sort_1 6 rfl rfl)
theorem dJ35_sort_29 : decode cJ35_sort 29 = .ok (.invokespecial 43, 3) := dk_183 0 43 (dk_at dksJ35_sort_1 7 rfl rfl)
theorem dJ35_sort_32 : decode cJ35_sort 32 = .ok (.athrow, 1) := dk_191 (dk_at dksJ35_sort_1 10 rfl rfl)
theorem dJ35_sort_33 : decode cJ35_sort 33 = .ok (.iload_n 2, 1) := dk_28 (dk_at dksJ35_sort_1 11 rfl rfl)
theorem dJ35_sort_34 : decode cJ35_sort 34 = .ok (.iload_n 1, 1) := dk_27 (dk_at dksJ35_sort_1 12 rfl rfl)
theorem dJ35_sort_35 : decode cJ35_sort 35 = .ok (.isub, 1) := dk_100 (dk_at dksJ35_sort_1 13 rfl rfl)
theorem dJ35_sort_36 : decode cJ35_sort 36 = .ok (.istore 6, 2) := dk_54 6 (dk_at dksJ35_sort_1 14 rfl rfl)
theorem dJ35_sort_38 : decode cJ35_sort 38 = .ok (.iload 6, 2) := dk_21 6 (dk_at dksJ35_sort_1 16 rfl rfl)
theorem dJ35_sort_40 : decode cJ35_sort 40 = .ok (.iconst 2, 1) := dk_5 (dk_at dksJ35_sort_1 18 rfl rfl)
theorem dJ35_sort_41 : decode cJ35_sort 41 = .ok (.if_icmp .ge 4, 3) := dk_162 0 4 (dk_at dksJ35_sort_1 19 rfl rfl)
theorem dJ35_sort_44 : decode cJ35_sort 44 = .ok (.return_, 1) := dk_177 (dk_at dksJ35_sort_1 22 rfl rfl)
theorem dJ35_sort_45 : decode cJ35_sort 45 = .ok (.iload 6, 2) := dk_21 6 (dk_at dksJ35_sort_2 0 rfl rfl)
theorem dJ35_sort_47 : decode cJ35_sort 47 = .ok (.bipush 32, 2) := dk_16 32 (dk_at dksJ35_sort_2 2 rfl rfl)
theorem dJ35_sort_49 : decode cJ35_sort 49 = .ok (.if_icmp .ge 22, 3) := dk_162 0 22 (dk_at dksJ35_sort_2 4 rfl rfl)
theorem dJ35_sort_52 : decode cJ35_sort 52 = .ok (.aload_n 0, 1) := dk_42 (dk_at dksJ35_sort_2 7 rfl rfl)
theorem dJ35_sort_53 : decode cJ35_sort 53 = .ok (.iload_n 1, 1) := dk_27 (dk_at dksJ35_sort_2 8 rfl rfl)
theorem dJ35_sort_54 : decode cJ35_sort 54 = .ok (.iload_n 2, 1) := dk_28 (dk_at dksJ35_sort_2 9 rfl rfl)
theorem dJ35_sort_55 : decode cJ35_sort 55 = .ok (.invokestatic 44, 3) := dk_184 0 44 (dk_at dksJ35_sort_2 10 rfl rfl)
theorem dJ35_sort_58 : decode cJ35_sort 58 = .ok (.istore 7, 2) := dk_54 7 (dk_at dksJ35_sort_2 13 rfl rfl)
theorem dJ35_sort_60 : decode cJ35_sort 60 = .ok (.aload_n 0, 1) := dk_42 (dk_at dksJ35_sort_2 15 rfl rfl)
theorem dJ35_sort_61 : decode cJ35_sort 61 = .ok (.iload_n 1, 1) := dk_27 (dk_at dksJ35_sort_2 16 rfl rfl)
theorem dJ35_sort_62 : decode cJ35_sort 62 = .ok (.iload_n 2, 1) := dk_28 (dk_at dksJ35_sort_2 17 rfl rfl)
theorem dJ35_sort_63 : decode cJ35_sort 63 = .ok (.iload_n 1, 1) := dk_27 (dk_at dksJ35_sort_2 18 rfl rfl)
theorem dJ35_sort_64 : decode cJ35_sort 64 = .ok (.iload 7, 2) := dk_21 7 (dk_at dksJ35_sort_2 19 rfl rfl)
theorem dJ35_sort_66 : decode cJ35_sort 66 = .ok (.iadd, 1) := dk_96 (dk_at dksJ35_sort_2 21 rfl rfl)
theorem dJ35_sort_67 : decode cJ35_sort 67 = .ok (.invokestatic 48, 3) := dk_184 0 48 (dk_at dksJ35_sort_3 0 rfl rfl)
theorem dJ35_sort_70 : decode cJ35_sort 70 = .ok (.return_, 1) := dk_177 (dk_at dksJ35_sort_3 3 rfl rfl)
theorem dJ35_sort_71 : decode cJ35_sort 71 = .ok (.new 7, 3) := dk_187 0 7 (dk_at dksJ35_sort_3 4 rfl rfl)
theorem dJ35_sort_74 : decode cJ35_sort 74 = .ok (.dup, 1) := dk_89 (dk_at dksJ35_sort_3 7 rfl rfl)
theorem dJ35_sort_75 : decode cJ35_sort 75 = .ok (.aload_n 0, 1) := dk_42 (dk_at dksJ35_sort_3 8 rfl rfl)
theorem dJ35_sort_76 : decode cJ35_sort 76 = .ok (.aload_n 3, 1) := dk_45 (dk_at dksJ35_sort_3 9 rfl rfl)
theorem dJ35_sort_77 : decode cJ35_sort 77 = .ok (.iload 4, 2) := dk_21 4 (dk_at dksJ35_sort_3 10 rfl rfl)
theorem dJ35_sort_79 : decode cJ35_sort 79 = .ok (.iload 5, 2) := dk_21 5 (dk_at dksJ35_sort_3 12 rfl rfl)
theorem dJ35_sort_81 : decode cJ35_sort 81 = .ok (.invokespecial 52, 3) := dk_183 0 52 (dk_at dksJ35_sort_3 14 rfl rfl)
theorem dJ35_sort_84 : decode cJ35_sort 84 = .ok (.astore 7, 2) := dk_58 7 (dk_at dksJ35_sort_3 17 rfl rfl)
theorem dJ35_sort_86 : decode cJ35_sort 86 = .ok (.iload 6, 2) := dk_21 6 (dk_at dksJ35_sort_3 19 rfl rfl)
theorem dJ35_sort_88 : decode cJ35_sort 88 = .ok (.invokestatic 55, 3) := dk_184 0 55 (dk_at dksJ35_sort_3 21 rfl rfl)
theorem dJ35_sort_91 : decode cJ35_sort 91 = .ok (.istore 8, 2) := dk_54 8 (dk_at dksJ35_sort_4 0 rfl rfl)
theorem dJ35_sort_93 : decode cJ35_sort 93 = .ok (.aload_n 0, 1) := dk_42 (dk_at dksJ35_sort_4 2 rfl rfl)
theorem dJ35_sort_94 : decode cJ35_sort 94 = .ok (.iload_n 1, 1) := dk_27 (dk_at dksJ35_sort_4 3 rfl rfl)
theorem dJ35_sort_95 : decode cJ35_sort 95 = .ok (.iload_n 2, 1) := dk_28 (dk_at dksJ35_sort_4 4 rfl rfl)
theorem dJ35_sort_96 : decode cJ35_sort 96 = .ok (.invokestatic 44, 3) := dk_184 0 44 (dk_at dksJ35_sort_4 5 rfl rfl)
theorem dJ35_sort_99 : decode cJ35_sort 99 = .ok (.istore 9, 2) := dk_54 9 (dk_at dksJ35_sort_4 8 rfl rfl)
theorem dJ35_sort_101 : decode cJ35_sort 101 = .ok (.iload 9, 2) := dk_21 9 (dk_at dksJ35_sort_4 10 rfl rfl)
theorem dJ35_sort_103 : decode cJ35_sort 103 = .ok (.iload 8, 2) := dk_21 8 (dk_at dksJ35_sort_4 12 rfl rfl)
theorem dJ35_sort_105 : decode cJ35_sort 105 = .ok (.if_icmp .ge 36, 3) := dk_162 0 36 (dk_at dksJ35_sort_4 14 rfl rfl)
theorem dJ35_sort_108 : decode cJ35_sort 108 = .ok (.iload 6, 2) := dk_21 6 (dk_at dksJ35_sort_4 17 rfl rfl)
theorem dJ35_sort_110 : decode cJ35_sort 110 = .ok (.iload 8, 2) := dk_21 8 (dk_at dksJ35_sort_4 19 rfl rfl)
theorem dJ35_sort_112 : decode cJ35_sort 112 = .ok (.if_icmp .gt 8, 3) := dk_163 0 8 (dk_at dksJ35_sort_4 21 rfl rfl)
theorem dJ35_sort_115 : decode cJ35_sort 115 = .ok (.iload 6, 2) := dk_21 6 (dk_at dksJ35_sort_5 0 rfl rfl)
theorem dJ35_sort_117 : decode cJ35_sort 117 = .ok (.goto 5, 3) := dk_167 0 5 (dk_at dksJ35_sort_5 2 rfl rfl)
theorem dJ35_sort_120 : decode cJ35_sort 120 = .ok (.iload 8, 2) := dk_21 8 (dk_at dksJ35_sort_5 5 rfl rfl)
theorem dJ35_sort_122 : decode cJ35_sort 122 = .ok (.istore 10, 2) := dk_54 10 (dk_at dksJ35_sort_5 7 rfl rfl)
theorem dJ35_sort_124 : decode cJ35_sort 124 = .ok (.aload_n 0, 1) := dk_42 (dk_at dksJ35_sort_5 9 rfl rfl)
theorem dJ35_sort_125 : decode cJ35_sort 125 = .ok (.iload_n 1, 1) := dk_27 (dk_at dksJ35_sort_5 10 rfl rfl)
theorem dJ35_sort_126 : decode cJ35_sort 126 = .ok (.iload_n 1, 1) := dk_27 (dk_at dksJ35_sort_5 11 rfl rfl)
theorem dJ35_sort_127 : decode cJ35_sort 127 = .ok (.iload 10, 2) := dk_21 10 (dk_at dksJ35_sort_5 12 rfl rfl)
theorem dJ35_sort_129 : decode cJ35_sort 129 = .ok (.iadd, 1) := dk_96 (dk_at dksJ35_sort_5 14 rfl rfl)
theorem dJ35_sort_130 : decode cJ35_sort 130 = .ok (.iload_n 1, 1) := dk_27 (dk_at dksJ35_sort_5 15 rfl rfl)
theorem dJ35_sort_131 : decode cJ35_sort 131 = .ok (.iload 9, 2) := dk_21 9 (dk_at dksJ35_sort_5 16 rfl rfl)
theorem dJ35_sort_133 : decode cJ35_sort 133 = .ok (.iadd, 1) := dk_96 (dk_at dksJ35_sort_5 18 rfl rfl)
theorem dJ35_sort_134 : decode cJ35_sort 134 = .ok (.invokestatic 48, 3) := dk_184 0 48 (dk_at dksJ35_sort_5 19 rfl rfl)
theorem dJ35_sort_137 : decode cJ35_sort 137 = .ok (.iload 10, 2) := dk_21 10 (dk_at dksJ35_sort_5 22 rfl rfl)
theorem dJ35_sort_139 : decode cJ35_sort 139 = .ok (.istore 9, 2) := dk_54 9 (dk_at dksJ35_sort_6 0 rfl rfl)
theorem dJ35_sort_141 : decode cJ35_sort 141 = .ok (.aload 7, 2) := dk_25 7 (dk_at dksJ35_sort_6 2 rfl rfl)
theorem dJ35_sort_143 : decode cJ35_sort 143 = .ok (.iload_n 1, 1) := dk_27 (dk_at dksJ35_sort_6 4 rfl rfl)
theorem dJ35_sort_144 : decode cJ35_sort 144 = .ok (.iload 9, 2) := dk_21 9 (dk_at dksJ35_sort_6 5 rfl rfl)
theorem dJ35_sort_146 : decode cJ35_sort 146 = .ok (.invokevirtual 59, 3) := dk_182 0 59 (dk_at dksJ35_sort_6 7 rfl rfl)
theorem dJ35_sort_149 : decode cJ35_sort 149 = .ok (.aload 7, 2) := dk_25 7 (dk_at dksJ35_sort_6 10 rfl rfl)
theorem dJ35_sort_151 : decode cJ35_sort 151 = .ok (.invokevirtual 63, 3) := dk_182 0 63 (dk_at dksJ35_sort_6 12 rfl rfl)
theorem dJ35_sort_154 : decode cJ35_sort 154 = .ok (.iload_n 1, 1) := dk_27 (dk_at dksJ35_sort_6 15 rfl rfl)
theorem dJ35_sort_155 : decode cJ35_sort 155 = .ok (.iload 9, 2) := dk_21 9 (dk_at dksJ35_sort_6 16 rfl rfl)
theorem dJ35_sort_157 : decode cJ35_sort 157 = .ok (.iadd, 1) := dk_96 (dk_at dksJ35_sort_6 18 rfl rfl)
theorem dJ35_sort_158 : decode cJ35_sort 158 = .ok (.istore_n 1, 1) := dk_60 (dk_at dksJ35_sort_6 19 rfl rfl)
theorem dJ35_sort_159 : decode cJ35_sort 159 = .ok (.iload 6, 2) := dk_21 6 (dk_at dksJ35_sort_6 20 rfl rfl)
theorem dJ35_sort_161 : decode cJ35_sort 161 = .ok (.iload 9, 2) := dk_21 9 (dk_at dksJ35_sort_6 22 rfl rfl)
theorem dJ35_sort_163 : decode cJ35_sort 163 = .ok (.isub, 1) := dk_100 (dk_at dksJ35_sort_7 0 rfl rfl)
theorem dJ35_sort_164 : decode cJ35_sort 164 = .ok (.istore 6, 2) := dk_54 6 (dk_at dksJ35_sort_7 1 rfl rfl)
theorem dJ35_sort_166 : decode cJ35_sort 166 = .ok (.iload 6, 2) := dk_21 6 (dk_at dksJ35_sort_7 3 rfl rfl)
theorem dJ35_sort_168 : decode cJ35_sort 168 = .ok (.ifCond .ne (-75), 3) := dk_154 255 181 (dk_at dksJ35_sort_7 5 rfl rfl)
theorem dJ35_sort_171 : decode cJ35_sort 171 = .ok (.getstatic 37, 3) := dk_178 0 37 (dk_at dksJ35_sort_7 8 rfl rfl)
theorem dJ35_sort_174 : decode cJ35_sort 174 = .ok (.ifCond .ne 16, 3) := dk_154 0 16 (dk_at dksJ35_sort_7 11 rfl rfl)
theorem dJ35_sort_177 : decode cJ35_sort 177 = .ok (.iload_n 1, 1) := dk_27 (dk_at dksJ35_sort_7 14 rfl rfl)
theorem dJ35_sort_178 : decode cJ35_sort 178 = .ok (.iload_n 2, 1) := dk_28 (dk_at dksJ35_sort_7 15 rfl rfl)
theorem dJ35_sort_179 : decode cJ35_sort 179 = .ok (.if_icmp .eq 11, 3) := dk_159 0 11 (dk_at dksJ35_sort_7 16 rfl rfl)
theorem dJ35_sort_182 : decode cJ35_sort 182 = .ok (.new 41, 3) := dk_187 0 41 (dk_at dksJ35_sort_7 19 rfl rfl)
theorem dJ35_sort_185 : decode cJ35_sort 185 = .ok (.dup, 1) := dk_89 (dk_at dksJ35_sort_7 22 rfl rfl)
theorem dJ35_sort_186 : decode cJ35_sort 186 = .ok (.invokespecial 43, 3) := dk_183 0 43 (dk_at dksJ35_sort_8 0 rfl rfl)
theorem dJ35_sort_189 : decode cJ35_sort 189 = .ok (.athrow, 1) := dk_191 (dk_at dksJ35_sort_8 3 rfl rfl)
theorem dJ35_sort_190 : decode cJ35_sort 190 = .ok (.aload 7, 2) := dk_25 7 (dk_at dksJ35_sort_8 4 rfl rfl)
theorem dJ35_sort_192 : decode cJ35_sort 192 = .ok (.invokevirtual 66, 3) := dk_182 0 66 (dk_at dksJ35_sort_8 6 rfl rfl)
theorem dJ35_sort_195 : decode cJ35_sort 195 = .ok (.getstatic 37, 3) := dk_178 0 37 (dk_at dksJ35_sort_8 9 rfl rfl)
theorem dJ35_sort_198 : decode cJ35_sort 198 = .ok (.ifCond .ne 20, 3) := dk_154 0 20 (dk_at dksJ35_sort_8 12 rfl rfl)
theorem dJ35_sort_201 : decode cJ35_sort 201 = .ok (.aload 7, 2) := dk_25 7 (dk_at dksJ35_sort_8 15 rfl rfl)
theorem dJ35_sort_203 : decode cJ35_sort 203 = .ok (.getfield 13, 3) := dk_180 0 13 (dk_at dksJ35_sort_8 17 rfl rfl)
theorem dJ35_sort_206 : decode cJ35_sort 206 = .ok (.iconst 1, 1) := dk_4 (dk_at dksJ35_sort_8 20 rfl rfl)
theorem dJ35_sort_207 : decode cJ35_sort 207 = .ok (.if_icmp .eq 11, 3) := dk_159 0 11 (dk_at dksJ35_sort_8 21 rfl rfl)
theorem dJ35_sort_210 : decode cJ35_sort 210 = .ok (.new 41, 3) := dk_187 0 41 (dk_at dksJ35_sort_9 0 rfl rfl)
theorem dJ35_sort_213 : decode cJ35_sort 213 = .ok (.dup, 1) := dk_89 (dk_at dksJ35_sort_9 3 rfl rfl)
theorem dJ35_sort_214 : decode cJ35_sort 214 = .ok (.invokespecial 43, 3) := dk_183 0 43 (dk_at dksJ35_sort_9 4 rfl rfl)
theorem dJ35_sort_217 : decode cJ35_sort 217 = .ok (.athrow, 1) := dk_191 (dk_at dksJ35_sort_9 7 rfl rfl)
theorem dJ35_sort_218 : decode cJ35_sort 218 = .ok (.return_, 1) := dk_177 (dk_at dksJ35_sort_9 8 rfl rfl)
abbrev cJ35_countRunAndMakeAscending : ByteArray := prog_62_method_4_code
def yJ35_countRunAndMakeAscending : MethodName := ⟨RJ35, "countRunAndMakeAscending", "([Ljava/lang/Object;II)I"⟩
def dkwJ35_countRunAndMakeAscending_5 : List UInt8 := [29, 27, 100, 172]
abbrev dktJ35_countRunAndMakeAscending_5 : List UInt8 := dkwJ35_countRunAndMakeAscending_5 ++ []
def dkwJ35_countRunAndMakeAscending_4 : List UInt8 := [29, 50, 192, 0, 69, 42, 29, 4, 100, 50, 185, 0, 71, 2, 0, 155, 0, 9, 132, 3, 1, 167, 255, 229]
abbrev dktJ35_countRunAndMakeAscending_4 : List UInt8 := dkwJ35_countRunAndMakeAscending_4 ++ dktJ35_countRunAndMakeAscending_5
def dkwJ35_countRunAndMakeAscending_3 : List UInt8 := [156, 0, 9, 132, 3, 1, 167, 255, 229, 42, 27, 29, 184, 0, 81, 167, 0, 33, 29, 28, 162, 0, 28, 42]
abbrev dktJ35_countRunAndMakeAscending_3 : List UInt8 := dkwJ35_countRunAndMakeAscending_3 ++ dktJ35_countRunAndMakeAscending_4
def dkwJ35_countRunAndMakeAscending_2 : List UInt8 := [156, 0, 42, 29, 28, 162, 0, 28, 42, 29, 50, 192, 0, 69, 42, 29, 4, 100, 50, 185, 0, 71, 2, 0]
abbrev dktJ35_countRunAndMakeAscending_2 : List UInt8 := dkwJ35_countRunAndMakeAscending_2 ++ dktJ35_countRunAndMakeAscending_3
def dkwJ35_countRunAndMakeAscending_1 : List UInt8 := [28, 160, 0, 5, 4, 172, 42, 29, 132, 3, 1, 50, 192, 0, 69, 42, 27, 50, 185, 0, 71, 2, 0]
abbrev dktJ35_countRunAndMakeAscending_1 : List UInt8 := dkwJ35_countRunAndMakeAscending_1 ++ dktJ35_countRunAndMakeAscending_2
def dkwJ35_countRunAndMakeAscending_0 : List UInt8 := [178, 0, 37, 154, 0, 16, 27, 28, 161, 0, 11, 187, 0, 41, 89, 183, 0, 43, 191, 27, 4, 96, 62, 29]
abbrev dktJ35_countRunAndMakeAscending_0 : List UInt8 := dkwJ35_countRunAndMakeAscending_0 ++ dktJ35_countRunAndMakeAscending_1
theorem dksJ35_countRunAndMakeAscending_0 : cJ35_countRunAndMakeAscending.data.toList.drop 0 = dktJ35_countRunAndMakeAscending_0 := by decide +kernel
theorem dksJ35_countRunAndMakeAscending_1 : cJ35_countRunAndMakeAscending.data.toList.drop 24 = dktJ35_countRunAndMakeAscending_1 := dk_seg dksJ35_countRunAndMakeAscending_0 24 rfl rfl
theorem dksJ35_countRunAndMakeAscending_2 : cJ35_countRunAndMakeAscending.data.toList.drop 47 = dktJ35_countRunAndMakeAscending_2 := dk_seg dksJ35_countRunAndMakeAscending_1 23 rfl rfl
theorem dksJ35_countRunAndMakeAscending_3 : cJ35_countRunAndMakeAscending.data.toList.drop 71 = dktJ35_countRunAndMakeAscending_3 := dk_seg dksJ35_countRunAndMakeAscending_2 24 rfl rfl
theorem dksJ35_countRunAndMakeAscending_4 : cJ35_countRunAndMakeAscending.data.toList.drop 95 = dktJ35_countRunAndMakeAscending_4 := dk_seg dksJ35_countRunAndMakeAscending_3 24 rfl rfl
theorem dksJ35_countRunAndMakeAscending_5 : cJ35_countRunAndMakeAscending.data.toList.drop 119 = dktJ35_countRunAndMakeAscending_5 := dk_seg dksJ35_countRunAndMakeAscending_4 24 rfl rfl
theorem dJ35_countRunAndMakeAscending_0 : decode cJ35_countRunAndMakeAscending 0 = .ok (.getstatic 37, 3) := dk_178 0 37 (dk_at dksJ35_countRunAndMakeAscending_0 0 rfl rfl)
theorem dJ35_countRunAndMakeAscending_3 : decode cJ35_countRunAndMakeAscending 3 = .ok (.ifCond .ne 16, 3) := dk_154 0 16 (dk_at dksJ35_countRunAndMakeAscending_0 3 rfl rfl)
theorem dJ35_countRunAndMakeAscending_6 : decode cJ35_countRunAndMakeAscending 6 = .ok (.iload_n 1, 1) := dk_27 (dk_at dksJ35_countRunAndMakeAscending_0 6 rfl rfl)
theorem dJ35_countRunAndMakeAscending_7 : decode cJ35_countRunAndMakeAscending 7 = .ok (.iload_n 2, 1) := dk_28 (dk_at dksJ35_countRunAndMakeAscending_0 7 rfl rfl)
theorem dJ35_countRunAndMakeAscending_8 : decode cJ35_countRunAndMakeAscending 8 = .ok (.if_icmp .lt 11, 3) := dk_161 0 11 (dk_at dksJ35_countRunAndMakeAscending_0 8 rfl rfl)
theorem dJ35_countRunAndMakeAscending_11 : decode cJ35_countRunAndMakeAscending 11 = .ok (.new 41, 3) := dk_187 0 41 (dk_at dksJ35_countRunAndMakeAscending_0 11 rfl rfl)
theorem dJ35_countRunAndMakeAscending_14 : decode cJ35_countRunAndMakeAscending 14 = .ok (.dup, 1) := dk_89 (dk_at dksJ35_countRunAndMakeAscending_0 14 rfl rfl)
theorem dJ35_countRunAndMakeAscending_15 : decode cJ35_countRunAndMakeAscending 15 = .ok (.invokespecial 43, 3) := dk_183 0 43 (dk_at dksJ35_countRunAndMakeAscending_0 15 rfl rfl)
theorem dJ35_countRunAndMakeAscending_18 : decode cJ35_countRunAndMakeAscending 18 = .ok (.athrow, 1) := dk_191 (dk_at dksJ35_countRunAndMakeAscending_0 18 rfl rfl)
theorem dJ35_countRunAndMakeAscending_19 : decode cJ35_countRunAndMakeAscending 19 = .ok (.iload_n 1, 1) := dk_27 (dk_at dksJ35_countRunAndMakeAscending_0 19 rfl rfl)
theorem dJ35_countRunAndMakeAscending_20 : decode cJ35_countRunAndMakeAscending 20 = .ok (.iconst 1, 1) := dk_4 (dk_at dksJ35_countRunAndMakeAscending_0 20 rfl rfl)
theorem dJ35_countRunAndMakeAscending_21 : decode cJ35_countRunAndMakeAscending 21 = .ok (.iadd, 1) := dk_96 (dk_at dksJ35_countRunAndMakeAscending_0 21 rfl rfl)
theorem dJ35_countRunAndMakeAscending_22 : decode cJ35_countRunAndMakeAscending 22 = .ok (.istore_n 3, 1) := dk_62 (dk_at dksJ35_countRunAndMakeAscending_0 22 rfl rfl)
theorem dJ35_countRunAndMakeAscending_23 : decode cJ35_countRunAndMakeAscending 23 = .ok (.iload_n 3, 1) := dk_29 (dk_at dksJ35_countRunAndMakeAscending_0 23 rfl rfl)
theorem dJ35_countRunAndMakeAscending_24 : decode cJ35_countRunAndMakeAscending 24 = .ok (.iload_n 2, 1) := dk_28 (dk_at dksJ35_countRunAndMakeAscending_1 0 rfl rfl)
theorem dJ35_countRunAndMakeAscending_25 : decode cJ35_countRunAndMakeAscending 25 = .ok (.if_icmp .ne 5, 3) := dk_160 0 5 (dk_at dksJ35_countRunAndMakeAscending_1 1 rfl rfl)
theorem dJ35_countRunAndMakeAscending_28 : decode cJ35_countRunAndMakeAscending 28 = .ok (.iconst 1, 1) := dk_4 (dk_at dksJ35_countRunAndMakeAscending_1 4 rfl rfl)
theorem dJ35_countRunAndMakeAscending_29 : decode cJ35_countRunAndMakeAscending 29 = .ok (.ireturn, 1) := dk_172 (dk_at dksJ35_countRunAndMakeAscending_1 5 rfl rfl)
theorem dJ35_countRunAndMakeAscending_30 : decode cJ35_countRunAndMakeAscending 30 = .ok (.aload_n 0, 1) := dk_42 (dk_at dksJ35_countRunAndMakeAscending_1 6 rfl rfl)
theorem dJ35_countRunAndMakeAscending_31 : decode cJ35_countRunAndMakeAscending 31 = .ok (.iload_n 3, 1) := dk_29 (dk_at dksJ35_countRunAndMakeAscending_1 7 rfl rfl)
theorem dJ35_countRunAndMakeAscending_32 : decode cJ35_countRunAndMakeAscending 32 = .ok (.iinc 3 1, 3) := dk_132 3 1 (dk_at dksJ35_countRunAndMakeAscending_1 8 rfl rfl)
theorem dJ35_countRunAndMakeAscending_35 : decode cJ35_countRunAndMakeAscending 35 = .ok (.aaload, 1) := dk_50 (dk_at dksJ35_countRunAndMakeAscending_1 11 rfl rfl)
theorem dJ35_countRunAndMakeAscending_36 : decode cJ35_countRunAndMakeAscending 36 = .ok (.checkcast 69, 3) := dk_192 0 69 (dk_at dksJ35_countRunAndMakeAscending_1 12 rfl rfl)
theorem dJ35_countRunAndMakeAscending_39 : decode cJ35_countRunAndMakeAscending 39 = .ok (.aload_n 0, 1) := dk_42 (dk_at dksJ35_countRunAndMakeAscending_1 15 rfl rfl)
theorem dJ35_countRunAndMakeAscending_40 : decode cJ35_countRunAndMakeAscending 40 = .ok (.iload_n 1, 1) := dk_27 (dk_at dksJ35_countRunAndMakeAscending_1 16 rfl rfl)
theorem dJ35_countRunAndMakeAscending_41 : decode cJ35_countRunAndMakeAscending 41 = .ok (.aaload, 1) := dk_50 (dk_at dksJ35_countRunAndMakeAscending_1 17 rfl rfl)
theorem dJ35_countRunAndMakeAscending_42 : decode cJ35_countRunAndMakeAscending 42 = .ok (.invokeinterface 71 2, 5) := by decide +kernel
theorem dJ35_countRunAndMakeAscending_47 : decode cJ35_countRunAndMakeAscending 47 = .ok (.ifCond .ge 42, 3) := dk_156 0 42 (dk_at dksJ35_countRunAndMakeAscending_2 0 rfl rfl)
theorem dJ35_countRunAndMakeAscending_50 : decode cJ35_countRunAndMakeAscending 50 = .ok (.iload_n 3, 1) := dk_29 (dk_at dksJ35_countRunAndMakeAscending_2 3 rfl rfl)
theorem dJ35_countRunAndMakeAscending_51 : decode cJ35_countRunAndMakeAscending 51 = .ok (.iload_n 2, 1) := dk_28 (dk_at dksJ35_countRunAndMakeAscending_2 4 rfl rfl)
theorem dJ35_countRunAndMakeAscending_52 : decode cJ35_countRunAndMakeAscending 52 = .ok (.if_icmp .ge 28, 3) := dk_162 0 28 (dk_at dksJ35_countRunAndMakeAscending_2 5 rfl rfl)
theorem dJ35_countRunAndMakeAscending_55 : decode cJ35_countRunAndMakeAscending 55 = .ok (.aload_n 0, 1) := dk_42 (dk_at dksJ35_countRunAndMakeAscending_2 8 rfl rfl)
theorem dJ35_countRunAndMakeAscending_56 : decode cJ35_countRunAndMakeAscending 56 = .ok (.iload_n 3, 1) := dk_29 (dk_at dksJ35_countRunAndMakeAscending_2 9 rfl rfl)
theorem dJ35_countRunAndMakeAscending_57 : decode cJ35_countRunAndMakeAscending 57 = .ok (.aaload, 1) := dk_50 (dk_at dksJ35_countRunAndMakeAscending_2 10 rfl rfl)
theorem dJ35_countRunAndMakeAscending_58 : decode cJ35_countRunAndMakeAscending 58 = .ok (.checkcast 69, 3) := dk_192 0 69 (dk_at dksJ35_countRunAndMakeAscending_2 11 rfl rfl)
theorem dJ35_countRunAndMakeAscending_61 : decode cJ35_countRunAndMakeAscending 61 = .ok (.aload_n 0, 1) := dk_42 (dk_at dksJ35_countRunAndMakeAscending_2 14 rfl rfl)
theorem dJ35_countRunAndMakeAscending_62 : decode cJ35_countRunAndMakeAscending 62 = .ok (.iload_n 3, 1) := dk_29 (dk_at dksJ35_countRunAndMakeAscending_2 15 rfl rfl)
theorem dJ35_countRunAndMakeAscending_63 : decode cJ35_countRunAndMakeAscending 63 = .ok (.iconst 1, 1) := dk_4 (dk_at dksJ35_countRunAndMakeAscending_2 16 rfl rfl)
theorem dJ35_countRunAndMakeAscending_64 : decode cJ35_countRunAndMakeAscending 64 = .ok (.isub, 1) := dk_100 (dk_at dksJ35_countRunAndMakeAscending_2 17 rfl rfl)
theorem dJ35_countRunAndMakeAscending_65 : decode cJ35_countRunAndMakeAscending 65 = .ok (.aaload, 1) := dk_50 (dk_at dksJ35_countRunAndMakeAscending_2 18 rfl rfl)
theorem dJ35_countRunAndMakeAscending_66 : decode cJ35_countRunAndMakeAscending 66 = .ok (.invokeinterface 71 2, 5) := by decide +kernel
theorem dJ35_countRunAndMakeAscending_71 : decode cJ35_countRunAndMakeAscending 71 = .ok (.ifCond .ge 9, 3) := dk_156 0 9 (dk_at dksJ35_countRunAndMakeAscending_3 0 rfl rfl)
theorem dJ35_countRunAndMakeAscending_74 : decode cJ35_countRunAndMakeAscending 74 = .ok (.iinc 3 1, 3) := dk_132 3 1 (dk_at dksJ35_countRunAndMakeAscending_3 3 rfl rfl)
theorem dJ35_countRunAndMakeAscending_77 : decode cJ35_countRunAndMakeAscending 77 = .ok (.goto (-27), 3) := dk_167 255 229 (dk_at dksJ35_countRunAndMakeAscending_3 6 rfl rfl)
theorem dJ35_countRunAndMakeAscending_80 : decode cJ35_countRunAndMakeAscending 80 = .ok (.aload_n 0, 1) := dk_42 (dk_at dksJ35_countRunAndMakeAscending_3 9 rfl rfl)
theorem dJ35_countRunAndMakeAscending_81 : decode cJ35_countRunAndMakeAscending 81 = .ok (.iload_n 1, 1) := dk_27 (dk_at dksJ35_countRunAndMakeAscending_3 10 rfl rfl)
theorem dJ35_countRunAndMakeAscending_82 : decode cJ35_countRunAndMakeAscending 82 = .ok (.iload_n 3, 1) := dk_29 (dk_at dksJ35_countRunAndMakeAscending_3 11 rfl rfl)
theorem dJ35_countRunAndMakeAscending_83 : decode cJ35_countRunAndMakeAscending 83 = .ok (.invokestatic 81, 3) := dk_184 0 81 (dk_at dksJ35_countRunAndMakeAscending_3 12 rfl rfl)
theorem dJ35_countRunAndMakeAscending_86 : decode cJ35_countRunAndMakeAscending 86 = .ok (.goto 33, 3) := dk_167 0 33 (dk_at dksJ35_countRunAndMakeAscending_3 15 rfl rfl)
theorem dJ35_countRunAndMakeAscending_89 : decode cJ35_countRunAndMakeAscending 89 = .ok (.iload_n 3, 1) := dk_29 (dk_at dksJ35_countRunAndMakeAscending_3 18 rfl rfl)
theorem dJ35_countRunAndMakeAscending_90 : decode cJ35_countRunAndMakeAscending 90 = .ok (.iload_n 2, 1) := dk_28 (dk_at dksJ35_countRunAndMakeAscending_3 19 rfl rfl)
theorem dJ35_countRunAndMakeAscending_91 : decode cJ35_countRunAndMakeAscending 91 = .ok (.if_icmp .ge 28, 3) := dk_162 0 28 (dk_at dksJ35_countRunAndMakeAscending_3 20 rfl rfl)
theorem dJ35_countRunAndMakeAscending_94 : decode cJ35_countRunAndMakeAscending 94 = .ok (.aload_n 0, 1) := dk_42 (dk_at dksJ35_countRunAndMakeAscending_3 23 rfl rfl)
theorem dJ35_countRunAndMakeAscending_95 : decode cJ35_countRunAndMakeAscending 95 = .ok (.iload_n 3, 1) := dk_29 (dk_at dksJ35_countRunAndMakeAscending_4 0 rfl rfl)
theorem dJ35_countRunAndMakeAscending_96 : decode cJ35_countRunAndMakeAscending 96 = .ok (.aaload, 1) := dk_50 (dk_at dksJ35_countRunAndMakeAscending_4 1 rfl rfl)
theorem dJ35_countRunAndMakeAscending_97 : decode cJ35_countRunAndMakeAscending 97 = .ok (.checkcast 69, 3) := dk_192 0 69 (dk_at dksJ35_countRunAndMakeAscending_4 2 rfl rfl)
theorem dJ35_countRunAndMakeAscending_100 : decode cJ35_countRunAndMakeAscending 100 = .ok (.aload_n 0, 1) := dk_42 (dk_at dksJ35_countRunAndMakeAscending_4 5 rfl rfl)
theorem dJ35_countRunAndMakeAscending_101 : decode cJ35_countRunAndMakeAscending 101 = .ok (.iload_n 3, 1) := dk_29 (dk_at dksJ35_countRunAndMakeAscending_4 6 rfl rfl)
theorem dJ35_countRunAndMakeAscending_102 : decode cJ35_countRunAndMakeAscending 102 = .ok (.iconst 1, 1) := dk_4 (dk_at dksJ35_countRunAndMakeAscending_4 7 rfl rfl)
theorem dJ35_countRunAndMakeAscending_103 : decode cJ35_countRunAndMakeAscending 103 = .ok (.isub, 1) := dk_100 (dk_at dksJ35_countRunAndMakeAscending_4 8 rfl rfl)
theorem dJ35_countRunAndMakeAscending_104 : decode cJ35_countRunAndMakeAscending 104 = .ok (.aaload, 1) := dk_50 (dk_at dksJ35_countRunAndMakeAscending_4 9 rfl rfl)
theorem dJ35_countRunAndMakeAscending_105 : decode cJ35_countRunAndMakeAscending 105 = .ok (.invokeinterface 71 2, 5) := by decide +kernel
theorem dJ35_countRunAndMakeAscending_110 : decode cJ35_countRunAndMakeAscending 110 = .ok (.ifCond .lt 9, 3) := dk_155 0 9 (dk_at dksJ35_countRunAndMakeAscending_4 15 rfl rfl)
theorem dJ35_countRunAndMakeAscending_113 : decode cJ35_countRunAndMakeAscending 113 = .ok (.iinc 3 1, 3) := dk_132 3 1 (dk_at dksJ35_countRunAndMakeAscending_4 18 rfl rfl)
theorem dJ35_countRunAndMakeAscending_116 : decode cJ35_countRunAndMakeAscending 116 = .ok (.goto (-27), 3) := dk_167 255 229 (dk_at dksJ35_countRunAndMakeAscending_4 21 rfl rfl)
theorem dJ35_countRunAndMakeAscending_119 : decode cJ35_countRunAndMakeAscending 119 = .ok (.iload_n 3, 1) := dk_29 (dk_at dksJ35_countRunAndMakeAscending_5 0 rfl rfl)
theorem dJ35_countRunAndMakeAscending_120 : decode cJ35_countRunAndMakeAscending 120 = .ok (.iload_n 1, 1) := dk_27 (dk_at dksJ35_countRunAndMakeAscending_5 1 rfl rfl)
theorem dJ35_countRunAndMakeAscending_121 : decode cJ35_countRunAndMakeAscending 121 = .ok (.isub, 1) := dk_100 (dk_at dksJ35_countRunAndMakeAscending_5 2 rfl rfl)
theorem dJ35_countRunAndMakeAscending_122 : decode cJ35_countRunAndMakeAscending 122 = .ok (.ireturn, 1) := dk_172 (dk_at dksJ35_countRunAndMakeAscending_5 3 rfl rfl)
abbrev cJ35_reverseRange : ByteArray := prog_62_method_5_code
def yJ35_reverseRange : MethodName := ⟨RJ35, "reverseRange", "([Ljava/lang/Object;II)V"⟩
def dkwJ35_reverseRange_1 : List UInt8 := [132, 2, 255, 45, 83, 167, 255, 231, 177]
abbrev dktJ35_reverseRange_1 : List UInt8 := dkwJ35_reverseRange_1 ++ []
def dkwJ35_reverseRange_0 : List UInt8 := [132, 2, 255, 27, 28, 162, 0, 26, 42, 27, 50, 78, 42, 27, 132, 1, 1, 42, 28, 50, 83, 42, 28]
abbrev dktJ35_reverseRange_0 : List UInt8 := dkwJ35_reverseRange_0 ++ dktJ35_reverseRange_1
theorem dksJ35_reverseRange_0 : cJ35_reverseRange.data.toList.drop 0 = dktJ35_reverseRange_0 := by decide +kernel
theorem dksJ35_reverseRange_1 : cJ35_reverseRange.data.toList.drop 23 = dktJ35_reverseRange_1 := dk_seg dksJ35_reverseRange_0 23 rfl rfl
theorem dJ35_reverseRange_0 : decode cJ35_reverseRange 0 = .ok (.iinc 2 (-1), 3) := dk_132 2 255 (dk_at dksJ35_reverseRange_0 0 rfl rfl)
theorem dJ35_reverseRange_3 : decode cJ35_reverseRange 3 = .ok (.iload_n 1, 1) := dk_27 (dk_at dksJ35_reverseRange_0 3 rfl rfl)
theorem dJ35_reverseRange_4 : decode cJ35_reverseRange 4 = .ok (.iload_n 2, 1) := dk_28 (dk_at dksJ35_reverseRange_0 4 rfl rfl)
theorem dJ35_reverseRange_5 : decode cJ35_reverseRange 5 = .ok (.if_icmp .ge 26, 3) := dk_162 0 26 (dk_at dksJ35_reverseRange_0 5 rfl rfl)
theorem dJ35_reverseRange_8 : decode cJ35_reverseRange 8 = .ok (.aload_n 0, 1) := dk_42 (dk_at dksJ35_reverseRange_0 8 rfl rfl)
theorem dJ35_reverseRange_9 : decode cJ35_reverseRange 9 = .ok (.iload_n 1, 1) := dk_27 (dk_at dksJ35_reverseRange_0 9 rfl rfl)
theorem dJ35_reverseRange_10 : decode cJ35_reverseRange 10 = .ok (.aaload, 1) := dk_50 (dk_at dksJ35_reverseRange_0 10 rfl rfl)
theorem dJ35_reverseRange_11 : decode cJ35_reverseRange 11 = .ok (.astore_n 3, 1) := dk_78 (dk_at dksJ35_reverseRange_0 11 rfl rfl)
theorem dJ35_reverseRange_12 : decode cJ35_reverseRange 12 = .ok (.aload_n 0, 1) := dk_42 (dk_at dksJ35_reverseRange_0 12 rfl rfl)
theorem dJ35_reverseRange_13 : decode cJ35_reverseRange 13 = .ok (.iload_n 1, 1) := dk_27 (dk_at dksJ35_reverseRange_0 13 rfl rfl)
theorem dJ35_reverseRange_14 : decode cJ35_reverseRange 14 = .ok (.iinc 1 1, 3) := dk_132 1 1 (dk_at dksJ35_reverseRange_0 14 rfl rfl)
theorem dJ35_reverseRange_17 : decode cJ35_reverseRange 17 = .ok (.aload_n 0, 1) := dk_42 (dk_at dksJ35_reverseRange_0 17 rfl rfl)
theorem dJ35_reverseRange_18 : decode cJ35_reverseRange 18 = .ok (.iload_n 2, 1) := dk_28 (dk_at dksJ35_reverseRange_0 18 rfl rfl)
theorem dJ35_reverseRange_19 : decode cJ35_reverseRange 19 = .ok (.aaload, 1) := dk_50 (dk_at dksJ35_reverseRange_0 19 rfl rfl)
theorem dJ35_reverseRange_20 : decode cJ35_reverseRange 20 = .ok (.aastore, 1) := dk_83 (dk_at dksJ35_reverseRange_0 20 rfl rfl)
theorem dJ35_reverseRange_21 : decode cJ35_reverseRange 21 = .ok (.aload_n 0, 1) := dk_42 (dk_at dksJ35_reverseRange_0 21 rfl rfl)
theorem dJ35_reverseRange_22 : decode cJ35_reverseRange 22 = .ok (.iload_n 2, 1) := dk_28 (dk_at dksJ35_reverseRange_0 22 rfl rfl)
theorem dJ35_reverseRange_23 : decode cJ35_reverseRange 23 = .ok (.iinc 2 (-1), 3) := dk_132 2 255 (dk_at dksJ35_reverseRange_1 0 rfl rfl)
theorem dJ35_reverseRange_26 : decode cJ35_reverseRange 26 = .ok (.aload_n 3, 1) := dk_45 (dk_at dksJ35_reverseRange_1 3 rfl rfl)
theorem dJ35_reverseRange_27 : decode cJ35_reverseRange 27 = .ok (.aastore, 1) := dk_83 (dk_at dksJ35_reverseRange_1 4 rfl rfl)
theorem dJ35_reverseRange_28 : decode cJ35_reverseRange 28 = .ok (.goto (-25), 3) := dk_167 255 231 (dk_at dksJ35_reverseRange_1 5 rfl rfl)
theorem dJ35_reverseRange_31 : decode cJ35_reverseRange 31 = .ok (.return_, 1) := dk_177 (dk_at dksJ35_reverseRange_1 8 rfl rfl)
abbrev cJ35_binarySort : ByteArray := prog_62_method_3_code
def yJ35_binarySort : MethodName := ⟨RJ35, "binarySort", "([Ljava/lang/Object;III)V"⟩
def dkwJ35_binarySort_10 : List UInt8 := [132, 3, 1, 167, 255, 69, 177]
abbrev dktJ35_binarySort_10 : List UInt8 := dkwJ35_binarySort_10 ++ []
def dkwJ35_binarySort_9 : List UInt8 := [167, 0, 16, 42, 21, 5, 42, 21, 5, 4, 96, 21, 7, 184, 0, 75, 42, 21, 5, 25, 4, 83]
abbrev dktJ35_binarySort_9 : List UInt8 := dkwJ35_binarySort_9 ++ dktJ35_binarySort_10
def dkwJ35_binarySort_8 : List UInt8 := [42, 21, 5, 5, 96, 42, 21, 5, 4, 96, 50, 83, 42, 21, 5, 4, 96, 42, 21, 5, 50, 83]
abbrev dktJ35_binarySort_8 : List UInt8 := dkwJ35_binarySort_8 ++ dktJ35_binarySort_9
def dkwJ35_binarySort_7 : List UInt8 := [171, 0, 0, 0, 50, 0, 0, 0, 2, 0, 0, 0, 1, 0, 0, 0, 37, 0, 0, 0, 2, 0, 0, 0, 25]
abbrev dktJ35_binarySort_7 : List UInt8 := dkwJ35_binarySort_7 ++ dktJ35_binarySort_8
def dkwJ35_binarySort_6 : List UInt8 := [100, 54, 7, 21, 7]
abbrev dktJ35_binarySort_6 : List UInt8 := dkwJ35_binarySort_6 ++ dktJ35_binarySort_7
def dkwJ35_binarySort_5 : List UInt8 := [178, 0, 37, 154, 0, 18, 21, 5, 21, 6, 159, 0, 11, 187, 0, 41, 89, 183, 0, 43, 191, 29, 21, 5]
abbrev dktJ35_binarySort_5 : List UInt8 := dkwJ35_binarySort_5 ++ dktJ35_binarySort_6
def dkwJ35_binarySort_4 : List UInt8 := [185, 0, 71, 2, 0, 156, 0, 10, 21, 7, 54, 6, 167, 0, 9, 21, 7, 4, 96, 54, 5, 167, 255, 213]
abbrev dktJ35_binarySort_4 : List UInt8 := dkwJ35_binarySort_4 ++ dktJ35_binarySort_5
def dkwJ35_binarySort_3 : List UInt8 := [21, 5, 21, 6, 162, 0, 42, 21, 5, 21, 6, 96, 4, 124, 54, 7, 25, 4, 42, 21, 7, 50]
abbrev dktJ35_binarySort_3 : List UInt8 := dkwJ35_binarySort_3 ++ dktJ35_binarySort_4
def dkwJ35_binarySort_2 : List UInt8 := [29, 54, 6, 178, 0, 37, 154, 0, 18, 21, 5, 21, 6, 164, 0, 11, 187, 0, 41, 89, 183, 0, 43, 191]
abbrev dktJ35_binarySort_2 : List UInt8 := dkwJ35_binarySort_2 ++ dktJ35_binarySort_3
def dkwJ35_binarySort_1 : List UInt8 := [29, 27, 160, 0, 6, 132, 3, 1, 29, 28, 162, 0, 188, 42, 29, 50, 192, 0, 69, 58, 4, 27, 54, 5]
abbrev dktJ35_binarySort_1 : List UInt8 := dkwJ35_binarySort_1 ++ dktJ35_binarySort_2
def dkwJ35_binarySort_0 : List UInt8 := [178, 0, 37, 154, 0, 21, 27, 29, 163, 0, 8, 29, 28, 164, 0, 11, 187, 0, 41, 89, 183, 0, 43, 191]
abbrev dktJ35_binarySort_0 : List UInt8 := dkwJ35_binarySort_0 ++ dktJ35_binarySort_1
theorem dksJ35_binarySort_0 : cJ35_binarySort.data.toList.drop 0 = dktJ35_binarySort_0 := by decide +kernel
theorem dksJ35_binarySort_1 : cJ35_binarySort.data.toList.drop 24 = dktJ35_binarySort_1 := dk_seg dksJ35_binarySort_0 24 rfl rfl
theorem dksJ35_binarySort_2 : cJ35_binarySort.data.toList.drop 48 = dktJ35_binarySort_2 := dk_seg dksJ35_binarySort_1 24 rfl rfl
theorem dksJ35_binarySort_3 : cJ35_binarySort.data.toList.drop 72 = dktJ35_binarySort_3 := dk_seg dksJ35_binarySort_2 24 rfl rfl
theorem dksJ35_binarySort_4 : cJ35_binarySort.data.toList.drop 94 = dktJ35_binarySort_4 := dk_seg dksJ35_binarySort_3 22 rfl rfl
theorem dksJ35_binarySort_5 : cJ35_binarySort.data.toList.drop 118 = dktJ35_binarySort_5 := dk_seg dksJ35_binarySort_4 24 rfl rfl
theorem dksJ35_binarySort_6 : cJ35_binarySort.data.toList.drop 142 = dktJ35_binarySort_6 := dk_seg dksJ35_binarySort_5 24 rfl rfl
theorem dksJ35_binarySort_7 : cJ35_binarySort.data.toList.drop 147 = dktJ35_binarySort_7 := dk_seg dksJ35_binarySort_6 5 rfl rfl
theorem dksJ35_binarySort_8 : cJ35_binarySort.data.toList.drop 172 = dktJ35_binarySort_8 := dk_seg dksJ35_binarySort_7 25 rfl rfl
theorem dksJ35_binarySort_9 : cJ35_binarySort.data.toList.drop 194 = dktJ35_binarySort_9 := dk_seg dksJ35_binarySort_8 22 rfl rfl
theorem dksJ35_binarySort_10 : cJ35_binarySort.data.toList.drop 216 = dktJ35_binarySort_10 := dk_seg dksJ35_binarySort_9 22 rfl rfl
theorem dJ35_binarySort_0 : decode cJ35_binarySort 0 = .ok (.getstatic 37, 3) := dk_178 0 37 (dk_at dksJ35_binarySort_0 0 rfl rfl)
theorem dJ35_binarySort_3 : decode cJ35_binarySort 3 = .ok (.ifCond .ne 21, 3) := dk_154 0 21 (dk_at dksJ35_binarySort_0 3 rfl rfl)
theorem dJ35_binarySort_6 : decode cJ35_binarySort 6 = .ok (.iload_n 1, 1) := dk_27 (dk_at dksJ35_binarySort_0 6 rfl rfl)
theorem dJ35_binarySort_7 : decode cJ35_binarySort 7 = .ok (.iload_n 3, 1) := dk_29 (dk_at dksJ35_binarySort_0 7 rfl rfl)
theorem dJ35_binarySort_8 : decode cJ35_binarySort 8 = .ok (.if_icmp .gt 8, 3) := dk_163 0 8 (dk_at dksJ35_binarySort_0 8 rfl rfl)
theorem dJ35_binarySort_11 : decode cJ35_binarySort 11 = .ok (.iload_n 3, 1) := dk_29 (dk_at dksJ35_binarySort_0 11 rfl rfl)
theorem dJ35_binarySort_12 : decode cJ35_binarySort 12 = .ok (.iload_n 2, 1) := dk_28 (dk_at dksJ35_binarySort_0 12 rfl rfl)
theorem dJ35_binarySort_13 : decode cJ35_binarySort 13 = .ok (.if_icmp .le 11, 3) := dk_164 0 11 (dk_at dksJ35_binarySort_0 13 rfl rfl)
theorem dJ35_binarySort_16 : decode cJ35_binarySort 16 = .ok (.new 41, 3) := dk_187 0 41 (dk_at dksJ35_binarySort_0 16 rfl rfl)
theorem dJ35_binarySort_19 : decode cJ35_binarySort 19 = .ok (.dup, 1) := dk_89 (dk_at dksJ35_binarySort_0 19 rfl rfl)
theorem dJ35_binarySort_20 : decode cJ35_binarySort 20 = .ok (.invokespecial 43, 3) := dk_183 0 43 (dk_at dksJ35_binarySort_0 20 rfl rfl)
theorem dJ35_binarySort_23 : decode cJ35_binarySort 23 = .ok (.athrow, 1) := dk_191 (dk_at dksJ35_binarySort_0 23 rfl rfl)
theorem dJ35_binarySort_24 : decode cJ35_binarySort 24 = .ok (.iload_n 3, 1) := dk_29 (dk_at dksJ35_binarySort_1 0 rfl rfl)
theorem dJ35_binarySort_25 : decode cJ35_binarySort 25 = .ok (.iload_n 1, 1) := dk_27 (dk_at dksJ35_binarySort_1 1 rfl rfl)
theorem dJ35_binarySort_26 : decode cJ35_binarySort 26 = .ok (.if_icmp .ne 6, 3) := dk_160 0 6 (dk_at dksJ35_binarySort_1 2 rfl rfl)
theorem dJ35_binarySort_29 : decode cJ35_binarySort 29 = .ok (.iinc 3 1, 3) := dk_132 3 1 (dk_at dksJ35_binarySort_1 5 rfl rfl)
theorem dJ35_binarySort_32 : decode cJ35_binarySort 32 = .ok (.iload_n 3, 1) := dk_29 (dk_at dksJ35_binarySort_1 8 rfl rfl)
theorem dJ35_binarySort_33 : decode cJ35_binarySort 33 = .ok (.iload_n 2, 1) := dk_28 (dk_at dksJ35_binarySort_1 9 rfl rfl)
theorem dJ35_binarySort_34 : decode cJ35_binarySort 34 = .ok (.if_icmp .ge 188, 3) := dk_162 0 188 (dk_at dksJ35_binarySort_1 10 rfl rfl)
theorem dJ35_binarySort_37 : decode cJ35_binarySort 37 = .ok (.aload_n 0, 1) := dk_42 (dk_at dksJ35_binarySort_1 13 rfl rfl)
theorem dJ35_binarySort_38 : decode cJ35_binarySort 38 = .ok (.iload_n 3, 1) := dk_29 (dk_at dksJ35_binarySort_1 14 rfl rfl)
theorem dJ35_binarySort_39 : decode cJ35_binarySort 39 = .ok (.aaload, 1) := dk_50 (dk_at dksJ35_binarySort_1 15 rfl rfl)
theorem dJ35_binarySort_40 : decode cJ35_binarySort 40 = .ok (.checkcast 69, 3) := dk_192 0 69 (dk_at dksJ35_binarySort_1 16 rfl rfl)
theorem dJ35_binarySort_43 : decode cJ35_binarySort 43 = .ok (.astore 4, 2) := dk_58 4 (dk_at dksJ35_binarySort_1 19 rfl rfl)
theorem dJ35_binarySort_45 : decode cJ35_binarySort 45 = .ok (.iload_n 1, 1) := dk_27 (dk_at dksJ35_binarySort_1 21 rfl rfl)
theorem dJ35_binarySort_46 : decode cJ35_binarySort 46 = .ok (.istore 5, 2) := dk_54 5 (dk_at dksJ35_binarySort_1 22 rfl rfl)
theorem dJ35_binarySort_48 : decode cJ35_binarySort 48 = .ok (.iload_n 3, 1) := dk_29 (dk_at dksJ35_binarySort_2 0 rfl rfl)
theorem dJ35_binarySort_49 : decode cJ35_binarySort 49 = .ok (.istore 6, 2) := dk_54 6 (dk_at dksJ35_binarySort_2 1 rfl rfl)
theorem dJ35_binarySort_51 : decode cJ35_binarySort 51 = .ok (.getstatic 37, 3) := dk_178 0 37 (dk_at dksJ35_binarySort_2 3 rfl rfl)
theorem dJ35_binarySort_54 : decode cJ35_binarySort 54 = .ok (.ifCond .ne 18, 3) := dk_154 0 18 (dk_at dksJ35_binarySort_2 6 rfl rfl)
theorem dJ35_binarySort_57 : decode cJ35_binarySort 57 = .ok (.iload 5, 2) := dk_21 5 (dk_at dksJ35_binarySort_2 9 rfl rfl)
theorem dJ35_binarySort_59 : decode cJ35_binarySort 59 = .ok (.iload 6, 2) := dk_21 6 (dk_at dksJ35_binarySort_2 11 rfl rfl)
theorem dJ35_binarySort_61 : decode cJ35_binarySort 61 = .ok (.if_icmp .le 11, 3) := dk_164 0 11 (dk_at dksJ35_binarySort_2 13 rfl rfl)
theorem dJ35_binarySort_64 : decode cJ35_binarySort 64 = .ok (.new 41, 3) := dk_187 0 41 (dk_at dksJ35_binarySort_2 16 rfl rfl)
theorem dJ35_binarySort_67 : decode cJ35_binarySort 67 = .ok (.dup, 1) := dk_89 (dk_at dksJ35_binarySort_2 19 rfl rfl)
theorem dJ35_binarySort_68 : decode cJ35_binarySort 68 = .ok (.invokespecial 43, 3) := dk_183 0 43 (dk_at dksJ35_binarySort_2 20 rfl rfl)
theorem dJ35_binarySort_71 : decode cJ35_binarySort 71 = .ok (.athrow, 1) := dk_191 (dk_at dksJ35_binarySort_2 23 rfl rfl)
theorem dJ35_binarySort_72 : decode cJ35_binarySort 72 = .ok (.iload 5, 2) := dk_21 5 (dk_at dksJ35_binarySort_3 0 rfl rfl)
theorem dJ35_binarySort_74 : decode cJ35_binarySort 74 = .ok (.iload 6, 2) := dk_21 6 (dk_at dksJ35_binarySort_3 2 rfl rfl)
theorem dJ35_binarySort_76 : decode cJ35_binarySort 76 = .ok (.if_icmp .ge 42, 3) := dk_162 0 42 (dk_at dksJ35_binarySort_3 4 rfl rfl)
theorem dJ35_binarySort_79 : decode cJ35_binarySort 79 = .ok (.iload 5, 2) := dk_21 5 (dk_at dksJ35_binarySort_3 7 rfl rfl)
theorem dJ35_binarySort_81 : decode cJ35_binarySort 81 = .ok (.iload 6, 2) := dk_21 6 (dk_at dksJ35_binarySort_3 9 rfl rfl)
theorem dJ35_binarySort_83 : decode cJ35_binarySort 83 = .ok (.iadd, 1) := dk_96 (dk_at dksJ35_binarySort_3 11 rfl rfl)
theorem dJ35_binarySort_84 : decode cJ35_binarySort 84 = .ok (.iconst 1, 1) := dk_4 (dk_at dksJ35_binarySort_3 12 rfl rfl)
theorem dJ35_binarySort_85 : decode cJ35_binarySort 85 = .ok (.iushr, 1) := dk_124 (dk_at dksJ35_binarySort_3 13 rfl rfl)
theorem dJ35_binarySort_86 : decode cJ35_binarySort 86 = .ok (.istore 7, 2) := dk_54 7 (dk_at dksJ35_binarySort_3 14 rfl rfl)
theorem dJ35_binarySort_88 : decode cJ35_binarySort 88 = .ok (.aload 4, 2) := dk_25 4 (dk_at dksJ35_binarySort_3 16 rfl rfl)
theorem dJ35_binarySort_90 : decode cJ35_binarySort 90 = .ok (.aload_n 0, 1) := dk_42 (dk_at dksJ35_binarySort_3 18 rfl rfl)
theorem dJ35_binarySort_91 : decode cJ35_binarySort 91 = .ok (.iload 7, 2) := dk_21 7 (dk_at dksJ35_binarySort_3 19 rfl rfl)
theorem dJ35_binarySort_93 : decode cJ35_binarySort 93 = .ok (.aaload, 1) := dk_50 (dk_at dksJ35_binarySort_3 21 rfl rfl)
theorem dJ35_binarySort_94 : decode cJ35_binarySort 94 = .ok (.invokeinterface 71 2, 5) := by decide +kernel
theorem dJ35_binarySort_99 : decode cJ35_binarySort 99 = .ok (.ifCond .ge 10, 3) := dk_156 0 10 (dk_at dksJ35_binarySort_4 5 rfl rfl)
theorem dJ35_binarySort_102 : decode cJ35_binarySort 102 = .ok (.iload 7, 2) := dk_21 7 (dk_at dksJ35_binarySort_4 8 rfl rfl)
theorem dJ35_binarySort_104 : decode cJ35_binarySort 104 = .ok (.istore 6, 2) := dk_54 6 (dk_at dksJ35_binarySort_4 10 rfl rfl)
theorem dJ35_binarySort_106 : decode cJ35_binarySort 106 = .ok (.goto 9, 3) := dk_167 0 9 (dk_at dksJ35_binarySort_4 12 rfl rfl)
theorem dJ35_binarySort_109 : decode cJ35_binarySort 109 = .ok (.iload 7, 2) := dk_21 7 (dk_at dksJ35_binarySort_4 15 rfl rfl)
theorem dJ35_binarySort_111 : decode cJ35_binarySort 111 = .ok (.iconst 1, 1) := dk_4 (dk_at dksJ35_binarySort_4 17 rfl rfl)
theorem dJ35_binarySort_112 : decode cJ35_binarySort 112 = .ok (.iadd, 1) := dk_96 (dk_at dksJ35_binarySort_4 18 rfl rfl)
theorem dJ35_binarySort_113 : decode cJ35_binarySort 113 = .ok (.istore 5, 2) := dk_54 5 (dk_at dksJ35_binarySort_4 19 rfl rfl)
theorem dJ35_binarySort_115 : decode cJ35_binarySort 115 = .ok (.goto (-43), 3) := dk_167 255 213 (dk_at dksJ35_binarySort_4 21 rfl rfl)
theorem dJ35_binarySort_118 : decode cJ35_binarySort 118 = .ok (.getstatic 37, 3) := dk_178 0 37 (dk_at dksJ35_binarySort_5 0 rfl rfl)
theorem dJ35_binarySort_121 : decode cJ35_binarySort 121 = .ok (.ifCond .ne 18, 3) := dk_154 0 18 (dk_at dksJ35_binarySort_5 3 rfl rfl)
theorem dJ35_binarySort_124 : decode cJ35_binarySort 124 = .ok (.iload 5, 2) := dk_21 5 (dk_at dksJ35_binarySort_5 6 rfl rfl)
theorem dJ35_binarySort_126 : decode cJ35_binarySort 126 = .ok (.iload 6, 2) := dk_21 6 (dk_at dksJ35_binarySort_5 8 rfl rfl)
theorem dJ35_binarySort_128 : decode cJ35_binarySort 128 = .ok (.if_icmp .eq 11, 3) := dk_159 0 11 (dk_at dksJ35_binarySort_5 10 rfl rfl)
theorem dJ35_binarySort_131 : decode cJ35_binarySort 131 = .ok (.new 41, 3) := dk_187 0 41 (dk_at dksJ35_binarySort_5 13 rfl rfl)
theorem dJ35_binarySort_134 : decode cJ35_binarySort 134 = .ok (.dup, 1) := dk_89 (dk_at dksJ35_binarySort_5 16 rfl rfl)
theorem dJ35_binarySort_135 : decode cJ35_binarySort 135 = .ok (.invokespecial 43, 3) := dk_183 0 43 (dk_at dksJ35_binarySort_5 17 rfl rfl)
theorem dJ35_binarySort_138 : decode cJ35_binarySort 138 = .ok (.athrow, 1) := dk_191 (dk_at dksJ35_binarySort_5 20 rfl rfl)
theorem dJ35_binarySort_139 : decode cJ35_binarySort 139 = .ok (.iload_n 3, 1) := dk_29 (dk_at dksJ35_binarySort_5 21 rfl rfl)
theorem dJ35_binarySort_140 : decode cJ35_binarySort 140 = .ok (.iload 5, 2) := dk_21 5 (dk_at dksJ35_binarySort_5 22 rfl rfl)
theorem dJ35_binarySort_142 : decode cJ35_binarySort 142 = .ok (.isub, 1) := dk_100 (dk_at dksJ35_binarySort_6 0 rfl rfl)
theorem dJ35_binarySort_143 : decode cJ35_binarySort 143 = .ok (.istore 7, 2) := dk_54 7 (dk_at dksJ35_binarySort_6 1 rfl rfl)
theorem dJ35_binarySort_145 : decode cJ35_binarySort 145 = .ok (.iload 7, 2) := dk_21 7 (dk_at dksJ35_binarySort_6 3 rfl rfl)
theorem dJ35_binarySort_147 : decode cJ35_binarySort 147 = .ok (.lookupswitch 50 #[(1, 37), (2, 25)], 25) := by decide +kernel
theorem dJ35_binarySort_172 : decode cJ35_binarySort 172 = .ok (.aload_n 0, 1) := dk_42 (dk_at dksJ35_binarySort_8 0 rfl rfl)
theorem dJ35_binarySort_173 : decode cJ35_binarySort 173 = .ok (.iload 5, 2) := dk_21 5 (dk_at dksJ35_binarySort_8 1 rfl rfl)
theorem dJ35_binarySort_175 : decode cJ35_binarySort 175 = .ok (.iconst 2, 1) := dk_5 (dk_at dksJ35_binarySort_8 3 rfl rfl)
theorem dJ35_binarySort_176 : decode cJ35_binarySort 176 = .ok (.iadd, 1) := dk_96 (dk_at dksJ35_binarySort_8 4 rfl rfl)
theorem dJ35_binarySort_177 : decode cJ35_binarySort 177 = .ok (.aload_n 0, 1) := dk_42 (dk_at dksJ35_binarySort_8 5 rfl rfl)
theorem dJ35_binarySort_178 : decode cJ35_binarySort 178 = .ok (.iload 5, 2) := dk_21 5 (dk_at dksJ35_binarySort_8 6 rfl rfl)
theorem dJ35_binarySort_180 : decode cJ35_binarySort 180 = .ok (.iconst 1, 1) := dk_4 (dk_at dksJ35_binarySort_8 8 rfl rfl)
theorem dJ35_binarySort_181 : decode cJ35_binarySort 181 = .ok (.iadd, 1) := dk_96 (dk_at dksJ35_binarySort_8 9 rfl rfl)
theorem dJ35_binarySort_182 : decode cJ35_binarySort 182 = .ok (.aaload, 1) := dk_50 (dk_at dksJ35_binarySort_8 10 rfl rfl)
theorem dJ35_binarySort_183 : decode cJ35_binarySort 183 = .ok (.aastore, 1) := dk_83 (dk_at dksJ35_binarySort_8 11 rfl rfl)
theorem dJ35_binarySort_184 : decode cJ35_binarySort 184 = .ok (.aload_n 0, 1) := dk_42 (dk_at dksJ35_binarySort_8 12 rfl rfl)
theorem dJ35_binarySort_185 : decode cJ35_binarySort 185 = .ok (.iload 5, 2) := dk_21 5 (dk_at dksJ35_binarySort_8 13 rfl rfl)
theorem dJ35_binarySort_187 : decode cJ35_binarySort 187 = .ok (.iconst 1, 1) := dk_4 (dk_at dksJ35_binarySort_8 15 rfl rfl)
theorem dJ35_binarySort_188 : decode cJ35_binarySort 188 = .ok (.iadd, 1) := dk_96 (dk_at dksJ35_binarySort_8 16 rfl rfl)
theorem dJ35_binarySort_189 : decode cJ35_binarySort 189 = .ok (.aload_n 0, 1) := dk_42 (dk_at dksJ35_binarySort_8 17 rfl rfl)
theorem dJ35_binarySort_190 : decode cJ35_binarySort 190 = .ok (.iload 5, 2) := dk_21 5 (dk_at dksJ35_binarySort_8 18 rfl rfl)
theorem dJ35_binarySort_192 : decode cJ35_binarySort 192 = .ok (.aaload, 1) := dk_50 (dk_at dksJ35_binarySort_8 20 rfl rfl)
theorem dJ35_binarySort_193 : decode cJ35_binarySort 193 = .ok (.aastore, 1) := dk_83 (dk_at dksJ35_binarySort_8 21 rfl rfl)
theorem dJ35_binarySort_194 : decode cJ35_binarySort 194 = .ok (.goto 16, 3) := dk_167 0 16 (dk_at dksJ35_binarySort_9 0 rfl rfl)
theorem dJ35_binarySort_197 : decode cJ35_binarySort 197 = .ok (.aload_n 0, 1) := dk_42 (dk_at dksJ35_binarySort_9 3 rfl rfl)
theorem dJ35_binarySort_198 : decode cJ35_binarySort 198 = .ok (.iload 5, 2) := dk_21 5 (dk_at dksJ35_binarySort_9 4 rfl rfl)
theorem dJ35_binarySort_200 : decode cJ35_binarySort 200 = .ok (.aload_n 0, 1) := dk_42 (dk_at dksJ35_binarySort_9 6 rfl rfl)
theorem dJ35_binarySort_201 : decode cJ35_binarySort 201 = .ok (.iload 5, 2) := dk_21 5 (dk_at dksJ35_binarySort_9 7 rfl rfl)
theorem dJ35_binarySort_203 : decode cJ35_binarySort 203 = .ok (.iconst 1, 1) := dk_4 (dk_at dksJ35_binarySort_9 9 rfl rfl)
theorem dJ35_binarySort_204 : decode cJ35_binarySort 204 = .ok (.iadd, 1) := dk_96 (dk_at dksJ35_binarySort_9 10 rfl rfl)
theorem dJ35_binarySort_205 : decode cJ35_binarySort 205 = .ok (.iload 7, 2) := dk_21 7 (dk_at dksJ35_binarySort_9 11 rfl rfl)
theorem dJ35_binarySort_207 : decode cJ35_binarySort 207 = .ok (.invokestatic 75, 3) := dk_184 0 75 (dk_at dksJ35_binarySort_9 13 rfl rfl)
theorem dJ35_binarySort_210 : decode cJ35_binarySort 210 = .ok (.aload_n 0, 1) := dk_42 (dk_at dksJ35_binarySort_9 16 rfl rfl)
theorem dJ35_binarySort_211 : decode cJ35_binarySort 211 = .ok (.iload 5, 2) := dk_21 5 (dk_at dksJ35_binarySort_9 17 rfl rfl)
theorem dJ35_binarySort_213 : decode cJ35_binarySort 213 = .ok (.aload 4, 2) := dk_25 4 (dk_at dksJ35_binarySort_9 19 rfl rfl)
theorem dJ35_binarySort_215 : decode cJ35_binarySort 215 = .ok (.aastore, 1) := dk_83 (dk_at dksJ35_binarySort_9 21 rfl rfl)
theorem dJ35_binarySort_216 : decode cJ35_binarySort 216 = .ok (.iinc 3 1, 3) := dk_132 3 1 (dk_at dksJ35_binarySort_10 0 rfl rfl)
theorem dJ35_binarySort_219 : decode cJ35_binarySort 219 = .ok (.goto (-187), 3) := dk_167 255 69 (dk_at dksJ35_binarySort_10 3 rfl rfl)
theorem dJ35_binarySort_222 : decode cJ35_binarySort 222 = .ok (.return_, 1) := dk_177 (dk_at dksJ35_binarySort_10 6 rfl rfl)
abbrev cJ35_init : ByteArray := prog_62_method_1_code
def yJ35_init : MethodName := ⟨RJ35, "<init>", "([Ljava/lang/Object;[Ljava/lang/Object;II)V"⟩
def dkwJ35_init_6 : List UInt8 := [16, 49, 54, 7, 42, 21, 7, 188, 10, 181, 0, 30, 42, 21, 7, 188, 10, 181, 0, 34, 177]
abbrev dktJ35_init_6 : List UInt8 := dkwJ35_init_6 ++ []
def dkwJ35_init_5 : List UInt8 := [17, 6, 6, 162, 0, 8, 16, 10, 167, 0, 17, 21, 5, 18, 29, 162, 0, 8, 16, 24, 167, 0, 5]
abbrev dktJ35_init_5 : List UInt8 := dkwJ35_init_5 ++ dktJ35_init_6
def dkwJ35_init_4 : List UInt8 := [181, 0, 23, 42, 21, 4, 181, 0, 26, 21, 5, 16, 120, 162, 0, 7, 8, 167, 0, 30, 21, 5]
abbrev dktJ35_init_4 : List UInt8 := dkwJ35_init_4 ++ dktJ35_init_5
def dkwJ35_init_3 : List UInt8 := [181, 0, 20, 42, 3, 181, 0, 23, 42, 21, 6, 181, 0, 26, 167, 0, 19, 42, 44, 181, 0, 20, 42, 29]
abbrev dktJ35_init_3 : List UInt8 := dkwJ35_init_3 ++ dktJ35_init_4
def dkwJ35_init_2 : List UInt8 := [21, 4, 21, 6, 161, 0, 12, 29, 21, 6, 96, 44, 190, 164, 0, 26, 42, 21, 6, 189, 0, 2]
abbrev dktJ35_init_2 : List UInt8 := dkwJ35_init_2 ++ dktJ35_init_3
def dkwJ35_init_1 : List UInt8 := [21, 5, 17, 2, 0, 162, 0, 10, 21, 5, 4, 124, 167, 0, 6, 17, 1, 0, 54, 6, 44, 198, 0, 19]
abbrev dktJ35_init_1 : List UInt8 := dkwJ35_init_1 ++ dktJ35_init_2
def dkwJ35_init_0 : List UInt8 := [42, 183, 0, 1, 42, 16, 7, 181, 0, 9, 42, 3, 181, 0, 13, 42, 43, 181, 0, 16, 43, 190, 54, 5]
abbrev dktJ35_init_0 : List UInt8 := dkwJ35_init_0 ++ dktJ35_init_1
theorem dksJ35_init_0 : cJ35_init.data.toList.drop 0 = dktJ35_init_0 := by decide +kernel
theorem dksJ35_init_1 : cJ35_init.data.toList.drop 24 = dktJ35_init_1 := dk_seg dksJ35_init_0 24 rfl rfl
theorem dksJ35_init_2 : cJ35_init.data.toList.drop 48 = dktJ35_init_2 := dk_seg dksJ35_init_1 24 rfl rfl
theorem dksJ35_init_3 : cJ35_init.data.toList.drop 70 = dktJ35_init_3 := dk_seg dksJ35_init_2 22 rfl rfl
theorem dksJ35_init_4 : cJ35_init.data.toList.drop 94 = dktJ35_init_4 := dk_seg dksJ35_init_3 24 rfl rfl
theorem dksJ35_init_5 : cJ35_init.data.toList.drop 116 = dktJ35_init_5 := dk_seg dksJ35_init_4 22 rfl rfl
theorem dksJ35_init_6 : cJ35_init.data.toList.drop 139 = dktJ35_init_6 := dk_seg dksJ35_init_5 23 rfl rfl
theorem dJ35_init_0 : decode cJ35_init 0 = .ok (.aload_n 0, 1) := dk_42 (dk_at dksJ35_init_0 0 rfl rfl)
theorem dJ35_init_1 : decode cJ35_init 1 = .ok (.invokespecial 1, 3) := dk_183 0 1 (dk_at dksJ35_init_0 1 rfl rfl)
theorem dJ35_init_4 : decode cJ35_init 4 = .ok (.aload_n 0, 1) := dk_42 (dk_at dksJ35_init_0 4 rfl rfl)
theorem dJ35_init_5 : decode cJ35_init 5 = .ok (.bipush 7, 2) := dk_16 7 (dk_at dksJ35_init_0 5 rfl rfl)
theorem dJ35_init_7 : decode cJ35_init 7 = .ok (.putfield 9, 3) := dk_181 0 9 (dk_at dksJ35_init_0 7 rfl rfl)
theorem dJ35_init_10 : decode cJ35_init 10 = .ok (.aload_n 0, 1) := dk_42 (dk_at dksJ35_init_0 10 rfl rfl)
theorem dJ35_init_11 : decode cJ35_init 11 = .ok (.iconst 0, 1) := dk_3 (dk_at dksJ35_init_0 11 rfl rfl)
theorem dJ35_init_12 : decode cJ35_init 12 = .ok (.putfield 13, 3) := dk_181 0 13 (dk_at dksJ35_init_0 12 rfl rfl)
theorem dJ35_init_15 : decode cJ35_init 15 = .ok (.aload_n 0, 1) := dk_42 (dk_at dksJ35_init_0 15 rfl rfl)
theorem dJ35_init_16 : decode cJ35_init 16 = .ok (.aload_n 1, 1) := dk_43 (dk_at dksJ35_init_0 16 rfl rfl)
theorem dJ35_init_17 : decode cJ35_init 17 = .ok (.putfield 16, 3) := dk_181 0 16 (dk_at dksJ35_init_0 17 rfl rfl)
theorem dJ35_init_20 : decode cJ35_init 20 = .ok (.aload_n 1, 1) := dk_43 (dk_at dksJ35_init_0 20 rfl rfl)
theorem dJ35_init_21 : decode cJ35_init 21 = .ok (.arraylength, 1) := dk_190 (dk_at dksJ35_init_0 21 rfl rfl)
theorem dJ35_init_22 : decode cJ35_init 22 = .ok (.istore 5, 2) := dk_54 5 (dk_at dksJ35_init_0 22 rfl rfl)
theorem dJ35_init_24 : decode cJ35_init 24 = .ok (.iload 5, 2) := dk_21 5 (dk_at dksJ35_init_1 0 rfl rfl)
theorem dJ35_init_26 : decode cJ35_init 26 = .ok (.sipush 512, 3) := dk_17 2 0 (dk_at dksJ35_init_1 2 rfl rfl)
theorem dJ35_init_29 : decode cJ35_init 29 = .ok (.if_icmp .ge 10, 3) := dk_162 0 10 (dk_at dksJ35_init_1 5 rfl rfl)
theorem dJ35_init_32 : decode cJ35_init 32 = .ok (.iload 5, 2) := dk_21 5 (dk_at dksJ35_init_1 8 rfl rfl)
theorem dJ35_init_34 : decode cJ35_init 34 = .ok (.iconst 1, 1) := dk_4 (dk_at dksJ35_init_1 10 rfl rfl)
theorem dJ35_init_35 : decode cJ35_init 35 = .ok (.iushr, 1) := dk_124 (dk_at dksJ35_init_1 11 rfl rfl)
theorem dJ35_init_36 : decode cJ35_init 36 = .ok (.goto 6, 3) := dk_167 0 6 (dk_at dksJ35_init_1 12 rfl rfl)
theorem dJ35_init_39 : decode cJ35_init 39 = .ok (.sipush 256, 3) := dk_17 1 0 (dk_at dksJ35_init_1 15 rfl rfl)
theorem dJ35_init_42 : decode cJ35_init 42 = .ok (.istore 6, 2) := dk_54 6 (dk_at dksJ35_init_1 18 rfl rfl)
theorem dJ35_init_44 : decode cJ35_init 44 = .ok (.aload_n 2, 1) := dk_44 (dk_at dksJ35_init_1 20 rfl rfl)
theorem dJ35_init_45 : decode cJ35_init 45 = .ok (.ifnull 19, 3) := dk_198 0 19 (dk_at dksJ35_init_1 21 rfl rfl)
theorem dJ35_init_48 : decode cJ35_init 48 = .ok (.iload 4, 2) := dk_21 4 (dk_at dksJ35_init_2 0 rfl rfl)
theorem dJ35_init_50 : decode cJ35_init 50 = .ok (.iload 6, 2) := dk_21 6 (dk_at dksJ35_init_2 2 rfl rfl)
theorem dJ35_init_52 : decode cJ35_init 52 = .ok (.if_icmp .lt 12, 3) := dk_161 0 12 (dk_at dksJ35_init_2 4 rfl rfl)
theorem dJ35_init_55 : decode cJ35_init 55 = .ok (.iload_n 3, 1) := dk_29 (dk_at dksJ35_init_2 7 rfl rfl)
theorem dJ35_init_56 : decode cJ35_init 56 = .ok (.iload 6, 2) := dk_21 6 (dk_at dksJ35_init_2 8 rfl rfl)
theorem dJ35_init_58 : decode cJ35_init 58 = .ok (.iadd, 1) := dk_96 (dk_at dksJ35_init_2 10 rfl rfl)
theorem dJ35_init_59 : decode cJ35_init 59 = .ok (.aload_n 2, 1) := dk_44 (dk_at dksJ35_init_2 11 rfl rfl)
theorem dJ35_init_60 : decode cJ35_init 60 = .ok (.arraylength, 1) := dk_190 (dk_at dksJ35_init_2 12 rfl rfl)
theorem dJ35_init_61 : decode cJ35_init 61 = .ok (.if_icmp .le 26, 3) := dk_164 0 26 (dk_at dksJ35_init_2 13 rfl rfl)
theorem dJ35_init_64 : decode cJ35_init 64 = .ok (.aload_n 0, 1) := dk_42 (dk_at dksJ35_init_2 16 rfl rfl)
theorem dJ35_init_65 : decode cJ35_init 65 = .ok (.iload 6, 2) := dk_21 6 (dk_at dksJ35_init_2 17 rfl rfl)
theorem dJ35_init_67 : decode cJ35_init 67 = .ok (.anewarray 2, 3) := dk_189 0 2 (dk_at dksJ35_init_2 19 rfl rfl)
theorem dJ35_init_70 : decode cJ35_init 70 = .ok (.putfield 20, 3) := dk_181 0 20 (dk_at dksJ35_init_3 0 rfl rfl)
theorem dJ35_init_73 : decode cJ35_init 73 = .ok (.aload_n 0, 1) := dk_42 (dk_at dksJ35_init_3 3 rfl rfl)
theorem dJ35_init_74 : decode cJ35_init 74 = .ok (.iconst 0, 1) := dk_3 (dk_at dksJ35_init_3 4 rfl rfl)
theorem dJ35_init_75 : decode cJ35_init 75 = .ok (.putfield 23, 3) := dk_181 0 23 (dk_at dksJ35_init_3 5 rfl rfl)
theorem dJ35_init_78 : decode cJ35_init 78 = .ok (.aload_n 0, 1) := dk_42 (dk_at dksJ35_init_3 8 rfl rfl)
theorem dJ35_init_79 : decode cJ35_init 79 = .ok (.iload 6, 2) := dk_21 6 (dk_at dksJ35_init_3 9 rfl rfl)
theorem dJ35_init_81 : decode cJ35_init 81 = .ok (.putfield 26, 3) := dk_181 0 26 (dk_at dksJ35_init_3 11 rfl rfl)
theorem dJ35_init_84 : decode cJ35_init 84 = .ok (.goto 19, 3) := dk_167 0 19 (dk_at dksJ35_init_3 14 rfl rfl)
theorem dJ35_init_87 : decode cJ35_init 87 = .ok (.aload_n 0, 1) := dk_42 (dk_at dksJ35_init_3 17 rfl rfl)
theorem dJ35_init_88 : decode cJ35_init 88 = .ok (.aload_n 2, 1) := dk_44 (dk_at dksJ35_init_3 18 rfl rfl)
theorem dJ35_init_89 : decode cJ35_init 89 = .ok (.putfield 20, 3) := dk_181 0 20 (dk_at dksJ35_init_3 19 rfl rfl)
theorem dJ35_init_92 : decode cJ35_init 92 = .ok (.aload_n 0, 1) := dk_42 (dk_at dksJ35_init_3 22 rfl rfl)
theorem dJ35_init_93 : decode cJ35_init 93 = .ok (.iload_n 3, 1) := dk_29 (dk_at dksJ35_init_3 23 rfl rfl)
theorem dJ35_init_94 : decode cJ35_init 94 = .ok (.putfield 23, 3) := dk_181 0 23 (dk_at dksJ35_init_4 0 rfl rfl)
theorem dJ35_init_97 : decode cJ35_init 97 = .ok (.aload_n 0, 1) := dk_42 (dk_at dksJ35_init_4 3 rfl rfl)
theorem dJ35_init_98 : decode cJ35_init 98 = .ok (.iload 4, 2) := dk_21 4 (dk_at dksJ35_init_4 4 rfl rfl)
theorem dJ35_init_100 : decode cJ35_init 100 = .ok (.putfield 26, 3) := dk_181 0 26 (dk_at dksJ35_init_4 6 rfl rfl)
theorem dJ35_init_103 : decode cJ35_init 103 = .ok (.iload 5, 2) := dk_21 5 (dk_at dksJ35_init_4 9 rfl rfl)
theorem dJ35_init_105 : decode cJ35_init 105 = .ok (.bipush 120, 2) := dk_16 120 (dk_at dksJ35_init_4 11 rfl rfl)
theorem dJ35_init_107 : decode cJ35_init 107 = .ok (.if_icmp .ge 7, 3) := dk_162 0 7 (dk_at dksJ35_init_4 13 rfl rfl)
theorem dJ35_init_110 : decode cJ35_init 110 = .ok (.iconst 5, 1) := dk_8 (dk_at dksJ35_init_4 16 rfl rfl)
theorem dJ35_init_111 : decode cJ35_init 111 = .ok (.goto 30, 3) := dk_167 0 30 (dk_at dksJ35_init_4 17 rfl rfl)
theorem dJ35_init_114 : decode cJ35_init 114 = .ok (.iload 5, 2) := dk_21 5 (dk_at dksJ35_init_4 20 rfl rfl)
theorem dJ35_init_116 : decode cJ35_init 116 = .ok (.sipush 1542, 3) := dk_17 6 6 (dk_at dksJ35_init_5 0 rfl rfl)
theorem dJ35_init_119 : decode cJ35_init 119 = .ok (.if_icmp .ge 8, 3) := dk_162 0 8 (dk_at dksJ35_init_5 3 rfl rfl)
theorem dJ35_init_122 : decode cJ35_init 122 = .ok (.bipush 10, 2) := dk_16 10 (dk_at dksJ35_init_5 6 rfl rfl)
theorem dJ35_init_124 : decode cJ35_init 124 = .ok (.goto 17, 3) := dk_167 0 17 (dk_at dksJ35_init_5 8 rfl rfl)
theorem dJ35_init_127 : decode cJ35_init 127 = .ok (.iload 5, 2) := dk_21 5 (dk_at dksJ35_init_5 11 rfl rfl)
theorem dJ35_init_129 : decode cJ35_init 129 = .ok (.ldc 29, 2) := dk_18 29 (dk_at dksJ35_init_5 13 rfl rfl)
theorem dJ35_init_131 : decode cJ35_init 131 = .ok (.if_icmp .ge 8, 3) := dk_162 0 8 (dk_at dksJ35_init_5 15 rfl rfl)
theorem dJ35_init_134 : decode cJ35_init 134 = .ok (.bipush 24, 2) := dk_16 24 (dk_at dksJ35_init_5 18 rfl rfl)
theorem dJ35_init_136 : decode cJ35_init 136 = .ok (.goto 5, 3) := dk_167 0 5 (dk_at dksJ35_init_5 20 rfl rfl)
theorem dJ35_init_139 : decode cJ35_init 139 = .ok (.bipush 49, 2) := dk_16 49 (dk_at dksJ35_init_6 0 rfl rfl)
theorem dJ35_init_141 : decode cJ35_init 141 = .ok (.istore 7, 2) := dk_54 7 (dk_at dksJ35_init_6 2 rfl rfl)
theorem dJ35_init_143 : decode cJ35_init 143 = .ok (.aload_n 0, 1) := dk_42 (dk_at dksJ35_init_6 4 rfl rfl)
theorem dJ35_init_144 : decode cJ35_init 144 = .ok (.iload 7, 2) := dk_21 7 (dk_at dksJ35_init_6 5 rfl rfl)
theorem dJ35_init_146 : decode cJ35_init 146 = .ok (.newarray .int, 2) := dk_188_10 (dk_at dksJ35_init_6 7 rfl rfl)
theorem dJ35_init_148 : decode cJ35_init 148 = .ok (.putfield 30, 3) := dk_181 0 30 (dk_at dksJ35_init_6 9 rfl rfl)
theorem dJ35_init_151 : decode cJ35_init 151 = .ok (.aload_n 0, 1) := dk_42 (dk_at dksJ35_init_6 12 rfl rfl)
theorem dJ35_init_152 : decode cJ35_init 152 = .ok (.iload 7, 2) := dk_21 7 (dk_at dksJ35_init_6 13 rfl rfl)
theorem dJ35_init_154 : decode cJ35_init 154 = .ok (.newarray .int, 2) := dk_188_10 (dk_at dksJ35_init_6 15 rfl rfl)
theorem dJ35_init_156 : decode cJ35_init 156 = .ok (.putfield 34, 3) := dk_181 0 34 (dk_at dksJ35_init_6 17 rfl rfl)
theorem dJ35_init_159 : decode cJ35_init 159 = .ok (.return_, 1) := dk_177 (dk_at dksJ35_init_6 20 rfl rfl)
abbrev cJ35_minRunLength : ByteArray := prog_62_method_6_code
def yJ35_minRunLength : MethodName := ⟨RJ35, "minRunLength", "(I)I"⟩
def dkwJ35_minRunLength_1 : List UInt8 := [161, 0, 16, 27, 26, 4, 126, 128, 60, 26, 4, 122, 59, 167, 255, 240, 26, 27, 96, 172]
abbrev dktJ35_minRunLength_1 : List UInt8 := dkwJ35_minRunLength_1 ++ []
def dkwJ35_minRunLength_0 : List UInt8 := [178, 0, 37, 154, 0, 15, 26, 156, 0, 11, 187, 0, 41, 89, 183, 0, 43, 191, 3, 60, 26, 16, 32]
abbrev dktJ35_minRunLength_0 : List UInt8 := dkwJ35_minRunLength_0 ++ dktJ35_minRunLength_1
theorem dksJ35_minRunLength_0 : cJ35_minRunLength.data.toList.drop 0 = dktJ35_minRunLength_0 := by decide +kernel
theorem dksJ35_minRunLength_1 : cJ35_minRunLength.data.toList.drop 23 = dktJ35_minRunLength_1 := dk_seg dksJ35_minRunLength_0 23 rfl rfl
theorem dJ35_minRunLength_0 : decode cJ35_minRunLength 0 = .ok (.getstatic 37, 3) := dk_178 0 37 (dk_at dksJ35_minRunLength_0 0 rfl rfl)
theorem dJ35_minRunLength_3 : decode cJ35_minRunLength 3 = .ok (.ifCond .ne 15, 3) := dk_154 0 15 (dk_at dksJ35_minRunLength_0 3 rfl rfl)
theorem dJ35_minRunLength_6 : decode cJ35_minRunLength 6 = .ok (.iload_n 0, 1) := dk_26 (dk_at dksJ35_minRunLength_0 6 rfl rfl)
theorem dJ35_minRunLength_7 : decode cJ35_minRunLength 7 = .ok (.ifCond .ge 11, 3) := dk_156 0 11 (dk_at dksJ35_minRunLength_0 7 rfl rfl)
theorem dJ35_minRunLength_10 : decode cJ35_minRunLength 10 = .ok (.new 41, 3) := dk_187 0 41 (dk_at dksJ35_minRunLength_0 10 rfl rfl)
theorem dJ35_minRunLength_13 : decode cJ35_minRunLength 13 = .ok (.dup, 1) := dk_89 (dk_at dksJ35_minRunLength_0 13 rfl rfl)
theorem dJ35_minRunLength_14 : decode cJ35_minRunLength 14 = .ok (.invokespecial 43, 3) := dk_183 0 43 (dk_at dksJ35_minRunLength_0 14 rfl rfl)
theorem dJ35_minRunLength_17 : decode cJ35_minRunLength 17 = .ok (.athrow, 1) := dk_191 (dk_at dksJ35_minRunLength_0 17 rfl rfl)
theorem dJ35_minRunLength_18 : decode cJ35_minRunLength 18 = .ok (.iconst 0, 1) := dk_3 (dk_at dksJ35_minRunLength_0 18 rfl rfl)
theorem dJ35_minRunLength_19 : decode cJ35_minRunLength 19 = .ok (.istore_n 1, 1) := dk_60 (dk_at dksJ35_minRunLength_0 19 rfl rfl)
theorem dJ35_minRunLength_20 : decode cJ35_minRunLength 20 = .ok (.iload_n 0, 1) := dk_26 (dk_at dksJ35_minRunLength_0 20 rfl rfl)
theorem dJ35_minRunLength_21 : decode cJ35_minRunLength 21 = .ok (.bipush 32, 2) := dk_16 32 (dk_at dksJ35_minRunLength_0 21 rfl rfl)
theorem dJ35_minRunLength_23 : decode cJ35_minRunLength 23 = .ok (.if_icmp .lt 16, 3) := dk_161 0 16 (dk_at dksJ35_minRunLength_1 0 rfl rfl)
theorem dJ35_minRunLength_26 : decode cJ35_minRunLength 26 = .ok (.iload_n 1, 1) := dk_27 (dk_at dksJ35_minRunLength_1 3 rfl rfl)
theorem dJ35_minRunLength_27 : decode cJ35_minRunLength 27 = .ok (.iload_n 0, 1) := dk_26 (dk_at dksJ35_minRunLength_1 4 rfl rfl)
theorem dJ35_minRunLength_28 : decode cJ35_minRunLength 28 = .ok (.iconst 1, 1) := dk_4 (dk_at dksJ35_minRunLength_1 5 rfl rfl)
theorem dJ35_minRunLength_29 : decode cJ35_minRunLength 29 = .ok (.iand, 1) := dk_126 (dk_at dksJ35_minRunLength_1 6 rfl rfl)
theorem dJ35_minRunLength_30 : decode cJ35_minRunLength 30 = .ok (.ior, 1) := dk_128 (dk_at dksJ35_minRunLength_1 7 rfl rfl)
theorem dJ35_minRunLength_31 : decode cJ35_minRunLength 31 = .ok (.istore_n 1, 1) := dk_60 (dk_at dksJ35_minRunLength_1 8 rfl rfl)
theorem dJ35_minRunLength_32 : decode cJ35_minRunLength 32 = .ok (.iload_n 0, 1) := dk_26 (dk_at dksJ35_minRunLength_1 9 rfl rfl)
theorem dJ35_minRunLength_33 : decode cJ35_minRunLength 33 = .ok (.iconst 1, 1) := dk_4 (dk_at dksJ35_minRunLength_1 10 rfl rfl)
theorem dJ35_minRunLength_34 : decode cJ35_minRunLength 34 = .ok (.ishr, 1) := dk_122 (dk_at dksJ35_minRunLength_1 11 rfl rfl)
theorem dJ35_minRunLength_35 : decode cJ35_minRunLength 35 = .ok (.istore_n 0, 1) := dk_59 (dk_at dksJ35_minRunLength_1 12 rfl rfl)
theorem dJ35_minRunLength_36 : decode cJ35_minRunLength 36 = .ok (.goto (-16), 3) := dk_167 255 240 (dk_at dksJ35_minRunLength_1 13 rfl rfl)
theorem dJ35_minRunLength_39 : decode cJ35_minRunLength 39 = .ok (.iload_n 0, 1) := dk_26 (dk_at dksJ35_minRunLength_1 16 rfl rfl)
theorem dJ35_minRunLength_40 : decode cJ35_minRunLength 40 = .ok (.iload_n 1, 1) := dk_27 (dk_at dksJ35_minRunLength_1 17 rfl rfl)
theorem dJ35_minRunLength_41 : decode cJ35_minRunLength 41 = .ok (.iadd, 1) := dk_96 (dk_at dksJ35_minRunLength_1 18 rfl rfl)
theorem dJ35_minRunLength_42 : decode cJ35_minRunLength 42 = .ok (.ireturn, 1) := dk_172 (dk_at dksJ35_minRunLength_1 19 rfl rfl)
abbrev cJ35_pushRun : ByteArray := prog_62_method_7_code
def yJ35_pushRun : MethodName := ⟨RJ35, "pushRun", "(II)V"⟩
def dkwJ35_pushRun_1 : List UInt8 := [180, 0, 13, 4, 96, 181, 0, 13, 177]
abbrev dktJ35_pushRun_1 : List UInt8 := dkwJ35_pushRun_1 ++ []
def dkwJ35_pushRun_0 : List UInt8 := [42, 180, 0, 30, 42, 180, 0, 13, 27, 79, 42, 180, 0, 34, 42, 180, 0, 13, 28, 79, 42, 89]
abbrev dktJ35_pushRun_0 : List UInt8 := dkwJ35_pushRun_0 ++ dktJ35_pushRun_1
theorem dksJ35_pushRun_0 : cJ35_pushRun.data.toList.drop 0 = dktJ35_pushRun_0 := by decide +kernel
theorem dksJ35_pushRun_1 : cJ35_pushRun.data.toList.drop 22 = dktJ35_pushRun_1 := dk_seg dksJ35_pushRun_0 22 rfl rfl
theorem dJ35_pushRun_0 : decode cJ35_pushRun 0 = .ok (.aload_n 0, 1) := dk_42 (dk_at dksJ35_pushRun_0 0 rfl rfl)
theorem dJ35_pushRun_1 : decode cJ35_pushRun 1 = .ok (.getfield 30, 3) := dk_180 0 30 (dk_at dksJ35_pushRun_0 1 rfl rfl)
theorem dJ35_pushRun_4 : decode cJ35_pushRun 4 = .ok (.aload_n 0, 1) := dk_42 (dk_at dksJ35_pushRun_0 4 rfl rfl)
theorem dJ35_pushRun_5 : decode cJ35_pushRun 5 = .ok (.getfield 13, 3) := dk_180 0 13 (dk_at dksJ35_pushRun_0 5 rfl rfl)
theorem dJ35_pushRun_8 : decode cJ35_pushRun 8 = .ok (.iload_n 1, 1) := dk_27 (dk_at dksJ35_pushRun_0 8 rfl rfl)
theorem dJ35_pushRun_9 : decode cJ35_pushRun 9 = .ok (.iastore, 1) := dk_79 (dk_at dksJ35_pushRun_0 9 rfl rfl)
theorem dJ35_pushRun_10 : decode cJ35_pushRun 10 = .ok (.aload_n 0, 1) := dk_42 (dk_at dksJ35_pushRun_0 10 rfl rfl)
theorem dJ35_pushRun_11 : decode cJ35_pushRun 11 = .ok (.getfield 34, 3) := dk_180 0 34 (dk_at dksJ35_pushRun_0 11 rfl rfl)
theorem dJ35_pushRun_14 : decode cJ35_pushRun 14 = .ok (.aload_n 0, 1) := dk_42 (dk_at dksJ35_pushRun_0 14 rfl rfl)
theorem dJ35_pushRun_15 : decode cJ35_pushRun 15 = .ok (.getfield 13, 3) := dk_180 0 13 (dk_at dksJ35_pushRun_0 15 rfl rfl)
theorem dJ35_pushRun_18 : decode cJ35_pushRun 18 = .ok (.iload_n 2, 1) := dk_28 (dk_at dksJ35_pushRun_0 18 rfl rfl)
theorem dJ35_pushRun_19 : decode cJ35_pushRun 19 = .ok (.iastore, 1) := dk_79 (dk_at dksJ35_pushRun_0 19 rfl rfl)
theorem dJ35_pushRun_20 : decode cJ35_pushRun 20 = .ok (.aload_n 0, 1) := dk_42 (dk_at dksJ35_pushRun_0 20 rfl rfl)
theorem dJ35_pushRun_21 : decode cJ35_pushRun 21 = .ok (.dup, 1) := dk_89 (dk_at dksJ35_pushRun_0 21 rfl rfl)
theorem dJ35_pushRun_22 : decode cJ35_pushRun 22 = .ok (.getfield 13, 3) := dk_180 0 13 (dk_at dksJ35_pushRun_1 0 rfl rfl)
theorem dJ35_pushRun_25 : decode cJ35_pushRun 25 = .ok (.iconst 1, 1) := dk_4 (dk_at dksJ35_pushRun_1 3 rfl rfl)
theorem dJ35_pushRun_26 : decode cJ35_pushRun 26 = .ok (.iadd, 1) := dk_96 (dk_at dksJ35_pushRun_1 4 rfl rfl)
theorem dJ35_pushRun_27 : decode cJ35_pushRun 27 = .ok (.putfield 13, 3) := dk_181 0 13 (dk_at dksJ35_pushRun_1 5 rfl rfl)
theorem dJ35_pushRun_30 : decode cJ35_pushRun 30 = .ok (.return_, 1) := dk_177 (dk_at dksJ35_pushRun_1 8 rfl rfl)
abbrev cJ35_mergeCollapse : ByteArray := prog_62_method_8_code
def yJ35_mergeCollapse : MethodName := ⟨RJ35, "mergeCollapse", "()V"⟩
def dkwJ35_mergeCollapse_5 : List UInt8 := [164, 0, 6, 167, 0, 11, 42, 27, 182, 0, 85, 167, 255, 126, 177]
abbrev dktJ35_mergeCollapse_5 : List UInt8 := dkwJ35_mergeCollapse_5 ++ []
def dkwJ35_mergeCollapse_4 : List UInt8 := [132, 1, 255, 167, 0, 27, 27, 155, 0, 31, 42, 180, 0, 34, 27, 46, 42, 180, 0, 34, 27, 4, 96, 46]
abbrev dktJ35_mergeCollapse_4 : List UInt8 := dkwJ35_mergeCollapse_4 ++ dktJ35_mergeCollapse_5
def dkwJ35_mergeCollapse_3 : List UInt8 := [46, 96, 163, 0, 28, 42, 180, 0, 34, 27, 4, 100, 46, 42, 180, 0, 34, 27, 4, 96, 46, 162, 0, 33]
abbrev dktJ35_mergeCollapse_3 : List UInt8 := dkwJ35_mergeCollapse_3 ++ dktJ35_mergeCollapse_4
def dkwJ35_mergeCollapse_2 : List UInt8 := [164, 0, 54, 42, 180, 0, 34, 27, 5, 100, 46, 42, 180, 0, 34, 27, 46, 42, 180, 0, 34, 27, 4, 100]
abbrev dktJ35_mergeCollapse_2 : List UInt8 := dkwJ35_mergeCollapse_2 ++ dktJ35_mergeCollapse_3
def dkwJ35_mergeCollapse_1 : List UInt8 := [4, 100, 46, 42, 180, 0, 34, 27, 46, 42, 180, 0, 34, 27, 4, 96, 46, 96, 164, 0, 34, 27, 4]
abbrev dktJ35_mergeCollapse_1 : List UInt8 := dkwJ35_mergeCollapse_1 ++ dktJ35_mergeCollapse_2
def dkwJ35_mergeCollapse_0 : List UInt8 := [42, 180, 0, 13, 4, 164, 0, 128, 42, 180, 0, 13, 5, 100, 60, 27, 158, 0, 29, 42, 180, 0, 34, 27]
abbrev dktJ35_mergeCollapse_0 : List UInt8 := dkwJ35_mergeCollapse_0 ++ dktJ35_mergeCollapse_1
theorem dksJ35_mergeCollapse_0 : cJ35_mergeCollapse.data.toList.drop 0 = dktJ35_mergeCollapse_0 := by decide +kernel
theorem dksJ35_mergeCollapse_1 : cJ35_mergeCollapse.data.toList.drop 24 = dktJ35_mergeCollapse_1 := dk_seg dksJ35_mergeCollapse_0 24 rfl rfl
theorem dksJ35_mergeCollapse_2 : cJ35_mergeCollapse.data.toList.drop 47 = dktJ35_mergeCollapse_2 := dk_seg dksJ35_mergeCollapse_1 23 rfl rfl
theorem dksJ35_mergeCollapse_3 : cJ35_mergeCollapse.data.toList.drop 71 = dktJ35_mergeCollapse_3 := dk_seg dksJ35_mergeCollapse_2 24 rfl rfl
theorem dksJ35_mergeCollapse_4 : cJ35_mergeCollapse.data.toList.drop 95 = dktJ35_mergeCollapse_4 := dk_seg dksJ35_mergeCollapse_3 24 rfl rfl
theorem dksJ35_mergeCollapse_5 : cJ35_mergeCollapse.data.toList.drop 119 = dktJ35_mergeCollapse_5 := dk_seg dksJ35_mergeCollapse_4 24 rfl rfl
theorem dJ35_mergeCollapse_0 : decode cJ35_mergeCollapse 0 = .ok (.aload_n 0, 1) := dk_42 (dk_at dksJ35_mergeCollapse_0 0 rfl rfl)
theorem dJ35_mergeCollapse_1 : decode cJ35_mergeCollapse 1 = .ok (.getfield 13, 3) := dk_180 0 13 (dk_at dksJ35_mergeCollapse_0 1 rfl rfl)
theorem dJ35_mergeCollapse_4 : decode cJ35_mergeCollapse 4 = .ok (.iconst 1, 1) := dk_4 (dk_at dksJ35_mergeCollapse_0 4 rfl rfl)
theorem dJ35_mergeCollapse_5 : decode cJ35_mergeCollapse 5 = .ok (.if_icmp .le 128, 3) := dk_164 0 128 (dk_at dksJ35_mergeCollapse_0 5 rfl rfl)
theorem dJ35_mergeCollapse_8 : decode cJ35_mergeCollapse 8 = .ok (.aload_n 0, 1) := dk_42 (dk_at dksJ35_mergeCollapse_0 8 rfl rfl)
theorem dJ35_mergeCollapse_9 : decode cJ35_mergeCollapse 9 = .ok (.getfield 13, 3) := dk_180 0 13 (dk_at dksJ35_mergeCollapse_0 9 rfl rfl)
theorem dJ35_mergeCollapse_12 : decode cJ35_mergeCollapse 12 = .ok (.iconst 2, 1) := dk_5 (dk_at dksJ35_mergeCollapse_0 12 rfl rfl)
theorem dJ35_mergeCollapse_13 : decode cJ35_mergeCollapse 13 = .ok (.isub, 1) := dk_100 (dk_at dksJ35_mergeCollapse_0 13 rfl rfl)
theorem dJ35_mergeCollapse_14 : decode cJ35_mergeCollapse 14 = .ok (.istore_n 1, 1) := dk_60 (dk_at dksJ35_mergeCollapse_0 14 rfl rfl)
theorem dJ35_mergeCollapse_15 : decode cJ35_mergeCollapse 15 = .ok (.iload_n 1, 1) := dk_27 (dk_at dksJ35_mergeCollapse_0 15 rfl rfl)
theorem dJ35_mergeCollapse_16 : decode cJ35_mergeCollapse 16 = .ok (.ifCond .le 29, 3) := dk_158 0 29 (dk_at dksJ35_mergeCollapse_0 16 rfl rfl)
theorem dJ35_mergeCollapse_19 : decode cJ35_mergeCollapse 19 = .ok (.aload_n 0, 1) := dk_42 (dk_at dksJ35_mergeCollapse_0 19 rfl rfl)
theorem dJ35_mergeCollapse_20 : decode cJ35_mergeCollapse 20 = .ok (.getfield 34, 3) := dk_180 0 34 (dk_at dksJ35_mergeCollapse_0 20 rfl rfl)
theorem dJ35_mergeCollapse_23 : decode cJ35_mergeCollapse 23 = .ok (.iload_n 1, 1) := dk_27 (dk_at dksJ35_mergeCollapse_0 23 rfl rfl)
theorem dJ35_mergeCollapse_24 : decode cJ35_mergeCollapse 24 = .ok (.iconst 1, 1) := dk_4 (dk_at dksJ35_mergeCollapse_1 0 rfl rfl)
theorem dJ35_mergeCollapse_25 : decode cJ35_mergeCollapse 25 = .ok (.isub, 1) := dk_100 (dk_at dksJ35_mergeCollapse_1 1 rfl rfl)
theorem dJ35_mergeCollapse_26 : decode cJ35_mergeCollapse 26 = .ok (.iaload, 1) := dk_46 (dk_at dksJ35_mergeCollapse_1 2 rfl rfl)
theorem dJ35_mergeCollapse_27 : decode cJ35_mergeCollapse 27 = .ok (.aload_n 0, 1) := dk_42 (dk_at dksJ35_mergeCollapse_1 3 rfl rfl)
theorem dJ35_mergeCollapse_28 : decode cJ35_mergeCollapse 28 = .ok (.getfield 34, 3) := dk_180 0 34 (dk_at dksJ35_mergeCollapse_1 4 rfl rfl)
theorem dJ35_mergeCollapse_31 : decode cJ35_mergeCollapse 31 = .ok (.iload_n 1, 1) := dk_27 (dk_at dksJ35_mergeCollapse_1 7 rfl rfl)
theorem dJ35_mergeCollapse_32 : decode cJ35_mergeCollapse 32 = .ok (.iaload, 1) := dk_46 (dk_at dksJ35_mergeCollapse_1 8 rfl rfl)
theorem dJ35_mergeCollapse_33 : decode cJ35_mergeCollapse 33 = .ok (.aload_n 0, 1) := dk_42 (dk_at dksJ35_mergeCollapse_1 9 rfl rfl)
theorem dJ35_mergeCollapse_34 : decode cJ35_mergeCollapse 34 = .ok (.getfield 34, 3) := dk_180 0 34 (dk_at dksJ35_mergeCollapse_1 10 rfl rfl)
theorem dJ35_mergeCollapse_37 : decode cJ35_mergeCollapse 37 = .ok (.iload_n 1, 1) := dk_27 (dk_at dksJ35_mergeCollapse_1 13 rfl rfl)
theorem dJ35_mergeCollapse_38 : decode cJ35_mergeCollapse 38 = .ok (.iconst 1, 1) := dk_4 (dk_at dksJ35_mergeCollapse_1 14 rfl rfl)
theorem dJ35_mergeCollapse_39 : decode cJ35_mergeCollapse 39 = .ok (.iadd, 1) := dk_96 (dk_at dksJ35_mergeCollapse_1 15 rfl rfl)
theorem dJ35_mergeCollapse_40 : decode cJ35_mergeCollapse 40 = .ok (.iaload, 1) := dk_46 (dk_at dksJ35_mergeCollapse_1 16 rfl rfl)
theorem dJ35_mergeCollapse_41 : decode cJ35_mergeCollapse 41 = .ok (.iadd, 1) := dk_96 (dk_at dksJ35_mergeCollapse_1 17 rfl rfl)
theorem dJ35_mergeCollapse_42 : decode cJ35_mergeCollapse 42 = .ok (.if_icmp .le 34, 3) := dk_164 0 34 (dk_at dksJ35_mergeCollapse_1 18 rfl rfl)
theorem dJ35_mergeCollapse_45 : decode cJ35_mergeCollapse 45 = .ok (.iload_n 1, 1) := dk_27 (dk_at dksJ35_mergeCollapse_1 21 rfl rfl)
theorem dJ35_mergeCollapse_46 : decode cJ35_mergeCollapse 46 = .ok (.iconst 1, 1) := dk_4 (dk_at dksJ35_mergeCollapse_1 22 rfl rfl)
theorem dJ35_mergeCollapse_47 : decode cJ35_mergeCollapse 47 = .ok (.if_icmp .le 54, 3) := dk_164 0 54 (dk_at dksJ35_mergeCollapse_2 0 rfl rfl)
theorem dJ35_mergeCollapse_50 : decode cJ35_mergeCollapse 50 = .ok (.aload_n 0, 1) := dk_42 (dk_at dksJ35_mergeCollapse_2 3 rfl rfl)
theorem dJ35_mergeCollapse_51 : decode cJ35_mergeCollapse 51 = .ok (.getfield 34, 3) := dk_180 0 34 (dk_at dksJ35_mergeCollapse_2 4 rfl rfl)
theorem dJ35_mergeCollapse_54 : decode cJ35_mergeCollapse 54 = .ok (.iload_n 1, 1) := dk_27 (dk_at dksJ35_mergeCollapse_2 7 rfl rfl)
theorem dJ35_mergeCollapse_55 : decode cJ35_mergeCollapse 55 = .ok (.iconst 2, 1) := dk_5 (dk_at dksJ35_mergeCollapse_2 8 rfl rfl)
theorem dJ35_mergeCollapse_56 : decode cJ35_mergeCollapse 56 = .ok (.isub, 1) := dk_100 (dk_at dksJ35_mergeCollapse_2 9 rfl rfl)
theorem dJ35_mergeCollapse_57 : decode cJ35_mergeCollapse 57 = .ok (.iaload, 1) := dk_46 (dk_at dksJ35_mergeCollapse_2 10 rfl rfl)
theorem dJ35_mergeCollapse_58 : decode cJ35_mergeCollapse 58 = .ok (.aload_n 0, 1) := dk_42 (dk_at dksJ35_mergeCollapse_2 11 rfl rfl)
theorem dJ35_mergeCollapse_59 : decode cJ35_mergeCollapse 59 = .ok (.getfield 34, 3) := dk_180 0 34 (dk_at dksJ35_mergeCollapse_2 12 rfl rfl)
theorem dJ35_mergeCollapse_62 : decode cJ35_mergeCollapse 62 = .ok (.iload_n 1, 1) := dk_27 (dk_at dksJ35_mergeCollapse_2 15 rfl rfl)
theorem dJ35_mergeCollapse_63 : decode cJ35_mergeCollapse 63 = .ok (.iaload, 1) := dk_46 (dk_at dksJ35_mergeCollapse_2 16 rfl rfl)
theorem dJ35_mergeCollapse_64 : decode cJ35_mergeCollapse 64 = .ok (.aload_n 0, 1) := dk_42 (dk_at dksJ35_mergeCollapse_2 17 rfl rfl)
theorem dJ35_mergeCollapse_65 : decode cJ35_mergeCollapse 65 = .ok (.getfield 34, 3) := dk_180 0 34 (dk_at dksJ35_mergeCollapse_2 18 rfl rfl)
theorem dJ35_mergeCollapse_68 : decode cJ35_mergeCollapse 68 = .ok (.iload_n 1, 1) := dk_27 (dk_at dksJ35_mergeCollapse_2 21 rfl rfl)
theorem dJ35_mergeCollapse_69 : decode cJ35_mergeCollapse 69 = .ok (.iconst 1, 1) := dk_4 (dk_at dksJ35_mergeCollapse_2 22 rfl rfl)
theorem dJ35_mergeCollapse_70 : decode cJ35_mergeCollapse 70 = .ok (.isub, 1) := dk_100 (dk_at dksJ35_mergeCollapse_2 23 rfl rfl)
theorem dJ35_mergeCollapse_71 : decode cJ35_mergeCollapse 71 = .ok (.iaload, 1) := dk_46 (dk_at dksJ35_mergeCollapse_3 0 rfl rfl)
theorem dJ35_mergeCollapse_72 : decode cJ35_mergeCollapse 72 = .ok (.iadd, 1) := dk_96 (dk_at dksJ35_mergeCollapse_3 1 rfl rfl)
theorem dJ35_mergeCollapse_73 : decode cJ35_mergeCollapse 73 = .ok (.if_icmp .gt 28, 3) := dk_163 0 28 (dk_at dksJ35_mergeCollapse_3 2 rfl rfl)
theorem dJ35_mergeCollapse_76 : decode cJ35_mergeCollapse 76 = .ok (.aload_n 0, 1) := dk_42 (dk_at dksJ35_mergeCollapse_3 5 rfl rfl)
theorem dJ35_mergeCollapse_77 : decode cJ35_mergeCollapse 77 = .ok (.getfield 34, 3) := dk_180 0 34 (dk_at dksJ35_mergeCollapse_3 6 rfl rfl)
theorem dJ35_mergeCollapse_80 : decode cJ35_mergeCollapse 80 = .ok (.iload_n 1, 1) := dk_27 (dk_at dksJ35_mergeCollapse_3 9 rfl rfl)
theorem dJ35_mergeCollapse_81 : decode cJ35_mergeCollapse 81 = .ok (.iconst 1, 1) := dk_4 (dk_at dksJ35_mergeCollapse_3 10 rfl rfl)
theorem dJ35_mergeCollapse_82 : decode cJ35_mergeCollapse 82 = .ok (.isub, 1) := dk_100 (dk_at dksJ35_mergeCollapse_3 11 rfl rfl)
theorem dJ35_mergeCollapse_83 : decode cJ35_mergeCollapse 83 = .ok (.iaload, 1) := dk_46 (dk_at dksJ35_mergeCollapse_3 12 rfl rfl)
theorem dJ35_mergeCollapse_84 : decode cJ35_mergeCollapse 84 = .ok (.aload_n 0, 1) := dk_42 (dk_at dksJ35_mergeCollapse_3 13 rfl rfl)
theorem dJ35_mergeCollapse_85 : decode cJ35_mergeCollapse 85 = .ok (.getfield 34, 3) := dk_180 0 34 (dk_at dksJ35_mergeCollapse_3 14 rfl rfl)
theorem dJ35_mergeCollapse_88 : decode cJ35_mergeCollapse 88 = .ok (.iload_n 1, 1) := dk_27 (dk_at dksJ35_mergeCollapse_3 17 rfl rfl)
theorem dJ35_mergeCollapse_89 : decode cJ35_mergeCollapse 89 = .ok (.iconst 1, 1) := dk_4 (dk_at dksJ35_mergeCollapse_3 18 rfl rfl)
theorem dJ35_mergeCollapse_90 : decode cJ35_mergeCollapse 90 = .ok (.iadd, 1) := dk_96 (dk_at dksJ35_mergeCollapse_3 19 rfl rfl)
theorem dJ35_mergeCollapse_91 : decode cJ35_mergeCollapse 91 = .ok (.iaload, 1) := dk_46 (dk_at dksJ35_mergeCollapse_3 20 rfl rfl)
theorem dJ35_mergeCollapse_92 : decode cJ35_mergeCollapse 92 = .ok (.if_icmp .ge 33, 3) := dk_162 0 33 (dk_at dksJ35_mergeCollapse_3 21 rfl rfl)
theorem dJ35_mergeCollapse_95 : decode cJ35_mergeCollapse 95 = .ok (.iinc 1 (-1), 3) := dk_132 1 255 (dk_at dksJ35_mergeCollapse_4 0 rfl rfl)
theorem dJ35_mergeCollapse_98 : decode cJ35_mergeCollapse 98 = .ok (.goto 27, 3) := dk_167 0 27 (dk_at dksJ35_mergeCollapse_4 3 rfl rfl)
theorem dJ35_mergeCollapse_101 : decode cJ35_mergeCollapse 101 = .ok (.iload_n 1, 1) := dk_27 (dk_at dksJ35_mergeCollapse_4 6 rfl rfl)
theorem dJ35_mergeCollapse_102 : decode cJ35_mergeCollapse 102 = .ok (.ifCond .lt 31, 3) := dk_155 0 31 (dk_at dksJ35_mergeCollapse_4 7 rfl rfl)
theorem dJ35_mergeCollapse_105 : decode cJ35_mergeCollapse 105 = .ok (.aload_n 0, 1) := dk_42 (dk_at dksJ35_mergeCollapse_4 10 rfl rfl)
theorem dJ35_mergeCollapse_106 : decode cJ35_mergeCollapse 106 = .ok (.getfield 34, 3) := dk_180 0 34 (dk_at dksJ35_mergeCollapse_4 11 rfl rfl)
theorem dJ35_mergeCollapse_109 : decode cJ35_mergeCollapse 109 = .ok (.iload_n 1, 1) := dk_27 (dk_at dksJ35_mergeCollapse_4 14 rfl rfl)
theorem dJ35_mergeCollapse_110 : decode cJ35_mergeCollapse 110 = .ok (.iaload, 1) := dk_46 (dk_at dksJ35_mergeCollapse_4 15 rfl rfl)
theorem dJ35_mergeCollapse_111 : decode cJ35_mergeCollapse 111 = .ok (.aload_n 0, 1) := dk_42 (dk_at dksJ35_mergeCollapse_4 16 rfl rfl)
theorem dJ35_mergeCollapse_112 : decode cJ35_mergeCollapse 112 = .ok (.getfield 34, 3) := dk_180 0 34 (dk_at dksJ35_mergeCollapse_4 17 rfl rfl)
theorem dJ35_mergeCollapse_115 : decode cJ35_mergeCollapse 115 = .ok (.iload_n 1, 1) := dk_27 (dk_at dksJ35_mergeCollapse_4 20 rfl rfl)
theorem dJ35_mergeCollapse_116 : decode cJ35_mergeCollapse 116 = .ok (.iconst 1, 1) := dk_4 (dk_at dksJ35_mergeCollapse_4 21 rfl rfl)
theorem dJ35_mergeCollapse_117 : decode cJ35_mergeCollapse 117 = .ok (.iadd, 1) := dk_96 (dk_at dksJ35_mergeCollapse_4 22 rfl rfl)
theorem dJ35_mergeCollapse_118 : decode cJ35_mergeCollapse 118 = .ok (.iaload, 1) := dk_46 (dk_at dksJ35_mergeCollapse_4 23 rfl rfl)
theorem dJ35_mergeCollapse_119 : decode cJ35_mergeCollapse 119 = .ok (.if_icmp .le 6, 3) := dk_164 0 6 (dk_at dksJ35_mergeCollapse_5 0 rfl rfl)
theorem dJ35_mergeCollapse_122 : decode cJ35_mergeCollapse 122 = .ok (.goto 11, 3) := dk_167 0 11 (dk_at dksJ35_mergeCollapse_5 3 rfl rfl)
theorem dJ35_mergeCollapse_125 : decode cJ35_mergeCollapse 125 = .ok (.aload_n 0, 1) := dk_42 (dk_at dksJ35_mergeCollapse_5 6 rfl rfl)
theorem dJ35_mergeCollapse_126 : decode cJ35_mergeCollapse 126 = .ok (.iload_n 1, 1) := dk_27 (dk_at dksJ35_mergeCollapse_5 7 rfl rfl)
theorem dJ35_mergeCollapse_127 : decode cJ35_mergeCollapse 127 = .ok (.invokevirtual 85, 3) := dk_182 0 85 (dk_at dksJ35_mergeCollapse_5 8 rfl rfl)
theorem dJ35_mergeCollapse_130 : decode cJ35_mergeCollapse 130 = .ok (.goto (-130), 3) := dk_167 255 126 (dk_at dksJ35_mergeCollapse_5 11 rfl rfl)
theorem dJ35_mergeCollapse_133 : decode cJ35_mergeCollapse 133 = .ok (.return_, 1) := dk_177 (dk_at dksJ35_mergeCollapse_5 14 rfl rfl)
abbrev cJ35_mergeAt : ByteArray := prog_62_method_10_code
def yJ35_mergeAt : MethodName := ⟨RJ35, "mergeAt", "(I)V"⟩
def dkwJ35_mergeAt_15 : List UInt8 := [21, 5, 182, 0, 100, 177]
abbrev dktJ35_mergeAt_15 : List UInt8 := dkwJ35_mergeAt_15 ++ []
def dkwJ35_mergeAt_14 : List UInt8 := [21, 5, 163, 0, 16, 42, 28, 29, 21, 4, 21, 5, 182, 0, 96, 167, 0, 13, 42, 28, 29, 21, 4]
abbrev dktJ35_mergeAt_14 : List UInt8 := dkwJ35_mergeAt_14 ++ dktJ35_mergeAt_15
def dkwJ35_mergeAt_13 : List UInt8 := [154, 0, 16, 21, 5, 156, 0, 11, 187, 0, 41, 89, 183, 0, 43, 191, 21, 5, 154, 0, 4, 177, 29]
abbrev dktJ35_mergeAt_13 : List UInt8 := dkwJ35_mergeAt_13 ++ dktJ35_mergeAt_14
def dkwJ35_mergeAt_12 : List UInt8 := [192, 0, 69, 42, 180, 0, 16, 21, 4, 21, 5, 21, 5, 4, 100, 184, 0, 93, 54, 5, 178, 0, 37]
abbrev dktJ35_mergeAt_12 : List UInt8 := dkwJ35_mergeAt_12 ++ dktJ35_mergeAt_13
def dkwJ35_mergeAt_11 : List UInt8 := [96, 61, 29, 21, 6, 100, 62, 29, 154, 0, 4, 177, 42, 180, 0, 16, 28, 29, 96, 4, 100, 50]
abbrev dktJ35_mergeAt_11 : List UInt8 := dkwJ35_mergeAt_11 ++ dktJ35_mergeAt_12
def dkwJ35_mergeAt_10 : List UInt8 := [54, 6, 178, 0, 37, 154, 0, 16, 21, 6, 156, 0, 11, 187, 0, 41, 89, 183, 0, 43, 191, 28, 21, 6]
abbrev dktJ35_mergeAt_10 : List UInt8 := dkwJ35_mergeAt_10 ++ dktJ35_mergeAt_11
def dkwJ35_mergeAt_9 : List UInt8 := [181, 0, 13, 42, 180, 0, 16, 21, 4, 50, 192, 0, 69, 42, 180, 0, 16, 28, 29, 3, 184, 0, 89]
abbrev dktJ35_mergeAt_9 : List UInt8 := dkwJ35_mergeAt_9 ++ dktJ35_mergeAt_10
def dkwJ35_mergeAt_8 : List UInt8 := [42, 180, 0, 34, 27, 4, 96, 42, 180, 0, 34, 27, 5, 96, 46, 79, 42, 89, 180, 0, 13, 4, 100]
abbrev dktJ35_mergeAt_8 : List UInt8 := dkwJ35_mergeAt_8 ++ dktJ35_mergeAt_9
def dkwJ35_mergeAt_7 : List UInt8 := [180, 0, 13, 6, 100, 160, 0, 35, 42, 180, 0, 30, 27, 4, 96, 42, 180, 0, 30, 27, 5, 96, 46, 79]
abbrev dktJ35_mergeAt_7 : List UInt8 := dkwJ35_mergeAt_7 ++ dktJ35_mergeAt_8
def dkwJ35_mergeAt_6 : List UInt8 := [159, 0, 11, 187, 0, 41, 89, 183, 0, 43, 191, 42, 180, 0, 34, 27, 29, 21, 5, 96, 79, 27, 42]
abbrev dktJ35_mergeAt_6 : List UInt8 := dkwJ35_mergeAt_6 ++ dktJ35_mergeAt_7
def dkwJ35_mergeAt_5 : List UInt8 := [21, 5, 157, 0, 11, 187, 0, 41, 89, 183, 0, 43, 191, 178, 0, 37, 154, 0, 19, 28, 29, 96, 21, 4]
abbrev dktJ35_mergeAt_5 : List UInt8 := dkwJ35_mergeAt_5 ++ dktJ35_mergeAt_6
def dkwJ35_mergeAt_4 : List UInt8 := [96, 46, 54, 4, 42, 180, 0, 34, 27, 4, 96, 46, 54, 5, 178, 0, 37, 154, 0, 20, 29, 158, 0, 8]
abbrev dktJ35_mergeAt_4 : List UInt8 := dkwJ35_mergeAt_4 ++ dktJ35_mergeAt_5
def dkwJ35_mergeAt_3 : List UInt8 := [183, 0, 43, 191, 42, 180, 0, 30, 27, 46, 61, 42, 180, 0, 34, 27, 46, 62, 42, 180, 0, 30, 27, 4]
abbrev dktJ35_mergeAt_3 : List UInt8 := dkwJ35_mergeAt_3 ++ dktJ35_mergeAt_4
def dkwJ35_mergeAt_2 : List UInt8 := [27, 42, 180, 0, 13, 5, 100, 159, 0, 21, 27, 42, 180, 0, 13, 6, 100, 159, 0, 11, 187, 0, 41, 89]
abbrev dktJ35_mergeAt_2 : List UInt8 := dkwJ35_mergeAt_2 ++ dktJ35_mergeAt_3
def dkwJ35_mergeAt_1 : List UInt8 := [178, 0, 37, 154, 0, 15, 27, 156, 0, 11, 187, 0, 41, 89, 183, 0, 43, 191, 178, 0, 37, 154, 0, 31]
abbrev dktJ35_mergeAt_1 : List UInt8 := dkwJ35_mergeAt_1 ++ dktJ35_mergeAt_2
def dkwJ35_mergeAt_0 : List UInt8 := [178, 0, 37, 154, 0, 19, 42, 180, 0, 13, 5, 162, 0, 11, 187, 0, 41, 89, 183, 0, 43, 191]
abbrev dktJ35_mergeAt_0 : List UInt8 := dkwJ35_mergeAt_0 ++ dktJ35_mergeAt_1
theorem dksJ35_mergeAt_0 : cJ35_mergeAt.data.toList.drop 0 = dktJ35_mergeAt_0 := by decide +kernel
theorem dksJ35_mergeAt_1 : cJ35_mergeAt.data.toList.drop 22 = dktJ35_mergeAt_1 := dk_seg dksJ35_mergeAt_0 22 rfl rfl
theorem dksJ35_mergeAt_2 : cJ35_mergeAt.data.toList.drop 46 = dktJ35_mergeAt_2 := dk_seg dksJ35_mergeAt_1 24 rfl rfl
theorem dksJ35_mergeAt_3 : cJ35_mergeAt.data.toList.drop 70 = dktJ35_mergeAt_3 := dk_seg dksJ35_mergeAt_2 24 rfl rfl
theorem dksJ35_mergeAt_4 : cJ35_mergeAt.data.toList.drop 94 = dktJ35_mergeAt_4 := dk_seg dksJ35_mergeAt_3 24 rfl rfl
theorem dksJ35_mergeAt_5 : cJ35_mergeAt.data.toList.drop 118 = dktJ35_mergeAt_5 := dk_seg dksJ35_mergeAt_4 24 rfl rfl
theorem dksJ35_mergeAt_6 : cJ35_mergeAt.data.toList.drop 142 = dktJ35_mergeAt_6 := dk_seg dksJ35_mergeAt_5 24 rfl rfl
theorem dksJ35_mergeAt_7 : cJ35_mergeAt.data.toList.drop 165 = dktJ35_mergeAt_7 := dk_seg dksJ35_mergeAt_6 23 rfl rfl
theorem dksJ35_mergeAt_8 : cJ35_mergeAt.data.toList.drop 189 = dktJ35_mergeAt_8 := dk_seg dksJ35_mergeAt_7 24 rfl rfl
theorem dksJ35_mergeAt_9 : cJ35_mergeAt.data.toList.drop 212 = dktJ35_mergeAt_9 := dk_seg dksJ35_mergeAt_8 23 rfl rfl
theorem dksJ35_mergeAt_10 : cJ35_mergeAt.data.toList.drop 235 = dktJ35_mergeAt_10 := dk_seg dksJ35_mergeAt_9 23 rfl rfl
theorem dksJ35_mergeAt_11 : cJ35_mergeAt.data.toList.drop 259 = dktJ35_mergeAt_11 := dk_seg dksJ35_mergeAt_10 24 rfl rfl
theorem dksJ35_mergeAt_12 : cJ35_mergeAt.data.toList.drop 281 = dktJ35_mergeAt_12 := dk_seg dksJ35_mergeAt_11 22 rfl rfl
theorem dksJ35_mergeAt_13 : cJ35_mergeAt.data.toList.drop 304 = dktJ35_mergeAt_13 := dk_seg dksJ35_mergeAt_12 23 rfl rfl
theorem dksJ35_mergeAt_14 : cJ35_mergeAt.data.toList.drop 327 = dktJ35_mergeAt_14 := dk_seg dksJ35_mergeAt_13 23 rfl rfl
theorem dksJ35_mergeAt_15 : cJ35_mergeAt.data.toList.drop 350 = dktJ35_mergeAt_15 := dk_seg dksJ35_mergeAt_14 23 rfl rfl
theorem dJ35_mergeAt_0 : decode cJ35_mergeAt 0 = .ok (.getstatic 37, 3) := dk_178 0 37 (dk_at dksJ35_mergeAt_0 0 rfl rfl)
theorem dJ35_mergeAt_3 : decode cJ35_mergeAt 3 = .ok (.ifCond .ne 19, 3) := dk_154 0 19 (dk_at dksJ35_mergeAt_0 3 rfl rfl)
theorem dJ35_mergeAt_6 : decode cJ35_mergeAt 6 = .ok (.aload_n 0, 1) := dk_42 (dk_at dksJ35_mergeAt_0 6 rfl rfl)
theorem dJ35_mergeAt_7 : decode cJ35_mergeAt 7 = .ok (.getfield 13, 3) := dk_180 0 13 (dk_at dksJ35_mergeAt_0 7 rfl rfl)
theorem dJ35_mergeAt_10 : decode cJ35_mergeAt 10 = .ok (.iconst 2, 1) := dk_5 (dk_at dksJ35_mergeAt_0 10 rfl rfl)
theorem dJ35_mergeAt_11 : decode cJ35_mergeAt 11 = .ok (.if_icmp .ge 11, 3) := dk_162 0 11 (dk_at dksJ35_mergeAt_0 11 rfl rfl)
theorem dJ35_mergeAt_14 : decode cJ35_mergeAt 14 = .ok (.new 41, 3) := dk_187 0 41 (dk_at dksJ35_mergeAt_0 14 rfl rfl)
theorem dJ35_mergeAt_17 : decode cJ35_mergeAt 17 = .ok (.dup, 1) := dk_89 (dk_at dksJ35_mergeAt_0 17 rfl rfl)
theorem dJ35_mergeAt_18 : decode cJ35_mergeAt 18 = .ok (.invokespecial 43, 3) := dk_183 0 43 (dk_at dksJ35_mergeAt_0 18 rfl rfl)
theorem dJ35_mergeAt_21 : decode cJ35_mergeAt 21 = .ok (.athrow, 1) := dk_191 (dk_at dksJ35_mergeAt_0 21 rfl rfl)
theorem dJ35_mergeAt_22 : decode cJ35_mergeAt 22 = .ok (.getstatic 37, 3) := dk_178 0 37 (dk_at dksJ35_mergeAt_1 0 rfl rfl)
theorem dJ35_mergeAt_25 : decode cJ35_mergeAt 25 = .ok (.ifCond .ne 15, 3) := dk_154 0 15 (dk_at dksJ35_mergeAt_1 3 rfl rfl)
theorem dJ35_mergeAt_28 : decode cJ35_mergeAt 28 = .ok (.iload_n 1, 1) := dk_27 (dk_at dksJ35_mergeAt_1 6 rfl rfl)
theorem dJ35_mergeAt_29 : decode cJ35_mergeAt 29 = .ok (.ifCond .ge 11, 3) := dk_156 0 11 (dk_at dksJ35_mergeAt_1 7 rfl rfl)
theorem dJ35_mergeAt_32 : decode cJ35_mergeAt 32 = .ok (.new 41, 3) := dk_187 0 41 (dk_at dksJ35_mergeAt_1 10 rfl rfl)
theorem dJ35_mergeAt_35 : decode cJ35_mergeAt 35 = .ok (.dup, 1) := dk_89 (dk_at dksJ35_mergeAt_1 13 rfl rfl)
theorem dJ35_mergeAt_36 : decode cJ35_mergeAt 36 = .ok (.invokespecial 43, 3) := dk_183 0 43 (dk_at dksJ35_mergeAt_1 14 rfl rfl)
theorem dJ35_mergeAt_39 : decode cJ35_mergeAt 39 = .ok (.athrow, 1) := dk_191 (dk_at dksJ35_mergeAt_1 17 rfl rfl)
theorem dJ35_mergeAt_40 : decode cJ35_mergeAt 40 = .ok (.getstatic 37, 3) := dk_178 0 37 (dk_at dksJ35_mergeAt_1 18 rfl rfl)
theorem dJ35_mergeAt_43 : decode cJ35_mergeAt 43 = .ok (.ifCond .ne 31, 3) := dk_154 0 31 (dk_at dksJ35_mergeAt_1 21 rfl rfl)
theorem dJ35_mergeAt_46 : decode cJ35_mergeAt 46 = .ok (.iload_n 1, 1) := dk_27 (dk_at dksJ35_mergeAt_2 0 rfl rfl)
theorem dJ35_mergeAt_47 : decode cJ35_mergeAt 47 = .ok (.aload_n 0, 1) := dk_42 (dk_at dksJ35_mergeAt_2 1 rfl rfl)
theorem dJ35_mergeAt_48 : decode cJ35_mergeAt 48 = .ok (.getfield 13, 3) := dk_180 0 13 (dk_at dksJ35_mergeAt_2 2 rfl rfl)
theorem dJ35_mergeAt_51 : decode cJ35_mergeAt 51 = .ok (.iconst 2, 1) := dk_5 (dk_at dksJ35_mergeAt_2 5 rfl rfl)
theorem dJ35_mergeAt_52 : decode cJ35_mergeAt 52 = .ok (.isub, 1) := dk_100 (dk_at dksJ35_mergeAt_2 6 rfl rfl)
theorem dJ35_mergeAt_53 : decode cJ35_mergeAt 53 = .ok (.if_icmp .eq 21, 3) := dk_159 0 21 (dk_at dksJ35_mergeAt_2 7 rfl rfl)
theorem dJ35_mergeAt_56 : decode cJ35_mergeAt 56 = .ok (.iload_n 1, 1) := dk_27 (dk_at dksJ35_mergeAt_2 10 rfl rfl)
theorem dJ35_mergeAt_57 : decode cJ35_mergeAt 57 = .ok (.aload_n 0, 1) := dk_42 (dk_at dksJ35_mergeAt_2 11 rfl rfl)
theorem dJ35_mergeAt_58 : decode cJ35_mergeAt 58 = .ok (.getfield 13, 3) := dk_180 0 13 (dk_at dksJ35_mergeAt_2 12 rfl rfl)
theorem dJ35_mergeAt_61 : decode cJ35_mergeAt 61 = .ok (.iconst 3, 1) := dk_6 (dk_at dksJ35_mergeAt_2 15 rfl rfl)
theorem dJ35_mergeAt_62 : decode cJ35_mergeAt 62 = .ok (.isub, 1) := dk_100 (dk_at dksJ35_mergeAt_2 16 rfl rfl)
theorem dJ35_mergeAt_63 : decode cJ35_mergeAt 63 = .ok (.if_icmp .eq 11, 3) := dk_159 0 11 (dk_at dksJ35_mergeAt_2 17 rfl rfl)
theorem dJ35_mergeAt_66 : decode cJ35_mergeAt 66 = .ok (.new 41, 3) := dk_187 0 41 (dk_at dksJ35_mergeAt_2 20 rfl rfl)
theorem dJ35_mergeAt_69 : decode cJ35_mergeAt 69 = .ok (.dup, 1) := dk_89 (dk_at dksJ35_mergeAt_2 23 rfl rfl)
theorem dJ35_mergeAt_70 : decode cJ35_mergeAt 70 = .ok (.invokespecial 43, 3) := dk_183 0 43 (dk_at dksJ35_mergeAt_3 0 rfl rfl)
theorem dJ35_mergeAt_73 : decode cJ35_mergeAt 73 = .ok (.athrow, 1) := dk_191 (dk_at dksJ35_mergeAt_3 3 rfl rfl)
theorem dJ35_mergeAt_74 : decode cJ35_mergeAt 74 = .ok (.aload_n 0, 1) := dk_42 (dk_at dksJ35_mergeAt_3 4 rfl rfl)
theorem dJ35_mergeAt_75 : decode cJ35_mergeAt 75 = .ok (.getfield 30, 3) := dk_180 0 30 (dk_at dksJ35_mergeAt_3 5 rfl rfl)
theorem dJ35_mergeAt_78 : decode cJ35_mergeAt 78 = .ok (.iload_n 1, 1) := dk_27 (dk_at dksJ35_mergeAt_3 8 rfl rfl)
theorem dJ35_mergeAt_79 : decode cJ35_mergeAt 79 = .ok (.iaload, 1) := dk_46 (dk_at dksJ35_mergeAt_3 9 rfl rfl)
theorem dJ35_mergeAt_80 : decode cJ35_mergeAt 80 = .ok (.istore_n 2, 1) := dk_61 (dk_at dksJ35_mergeAt_3 10 rfl rfl)
theorem dJ35_mergeAt_81 : decode cJ35_mergeAt 81 = .ok (.aload_n 0, 1) := dk_42 (dk_at dksJ35_mergeAt_3 11 rfl rfl)
theorem dJ35_mergeAt_82 : decode cJ35_mergeAt 82 = .ok (.getfield 34, 3) := dk_180 0 34 (dk_at dksJ35_mergeAt_3 12 rfl rfl)
theorem dJ35_mergeAt_85 : decode cJ35_mergeAt 85 = .ok (.iload_n 1, 1) := dk_27 (dk_at dksJ35_mergeAt_3 15 rfl rfl)
theorem dJ35_mergeAt_86 : decode cJ35_mergeAt 86 = .ok (.iaload, 1) := dk_46 (dk_at dksJ35_mergeAt_3 16 rfl rfl)
theorem dJ35_mergeAt_87 : decode cJ35_mergeAt 87 = .ok (.istore_n 3, 1) := dk_62 (dk_at dksJ35_mergeAt_3 17 rfl rfl)
theorem dJ35_mergeAt_88 : decode cJ35_mergeAt 88 = .ok (.aload_n 0, 1) := dk_42 (dk_at dksJ35_mergeAt_3 18 rfl rfl)
theorem dJ35_mergeAt_89 : decode cJ35_mergeAt 89 = .ok (.getfield 30, 3) := dk_180 0 30 (dk_at dksJ35_mergeAt_3 19 rfl rfl)
theorem dJ35_mergeAt_92 : decode cJ35_mergeAt 92 = .ok (.iload_n 1, 1) := dk_27 (dk_at dksJ35_mergeAt_3 22 rfl rfl)
theorem dJ35_mergeAt_93 : decode cJ35_mergeAt 93 = .ok (.iconst 1, 1) := dk_4 (dk_at dksJ35_mergeAt_3 23 rfl rfl)
theorem dJ35_mergeAt_94 : decode cJ35_mergeAt 94 = .ok (.iadd, 1) := dk_96 (dk_at dksJ35_mergeAt_4 0 rfl rfl)
theorem dJ35_mergeAt_95 : decode cJ35_mergeAt 95 = .ok (.iaload, 1) := dk_46 (dk_at dksJ35_mergeAt_4 1 rfl rfl)
theorem dJ35_mergeAt_96 : decode cJ35_mergeAt 96 = .ok (.istore 4, 2) := dk_54 4 (dk_at dksJ35_mergeAt_4 2 rfl rfl)
theorem dJ35_mergeAt_98 : decode cJ35_mergeAt 98 = .ok (.aload_n 0, 1) := dk_42 (dk_at dksJ35_mergeAt_4 4 rfl rfl)
theorem dJ35_mergeAt_99 : decode cJ35_mergeAt 99 = .ok (.getfield 34, 3) := dk_180 0 34 (dk_at dksJ35_mergeAt_4 5 rfl rfl)
theorem dJ35_mergeAt_102 : decode cJ35_mergeAt 102 = .ok (.iload_n 1, 1) := dk_27 (dk_at dksJ35_mergeAt_4 8 rfl rfl)
theorem dJ35_mergeAt_103 : decode cJ35_mergeAt 103 = .ok (.iconst 1, 1) := dk_4 (dk_at dksJ35_mergeAt_4 9 rfl rfl)
theorem dJ35_mergeAt_104 : decode cJ35_mergeAt 104 = .ok (.iadd, 1) := dk_96 (dk_at dksJ35_mergeAt_4 10 rfl rfl)
theorem dJ35_mergeAt_105 : decode cJ35_mergeAt 105 = .ok (.iaload, 1) := dk_46 (dk_at dksJ35_mergeAt_4 11 rfl rfl)
theorem dJ35_mergeAt_106 : decode cJ35_mergeAt 106 = .ok (.istore 5, 2) := dk_54 5 (dk_at dksJ35_mergeAt_4 12 rfl rfl)
theorem dJ35_mergeAt_108 : decode cJ35_mergeAt 108 = .ok (.getstatic 37, 3) := dk_178 0 37 (dk_at dksJ35_mergeAt_4 14 rfl rfl)
theorem dJ35_mergeAt_111 : decode cJ35_mergeAt 111 = .ok (.ifCond .ne 20, 3) := dk_154 0 20 (dk_at dksJ35_mergeAt_4 17 rfl rfl)
theorem dJ35_mergeAt_114 : decode cJ35_mergeAt 114 = .ok (.iload_n 3, 1) := dk_29 (dk_at dksJ35_mergeAt_4 20 rfl rfl)
theorem dJ35_mergeAt_115 : decode cJ35_mergeAt 115 = .ok (.ifCond .le 8, 3) := dk_158 0 8 (dk_at dksJ35_mergeAt_4 21 rfl rfl)
theorem dJ35_mergeAt_118 : decode cJ35_mergeAt 118 = .ok (.iload 5, 2) := dk_21 5 (dk_at dksJ35_mergeAt_5 0 rfl rfl)
theorem dJ35_mergeAt_120 : decode cJ35_mergeAt 120 = .ok (.ifCond .gt 11, 3) := dk_157 0 11 (dk_at dksJ35_mergeAt_5 2 rfl rfl)
theorem dJ35_mergeAt_123 : decode cJ35_mergeAt 123 = .ok (.new 41, 3) := dk_187 0 41 (dk_at dksJ35_mergeAt_5 5 rfl rfl)
theorem dJ35_mergeAt_126 : decode cJ35_mergeAt 126 = .ok (.dup, 1) := dk_89 (dk_at dksJ35_mergeAt_5 8 rfl rfl)
theorem dJ35_mergeAt_127 : decode cJ35_mergeAt 127 = .ok (.invokespecial 43, 3) := dk_183 0 43 (dk_at dksJ35_mergeAt_5 9 rfl rfl)
theorem dJ35_mergeAt_130 : decode cJ35_mergeAt 130 = .ok (.athrow, 1) := dk_191 (dk_at dksJ35_mergeAt_5 12 rfl rfl)
theorem dJ35_mergeAt_131 : decode cJ35_mergeAt 131 = .ok (.getstatic 37, 3) := dk_178 0 37 (dk_at dksJ35_mergeAt_5 13 rfl rfl)
theorem dJ35_mergeAt_134 : decode cJ35_mergeAt 134 = .ok (.ifCond .ne 19, 3) := dk_154 0 19 (dk_at dksJ35_mergeAt_5 16 rfl rfl)
theorem dJ35_mergeAt_137 : decode cJ35_mergeAt 137 = .ok (.iload_n 2, 1) := dk_28 (dk_at dksJ35_mergeAt_5 19 rfl rfl)
theorem dJ35_mergeAt_138 : decode cJ35_mergeAt 138 = .ok (.iload_n 3, 1) := dk_29 (dk_at dksJ35_mergeAt_5 20 rfl rfl)
theorem dJ35_mergeAt_139 : decode cJ35_mergeAt 139 = .ok (.iadd, 1) := dk_96 (dk_at dksJ35_mergeAt_5 21 rfl rfl)
theorem dJ35_mergeAt_140 : decode cJ35_mergeAt 140 = .ok (.iload 4, 2) := dk_21 4 (dk_at dksJ35_mergeAt_5 22 rfl rfl)
theorem dJ35_mergeAt_142 : decode cJ35_mergeAt 142 = .ok (.if_icmp .eq 11, 3) := dk_159 0 11 (dk_at dksJ35_mergeAt_6 0 rfl rfl)
theorem dJ35_mergeAt_145 : decode cJ35_mergeAt 145 = .ok (.new 41, 3) := dk_187 0 41 (dk_at dksJ35_mergeAt_6 3 rfl rfl)
theorem dJ35_mergeAt_148 : decode cJ35_mergeAt 148 = .ok (.dup, 1) := dk_89 (dk_at dksJ35_mergeAt_6 6 rfl rfl)
theorem dJ35_mergeAt_149 : decode cJ35_mergeAt 149 = .ok (.invokespecial 43, 3) := dk_183 0 43 (dk_at dksJ35_mergeAt_6 7 rfl rfl)
theorem dJ35_mergeAt_152 : decode cJ35_mergeAt 152 = .ok (.athrow, 1) := dk_191 (dk_at dksJ35_mergeAt_6 10 rfl rfl)
theorem dJ35_mergeAt_153 : decode cJ35_mergeAt 153 = .ok (.aload_n 0, 1) := dk_42 (dk_at dksJ35_mergeAt_6 11 rfl rfl)
theorem dJ35_mergeAt_154 : decode cJ35_mergeAt 154 = .ok (.getfield 34, 3) := dk_180 0 34 (dk_at dksJ35_mergeAt_6 12 rfl rfl)
theorem dJ35_mergeAt_157 : decode cJ35_mergeAt 157 = .ok (.iload_n 1, 1) := dk_27 (dk_at dksJ35_mergeAt_6 15 rfl rfl)
theorem dJ35_mergeAt_158 : decode cJ35_mergeAt 158 = .ok (.iload_n 3, 1) := dk_29 (dk_at dksJ35_mergeAt_6 16 rfl rfl)
theorem dJ35_mergeAt_159 : decode cJ35_mergeAt 159 = .ok (.iload 5, 2) := dk_21 5 (dk_at dksJ35_mergeAt_6 17 rfl rfl)
theorem dJ35_mergeAt_161 : decode cJ35_mergeAt 161 = .ok (.iadd, 1) := dk_96 (dk_at dksJ35_mergeAt_6 19 rfl rfl)
theorem dJ35_mergeAt_162 : decode cJ35_mergeAt 162 = .ok (.iastore, 1) := dk_79 (dk_at dksJ35_mergeAt_6 20 rfl rfl)
theorem dJ35_mergeAt_163 : decode cJ35_mergeAt 163 = .ok (.iload_n 1, 1) := dk_27 (dk_at dksJ35_mergeAt_6 21 rfl rfl)
theorem dJ35_mergeAt_164 : decode cJ35_mergeAt 164 = .ok (.aload_n 0, 1) := dk_42 (dk_at dksJ35_mergeAt_6 22 rfl rfl)
theorem dJ35_mergeAt_165 : decode cJ35_mergeAt 165 = .ok (.getfield 13, 3) := dk_180 0 13 (dk_at dksJ35_mergeAt_7 0 rfl rfl)
theorem dJ35_mergeAt_168 : decode cJ35_mergeAt 168 = .ok (.iconst 3, 1) := dk_6 (dk_at dksJ35_mergeAt_7 3 rfl rfl)
theorem dJ35_mergeAt_169 : decode cJ35_mergeAt 169 = .ok (.isub, 1) := dk_100 (dk_at dksJ35_mergeAt_7 4 rfl rfl)
theorem dJ35_mergeAt_170 : decode cJ35_mergeAt 170 = .ok (.if_icmp .ne 35, 3) := dk_160 0 35 (dk_at dksJ35_mergeAt_7 5 rfl rfl)
theorem dJ35_mergeAt_173 : decode cJ35_mergeAt 173 = .ok (.aload_n 0, 1) := dk_42 (dk_at dksJ35_mergeAt_7 8 rfl rfl)
theorem dJ35_mergeAt_174 : decode cJ35_mergeAt 174 = .ok (.getfield 30, 3) := dk_180 0 30 (dk_at dksJ35_mergeAt_7 9 rfl rfl)
theorem dJ35_mergeAt_177 : decode cJ35_mergeAt 177 = .ok (.iload_n 1, 1) := dk_27 (dk_at dksJ35_mergeAt_7 12 rfl rfl)
theorem dJ35_mergeAt_178 : decode cJ35_mergeAt 178 = .ok (.iconst 1, 1) := dk_4 (dk_at dksJ35_mergeAt_7 13 rfl rfl)
theorem dJ35_mergeAt_179 : decode cJ35_mergeAt 179 = .ok (.iadd, 1) := dk_96 (dk_at dksJ35_mergeAt_7 14 rfl rfl)
theorem dJ35_mergeAt_180 : decode cJ35_mergeAt 180 = .ok (.aload_n 0, 1) := dk_42 (dk_at dksJ35_mergeAt_7 15 rfl rfl)
theorem dJ35_mergeAt_181 : decode cJ35_mergeAt 181 = .ok (.getfield 30, 3) := dk_180 0 30 (dk_at dksJ35_mergeAt_7 16 rfl rfl)
theorem dJ35_mergeAt_184 : decode cJ35_mergeAt 184 = .ok (.iload_n 1, 1) := dk_27 (dk_at dksJ35_mergeAt_7 19 rfl rfl)
theorem dJ35_mergeAt_185 : decode cJ35_mergeAt 185 = .ok (.iconst 2, 1) := dk_5 (dk_at dksJ35_mergeAt_7 20 rfl rfl)
theorem dJ35_mergeAt_186 : decode cJ35_mergeAt 186 = .ok (.iadd, 1) := dk_96 (dk_at dksJ35_mergeAt_7 21 rfl rfl)
theorem dJ35_mergeAt_187 : decode cJ35_mergeAt 187 = .ok (.iaload, 1) := dk_46 (dk_at dksJ35_mergeAt_7 22 rfl rfl)
theorem dJ35_mergeAt_188 : decode cJ35_mergeAt 188 = .ok (.iastore, 1) := dk_79 (dk_at dksJ35_mergeAt_7 23 rfl rfl)
theorem dJ35_mergeAt_189 : decode cJ35_mergeAt 189 = .ok (.aload_n 0, 1) := dk_42 (dk_at dksJ35_mergeAt_8 0 rfl rfl)
theorem dJ35_mergeAt_190 : decode cJ35_mergeAt 190 = .ok (.getfield 34, 3) := dk_180 0 34 (dk_at dksJ35_mergeAt_8 1 rfl rfl)
theorem dJ35_mergeAt_193 : decode cJ35_mergeAt 193 = .ok (.iload_n 1, 1) := dk_27 (dk_at dksJ35_mergeAt_8 4 rfl rfl)
theorem dJ35_mergeAt_194 : decode cJ35_mergeAt 194 = .ok (.iconst 1, 1) := dk_4 (dk_at dksJ35_mergeAt_8 5 rfl rfl)
theorem dJ35_mergeAt_195 : decode cJ35_mergeAt 195 = .ok (.iadd, 1) := dk_96 (dk_at dksJ35_mergeAt_8 6 rfl rfl)
theorem dJ35_mergeAt_196 : decode cJ35_mergeAt 196 = .ok (.aload_n 0, 1) := dk_42 (dk_at dksJ35_mergeAt_8 7 rfl rfl)
theorem dJ35_mergeAt_197 : decode cJ35_mergeAt 197 = .ok (.getfield 34, 3) := dk_180 0 34 (dk_at dksJ35_mergeAt_8 8 rfl rfl)
theorem dJ35_mergeAt_200 : decode cJ35_mergeAt 200 = .ok (.iload_n 1, 1) := dk_27 (dk_at dksJ35_mergeAt_8 11 rfl rfl)
theorem dJ35_mergeAt_201 : decode cJ35_mergeAt 201 = .ok (.iconst 2, 1) := dk_5 (dk_at dksJ35_mergeAt_8 12 rfl rfl)
theorem dJ35_mergeAt_202 : decode cJ35_mergeAt 202 = .ok (.iadd, 1) := dk_96 (dk_at dksJ35_mergeAt_8 13 rfl rfl)
theorem dJ35_mergeAt_203 : decode cJ35_mergeAt 203 = .ok (.iaload, 1) := dk_46 (dk_at dksJ35_mergeAt_8 14 rfl rfl)
theorem dJ35_mergeAt_204 : decode cJ35_mergeAt 204 = .ok (.iastore, 1) := dk_79 (dk_at dksJ35_mergeAt_8 15 rfl rfl)
theorem dJ35_mergeAt_205 : decode cJ35_mergeAt 205 = .ok (.aload_n 0, 1) := dk_42 (dk_at dksJ35_mergeAt_8 16 rfl rfl)
theorem dJ35_mergeAt_206 : decode cJ35_mergeAt 206 = .ok (.dup, 1) := dk_89 (dk_at dksJ35_mergeAt_8 17 rfl rfl)
theorem dJ35_mergeAt_207 : decode cJ35_mergeAt 207 = .ok (.getfield 13, 3) := dk_180 0 13 (dk_at dksJ35_mergeAt_8 18 rfl rfl)
theorem dJ35_mergeAt_210 : decode cJ35_mergeAt 210 = .ok (.iconst 1, 1) := dk_4 (dk_at dksJ35_mergeAt_8 21 rfl rfl)
theorem dJ35_mergeAt_211 : decode cJ35_mergeAt 211 = .ok (.isub, 1) := dk_100 (dk_at dksJ35_mergeAt_8 22 rfl rfl)
theorem dJ35_mergeAt_212 : decode cJ35_mergeAt 212 = .ok (.putfield 13, 3) := dk_181 0 13 (dk_at dksJ35_mergeAt_9 0 rfl rfl)
theorem dJ35_mergeAt_215 : decode cJ35_mergeAt 215 = .ok (.aload_n 0, 1) := dk_42 (dk_at dksJ35_mergeAt_9 3 rfl rfl)
theorem dJ35_mergeAt_216 : decode cJ35_mergeAt 216 = .ok (.getfield 16, 3) := dk_180 0 16 (dk_at dksJ35_mergeAt_9 4 rfl rfl)
theorem dJ35_mergeAt_219 : decode cJ35_mergeAt 219 = .ok (.iload 4, 2) := dk_21 4 (dk_at dksJ35_mergeAt_9 7 rfl rfl)
theorem dJ35_mergeAt_221 : decode cJ35_mergeAt 221 = .ok (.aaload, 1) := dk_50 (dk_at dksJ35_mergeAt_9 9 rfl rfl)
theorem dJ35_mergeAt_222 : decode cJ35_mergeAt 222 = .ok (.checkcast 69, 3) := dk_192 0 69 (dk_at dksJ35_mergeAt_9 10 rfl rfl)
theorem dJ35_mergeAt_225 : decode cJ35_mergeAt 225 = .ok (.aload_n 0, 1) := dk_42 (dk_at dksJ35_mergeAt_9 13 rfl rfl)
theorem dJ35_mergeAt_226 : decode cJ35_mergeAt 226 = .ok (.getfield 16, 3) := dk_180 0 16 (dk_at dksJ35_mergeAt_9 14 rfl rfl)
theorem dJ35_mergeAt_229 : decode cJ35_mergeAt 229 = .ok (.iload_n 2, 1) := dk_28 (dk_at dksJ35_mergeAt_9 17 rfl rfl)
theorem dJ35_mergeAt_230 : decode cJ35_mergeAt 230 = .ok (.iload_n 3, 1) := dk_29 (dk_at dksJ35_mergeAt_9 18 rfl rfl)
theorem dJ35_mergeAt_231 : decode cJ35_mergeAt 231 = .ok (.iconst 0, 1) := dk_3 (dk_at dksJ35_mergeAt_9 19 rfl rfl)
theorem dJ35_mergeAt_232 : decode cJ35_mergeAt 232 = .ok (.invokestatic 89, 3) := dk_184 0 89 (dk_at dksJ35_mergeAt_9 20 rfl rfl)
theorem dJ35_mergeAt_235 : decode cJ35_mergeAt 235 = .ok (.istore 6, 2) := dk_54 6 (dk_at dksJ35_mergeAt_10 0 rfl rfl)
theorem dJ35_mergeAt_237 : decode cJ35_mergeAt 237 = .ok (.getstatic 37, 3) := dk_178 0 37 (dk_at dksJ35_mergeAt_10 2 rfl rfl)
theorem dJ35_mergeAt_240 : decode cJ35_mergeAt 240 = .ok (.ifCond .ne 16, 3) := dk_154 0 16 (dk_at dksJ35_mergeAt_10 5 rfl rfl)
theorem dJ35_mergeAt_243 : decode cJ35_mergeAt 243 = .ok (.iload 6, 2) := dk_21 6 (dk_at dksJ35_mergeAt_10 8 rfl rfl)
theorem dJ35_mergeAt_245 : decode cJ35_mergeAt 245 = .ok (.ifCond .ge 11, 3) := dk_156 0 11 (dk_at dksJ35_mergeAt_10 10 rfl rfl)
theorem dJ35_mergeAt_248 : decode cJ35_mergeAt 248 = .ok (.new 41, 3) := dk_187 0 41 (dk_at dksJ35_mergeAt_10 13 rfl rfl)
theorem dJ35_mergeAt_251 : decode cJ35_mergeAt 251 = .ok (.dup, 1) := dk_89 (dk_at dksJ35_mergeAt_10 16 rfl rfl)
theorem dJ35_mergeAt_252 : decode cJ35_mergeAt 252 = .ok (.invokespecial 43, 3) := dk_183 0 43 (dk_at dksJ35_mergeAt_10 17 rfl rfl)
theorem dJ35_mergeAt_255 : decode cJ35_mergeAt 255 = .ok (.athrow, 1) := dk_191 (dk_at dksJ35_mergeAt_10 20 rfl rfl)
theorem dJ35_mergeAt_256 : decode cJ35_mergeAt 256 = .ok (.iload_n 2, 1) := dk_28 (dk_at dksJ35_mergeAt_10 21 rfl rfl)
theorem dJ35_mergeAt_257 : decode cJ35_mergeAt 257 = .ok (.iload 6, 2) := dk_21 6 (dk_at dksJ35_mergeAt_10 22 rfl rfl)
theorem dJ35_mergeAt_259 : decode cJ35_mergeAt 259 = .ok (.iadd, 1) := dk_96 (dk_at dksJ35_mergeAt_11 0 rfl rfl)
theorem dJ35_mergeAt_260 : decode cJ35_mergeAt 260 = .ok (.istore_n 2, 1) := dk_61 (dk_at dksJ35_mergeAt_11 1 rfl rfl)
theorem dJ35_mergeAt_261 : decode cJ35_mergeAt 261 = .ok (.iload_n 3, 1) := dk_29 (dk_at dksJ35_mergeAt_11 2 rfl rfl)
theorem dJ35_mergeAt_262 : decode cJ35_mergeAt 262 = .ok (.iload 6, 2) := dk_21 6 (dk_at dksJ35_mergeAt_11 3 rfl rfl)
theorem dJ35_mergeAt_264 : decode cJ35_mergeAt 264 = .ok (.isub, 1) := dk_100 (dk_at dksJ35_mergeAt_11 5 rfl rfl)
theorem dJ35_mergeAt_265 : decode cJ35_mergeAt 265 = .ok (.istore_n 3, 1) := dk_62 (dk_at dksJ35_mergeAt_11 6 rfl rfl)
theorem dJ35_mergeAt_266 : decode cJ35_mergeAt 266 = .ok (.iload_n 3, 1) := dk_29 (dk_at dksJ35_mergeAt_11 7 rfl rfl)
theorem dJ35_mergeAt_267 : decode cJ35_mergeAt 267 = .ok (.ifCond .ne 4, 3) := dk_154 0 4 (dk_at dksJ35_mergeAt_11 8 rfl rfl)
theorem dJ35_mergeAt_270 : decode cJ35_mergeAt 270 = .ok (.return_, 1) := dk_177 (dk_at dksJ35_mergeAt_11 11 rfl rfl)
theorem dJ35_mergeAt_271 : decode cJ35_mergeAt 271 = .ok (.aload_n 0, 1) := dk_42 (dk_at dksJ35_mergeAt_11 12 rfl rfl)
theorem dJ35_mergeAt_272 : decode cJ35_mergeAt 272 = .ok (.getfield 16, 3) := dk_180 0 16 (dk_at dksJ35_mergeAt_11 13 rfl rfl)
theorem dJ35_mergeAt_275 : decode cJ35_mergeAt 275 = .ok (.iload_n 2, 1) := dk_28 (dk_at dksJ35_mergeAt_11 16 rfl rfl)
theorem dJ35_mergeAt_276 : decode cJ35_mergeAt 276 = .ok (.iload_n 3, 1) := dk_29 (dk_at dksJ35_mergeAt_11 17 rfl rfl)
theorem dJ35_mergeAt_277 : decode cJ35_mergeAt 277 = .ok (.iadd, 1) := dk_96 (dk_at dksJ35_mergeAt_11 18 rfl rfl)
theorem dJ35_mergeAt_278 : decode cJ35_mergeAt 278 = .ok (.iconst 1, 1) := dk_4 (dk_at dksJ35_mergeAt_11 19 rfl rfl)
theorem dJ35_mergeAt_279 : decode cJ35_mergeAt 279 = .ok (.isub, 1) := dk_100 (dk_at dksJ35_mergeAt_11 20 rfl rfl)
theorem dJ35_mergeAt_280 : decode cJ35_mergeAt 280 = .ok (.aaload, 1) := dk_50 (dk_at dksJ35_mergeAt_11 21 rfl rfl)
theorem dJ35_mergeAt_281 : decode cJ35_mergeAt 281 = .ok (.checkcast 69, 3) := dk_192 0 69 (dk_at dksJ35_mergeAt_12 0 rfl rfl)
theorem dJ35_mergeAt_284 : decode cJ35_mergeAt 284 = .ok (.aload_n 0, 1) := dk_42 (dk_at dksJ35_mergeAt_12 3 rfl rfl)
theorem dJ35_mergeAt_285 : decode cJ35_mergeAt 285 = .ok (.getfield 16, 3) := dk_180 0 16 (dk_at dksJ35_mergeAt_12 4 rfl rfl)
theorem dJ35_mergeAt_288 : decode cJ35_mergeAt 288 = .ok (.iload 4, 2) := dk_21 4 (dk_at dksJ35_mergeAt_12 7 rfl rfl)
theorem dJ35_mergeAt_290 : decode cJ35_mergeAt 290 = .ok (.iload 5, 2) := dk_21 5 (dk_at dksJ35_mergeAt_12 9 rfl rfl)
theorem dJ35_mergeAt_292 : decode cJ35_mergeAt 292 = .ok (.iload 5, 2) := dk_21 5 (dk_at dksJ35_mergeAt_12 11 rfl rfl)
theorem dJ35_mergeAt_294 : decode cJ35_mergeAt 294 = .ok (.iconst 1, 1) := dk_4 (dk_at dksJ35_mergeAt_12 13 rfl rfl)
theorem dJ35_mergeAt_295 : decode cJ35_mergeAt 295 = .ok (.isub, 1) := dk_100 (dk_at dksJ35_mergeAt_12 14 rfl rfl)
theorem dJ35_mergeAt_296 : decode cJ35_mergeAt 296 = .ok (.invokestatic 93, 3) := dk_184 0 93 (dk_at dksJ35_mergeAt_12 15 rfl rfl)
theorem dJ35_mergeAt_299 : decode cJ35_mergeAt 299 = .ok (.istore 5, 2) := dk_54 5 (dk_at dksJ35_mergeAt_12 18 rfl rfl)
theorem dJ35_mergeAt_301 : decode cJ35_mergeAt 301 = .ok (.getstatic 37, 3) := dk_178 0 37 (dk_at dksJ35_mergeAt_12 20 rfl rfl)
theorem dJ35_mergeAt_304 : decode cJ35_mergeAt 304 = .ok (.ifCond .ne 16, 3) := dk_154 0 16 (dk_at dksJ35_mergeAt_13 0 rfl rfl)
theorem dJ35_mergeAt_307 : decode cJ35_mergeAt 307 = .ok (.iload 5, 2) := dk_21 5 (dk_at dksJ35_mergeAt_13 3 rfl rfl)
theorem dJ35_mergeAt_309 : decode cJ35_mergeAt 309 = .ok (.ifCond .ge 11, 3) := dk_156 0 11 (dk_at dksJ35_mergeAt_13 5 rfl rfl)
theorem dJ35_mergeAt_312 : decode cJ35_mergeAt 312 = .ok (.new 41, 3) := dk_187 0 41 (dk_at dksJ35_mergeAt_13 8 rfl rfl)
theorem dJ35_mergeAt_315 : decode cJ35_mergeAt 315 = .ok (.dup, 1) := dk_89 (dk_at dksJ35_mergeAt_13 11 rfl rfl)
theorem dJ35_mergeAt_316 : decode cJ35_mergeAt 316 = .ok (.invokespecial 43, 3) := dk_183 0 43 (dk_at dksJ35_mergeAt_13 12 rfl rfl)
theorem dJ35_mergeAt_319 : decode cJ35_mergeAt 319 = .ok (.athrow, 1) := dk_191 (dk_at dksJ35_mergeAt_13 15 rfl rfl)
theorem dJ35_mergeAt_320 : decode cJ35_mergeAt 320 = .ok (.iload 5, 2) := dk_21 5 (dk_at dksJ35_mergeAt_13 16 rfl rfl)
theorem dJ35_mergeAt_322 : decode cJ35_mergeAt 322 = .ok (.ifCond .ne 4, 3) := dk_154 0 4 (dk_at dksJ35_mergeAt_13 18 rfl rfl)
theorem dJ35_mergeAt_325 : decode cJ35_mergeAt 325 = .ok (.return_, 1) := dk_177 (dk_at dksJ35_mergeAt_13 21 rfl rfl)
theorem dJ35_mergeAt_326 : decode cJ35_mergeAt 326 = .ok (.iload_n 3, 1) := dk_29 (dk_at dksJ35_mergeAt_13 22 rfl rfl)
theorem dJ35_mergeAt_327 : decode cJ35_mergeAt 327 = .ok (.iload 5, 2) := dk_21 5 (dk_at dksJ35_mergeAt_14 0 rfl rfl)
theorem dJ35_mergeAt_329 : decode cJ35_mergeAt 329 = .ok (.if_icmp .gt 16, 3) := dk_163 0 16 (dk_at dksJ35_mergeAt_14 2 rfl rfl)
theorem dJ35_mergeAt_332 : decode cJ35_mergeAt 332 = .ok (.aload_n 0, 1) := dk_42 (dk_at dksJ35_mergeAt_14 5 rfl rfl)
theorem dJ35_mergeAt_333 : decode cJ35_mergeAt 333 = .ok (.iload_n 2, 1) := dk_28 (dk_at dksJ35_mergeAt_14 6 rfl rfl)
theorem dJ35_mergeAt_334 : decode cJ35_mergeAt 334 = .ok (.iload_n 3, 1) := dk_29 (dk_at dksJ35_mergeAt_14 7 rfl rfl)
theorem dJ35_mergeAt_335 : decode cJ35_mergeAt 335 = .ok (.iload 4, 2) := dk_21 4 (dk_at dksJ35_mergeAt_14 8 rfl rfl)
theorem dJ35_mergeAt_337 : decode cJ35_mergeAt 337 = .ok (.iload 5, 2) := dk_21 5 (dk_at dksJ35_mergeAt_14 10 rfl rfl)
theorem dJ35_mergeAt_339 : decode cJ35_mergeAt 339 = .ok (.invokevirtual 96, 3) := dk_182 0 96 (dk_at dksJ35_mergeAt_14 12 rfl rfl)
theorem dJ35_mergeAt_342 : decode cJ35_mergeAt 342 = .ok (.goto 13, 3) := dk_167 0 13 (dk_at dksJ35_mergeAt_14 15 rfl rfl)
theorem dJ35_mergeAt_345 : decode cJ35_mergeAt 345 = .ok (.aload_n 0, 1) := dk_42 (dk_at dksJ35_mergeAt_14 18 rfl rfl)
theorem dJ35_mergeAt_346 : decode cJ35_mergeAt 346 = .ok (.iload_n 2, 1) := dk_28 (dk_at dksJ35_mergeAt_14 19 rfl rfl)
theorem dJ35_mergeAt_347 : decode cJ35_mergeAt 347 = .ok (.iload_n 3, 1) := dk_29 (dk_at dksJ35_mergeAt_14 20 rfl rfl)
theorem dJ35_mergeAt_348 : decode cJ35_mergeAt 348 = .ok (.iload 4, 2) := dk_21 4 (dk_at dksJ35_mergeAt_14 21 rfl rfl)
theorem dJ35_mergeAt_350 : decode cJ35_mergeAt 350 = .ok (.iload 5, 2) := dk_21 5 (dk_at dksJ35_mergeAt_15 0 rfl rfl)
theorem dJ35_mergeAt_352 : decode cJ35_mergeAt 352 = .ok (.invokevirtual 100, 3) := dk_182 0 100 (dk_at dksJ35_mergeAt_15 2 rfl rfl)
theorem dJ35_mergeAt_355 : decode cJ35_mergeAt 355 = .ok (.return_, 1) := dk_177 (dk_at dksJ35_mergeAt_15 5 rfl rfl)
abbrev cJ35_gallopRight : ByteArray := prog_62_method_12_code
def yJ35_gallopRight : MethodName := ⟨RJ35, "gallopRight", "(Ljava/lang/Comparable;[Ljava/lang/Object;III)I"⟩
def dkwJ35_gallopRight_13 : List UInt8 := [154, 0, 18, 21, 6, 21, 5, 159, 0, 11, 187, 0, 41, 89, 183, 0, 43, 191, 21, 5, 172]
abbrev dktJ35_gallopRight_13 : List UInt8 := dkwJ35_gallopRight_13 ++ []
def dkwJ35_gallopRight_12 : List UInt8 := [156, 0, 10, 21, 7, 54, 5, 167, 0, 9, 21, 7, 4, 96, 54, 6, 167, 255, 209, 178, 0, 37]
abbrev dktJ35_gallopRight_12 : List UInt8 := dkwJ35_gallopRight_12 ++ dktJ35_gallopRight_13
def dkwJ35_gallopRight_11 : List UInt8 := [21, 6, 21, 5, 21, 6, 100, 4, 124, 96, 54, 7, 42, 43, 28, 21, 7, 96, 50, 185, 0, 71, 2, 0]
abbrev dktJ35_gallopRight_11 : List UInt8 := dkwJ35_gallopRight_11 ++ dktJ35_gallopRight_12
def dkwJ35_gallopRight_10 : List UInt8 := [21, 5, 29, 164, 0, 11, 187, 0, 41, 89, 183, 0, 43, 191, 132, 6, 1, 21, 6, 21, 5, 162, 0, 46]
abbrev dktJ35_gallopRight_10 : List UInt8 := dkwJ35_gallopRight_10 ++ dktJ35_gallopRight_11
def dkwJ35_gallopRight_9 : List UInt8 := [21, 4, 96, 54, 5, 178, 0, 37, 154, 0, 30, 2, 21, 6, 163, 0, 16, 21, 6, 21, 5, 162, 0, 9]
abbrev dktJ35_gallopRight_9 : List UInt8 := dkwJ35_gallopRight_9 ++ dktJ35_gallopRight_10
def dkwJ35_gallopRight_8 : List UInt8 := [167, 255, 210, 21, 5, 21, 7, 164, 0, 7, 21, 7, 54, 5, 21, 6, 21, 4, 96, 54, 6, 21, 5]
abbrev dktJ35_gallopRight_8 : List UInt8 := dkwJ35_gallopRight_8 ++ dktJ35_gallopRight_9
def dkwJ35_gallopRight_7 : List UInt8 := [155, 0, 27, 21, 5, 54, 6, 21, 5, 4, 120, 4, 96, 54, 5, 21, 5, 157, 255, 217, 21, 7, 54, 5]
abbrev dktJ35_gallopRight_7 : List UInt8 := dkwJ35_gallopRight_7 ++ dktJ35_gallopRight_8
def dkwJ35_gallopRight_6 : List UInt8 := [54, 7, 21, 5, 21, 7, 162, 0, 45, 42, 43, 28, 21, 4, 96, 21, 5, 96, 50, 185, 0, 71, 2, 0]
abbrev dktJ35_gallopRight_6 : List UInt8 := dkwJ35_gallopRight_6 ++ dktJ35_gallopRight_7
def dkwJ35_gallopRight_5 : List UInt8 := [54, 8, 21, 4, 21, 5, 100, 54, 6, 21, 4, 21, 8, 100, 54, 5, 167, 0, 83, 29, 21, 4, 100]
abbrev dktJ35_gallopRight_5 : List UInt8 := dkwJ35_gallopRight_5 ++ dktJ35_gallopRight_6
def dkwJ35_gallopRight_4 : List UInt8 := [157, 255, 217, 21, 7, 54, 5, 167, 255, 210, 21, 5, 21, 7, 164, 0, 7, 21, 7, 54, 5, 21, 6]
abbrev dktJ35_gallopRight_4 : List UInt8 := dkwJ35_gallopRight_4 ++ dktJ35_gallopRight_5
def dkwJ35_gallopRight_3 : List UInt8 := [100, 50, 185, 0, 71, 2, 0, 156, 0, 27, 21, 5, 54, 6, 21, 5, 4, 120, 4, 96, 54, 5, 21, 5]
abbrev dktJ35_gallopRight_3 : List UInt8 := dkwJ35_gallopRight_3 ++ dktJ35_gallopRight_4
def dkwJ35_gallopRight_2 : List UInt8 := [156, 0, 90, 21, 4, 4, 96, 54, 7, 21, 5, 21, 7, 162, 0, 45, 42, 43, 28, 21, 4, 96, 21, 5]
abbrev dktJ35_gallopRight_2 : List UInt8 := dkwJ35_gallopRight_2 ++ dktJ35_gallopRight_3
def dkwJ35_gallopRight_1 : List UInt8 := [89, 183, 0, 43, 191, 4, 54, 5, 3, 54, 6, 42, 43, 28, 21, 4, 96, 50, 185, 0, 71, 2, 0]
abbrev dktJ35_gallopRight_1 : List UInt8 := dkwJ35_gallopRight_1 ++ dktJ35_gallopRight_2
def dkwJ35_gallopRight_0 : List UInt8 := [178, 0, 37, 154, 0, 26, 29, 158, 0, 14, 21, 4, 155, 0, 9, 21, 4, 29, 161, 0, 11, 187, 0, 41]
abbrev dktJ35_gallopRight_0 : List UInt8 := dkwJ35_gallopRight_0 ++ dktJ35_gallopRight_1
theorem dksJ35_gallopRight_0 : cJ35_gallopRight.data.toList.drop 0 = dktJ35_gallopRight_0 := by decide +kernel
theorem dksJ35_gallopRight_1 : cJ35_gallopRight.data.toList.drop 24 = dktJ35_gallopRight_1 := dk_seg dksJ35_gallopRight_0 24 rfl rfl
theorem dksJ35_gallopRight_2 : cJ35_gallopRight.data.toList.drop 47 = dktJ35_gallopRight_2 := dk_seg dksJ35_gallopRight_1 23 rfl rfl
theorem dksJ35_gallopRight_3 : cJ35_gallopRight.data.toList.drop 71 = dktJ35_gallopRight_3 := dk_seg dksJ35_gallopRight_2 24 rfl rfl
theorem dksJ35_gallopRight_4 : cJ35_gallopRight.data.toList.drop 95 = dktJ35_gallopRight_4 := dk_seg dksJ35_gallopRight_3 24 rfl rfl
theorem dksJ35_gallopRight_5 : cJ35_gallopRight.data.toList.drop 118 = dktJ35_gallopRight_5 := dk_seg dksJ35_gallopRight_4 23 rfl rfl
theorem dksJ35_gallopRight_6 : cJ35_gallopRight.data.toList.drop 141 = dktJ35_gallopRight_6 := dk_seg dksJ35_gallopRight_5 23 rfl rfl
theorem dksJ35_gallopRight_7 : cJ35_gallopRight.data.toList.drop 165 = dktJ35_gallopRight_7 := dk_seg dksJ35_gallopRight_6 24 rfl rfl
theorem dksJ35_gallopRight_8 : cJ35_gallopRight.data.toList.drop 189 = dktJ35_gallopRight_8 := dk_seg dksJ35_gallopRight_7 24 rfl rfl
theorem dksJ35_gallopRight_9 : cJ35_gallopRight.data.toList.drop 212 = dktJ35_gallopRight_9 := dk_seg dksJ35_gallopRight_8 23 rfl rfl
theorem dksJ35_gallopRight_10 : cJ35_gallopRight.data.toList.drop 236 = dktJ35_gallopRight_10 := dk_seg dksJ35_gallopRight_9 24 rfl rfl
theorem dksJ35_gallopRight_11 : cJ35_gallopRight.data.toList.drop 260 = dktJ35_gallopRight_11 := dk_seg dksJ35_gallopRight_10 24 rfl rfl
theorem dksJ35_gallopRight_12 : cJ35_gallopRight.data.toList.drop 284 = dktJ35_gallopRight_12 := dk_seg dksJ35_gallopRight_11 24 rfl rfl
theorem dksJ35_gallopRight_13 : cJ35_gallopRight.data.toList.drop 306 = dktJ35_gallopRight_13 := dk_seg dksJ35_gallopRight_12 22 rfl rfl
theorem dJ35_gallopRight_0 : decode cJ35_gallopRight 0 = .ok (.getstatic 37, 3) := dk_178 0 37 (dk_at dksJ35_gallopRight_0 0 rfl rfl)
theorem dJ35_gallopRight_3 : decode cJ35_gallopRight 3 = .ok (.ifCond .ne 26, 3) := dk_154 0 26 (dk_at dksJ35_gallopRight_0 3 rfl rfl)
theorem dJ35_gallopRight_6 : decode cJ35_gallopRight 6 = .ok (.iload_n 3, 1) := dk_29 (dk_at dksJ35_gallopRight_0 6 rfl rfl)
theorem dJ35_gallopRight_7 : decode cJ35_gallopRight 7 = .ok (.ifCond .le 14, 3) := dk_158 0 14 (dk_at dksJ35_gallopRight_0 7 rfl rfl)
theorem dJ35_gallopRight_10 : decode cJ35_gallopRight 10 = .ok (.iload 4, 2) := dk_21 4 (dk_at dksJ35_gallopRight_0 10 rfl rfl)
theorem dJ35_gallopRight_12 : decode cJ35_gallopRight 12 = .ok (.ifCond .lt 9, 3) := dk_155 0 9 (dk_at dksJ35_gallopRight_0 12 rfl rfl)
theorem dJ35_gallopRight_15 : decode cJ35_gallopRight 15 = .ok (.iload 4, 2) := dk_21 4 (dk_at dksJ35_gallopRight_0 15 rfl rfl)
theorem dJ35_gallopRight_17 : decode cJ35_gallopRight 17 = .ok (.iload_n 3, 1) := dk_29 (dk_at dksJ35_gallopRight_0 17 rfl rfl)
theorem dJ35_gallopRight_18 : decode cJ35_gallopRight 18 = .ok (.if_icmp .lt 11, 3) := dk_161 0 11 (dk_at dksJ35_gallopRight_0 18 rfl rfl)
theorem dJ35_gallopRight_21 : decode cJ35_gallopRight 21 = .ok (.new 41, 3) := dk_187 0 41 (dk_at dksJ35_gallopRight_0 21 rfl rfl)
theorem dJ35_gallopRight_24 : decode cJ35_gallopRight 24 = .ok (.dup, 1) := dk_89 (dk_at dksJ35_gallopRight_1 0 rfl rfl)
theorem dJ35_gallopRight_25 : decode cJ35_gallopRight 25 = .ok (.invokespecial 43, 3) := dk_183 0 43 (dk_at dksJ35_gallopRight_1 1 rfl rfl)
theorem dJ35_gallopRight_28 : decode cJ35_gallopRight 28 = .ok (.athrow, 1) := dk_191 (dk_at dksJ35_gallopRight_1 4 rfl rfl)
theorem dJ35_gallopRight_29 : decode cJ35_gallopRight 29 = .ok (.iconst 1, 1) := dk_4 (dk_at dksJ35_gallopRight_1 5 rfl rfl)
theorem dJ35_gallopRight_30 : decode cJ35_gallopRight 30 = .ok (.istore 5, 2) := dk_54 5 (dk_at dksJ35_gallopRight_1 6 rfl rfl)
theorem dJ35_gallopRight_32 : decode cJ35_gallopRight 32 = .ok (.iconst 0, 1) := dk_3 (dk_at dksJ35_gallopRight_1 8 rfl rfl)
theorem dJ35_gallopRight_33 : decode cJ35_gallopRight 33 = .ok (.istore 6, 2) := dk_54 6 (dk_at dksJ35_gallopRight_1 9 rfl rfl)
theorem dJ35_gallopRight_35 : decode cJ35_gallopRight 35 = .ok (.aload_n 0, 1) := dk_42 (dk_at dksJ35_gallopRight_1 11 rfl rfl)
theorem dJ35_gallopRight_36 : decode cJ35_gallopRight 36 = .ok (.aload_n 1, 1) := dk_43 (dk_at dksJ35_gallopRight_1 12 rfl rfl)
theorem dJ35_gallopRight_37 : decode cJ35_gallopRight 37 = .ok (.iload_n 2, 1) := dk_28 (dk_at dksJ35_gallopRight_1 13 rfl rfl)
theorem dJ35_gallopRight_38 : decode cJ35_gallopRight 38 = .ok (.iload 4, 2) := dk_21 4 (dk_at dksJ35_gallopRight_1 14 rfl rfl)
theorem dJ35_gallopRight_40 : decode cJ35_gallopRight 40 = .ok (.iadd, 1) := dk_96 (dk_at dksJ35_gallopRight_1 16 rfl rfl)
theorem dJ35_gallopRight_41 : decode cJ35_gallopRight 41 = .ok (.aaload, 1) := dk_50 (dk_at dksJ35_gallopRight_1 17 rfl rfl)
theorem dJ35_gallopRight_42 : decode cJ35_gallopRight 42 = .ok (.invokeinterface 71 2, 5) := by decide +kernel
theorem dJ35_gallopRight_47 : decode cJ35_gallopRight 47 = .ok (.ifCond .ge 90, 3) := dk_156 0 90 (dk_at dksJ35_gallopRight_2 0 rfl rfl)
theorem dJ35_gallopRight_50 : decode cJ35_gallopRight 50 = .ok (.iload 4, 2) := dk_21 4 (dk_at dksJ35_gallopRight_2 3 rfl rfl)
theorem dJ35_gallopRight_52 : decode cJ35_gallopRight 52 = .ok (.iconst 1, 1) := dk_4 (dk_at dksJ35_gallopRight_2 5 rfl rfl)
theorem dJ35_gallopRight_53 : decode cJ35_gallopRight 53 = .ok (.iadd, 1) := dk_96 (dk_at dksJ35_gallopRight_2 6 rfl rfl)
theorem dJ35_gallopRight_54 : decode cJ35_gallopRight 54 = .ok (.istore 7, 2) := dk_54 7 (dk_at dksJ35_gallopRight_2 7 rfl rfl)
theorem dJ35_gallopRight_56 : decode cJ35_gallopRight 56 = .ok (.iload 5, 2) := dk_21 5 (dk_at dksJ35_gallopRight_2 9 rfl rfl)
theorem dJ35_gallopRight_58 : decode cJ35_gallopRight 58 = .ok (.iload 7, 2) := dk_21 7 (dk_at dksJ35_gallopRight_2 11 rfl rfl)
theorem dJ35_gallopRight_60 : decode cJ35_gallopRight 60 = .ok (.if_icmp .ge 45, 3) := dk_162 0 45 (dk_at dksJ35_gallopRight_2 13 rfl rfl)
theorem dJ35_gallopRight_63 : decode cJ35_gallopRight 63 = .ok (.aload_n 0, 1) := dk_42 (dk_at dksJ35_gallopRight_2 16 rfl rfl)
theorem dJ35_gallopRight_64 : decode cJ35_gallopRight 64 = .ok (.aload_n 1, 1) := dk_43 (dk_at dksJ35_gallopRight_2 17 rfl rfl)
theorem dJ35_gallopRight_65 : decode cJ35_gallopRight 65 = .ok (.iload_n 2, 1) := dk_28 (dk_at dksJ35_gallopRight_2 18 rfl rfl)
theorem dJ35_gallopRight_66 : decode cJ35_gallopRight 66 = .ok (.iload 4, 2) := dk_21 4 (dk_at dksJ35_gallopRight_2 19 rfl rfl)
theorem dJ35_gallopRight_68 : decode cJ35_gallopRight 68 = .ok (.iadd, 1) := dk_96 (dk_at dksJ35_gallopRight_2 21 rfl rfl)
theorem dJ35_gallopRight_69 : decode cJ35_gallopRight 69 = .ok (.iload 5, 2) := dk_21 5 (dk_at dksJ35_gallopRight_2 22 rfl rfl)
theorem dJ35_gallopRight_71 : decode cJ35_gallopRight 71 = .ok (.isub, 1) := dk_100 (dk_at dksJ35_gallopRight_3 0 rfl rfl)
theorem dJ35_gallopRight_72 : decode cJ35_gallopRight 72 = .ok (.aaload, 1) := dk_50 (dk_at dksJ35_gallopRight_3 1 rfl rfl)
theorem dJ35_gallopRight_73 : decode cJ35_gallopRight 73 = .ok (.invokeinterface 71 2, 5) := by decide +kernel
theorem dJ35_gallopRight_78 : decode cJ35_gallopRight 78 = .ok (.ifCond .ge 27, 3) := dk_156 0 27 (dk_at dksJ35_gallopRight_3 7 rfl rfl)
theorem dJ35_gallopRight_81 : decode cJ35_gallopRight 81 = .ok (.iload 5, 2) := dk_21 5 (dk_at dksJ35_gallopRight_3 10 rfl rfl)
theorem dJ35_gallopRight_83 : decode cJ35_gallopRight 83 = .ok (.istore 6, 2) := dk_54 6 (dk_at dksJ35_gallopRight_3 12 rfl rfl)
theorem dJ35_gallopRight_85 : decode cJ35_gallopRight 85 = .ok (.iload 5, 2) := dk_21 5 (dk_at dksJ35_gallopRight_3 14 rfl rfl)
theorem dJ35_gallopRight_87 : decode cJ35_gallopRight 87 = .ok (.iconst 1, 1) := dk_4 (dk_at dksJ35_gallopRight_3 16 rfl rfl)
theorem dJ35_gallopRight_88 : decode cJ35_gallopRight 88 = .ok (.ishl, 1) := dk_120 (dk_at dksJ35_gallopRight_3 17 rfl rfl)
theorem dJ35_gallopRight_89 : decode cJ35_gallopRight 89 = .ok (.iconst 1, 1) := dk_4 (dk_at dksJ35_gallopRight_3 18 rfl rfl)
theorem dJ35_gallopRight_90 : decode cJ35_gallopRight 90 = .ok (.iadd, 1) := dk_96 (dk_at dksJ35_gallopRight_3 19 rfl rfl)
theorem dJ35_gallopRight_91 : decode cJ35_gallopRight 91 = .ok (.istore 5, 2) := dk_54 5 (dk_at dksJ35_gallopRight_3 20 rfl rfl)
theorem dJ35_gallopRight_93 : decode cJ35_gallopRight 93 = .ok (.iload 5, 2) := dk_21 5 (dk_at dksJ35_gallopRight_3 22 rfl rfl)
theorem dJ35_gallopRight_95 : decode cJ35_gallopRight 95 = .ok (.ifCond .gt (-39), 3) := dk_157 255 217 (dk_at dksJ35_gallopRight_4 0 rfl rfl)
theorem dJ35_gallopRight_98 : decode cJ35_gallopRight 98 = .ok (.iload 7, 2) := dk_21 7 (dk_at dksJ35_gallopRight_4 3 rfl rfl)
theorem dJ35_gallopRight_100 : decode cJ35_gallopRight 100 = .ok (.istore 5, 2) := dk_54 5 (dk_at dksJ35_gallopRight_4 5 rfl rfl)
theorem dJ35_gallopRight_102 : decode cJ35_gallopRight 102 = .ok (.goto (-46), 3) := dk_167 255 210 (dk_at dksJ35_gallopRight_4 7 rfl rfl)
theorem dJ35_gallopRight_105 : decode cJ35_gallopRight 105 = .ok (.iload 5, 2) := dk_21 5 (dk_at dksJ35_gallopRight_4 10 rfl rfl)
theorem dJ35_gallopRight_107 : decode cJ35_gallopRight 107 = .ok (.iload 7, 2) := dk_21 7 (dk_at dksJ35_gallopRight_4 12 rfl rfl)
theorem dJ35_gallopRight_109 : decode cJ35_gallopRight 109 = .ok (.if_icmp .le 7, 3) := dk_164 0 7 (dk_at dksJ35_gallopRight_4 14 rfl rfl)
theorem dJ35_gallopRight_112 : decode cJ35_gallopRight 112 = .ok (.iload 7, 2) := dk_21 7 (dk_at dksJ35_gallopRight_4 17 rfl rfl)
theorem dJ35_gallopRight_114 : decode cJ35_gallopRight 114 = .ok (.istore 5, 2) := dk_54 5 (dk_at dksJ35_gallopRight_4 19 rfl rfl)
theorem dJ35_gallopRight_116 : decode cJ35_gallopRight 116 = .ok (.iload 6, 2) := dk_21 6 (dk_at dksJ35_gallopRight_4 21 rfl rfl)
theorem dJ35_gallopRight_118 : decode cJ35_gallopRight 118 = .ok (.istore 8, 2) := dk_54 8 (dk_at dksJ35_gallopRight_5 0 rfl rfl)
theorem dJ35_gallopRight_120 : decode cJ35_gallopRight 120 = .ok (.iload 4, 2) := dk_21 4 (dk_at dksJ35_gallopRight_5 2 rfl rfl)
theorem dJ35_gallopRight_122 : decode cJ35_gallopRight 122 = .ok (.iload 5, 2) := dk_21 5 (dk_at dksJ35_gallopRight_5 4 rfl rfl)
theorem dJ35_gallopRight_124 : decode cJ35_gallopRight 124 = .ok (.isub, 1) := dk_100 (dk_at dksJ35_gallopRight_5 6 rfl rfl)
theorem dJ35_gallopRight_125 : decode cJ35_gallopRight 125 = .ok (.istore 6, 2) := dk_54 6 (dk_at dksJ35_gallopRight_5 7 rfl rfl)
theorem dJ35_gallopRight_127 : decode cJ35_gallopRight 127 = .ok (.iload 4, 2) := dk_21 4 (dk_at dksJ35_gallopRight_5 9 rfl rfl)
theorem dJ35_gallopRight_129 : decode cJ35_gallopRight 129 = .ok (.iload 8, 2) := dk_21 8 (dk_at dksJ35_gallopRight_5 11 rfl rfl)
theorem dJ35_gallopRight_131 : decode cJ35_gallopRight 131 = .ok (.isub, 1) := dk_100 (dk_at dksJ35_gallopRight_5 13 rfl rfl)
theorem dJ35_gallopRight_132 : decode cJ35_gallopRight 132 = .ok (.istore 5, 2) := dk_54 5 (dk_at dksJ35_gallopRight_5 14 rfl rfl)
theorem dJ35_gallopRight_134 : decode cJ35_gallopRight 134 = .ok (.goto 83, 3) := dk_167 0 83 (dk_at dksJ35_gallopRight_5 16 rfl rfl)
theorem dJ35_gallopRight_137 : decode cJ35_gallopRight 137 = .ok (.iload_n 3, 1) := dk_29 (dk_at dksJ35_gallopRight_5 19 rfl rfl)
theorem dJ35_gallopRight_138 : decode cJ35_gallopRight 138 = .ok (.iload 4, 2) := dk_21 4 (dk_at dksJ35_gallopRight_5 20 rfl rfl)
theorem dJ35_gallopRight_140 : decode cJ35_gallopRight 140 = .ok (.isub, 1) := dk_100 (dk_at dksJ35_gallopRight_5 22 rfl rfl)
theorem dJ35_gallopRight_141 : decode cJ35_gallopRight 141 = .ok (.istore 7, 2) := dk_54 7 (dk_at dksJ35_gallopRight_6 0 rfl rfl)
theorem dJ35_gallopRight_143 : decode cJ35_gallopRight 143 = .ok (.iload 5, 2) := dk_21 5 (dk_at dksJ35_gallopRight_6 2 rfl rfl)
theorem dJ35_gallopRight_145 : decode cJ35_gallopRight 145 = .ok (.iload 7, 2) := dk_21 7 (dk_at dksJ35_gallopRight_6 4 rfl rfl)
theorem dJ35_gallopRight_147 : decode cJ35_gallopRight 147 = .ok (.if_icmp .ge 45, 3) := dk_162 0 45 (dk_at dksJ35_gallopRight_6 6 rfl rfl)
theorem dJ35_gallopRight_150 : decode cJ35_gallopRight 150 = .ok (.aload_n 0, 1) := dk_42 (dk_at dksJ35_gallopRight_6 9 rfl rfl)
theorem dJ35_gallopRight_151 : decode cJ35_gallopRight 151 = .ok (.aload_n 1, 1) := dk_43 (dk_at dksJ35_gallopRight_6 10 rfl rfl)
theorem dJ35_gallopRight_152 : decode cJ35_gallopRight 152 = .ok (.iload_n 2, 1) := dk_28 (dk_at dksJ35_gallopRight_6 11 rfl rfl)
theorem dJ35_gallopRight_153 : decode cJ35_gallopRight 153 = .ok (.iload 4, 2) := dk_21 4 (dk_at dksJ35_gallopRight_6 12 rfl rfl)
theorem dJ35_gallopRight_155 : decode cJ35_gallopRight 155 = .ok (.iadd, 1) := dk_96 (dk_at dksJ35_gallopRight_6 14 rfl rfl)
theorem dJ35_gallopRight_156 : decode cJ35_gallopRight 156 = .ok (.iload 5, 2) := dk_21 5 (dk_at dksJ35_gallopRight_6 15 rfl rfl)
theorem dJ35_gallopRight_158 : decode cJ35_gallopRight 158 = .ok (.iadd, 1) := dk_96 (dk_at dksJ35_gallopRight_6 17 rfl rfl)
theorem dJ35_gallopRight_159 : decode cJ35_gallopRight 159 = .ok (.aaload, 1) := dk_50 (dk_at dksJ35_gallopRight_6 18 rfl rfl)
theorem dJ35_gallopRight_160 : decode cJ35_gallopRight 160 = .ok (.invokeinterface 71 2, 5) := by decide +kernel
theorem dJ35_gallopRight_165 : decode cJ35_gallopRight 165 = .ok (.ifCond .lt 27, 3) := dk_155 0 27 (dk_at dksJ35_gallopRight_7 0 rfl rfl)
theorem dJ35_gallopRight_168 : decode cJ35_gallopRight 168 = .ok (.iload 5, 2) := dk_21 5 (dk_at dksJ35_gallopRight_7 3 rfl rfl)
theorem dJ35_gallopRight_170 : decode cJ35_gallopRight 170 = .ok (.istore 6, 2) := dk_54 6 (dk_at dksJ35_gallopRight_7 5 rfl rfl)
theorem dJ35_gallopRight_172 : decode cJ35_gallopRight 172 = .ok (.iload 5, 2) := dk_21 5 (dk_at dksJ35_gallopRight_7 7 rfl rfl)
theorem dJ35_gallopRight_174 : decode cJ35_gallopRight 174 = .ok (.iconst 1, 1) := dk_4 (dk_at dksJ35_gallopRight_7 9 rfl rfl)
theorem dJ35_gallopRight_175 : decode cJ35_gallopRight 175 = .ok (.ishl, 1) := dk_120 (dk_at dksJ35_gallopRight_7 10 rfl rfl)
theorem dJ35_gallopRight_176 : decode cJ35_gallopRight 176 = .ok (.iconst 1, 1) := dk_4 (dk_at dksJ35_gallopRight_7 11 rfl rfl)
theorem dJ35_gallopRight_177 : decode cJ35_gallopRight 177 = .ok (.iadd, 1) := dk_96 (dk_at dksJ35_gallopRight_7 12 rfl rfl)
theorem dJ35_gallopRight_178 : decode cJ35_gallopRight 178 = .ok (.istore 5, 2) := dk_54 5 (dk_at dksJ35_gallopRight_7 13 rfl rfl)
theorem dJ35_gallopRight_180 : decode cJ35_gallopRight 180 = .ok (.iload 5, 2) := dk_21 5 (dk_at dksJ35_gallopRight_7 15 rfl rfl)
theorem dJ35_gallopRight_182 : decode cJ35_gallopRight 182 = .ok (.ifCond .gt (-39), 3) := dk_157 255 217 (dk_at dksJ35_gallopRight_7 17 rfl rfl)
theorem dJ35_gallopRight_185 : decode cJ35_gallopRight 185 = .ok (.iload 7, 2) := dk_21 7 (dk_at dksJ35_gallopRight_7 20 rfl rfl)
theorem dJ35_gallopRight_187 : decode cJ35_gallopRight 187 = .ok (.istore 5, 2) := dk_54 5 (dk_at dksJ35_gallopRight_7 22 rfl rfl)
theorem dJ35_gallopRight_189 : decode cJ35_gallopRight 189 = .ok (.goto (-46), 3) := dk_167 255 210 (dk_at dksJ35_gallopRight_8 0 rfl rfl)
theorem dJ35_gallopRight_192 : decode cJ35_gallopRight 192 = .ok (.iload 5, 2) := dk_21 5 (dk_at dksJ35_gallopRight_8 3 rfl rfl)
theorem dJ35_gallopRight_194 : decode cJ35_gallopRight 194 = .ok (.iload 7, 2) := dk_21 7 (dk_at dksJ35_gallopRight_8 5 rfl rfl)
theorem dJ35_gallopRight_196 : decode cJ35_gallopRight 196 = .ok (.if_icmp .le 7, 3) := dk_164 0 7 (dk_at dksJ35_gallopRight_8 7 rfl rfl)
theorem dJ35_gallopRight_199 : decode cJ35_gallopRight 199 = .ok (.iload 7, 2) := dk_21 7 (dk_at dksJ35_gallopRight_8 10 rfl rfl)
theorem dJ35_gallopRight_201 : decode cJ35_gallopRight 201 = .ok (.istore 5, 2) := dk_54 5 (dk_at dksJ35_gallopRight_8 12 rfl rfl)
theorem dJ35_gallopRight_203 : decode cJ35_gallopRight 203 = .ok (.iload 6, 2) := dk_21 6 (dk_at dksJ35_gallopRight_8 14 rfl rfl)
theorem dJ35_gallopRight_205 : decode cJ35_gallopRight 205 = .ok (.iload 4, 2) := dk_21 4 (dk_at dksJ35_gallopRight_8 16 rfl rfl)
theorem dJ35_gallopRight_207 : decode cJ35_gallopRight 207 = .ok (.iadd, 1) := dk_96 (dk_at dksJ35_gallopRight_8 18 rfl rfl)
theorem dJ35_gallopRight_208 : decode cJ35_gallopRight 208 = .ok (.istore 6, 2) := dk_54 6 (dk_at dksJ35_gallopRight_8 19 rfl rfl)
theorem dJ35_gallopRight_210 : decode cJ35_gallopRight 210 = .ok (.iload 5, 2) := dk_21 5 (dk_at dksJ35_gallopRight_8 21 rfl rfl)
theorem dJ35_gallopRight_212 : decode cJ35_gallopRight 212 = .ok (.iload 4, 2) := dk_21 4 (dk_at dksJ35_gallopRight_9 0 rfl rfl)
theorem dJ35_gallopRight_214 : decode cJ35_gallopRight 214 = .ok (.iadd, 1) := dk_96 (dk_at dksJ35_gallopRight_9 2 rfl rfl)
theorem dJ35_gallopRight_215 : decode cJ35_gallopRight 215 = .ok (.istore 5, 2) := dk_54 5 (dk_at dksJ35_gallopRight_9 3 rfl rfl)
theorem dJ35_gallopRight_217 : decode cJ35_gallopRight 217 = .ok (.getstatic 37, 3) := dk_178 0 37 (dk_at dksJ35_gallopRight_9 5 rfl rfl)
theorem dJ35_gallopRight_220 : decode cJ35_gallopRight 220 = .ok (.ifCond .ne 30, 3) := dk_154 0 30 (dk_at dksJ35_gallopRight_9 8 rfl rfl)
theorem dJ35_gallopRight_223 : decode cJ35_gallopRight 223 = .ok (.iconst (-1), 1) := dk_2 (dk_at dksJ35_gallopRight_9 11 rfl rfl)
theorem dJ35_gallopRight_224 : decode cJ35_gallopRight 224 = .ok (.iload 6, 2) := dk_21 6 (dk_at dksJ35_gallopRight_9 12 rfl rfl)
theorem dJ35_gallopRight_226 : decode cJ35_gallopRight 226 = .ok (.if_icmp .gt 16, 3) := dk_163 0 16 (dk_at dksJ35_gallopRight_9 14 rfl rfl)
theorem dJ35_gallopRight_229 : decode cJ35_gallopRight 229 = .ok (.iload 6, 2) := dk_21 6 (dk_at dksJ35_gallopRight_9 17 rfl rfl)
theorem dJ35_gallopRight_231 : decode cJ35_gallopRight 231 = .ok (.iload 5, 2) := dk_21 5 (dk_at dksJ35_gallopRight_9 19 rfl rfl)
theorem dJ35_gallopRight_233 : decode cJ35_gallopRight 233 = .ok (.if_icmp .ge 9, 3) := dk_162 0 9 (dk_at dksJ35_gallopRight_9 21 rfl rfl)
theorem dJ35_gallopRight_236 : decode cJ35_gallopRight 236 = .ok (.iload 5, 2) := dk_21 5 (dk_at dksJ35_gallopRight_10 0 rfl rfl)
theorem dJ35_gallopRight_238 : decode cJ35_gallopRight 238 = .ok (.iload_n 3, 1) := dk_29 (dk_at dksJ35_gallopRight_10 2 rfl rfl)
theorem dJ35_gallopRight_239 : decode cJ35_gallopRight 239 = .ok (.if_icmp .le 11, 3) := dk_164 0 11 (dk_at dksJ35_gallopRight_10 3 rfl rfl)
theorem dJ35_gallopRight_242 : decode cJ35_gallopRight 242 = .ok (.new 41, 3) := dk_187 0 41 (dk_at dksJ35_gallopRight_10 6 rfl rfl)
theorem dJ35_gallopRight_245 : decode cJ35_gallopRight 245 = .ok (.dup, 1) := dk_89 (dk_at dksJ35_gallopRight_10 9 rfl rfl)
theorem dJ35_gallopRight_246 : decode cJ35_gallopRight 246 = .ok (.invokespecial 43, 3) := dk_183 0 43 (dk_at dksJ35_gallopRight_10 10 rfl rfl)
theorem dJ35_gallopRight_249 : decode cJ35_gallopRight 249 = .ok (.athrow, 1) := dk_191 (dk_at dksJ35_gallopRight_10 13 rfl rfl)
theorem dJ35_gallopRight_250 : decode cJ35_gallopRight 250 = .ok (.iinc 6 1, 3) := dk_132 6 1 (dk_at dksJ35_gallopRight_10 14 rfl rfl)
theorem dJ35_gallopRight_253 : decode cJ35_gallopRight 253 = .ok (.iload 6, 2) := dk_21 6 (dk_at dksJ35_gallopRight_10 17 rfl rfl)
theorem dJ35_gallopRight_255 : decode cJ35_gallopRight 255 = .ok (.iload 5, 2) := dk_21 5 (dk_at dksJ35_gallopRight_10 19 rfl rfl)
theorem dJ35_gallopRight_257 : decode cJ35_gallopRight 257 = .ok (.if_icmp .ge 46, 3) := dk_162 0 46 (dk_at dksJ35_gallopRight_10 21 rfl rfl)
theorem dJ35_gallopRight_260 : decode cJ35_gallopRight 260 = .ok (.iload 6, 2) := dk_21 6 (dk_at dksJ35_gallopRight_11 0 rfl rfl)
theorem dJ35_gallopRight_262 : decode cJ35_gallopRight 262 = .ok (.iload 5, 2) := dk_21 5 (dk_at dksJ35_gallopRight_11 2 rfl rfl)
theorem dJ35_gallopRight_264 : decode cJ35_gallopRight 264 = .ok (.iload 6, 2) := dk_21 6 (dk_at dksJ35_gallopRight_11 4 rfl rfl)
theorem dJ35_gallopRight_266 : decode cJ35_gallopRight 266 = .ok (.isub, 1) := dk_100 (dk_at dksJ35_gallopRight_11 6 rfl rfl)
theorem dJ35_gallopRight_267 : decode cJ35_gallopRight 267 = .ok (.iconst 1, 1) := dk_4 (dk_at dksJ35_gallopRight_11 7 rfl rfl)
theorem dJ35_gallopRight_268 : decode cJ35_gallopRight 268 = .ok (.iushr, 1) := dk_124 (dk_at dksJ35_gallopRight_11 8 rfl rfl)
theorem dJ35_gallopRight_269 : decode cJ35_gallopRight 269 = .ok (.iadd, 1) := dk_96 (dk_at dksJ35_gallopRight_11 9 rfl rfl)
theorem dJ35_gallopRight_270 : decode cJ35_gallopRight 270 = .ok (.istore 7, 2) := dk_54 7 (dk_at dksJ35_gallopRight_11 10 rfl rfl)
theorem dJ35_gallopRight_272 : decode cJ35_gallopRight 272 = .ok (.aload_n 0, 1) := dk_42 (dk_at dksJ35_gallopRight_11 12 rfl rfl)
theorem dJ35_gallopRight_273 : decode cJ35_gallopRight 273 = .ok (.aload_n 1, 1) := dk_43 (dk_at dksJ35_gallopRight_11 13 rfl rfl)
theorem dJ35_gallopRight_274 : decode cJ35_gallopRight 274 = .ok (.iload_n 2, 1) := dk_28 (dk_at dksJ35_gallopRight_11 14 rfl rfl)
theorem dJ35_gallopRight_275 : decode cJ35_gallopRight 275 = .ok (.iload 7, 2) := dk_21 7 (dk_at dksJ35_gallopRight_11 15 rfl rfl)
theorem dJ35_gallopRight_277 : decode cJ35_gallopRight 277 = .ok (.iadd, 1) := dk_96 (dk_at dksJ35_gallopRight_11 17 rfl rfl)
theorem dJ35_gallopRight_278 : decode cJ35_gallopRight 278 = .ok (.aaload, 1) := dk_50 (dk_at dksJ35_gallopRight_11 18 rfl rfl)
theorem dJ35_gallopRight_279 : decode cJ35_gallopRight 279 = .ok (.invokeinterface 71 2, 5) := by decide +kernel
theorem dJ35_gallopRight_284 : decode cJ35_gallopRight 284 = .ok (.ifCond .ge 10, 3) := dk_156 0 10 (dk_at dksJ35_gallopRight_12 0 rfl rfl)
theorem dJ35_gallopRight_287 : decode cJ35_gallopRight 287 = .ok (.iload 7, 2) := dk_21 7 (dk_at dksJ35_gallopRight_12 3 rfl rfl)
theorem dJ35_gallopRight_289 : decode cJ35_gallopRight 289 = .ok (.istore 5, 2) := dk_54 5 (dk_at dksJ35_gallopRight_12 5 rfl rfl)
theorem dJ35_gallopRight_291 : decode cJ35_gallopRight 291 = .ok (.goto 9, 3) := dk_167 0 9 (dk_at dksJ35_gallopRight_12 7 rfl rfl)
theorem dJ35_gallopRight_294 : decode cJ35_gallopRight 294 = .ok (.iload 7, 2) := dk_21 7 (dk_at dksJ35_gallopRight_12 10 rfl rfl)
theorem dJ35_gallopRight_296 : decode cJ35_gallopRight 296 = .ok (.iconst 1, 1) := dk_4 (dk_at dksJ35_gallopRight_12 12 rfl rfl)
theorem dJ35_gallopRight_297 : decode cJ35_gallopRight 297 = .ok (.iadd, 1) := dk_96 (dk_at dksJ35_gallopRight_12 13 rfl rfl)
theorem dJ35_gallopRight_298 : decode cJ35_gallopRight 298 = .ok (.istore 6, 2) := dk_54 6 (dk_at dksJ35_gallopRight_12 14 rfl rfl)
theorem dJ35_gallopRight_300 : decode cJ35_gallopRight 300 = .ok (.goto (-47), 3) := dk_167 255 209 (dk_at dksJ35_gallopRight_12 16 rfl rfl)
theorem dJ35_gallopRight_303 : decode cJ35_gallopRight 303 = .ok (.getstatic 37, 3) := dk_178 0 37 (dk_at dksJ35_gallopRight_12 19 rfl rfl)
theorem dJ35_gallopRight_306 : decode cJ35_gallopRight 306 = .ok (.ifCond .ne 18, 3) := dk_154 0 18 (dk_at dksJ35_gallopRight_13 0 rfl rfl)
theorem dJ35_gallopRight_309 : decode cJ35_gallopRight 309 = .ok (.iload 6, 2) := dk_21 6 (dk_at dksJ35_gallopRight_13 3 rfl rfl)
theorem dJ35_gallopRight_311 : decode cJ35_gallopRight 311 = .ok (.iload 5, 2) := dk_21 5 (dk_at dksJ35_gallopRight_13 5 rfl rfl)
theorem dJ35_gallopRight_313 : decode cJ35_gallopRight 313 = .ok (.if_icmp .eq 11, 3) := dk_159 0 11 (dk_at dksJ35_gallopRight_13 7 rfl rfl)
theorem dJ35_gallopRight_316 : decode cJ35_gallopRight 316 = .ok (.new 41, 3) := dk_187 0 41 (dk_at dksJ35_gallopRight_13 10 rfl rfl)
theorem dJ35_gallopRight_319 : decode cJ35_gallopRight 319 = .ok (.dup, 1) := dk_89 (dk_at dksJ35_gallopRight_13 13 rfl rfl)
theorem dJ35_gallopRight_320 : decode cJ35_gallopRight 320 = .ok (.invokespecial 43, 3) := dk_183 0 43 (dk_at dksJ35_gallopRight_13 14 rfl rfl)
theorem dJ35_gallopRight_323 : decode cJ35_gallopRight 323 = .ok (.athrow, 1) := dk_191 (dk_at dksJ35_gallopRight_13 17 rfl rfl)
theorem dJ35_gallopRight_324 : decode cJ35_gallopRight 324 = .ok (.iload 5, 2) := dk_21 5 (dk_at dksJ35_gallopRight_13 18 rfl rfl)
theorem dJ35_gallopRight_326 : decode cJ35_gallopRight 326 = .ok (.ireturn, 1) := dk_172 (dk_at dksJ35_gallopRight_13 20 rfl rfl)
abbrev cJ35_gallopLeft : ByteArray := prog_62_method_11_code
def yJ35_gallopLeft : MethodName := ⟨RJ35, "gallopLeft", "(Ljava/lang/Comparable;[Ljava/lang/Object;III)I"⟩
def dkwJ35_gallopLeft_13 : List UInt8 := [154, 0, 18, 21, 5, 21, 6, 159, 0, 11, 187, 0, 41, 89, 183, 0, 43, 191, 21, 6, 172]
abbrev dktJ35_gallopLeft_13 : List UInt8 := dkwJ35_gallopLeft_13 ++ []
def dkwJ35_gallopLeft_12 : List UInt8 := [158, 0, 12, 21, 7, 4, 96, 54, 5, 167, 0, 7, 21, 7, 54, 6, 167, 255, 209, 178, 0, 37]
abbrev dktJ35_gallopLeft_12 : List UInt8 := dkwJ35_gallopLeft_12 ++ dktJ35_gallopLeft_13
def dkwJ35_gallopLeft_11 : List UInt8 := [21, 5, 21, 6, 21, 5, 100, 4, 124, 96, 54, 7, 42, 43, 28, 21, 7, 96, 50, 185, 0, 71, 2, 0]
abbrev dktJ35_gallopLeft_11 : List UInt8 := dkwJ35_gallopLeft_11 ++ dktJ35_gallopLeft_12
def dkwJ35_gallopLeft_10 : List UInt8 := [21, 6, 29, 164, 0, 11, 187, 0, 41, 89, 183, 0, 43, 191, 132, 5, 1, 21, 5, 21, 6, 162, 0, 46]
abbrev dktJ35_gallopLeft_10 : List UInt8 := dkwJ35_gallopLeft_10 ++ dktJ35_gallopLeft_11
def dkwJ35_gallopLeft_9 : List UInt8 := [21, 8, 100, 54, 6, 178, 0, 37, 154, 0, 30, 2, 21, 5, 163, 0, 16, 21, 5, 21, 6, 162, 0, 9]
abbrev dktJ35_gallopLeft_9 : List UInt8 := dkwJ35_gallopLeft_9 ++ dktJ35_gallopLeft_10
def dkwJ35_gallopLeft_8 : List UInt8 := [21, 6, 21, 7, 164, 0, 7, 21, 7, 54, 6, 21, 5, 54, 8, 21, 4, 21, 6, 100, 54, 5, 21, 4]
abbrev dktJ35_gallopLeft_8 : List UInt8 := dkwJ35_gallopLeft_8 ++ dktJ35_gallopLeft_9
def dkwJ35_gallopLeft_7 : List UInt8 := [21, 6, 54, 5, 21, 6, 4, 120, 4, 96, 54, 6, 21, 6, 157, 255, 217, 21, 7, 54, 6, 167, 255, 210]
abbrev dktJ35_gallopLeft_7 : List UInt8 := dkwJ35_gallopLeft_7 ++ dktJ35_gallopLeft_8
def dkwJ35_gallopLeft_6 : List UInt8 := [21, 7, 162, 0, 45, 42, 43, 28, 21, 4, 96, 21, 6, 100, 50, 185, 0, 71, 2, 0, 157, 0, 27]
abbrev dktJ35_gallopLeft_6 : List UInt8 := dkwJ35_gallopLeft_6 ++ dktJ35_gallopLeft_7
def dkwJ35_gallopLeft_5 : List UInt8 := [21, 4, 96, 54, 5, 21, 6, 21, 4, 96, 54, 6, 167, 0, 87, 21, 4, 4, 96, 54, 7, 21, 6]
abbrev dktJ35_gallopLeft_5 : List UInt8 := dkwJ35_gallopLeft_5 ++ dktJ35_gallopLeft_6
def dkwJ35_gallopLeft_4 : List UInt8 := [157, 255, 217, 21, 7, 54, 6, 167, 255, 210, 21, 6, 21, 7, 164, 0, 7, 21, 7, 54, 6, 21, 5]
abbrev dktJ35_gallopLeft_4 : List UInt8 := dkwJ35_gallopLeft_4 ++ dktJ35_gallopLeft_5
def dkwJ35_gallopLeft_3 : List UInt8 := [96, 50, 185, 0, 71, 2, 0, 158, 0, 27, 21, 6, 54, 5, 21, 6, 4, 120, 4, 96, 54, 6, 21, 6]
abbrev dktJ35_gallopLeft_3 : List UInt8 := dkwJ35_gallopLeft_3 ++ dktJ35_gallopLeft_4
def dkwJ35_gallopLeft_2 : List UInt8 := [158, 0, 86, 29, 21, 4, 100, 54, 7, 21, 6, 21, 7, 162, 0, 45, 42, 43, 28, 21, 4, 96, 21, 6]
abbrev dktJ35_gallopLeft_2 : List UInt8 := dkwJ35_gallopLeft_2 ++ dktJ35_gallopLeft_3
def dkwJ35_gallopLeft_1 : List UInt8 := [89, 183, 0, 43, 191, 3, 54, 5, 4, 54, 6, 42, 43, 28, 21, 4, 96, 50, 185, 0, 71, 2, 0]
abbrev dktJ35_gallopLeft_1 : List UInt8 := dkwJ35_gallopLeft_1 ++ dktJ35_gallopLeft_2
def dkwJ35_gallopLeft_0 : List UInt8 := [178, 0, 37, 154, 0, 26, 29, 158, 0, 14, 21, 4, 155, 0, 9, 21, 4, 29, 161, 0, 11, 187, 0, 41]
abbrev dktJ35_gallopLeft_0 : List UInt8 := dkwJ35_gallopLeft_0 ++ dktJ35_gallopLeft_1
theorem dksJ35_gallopLeft_0 : cJ35_gallopLeft.data.toList.drop 0 = dktJ35_gallopLeft_0 := by decide +kernel
theorem dksJ35_gallopLeft_1 : cJ35_gallopLeft.data.toList.drop 24 = dktJ35_gallopLeft_1 := dk_seg dksJ35_gallopLeft_0 24 rfl rfl
theorem dksJ35_gallopLeft_2 : cJ35_gallopLeft.data.toList.drop 47 = dktJ35_gallopLeft_2 := dk_seg dksJ35_gallopLeft_1 23 rfl rfl
theorem dksJ35_gallopLeft_3 : cJ35_gallopLeft.data.toList.drop 71 = dktJ35_gallopLeft_3 := dk_seg dksJ35_gallopLeft_2 24 rfl rfl
theorem dksJ35_gallopLeft_4 : cJ35_gallopLeft.data.toList.drop 95 = dktJ35_gallopLeft_4 := dk_seg dksJ35_gallopLeft_3 24 rfl rfl
theorem dksJ35_gallopLeft_5 : cJ35_gallopLeft.data.toList.drop 118 = dktJ35_gallopLeft_5 := dk_seg dksJ35_gallopLeft_4 23 rfl rfl
theorem dksJ35_gallopLeft_6 : cJ35_gallopLeft.data.toList.drop 141 = dktJ35_gallopLeft_6 := dk_seg dksJ35_gallopLeft_5 23 rfl rfl
theorem dksJ35_gallopLeft_7 : cJ35_gallopLeft.data.toList.drop 164 = dktJ35_gallopLeft_7 := dk_seg dksJ35_gallopLeft_6 23 rfl rfl
theorem dksJ35_gallopLeft_8 : cJ35_gallopLeft.data.toList.drop 188 = dktJ35_gallopLeft_8 := dk_seg dksJ35_gallopLeft_7 24 rfl rfl
theorem dksJ35_gallopLeft_9 : cJ35_gallopLeft.data.toList.drop 212 = dktJ35_gallopLeft_9 := dk_seg dksJ35_gallopLeft_8 24 rfl rfl
theorem dksJ35_gallopLeft_10 : cJ35_gallopLeft.data.toList.drop 236 = dktJ35_gallopLeft_10 := dk_seg dksJ35_gallopLeft_9 24 rfl rfl
theorem dksJ35_gallopLeft_11 : cJ35_gallopLeft.data.toList.drop 260 = dktJ35_gallopLeft_11 := dk_seg dksJ35_gallopLeft_10 24 rfl rfl
theorem dksJ35_gallopLeft_12 : cJ35_gallopLeft.data.toList.drop 284 = dktJ35_gallopLeft_12 := dk_seg dksJ35_gallopLeft_11 24 rfl rfl
theorem dksJ35_gallopLeft_13 : cJ35_gallopLeft.data.toList.drop 306 = dktJ35_gallopLeft_13 := dk_seg dksJ35_gallopLeft_12 22 rfl rfl
theorem dJ35_gallopLeft_0 : decode cJ35_gallopLeft 0 = .ok (.getstatic 37, 3) := dk_178 0 37 (dk_at dksJ35_gallopLeft_0 0 rfl rfl)
theorem dJ35_gallopLeft_3 : decode cJ35_gallopLeft 3 = .ok (.ifCond .ne 26, 3) := dk_154 0 26 (dk_at dksJ35_gallopLeft_0 3 rfl rfl)
theorem dJ35_gallopLeft_6 : decode cJ35_gallopLeft 6 = .ok (.iload_n 3, 1) := dk_29 (dk_at dksJ35_gallopLeft_0 6 rfl rfl)
theorem dJ35_gallopLeft_7 : decode cJ35_gallopLeft 7 = .ok (.ifCond .le 14, 3) := dk_158 0 14 (dk_at dksJ35_gallopLeft_0 7 rfl rfl)
theorem dJ35_gallopLeft_10 : decode cJ35_gallopLeft 10 = .ok (.iload 4, 2) := dk_21 4 (dk_at dksJ35_gallopLeft_0 10 rfl rfl)
theorem dJ35_gallopLeft_12 : decode cJ35_gallopLeft 12 = .ok (.ifCond .lt 9, 3) := dk_155 0 9 (dk_at dksJ35_gallopLeft_0 12 rfl rfl)
theorem dJ35_gallopLeft_15 : decode cJ35_gallopLeft 15 = .ok (.iload 4, 2) := dk_21 4 (dk_at dksJ35_gallopLeft_0 15 rfl rfl)
theorem dJ35_gallopLeft_17 : decode cJ35_gallopLeft 17 = .ok (.iload_n 3, 1) := dk_29 (dk_at dksJ35_gallopLeft_0 17 rfl rfl)
theorem dJ35_gallopLeft_18 : decode cJ35_gallopLeft 18 = .ok (.if_icmp .lt 11, 3) := dk_161 0 11 (dk_at dksJ35_gallopLeft_0 18 rfl rfl)
theorem dJ35_gallopLeft_21 : decode cJ35_gallopLeft 21 = .ok (.new 41, 3) := dk_187 0 41 (dk_at dksJ35_gallopLeft_0 21 rfl rfl)
theorem dJ35_gallopLeft_24 : decode cJ35_gallopLeft 24 = .ok (.dup, 1) := dk_89 (dk_at dksJ35_gallopLeft_1 0 rfl rfl)
theorem dJ35_gallopLeft_25 : decode cJ35_gallopLeft 25 = .ok (.invokespecial 43, 3) := dk_183 0 43 (dk_at dksJ35_gallopLeft_1 1 rfl rfl)
theorem dJ35_gallopLeft_28 : decode cJ35_gallopLeft 28 = .ok (.athrow, 1) := dk_191 (dk_at dksJ35_gallopLeft_1 4 rfl rfl)
theorem dJ35_gallopLeft_29 : decode cJ35_gallopLeft 29 = .ok (.iconst 0, 1) := dk_3 (dk_at dksJ35_gallopLeft_1 5 rfl rfl)
theorem dJ35_gallopLeft_30 : decode cJ35_gallopLeft 30 = .ok (.istore 5, 2) := dk_54 5 (dk_at dksJ35_gallopLeft_1 6 rfl rfl)
theorem dJ35_gallopLeft_32 : decode cJ35_gallopLeft 32 = .ok (.iconst 1, 1) := dk_4 (dk_at dksJ35_gallopLeft_1 8 rfl rfl)
theorem dJ35_gallopLeft_33 : decode cJ35_gallopLeft 33 = .ok (.istore 6, 2) := dk_54 6 (dk_at dksJ35_gallopLeft_1 9 rfl rfl)
theorem dJ35_gallopLeft_35 : decode cJ35_gallopLeft 35 = .ok (.aload_n 0, 1) := dk_42 (dk_at dksJ35_gallopLeft_1 11 rfl rfl)
theorem dJ35_gallopLeft_36 : decode cJ35_gallopLeft 36 = .ok (.aload_n 1, 1) := dk_43 (dk_at dksJ35_gallopLeft_1 12 rfl rfl)
theorem dJ35_gallopLeft_37 : decode cJ35_gallopLeft 37 = .ok (.iload_n 2, 1) := dk_28 (dk_at dksJ35_gallopLeft_1 13 rfl rfl)
theorem dJ35_gallopLeft_38 : decode cJ35_gallopLeft 38 = .ok (.iload 4, 2) := dk_21 4 (dk_at dksJ35_gallopLeft_1 14 rfl rfl)
theorem dJ35_gallopLeft_40 : decode cJ35_gallopLeft 40 = .ok (.iadd, 1) := dk_96 (dk_at dksJ35_gallopLeft_1 16 rfl rfl)
theorem dJ35_gallopLeft_41 : decode cJ35_gallopLeft 41 = .ok (.aaload, 1) := dk_50 (dk_at dksJ35_gallopLeft_1 17 rfl rfl)
theorem dJ35_gallopLeft_42 : decode cJ35_gallopLeft 42 = .ok (.invokeinterface 71 2, 5) := by decide +kernel
theorem dJ35_gallopLeft_47 : decode cJ35_gallopLeft 47 = .ok (.ifCond .le 86, 3) := dk_158 0 86 (dk_at dksJ35_gallopLeft_2 0 rfl rfl)
theorem dJ35_gallopLeft_50 : decode cJ35_gallopLeft 50 = .ok (.iload_n 3, 1) := dk_29 (dk_at dksJ35_gallopLeft_2 3 rfl rfl)
theorem dJ35_gallopLeft_51 : decode cJ35_gallopLeft 51 = .ok (.iload 4, 2) := dk_21 4 (dk_at dksJ35_gallopLeft_2 4 rfl rfl)
theorem dJ35_gallopLeft_53 : decode cJ35_gallopLeft 53 = .ok (.isub, 1) := dk_100 (dk_at dksJ35_gallopLeft_2 6 rfl rfl)
theorem dJ35_gallopLeft_54 : decode cJ35_gallopLeft 54 = .ok (.istore 7, 2) := dk_54 7 (dk_at dksJ35_gallopLeft_2 7 rfl rfl)
theorem dJ35_gallopLeft_56 : decode cJ35_gallopLeft 56 = .ok (.iload 6, 2) := dk_21 6 (dk_at dksJ35_gallopLeft_2 9 rfl rfl)
theorem dJ35_gallopLeft_58 : decode cJ35_gallopLeft 58 = .ok (.iload 7, 2) := dk_21 7 (dk_at dksJ35_gallopLeft_2 11 rfl rfl)
theorem dJ35_gallopLeft_60 : decode cJ35_gallopLeft 60 = .ok (.if_icmp .ge 45, 3) := dk_162 0 45 (dk_at dksJ35_gallopLeft_2 13 rfl rfl)
theorem dJ35_gallopLeft_63 : decode cJ35_gallopLeft 63 = .ok (.aload_n 0, 1) := dk_42 (dk_at dksJ35_gallopLeft_2 16 rfl rfl)
theorem dJ35_gallopLeft_64 : decode cJ35_gallopLeft 64 = .ok (.aload_n 1, 1) := dk_43 (dk_at dksJ35_gallopLeft_2 17 rfl rfl)
theorem dJ35_gallopLeft_65 : decode cJ35_gallopLeft 65 = .ok (.iload_n 2, 1) := dk_28 (dk_at dksJ35_gallopLeft_2 18 rfl rfl)
theorem dJ35_gallopLeft_66 : decode cJ35_gallopLeft 66 = .ok (.iload 4, 2) := dk_21 4 (dk_at dksJ35_gallopLeft_2 19 rfl rfl)
theorem dJ35_gallopLeft_68 : decode cJ35_gallopLeft 68 = .ok (.iadd, 1) := dk_96 (dk_at dksJ35_gallopLeft_2 21 rfl rfl)
theorem dJ35_gallopLeft_69 : decode cJ35_gallopLeft 69 = .ok (.iload 6, 2) := dk_21 6 (dk_at dksJ35_gallopLeft_2 22 rfl rfl)
theorem dJ35_gallopLeft_71 : decode cJ35_gallopLeft 71 = .ok (.iadd, 1) := dk_96 (dk_at dksJ35_gallopLeft_3 0 rfl rfl)
theorem dJ35_gallopLeft_72 : decode cJ35_gallopLeft 72 = .ok (.aaload, 1) := dk_50 (dk_at dksJ35_gallopLeft_3 1 rfl rfl)
theorem dJ35_gallopLeft_73 : decode cJ35_gallopLeft 73 = .ok (.invokeinterface 71 2, 5) := by decide +kernel
theorem dJ35_gallopLeft_78 : decode cJ35_gallopLeft 78 = .ok (.ifCond .le 27, 3) := dk_158 0 27 (dk_at dksJ35_gallopLeft_3 7 rfl rfl)
theorem dJ35_gallopLeft_81 : decode cJ35_gallopLeft 81 = .ok (.iload 6, 2) := dk_21 6 (dk_at dksJ35_gallopLeft_3 10 rfl rfl)
theorem dJ35_gallopLeft_83 : decode cJ35_gallopLeft 83 = .ok (.istore 5, 2) := dk_54 5 (dk_at dksJ35_gallopLeft_3 12 rfl rfl)
theorem dJ35_gallopLeft_85 : decode cJ35_gallopLeft 85 = .ok (.iload 6, 2) := dk_21 6 (dk_at dksJ35_gallopLeft_3 14 rfl rfl)
theorem dJ35_gallopLeft_87 : decode cJ35_gallopLeft 87 = .ok (.iconst 1, 1) := dk_4 (dk_at dksJ35_gallopLeft_3 16 rfl rfl)
theorem dJ35_gallopLeft_88 : decode cJ35_gallopLeft 88 = .ok (.ishl, 1) := dk_120 (dk_at dksJ35_gallopLeft_3 17 rfl rfl)
theorem dJ35_gallopLeft_89 : decode cJ35_gallopLeft 89 = .ok (.iconst 1, 1) := dk_4 (dk_at dksJ35_gallopLeft_3 18 rfl rfl)
theorem dJ35_gallopLeft_90 : decode cJ35_gallopLeft 90 = .ok (.iadd, 1) := dk_96 (dk_at dksJ35_gallopLeft_3 19 rfl rfl)
theorem dJ35_gallopLeft_91 : decode cJ35_gallopLeft 91 = .ok (.istore 6, 2) := dk_54 6 (dk_at dksJ35_gallopLeft_3 20 rfl rfl)
theorem dJ35_gallopLeft_93 : decode cJ35_gallopLeft 93 = .ok (.iload 6, 2) := dk_21 6 (dk_at dksJ35_gallopLeft_3 22 rfl rfl)
theorem dJ35_gallopLeft_95 : decode cJ35_gallopLeft 95 = .ok (.ifCond .gt (-39), 3) := dk_157 255 217 (dk_at dksJ35_gallopLeft_4 0 rfl rfl)
theorem dJ35_gallopLeft_98 : decode cJ35_gallopLeft 98 = .ok (.iload 7, 2) := dk_21 7 (dk_at dksJ35_gallopLeft_4 3 rfl rfl)
theorem dJ35_gallopLeft_100 : decode cJ35_gallopLeft 100 = .ok (.istore 6, 2) := dk_54 6 (dk_at dksJ35_gallopLeft_4 5 rfl rfl)
theorem dJ35_gallopLeft_102 : decode cJ35_gallopLeft 102 = .ok (.goto (-46), 3) := dk_167 255 210 (dk_at dksJ35_gallopLeft_4 7 rfl rfl)
theorem dJ35_gallopLeft_105 : decode cJ35_gallopLeft 105 = .ok (.iload 6, 2) := dk_21 6 (dk_at dksJ35_gallopLeft_4 10 rfl rfl)
theorem dJ35_gallopLeft_107 : decode cJ35_gallopLeft 107 = .ok (.iload 7, 2) := dk_21 7 (dk_at dksJ35_gallopLeft_4 12 rfl rfl)
theorem dJ35_gallopLeft_109 : decode cJ35_gallopLeft 109 = .ok (.if_icmp .le 7, 3) := dk_164 0 7 (dk_at dksJ35_gallopLeft_4 14 rfl rfl)
theorem dJ35_gallopLeft_112 : decode cJ35_gallopLeft 112 = .ok (.iload 7, 2) := dk_21 7 (dk_at dksJ35_gallopLeft_4 17 rfl rfl)
theorem dJ35_gallopLeft_114 : decode cJ35_gallopLeft 114 = .ok (.istore 6, 2) := dk_54 6 (dk_at dksJ35_gallopLeft_4 19 rfl rfl)
theorem dJ35_gallopLeft_116 : decode cJ35_gallopLeft 116 = .ok (.iload 5, 2) := dk_21 5 (dk_at dksJ35_gallopLeft_4 21 rfl rfl)
theorem dJ35_gallopLeft_118 : decode cJ35_gallopLeft 118 = .ok (.iload 4, 2) := dk_21 4 (dk_at dksJ35_gallopLeft_5 0 rfl rfl)
theorem dJ35_gallopLeft_120 : decode cJ35_gallopLeft 120 = .ok (.iadd, 1) := dk_96 (dk_at dksJ35_gallopLeft_5 2 rfl rfl)
theorem dJ35_gallopLeft_121 : decode cJ35_gallopLeft 121 = .ok (.istore 5, 2) := dk_54 5 (dk_at dksJ35_gallopLeft_5 3 rfl rfl)
theorem dJ35_gallopLeft_123 : decode cJ35_gallopLeft 123 = .ok (.iload 6, 2) := dk_21 6 (dk_at dksJ35_gallopLeft_5 5 rfl rfl)
theorem dJ35_gallopLeft_125 : decode cJ35_gallopLeft 125 = .ok (.iload 4, 2) := dk_21 4 (dk_at dksJ35_gallopLeft_5 7 rfl rfl)
theorem dJ35_gallopLeft_127 : decode cJ35_gallopLeft 127 = .ok (.iadd, 1) := dk_96 (dk_at dksJ35_gallopLeft_5 9 rfl rfl)
theorem dJ35_gallopLeft_128 : decode cJ35_gallopLeft 128 = .ok (.istore 6, 2) := dk_54 6 (dk_at dksJ35_gallopLeft_5 10 rfl rfl)
theorem dJ35_gallopLeft_130 : decode cJ35_gallopLeft 130 = .ok (.goto 87, 3) := dk_167 0 87 (dk_at dksJ35_gallopLeft_5 12 rfl rfl)
theorem dJ35_gallopLeft_133 : decode cJ35_gallopLeft 133 = .ok (.iload 4, 2) := dk_21 4 (dk_at dksJ35_gallopLeft_5 15 rfl rfl)
theorem dJ35_gallopLeft_135 : decode cJ35_gallopLeft 135 = .ok (.iconst 1, 1) := dk_4 (dk_at dksJ35_gallopLeft_5 17 rfl rfl)
theorem dJ35_gallopLeft_136 : decode cJ35_gallopLeft 136 = .ok (.iadd, 1) := dk_96 (dk_at dksJ35_gallopLeft_5 18 rfl rfl)
theorem dJ35_gallopLeft_137 : decode cJ35_gallopLeft 137 = .ok (.istore 7, 2) := dk_54 7 (dk_at dksJ35_gallopLeft_5 19 rfl rfl)
theorem dJ35_gallopLeft_139 : decode cJ35_gallopLeft 139 = .ok (.iload 6, 2) := dk_21 6 (dk_at dksJ35_gallopLeft_5 21 rfl rfl)
theorem dJ35_gallopLeft_141 : decode cJ35_gallopLeft 141 = .ok (.iload 7, 2) := dk_21 7 (dk_at dksJ35_gallopLeft_6 0 rfl rfl)
theorem dJ35_gallopLeft_143 : decode cJ35_gallopLeft 143 = .ok (.if_icmp .ge 45, 3) := dk_162 0 45 (dk_at dksJ35_gallopLeft_6 2 rfl rfl)
theorem dJ35_gallopLeft_146 : decode cJ35_gallopLeft 146 = .ok (.aload_n 0, 1) := dk_42 (dk_at dksJ35_gallopLeft_6 5 rfl rfl)
theorem dJ35_gallopLeft_147 : decode cJ35_gallopLeft 147 = .ok (.aload_n 1, 1) := dk_43 (dk_at dksJ35_gallopLeft_6 6 rfl rfl)
theorem dJ35_gallopLeft_148 : decode cJ35_gallopLeft 148 = .ok (.iload_n 2, 1) := dk_28 (dk_at dksJ35_gallopLeft_6 7 rfl rfl)
theorem dJ35_gallopLeft_149 : decode cJ35_gallopLeft 149 = .ok (.iload 4, 2) := dk_21 4 (dk_at dksJ35_gallopLeft_6 8 rfl rfl)
theorem dJ35_gallopLeft_151 : decode cJ35_gallopLeft 151 = .ok (.iadd, 1) := dk_96 (dk_at dksJ35_gallopLeft_6 10 rfl rfl)
theorem dJ35_gallopLeft_152 : decode cJ35_gallopLeft 152 = .ok (.iload 6, 2) := dk_21 6 (dk_at dksJ35_gallopLeft_6 11 rfl rfl)
theorem dJ35_gallopLeft_154 : decode cJ35_gallopLeft 154 = .ok (.isub, 1) := dk_100 (dk_at dksJ35_gallopLeft_6 13 rfl rfl)
theorem dJ35_gallopLeft_155 : decode cJ35_gallopLeft 155 = .ok (.aaload, 1) := dk_50 (dk_at dksJ35_gallopLeft_6 14 rfl rfl)
theorem dJ35_gallopLeft_156 : decode cJ35_gallopLeft 156 = .ok (.invokeinterface 71 2, 5) := by decide +kernel
theorem dJ35_gallopLeft_161 : decode cJ35_gallopLeft 161 = .ok (.ifCond .gt 27, 3) := dk_157 0 27 (dk_at dksJ35_gallopLeft_6 20 rfl rfl)
theorem dJ35_gallopLeft_164 : decode cJ35_gallopLeft 164 = .ok (.iload 6, 2) := dk_21 6 (dk_at dksJ35_gallopLeft_7 0 rfl rfl)
theorem dJ35_gallopLeft_166 : decode cJ35_gallopLeft 166 = .ok (.istore 5, 2) := dk_54 5 (dk_at dksJ35_gallopLeft_7 2 rfl rfl)
theorem dJ35_gallopLeft_168 : decode cJ35_gallopLeft 168 = .ok (.iload 6, 2) := dk_21 6 (dk_at dksJ35_gallopLeft_7 4 rfl rfl)
theorem dJ35_gallopLeft_170 : decode cJ35_gallopLeft 170 = .ok (.iconst 1, 1) := dk_4 (dk_at dksJ35_gallopLeft_7 6 rfl rfl)
theorem dJ35_gallopLeft_171 : decode cJ35_gallopLeft 171 = .ok (.ishl, 1) := dk_120 (dk_at dksJ35_gallopLeft_7 7 rfl rfl)
theorem dJ35_gallopLeft_172 : decode cJ35_gallopLeft 172 = .ok (.iconst 1, 1) := dk_4 (dk_at dksJ35_gallopLeft_7 8 rfl rfl)
theorem dJ35_gallopLeft_173 : decode cJ35_gallopLeft 173 = .ok (.iadd, 1) := dk_96 (dk_at dksJ35_gallopLeft_7 9 rfl rfl)
theorem dJ35_gallopLeft_174 : decode cJ35_gallopLeft 174 = .ok (.istore 6, 2) := dk_54 6 (dk_at dksJ35_gallopLeft_7 10 rfl rfl)
theorem dJ35_gallopLeft_176 : decode cJ35_gallopLeft 176 = .ok (.iload 6, 2) := dk_21 6 (dk_at dksJ35_gallopLeft_7 12 rfl rfl)
theorem dJ35_gallopLeft_178 : decode cJ35_gallopLeft 178 = .ok (.ifCond .gt (-39), 3) := dk_157 255 217 (dk_at dksJ35_gallopLeft_7 14 rfl rfl)
theorem dJ35_gallopLeft_181 : decode cJ35_gallopLeft 181 = .ok (.iload 7, 2) := dk_21 7 (dk_at dksJ35_gallopLeft_7 17 rfl rfl)
theorem dJ35_gallopLeft_183 : decode cJ35_gallopLeft 183 = .ok (.istore 6, 2) := dk_54 6 (dk_at dksJ35_gallopLeft_7 19 rfl rfl)
theorem dJ35_gallopLeft_185 : decode cJ35_gallopLeft 185 = .ok (.goto (-46), 3) := dk_167 255 210 (dk_at dksJ35_gallopLeft_7 21 rfl rfl)
theorem dJ35_gallopLeft_188 : decode cJ35_gallopLeft 188 = .ok (.iload 6, 2) := dk_21 6 (dk_at dksJ35_gallopLeft_8 0 rfl rfl)
theorem dJ35_gallopLeft_190 : decode cJ35_gallopLeft 190 = .ok (.iload 7, 2) := dk_21 7 (dk_at dksJ35_gallopLeft_8 2 rfl rfl)
theorem dJ35_gallopLeft_192 : decode cJ35_gallopLeft 192 = .ok (.if_icmp .le 7, 3) := dk_164 0 7 (dk_at dksJ35_gallopLeft_8 4 rfl rfl)
theorem dJ35_gallopLeft_195 : decode cJ35_gallopLeft 195 = .ok (.iload 7, 2) := dk_21 7 (dk_at dksJ35_gallopLeft_8 7 rfl rfl)
theorem dJ35_gallopLeft_197 : decode cJ35_gallopLeft 197 = .ok (.istore 6, 2) := dk_54 6 (dk_at dksJ35_gallopLeft_8 9 rfl rfl)
theorem dJ35_gallopLeft_199 : decode cJ35_gallopLeft 199 = .ok (.iload 5, 2) := dk_21 5 (dk_at dksJ35_gallopLeft_8 11 rfl rfl)
theorem dJ35_gallopLeft_201 : decode cJ35_gallopLeft 201 = .ok (.istore 8, 2) := dk_54 8 (dk_at dksJ35_gallopLeft_8 13 rfl rfl)
theorem dJ35_gallopLeft_203 : decode cJ35_gallopLeft 203 = .ok (.iload 4, 2) := dk_21 4 (dk_at dksJ35_gallopLeft_8 15 rfl rfl)
theorem dJ35_gallopLeft_205 : decode cJ35_gallopLeft 205 = .ok (.iload 6, 2) := dk_21 6 (dk_at dksJ35_gallopLeft_8 17 rfl rfl)
theorem dJ35_gallopLeft_207 : decode cJ35_gallopLeft 207 = .ok (.isub, 1) := dk_100 (dk_at dksJ35_gallopLeft_8 19 rfl rfl)
theorem dJ35_gallopLeft_208 : decode cJ35_gallopLeft 208 = .ok (.istore 5, 2) := dk_54 5 (dk_at dksJ35_gallopLeft_8 20 rfl rfl)
theorem dJ35_gallopLeft_210 : decode cJ35_gallopLeft 210 = .ok (.iload 4, 2) := dk_21 4 (dk_at dksJ35_gallopLeft_8 22 rfl rfl)
theorem dJ35_gallopLeft_212 : decode cJ35_gallopLeft 212 = .ok (.iload 8, 2) := dk_21 8 (dk_at dksJ35_gallopLeft_9 0 rfl rfl)
theorem dJ35_gallopLeft_214 : decode cJ35_gallopLeft 214 = .ok (.isub, 1) := dk_100 (dk_at dksJ35_gallopLeft_9 2 rfl rfl)
theorem dJ35_gallopLeft_215 : decode cJ35_gallopLeft 215 = .ok (.istore 6, 2) := dk_54 6 (dk_at dksJ35_gallopLeft_9 3 rfl rfl)
theorem dJ35_gallopLeft_217 : decode cJ35_gallopLeft 217 = .ok (.getstatic 37, 3) := dk_178 0 37 (dk_at dksJ35_gallopLeft_9 5 rfl rfl)
theorem dJ35_gallopLeft_220 : decode cJ35_gallopLeft 220 = .ok (.ifCond .ne 30, 3) := dk_154 0 30 (dk_at dksJ35_gallopLeft_9 8 rfl rfl)
theorem dJ35_gallopLeft_223 : decode cJ35_gallopLeft 223 = .ok (.iconst (-1), 1) := dk_2 (dk_at dksJ35_gallopLeft_9 11 rfl rfl)
theorem dJ35_gallopLeft_224 : decode cJ35_gallopLeft 224 = .ok (.iload 5, 2) := dk_21 5 (dk_at dksJ35_gallopLeft_9 12 rfl rfl)
theorem dJ35_gallopLeft_226 : decode cJ35_gallopLeft 226 = .ok (.if_icmp .gt 16, 3) := dk_163 0 16 (dk_at dksJ35_gallopLeft_9 14 rfl rfl)
theorem dJ35_gallopLeft_229 : decode cJ35_gallopLeft 229 = .ok (.iload 5, 2) := dk_21 5 (dk_at dksJ35_gallopLeft_9 17 rfl rfl)
theorem dJ35_gallopLeft_231 : decode cJ35_gallopLeft 231 = .ok (.iload 6, 2) := dk_21 6 (dk_at dksJ35_gallopLeft_9 19 rfl rfl)
theorem dJ35_gallopLeft_233 : decode cJ35_gallopLeft 233 = .ok (.if_icmp .ge 9, 3) := dk_162 0 9 (dk_at dksJ35_gallopLeft_9 21 rfl rfl)
theorem dJ35_gallopLeft_236 : decode cJ35_gallopLeft 236 = .ok (.iload 6, 2) := dk_21 6 (dk_at dksJ35_gallopLeft_10 0 rfl rfl)
theorem dJ35_gallopLeft_238 : decode cJ35_gallopLeft 238 = .ok (.iload_n 3, 1) := dk_29 (dk_at dksJ35_gallopLeft_10 2 rfl rfl)
theorem dJ35_gallopLeft_239 : decode cJ35_gallopLeft 239 = .ok (.if_icmp .le 11, 3) := dk_164 0 11 (dk_at dksJ35_gallopLeft_10 3 rfl rfl)
theorem dJ35_gallopLeft_242 : decode cJ35_gallopLeft 242 = .ok (.new 41, 3) := dk_187 0 41 (dk_at dksJ35_gallopLeft_10 6 rfl rfl)
theorem dJ35_gallopLeft_245 : decode cJ35_gallopLeft 245 = .ok (.dup, 1) := dk_89 (dk_at dksJ35_gallopLeft_10 9 rfl rfl)
theorem dJ35_gallopLeft_246 : decode cJ35_gallopLeft 246 = .ok (.invokespecial 43, 3) := dk_183 0 43 (dk_at dksJ35_gallopLeft_10 10 rfl rfl)
theorem dJ35_gallopLeft_249 : decode cJ35_gallopLeft 249 = .ok (.athrow, 1) := dk_191 (dk_at dksJ35_gallopLeft_10 13 rfl rfl)
theorem dJ35_gallopLeft_250 : decode cJ35_gallopLeft 250 = .ok (.iinc 5 1, 3) := dk_132 5 1 (dk_at dksJ35_gallopLeft_10 14 rfl rfl)
theorem dJ35_gallopLeft_253 : decode cJ35_gallopLeft 253 = .ok (.iload 5, 2) := dk_21 5 (dk_at dksJ35_gallopLeft_10 17 rfl rfl)
theorem dJ35_gallopLeft_255 : decode cJ35_gallopLeft 255 = .ok (.iload 6, 2) := dk_21 6 (dk_at dksJ35_gallopLeft_10 19 rfl rfl)
theorem dJ35_gallopLeft_257 : decode cJ35_gallopLeft 257 = .ok (.if_icmp .ge 46, 3) := dk_162 0 46 (dk_at dksJ35_gallopLeft_10 21 rfl rfl)
theorem dJ35_gallopLeft_260 : decode cJ35_gallopLeft 260 = .ok (.iload 5, 2) := dk_21 5 (dk_at dksJ35_gallopLeft_11 0 rfl rfl)
theorem dJ35_gallopLeft_262 : decode cJ35_gallopLeft 262 = .ok (.iload 6, 2) := dk_21 6 (dk_at dksJ35_gallopLeft_11 2 rfl rfl)
theorem dJ35_gallopLeft_264 : decode cJ35_gallopLeft 264 = .ok (.iload 5, 2) := dk_21 5 (dk_at dksJ35_gallopLeft_11 4 rfl rfl)
theorem dJ35_gallopLeft_266 : decode cJ35_gallopLeft 266 = .ok (.isub, 1) := dk_100 (dk_at dksJ35_gallopLeft_11 6 rfl rfl)
theorem dJ35_gallopLeft_267 : decode cJ35_gallopLeft 267 = .ok (.iconst 1, 1) := dk_4 (dk_at dksJ35_gallopLeft_11 7 rfl rfl)
theorem dJ35_gallopLeft_268 : decode cJ35_gallopLeft 268 = .ok (.iushr, 1) := dk_124 (dk_at dksJ35_gallopLeft_11 8 rfl rfl)
theorem dJ35_gallopLeft_269 : decode cJ35_gallopLeft 269 = .ok (.iadd, 1) := dk_96 (dk_at dksJ35_gallopLeft_11 9 rfl rfl)
theorem dJ35_gallopLeft_270 : decode cJ35_gallopLeft 270 = .ok (.istore 7, 2) := dk_54 7 (dk_at dksJ35_gallopLeft_11 10 rfl rfl)
theorem dJ35_gallopLeft_272 : decode cJ35_gallopLeft 272 = .ok (.aload_n 0, 1) := dk_42 (dk_at dksJ35_gallopLeft_11 12 rfl rfl)
theorem dJ35_gallopLeft_273 : decode cJ35_gallopLeft 273 = .ok (.aload_n 1, 1) := dk_43 (dk_at dksJ35_gallopLeft_11 13 rfl rfl)
theorem dJ35_gallopLeft_274 : decode cJ35_gallopLeft 274 = .ok (.iload_n 2, 1) := dk_28 (dk_at dksJ35_gallopLeft_11 14 rfl rfl)
theorem dJ35_gallopLeft_275 : decode cJ35_gallopLeft 275 = .ok (.iload 7, 2) := dk_21 7 (dk_at dksJ35_gallopLeft_11 15 rfl rfl)
theorem dJ35_gallopLeft_277 : decode cJ35_gallopLeft 277 = .ok (.iadd, 1) := dk_96 (dk_at dksJ35_gallopLeft_11 17 rfl rfl)
theorem dJ35_gallopLeft_278 : decode cJ35_gallopLeft 278 = .ok (.aaload, 1) := dk_50 (dk_at dksJ35_gallopLeft_11 18 rfl rfl)
theorem dJ35_gallopLeft_279 : decode cJ35_gallopLeft 279 = .ok (.invokeinterface 71 2, 5) := by decide +kernel
theorem dJ35_gallopLeft_284 : decode cJ35_gallopLeft 284 = .ok (.ifCond .le 12, 3) := dk_158 0 12 (dk_at dksJ35_gallopLeft_12 0 rfl rfl)
theorem dJ35_gallopLeft_287 : decode cJ35_gallopLeft 287 = .ok (.iload 7, 2) := dk_21 7 (dk_at dksJ35_gallopLeft_12 3 rfl rfl)
theorem dJ35_gallopLeft_289 : decode cJ35_gallopLeft 289 = .ok (.iconst 1, 1) := dk_4 (dk_at dksJ35_gallopLeft_12 5 rfl rfl)
theorem dJ35_gallopLeft_290 : decode cJ35_gallopLeft 290 = .ok (.iadd, 1) := dk_96 (dk_at dksJ35_gallopLeft_12 6 rfl rfl)
theorem dJ35_gallopLeft_291 : decode cJ35_gallopLeft 291 = .ok (.istore 5, 2) := dk_54 5 (dk_at dksJ35_gallopLeft_12 7 rfl rfl)
theorem dJ35_gallopLeft_293 : decode cJ35_gallopLeft 293 = .ok (.goto 7, 3) := dk_167 0 7 (dk_at dksJ35_gallopLeft_12 9 rfl rfl)
theorem dJ35_gallopLeft_296 : decode cJ35_gallopLeft 296 = .ok (.iload 7, 2) := dk_21 7 (dk_at dksJ35_gallopLeft_12 12 rfl rfl)
theorem dJ35_gallopLeft_298 : decode cJ35_gallopLeft 298 = .ok (.istore 6, 2) := dk_54 6 (dk_at dksJ35_gallopLeft_12 14 rfl rfl)
theorem dJ35_gallopLeft_300 : decode cJ35_gallopLeft 300 = .ok (.goto (-47), 3) := dk_167 255 209 (dk_at dksJ35_gallopLeft_12 16 rfl rfl)
theorem dJ35_gallopLeft_303 : decode cJ35_gallopLeft 303 = .ok (.getstatic 37, 3) := dk_178 0 37 (dk_at dksJ35_gallopLeft_12 19 rfl rfl)
theorem dJ35_gallopLeft_306 : decode cJ35_gallopLeft 306 = .ok (.ifCond .ne 18, 3) := dk_154 0 18 (dk_at dksJ35_gallopLeft_13 0 rfl rfl)
theorem dJ35_gallopLeft_309 : decode cJ35_gallopLeft 309 = .ok (.iload 5, 2) := dk_21 5 (dk_at dksJ35_gallopLeft_13 3 rfl rfl)
theorem dJ35_gallopLeft_311 : decode cJ35_gallopLeft 311 = .ok (.iload 6, 2) := dk_21 6 (dk_at dksJ35_gallopLeft_13 5 rfl rfl)
theorem dJ35_gallopLeft_313 : decode cJ35_gallopLeft 313 = .ok (.if_icmp .eq 11, 3) := dk_159 0 11 (dk_at dksJ35_gallopLeft_13 7 rfl rfl)
theorem dJ35_gallopLeft_316 : decode cJ35_gallopLeft 316 = .ok (.new 41, 3) := dk_187 0 41 (dk_at dksJ35_gallopLeft_13 10 rfl rfl)
theorem dJ35_gallopLeft_319 : decode cJ35_gallopLeft 319 = .ok (.dup, 1) := dk_89 (dk_at dksJ35_gallopLeft_13 13 rfl rfl)
theorem dJ35_gallopLeft_320 : decode cJ35_gallopLeft 320 = .ok (.invokespecial 43, 3) := dk_183 0 43 (dk_at dksJ35_gallopLeft_13 14 rfl rfl)
theorem dJ35_gallopLeft_323 : decode cJ35_gallopLeft 323 = .ok (.athrow, 1) := dk_191 (dk_at dksJ35_gallopLeft_13 17 rfl rfl)
theorem dJ35_gallopLeft_324 : decode cJ35_gallopLeft 324 = .ok (.iload 6, 2) := dk_21 6 (dk_at dksJ35_gallopLeft_13 18 rfl rfl)
theorem dJ35_gallopLeft_326 : decode cJ35_gallopLeft 326 = .ok (.ireturn, 1) := dk_172 (dk_at dksJ35_gallopLeft_13 20 rfl rfl)
abbrev cJ35_mergeLo : ByteArray := prog_62_method_13_code
def yJ35_mergeLo : MethodName := ⟨RJ35, "mergeLo", "(IIII)V"⟩
def dkwJ35_mergeLo_28 : List UInt8 := [28, 184, 0, 75, 177]
abbrev dktJ35_mergeLo_28 : List UInt8 := dkwJ35_mergeLo_28 ++ []
def dkwJ35_mergeLo_27 : List UInt8 := [154, 0, 16, 28, 4, 163, 0, 11, 187, 0, 41, 89, 183, 0, 43, 191, 25, 6, 21, 7, 25, 5, 21, 9]
abbrev dktJ35_mergeLo_27 : List UInt8 := dkwJ35_mergeLo_27 ++ dktJ35_mergeLo_28
def dkwJ35_mergeLo_26 : List UInt8 := [178, 0, 37, 154, 0, 16, 21, 4, 153, 0, 11, 187, 0, 41, 89, 183, 0, 43, 191, 178, 0, 37]
abbrev dktJ35_mergeLo_26 : List UInt8 := dkwJ35_mergeLo_26 ++ dktJ35_mergeLo_27
def dkwJ35_mergeLo_25 : List UInt8 := [96, 25, 6, 21, 7, 50, 83, 167, 0, 67, 28, 154, 0, 13, 187, 0, 107, 89, 18, 109, 183, 0, 111, 191]
abbrev dktJ35_mergeLo_25 : List UInt8 := dkwJ35_mergeLo_25 ++ dktJ35_mergeLo_26
def dkwJ35_mergeLo_24 : List UInt8 := [89, 183, 0, 43, 191, 25, 5, 21, 8, 25, 5, 21, 9, 21, 4, 184, 0, 75, 25, 5, 21, 9, 21, 4]
abbrev dktJ35_mergeLo_24 : List UInt8 := dkwJ35_mergeLo_24 ++ dktJ35_mergeLo_25
def dkwJ35_mergeLo_23 : List UInt8 := [21, 10, 181, 0, 9, 28, 4, 160, 0, 51, 178, 0, 37, 154, 0, 16, 21, 4, 157, 0, 11, 187, 0, 41]
abbrev dktJ35_mergeLo_23 : List UInt8 := dkwJ35_mergeLo_23 ++ dktJ35_mergeLo_24
def dkwJ35_mergeLo_22 : List UInt8 := [156, 0, 6, 3, 54, 10, 132, 10, 2, 167, 254, 134, 42, 21, 10, 4, 162, 0, 7, 4, 167, 0, 5]
abbrev dktJ35_mergeLo_22 : List UInt8 := dkwJ35_mergeLo_22 ++ dktJ35_mergeLo_23
def dkwJ35_mergeLo_21 : List UInt8 := [167, 0, 4, 3, 21, 12, 16, 7, 161, 0, 7, 4, 167, 0, 4, 3, 128, 154, 255, 19, 21, 10]
abbrev dktJ35_mergeLo_21 : List UInt8 := dkwJ35_mergeLo_21 ++ dktJ35_mergeLo_22
def dkwJ35_mergeLo_20 : List UInt8 := [132, 2, 255, 28, 4, 160, 0, 6, 167, 0, 48, 132, 10, 255, 21, 11, 16, 7, 161, 0, 7, 4]
abbrev dktJ35_mergeLo_20 : List UInt8 := dkwJ35_mergeLo_20 ++ dktJ35_mergeLo_21
def dkwJ35_mergeLo_19 : List UInt8 := [21, 4, 154, 0, 6, 167, 0, 75, 25, 5, 21, 9, 132, 9, 1, 25, 6, 21, 7, 132, 7, 1, 50, 83]
abbrev dktJ35_mergeLo_19 : List UInt8 := dkwJ35_mergeLo_19 ++ dktJ35_mergeLo_20
def dkwJ35_mergeLo_18 : List UInt8 := [184, 0, 75, 21, 9, 21, 12, 96, 54, 9, 21, 8, 21, 12, 96, 54, 8, 21, 4, 21, 12, 100, 54, 4]
abbrev dktJ35_mergeLo_18 : List UInt8 := dkwJ35_mergeLo_18 ++ dktJ35_mergeLo_19
def dkwJ35_mergeLo_17 : List UInt8 := [21, 4, 3, 184, 0, 93, 54, 12, 21, 12, 153, 0, 45, 25, 5, 21, 8, 25, 5, 21, 9, 21, 12]
abbrev dktJ35_mergeLo_17 : List UInt8 := dkwJ35_mergeLo_17 ++ dktJ35_mergeLo_18
def dkwJ35_mergeLo_16 : List UInt8 := [132, 4, 255, 21, 4, 154, 0, 6, 167, 0, 142, 25, 6, 21, 7, 50, 192, 0, 69, 25, 5, 21, 8]
abbrev dktJ35_mergeLo_16 : List UInt8 := dkwJ35_mergeLo_16 ++ dktJ35_mergeLo_17
def dkwJ35_mergeLo_15 : List UInt8 := [163, 0, 6, 167, 0, 169, 25, 5, 21, 9, 132, 9, 1, 25, 5, 21, 8, 132, 8, 1, 50, 83]
abbrev dktJ35_mergeLo_15 : List UInt8 := dkwJ35_mergeLo_15 ++ dktJ35_mergeLo_16
def dkwJ35_mergeLo_14 : List UInt8 := [184, 0, 75, 21, 9, 21, 11, 96, 54, 9, 21, 7, 21, 11, 96, 54, 7, 28, 21, 11, 100, 61, 28, 4]
abbrev dktJ35_mergeLo_14 : List UInt8 := dkwJ35_mergeLo_14 ++ dktJ35_mergeLo_15
def dkwJ35_mergeLo_13 : List UInt8 := [21, 7, 28, 3, 184, 0, 89, 54, 11, 21, 11, 153, 0, 43, 25, 6, 21, 7, 25, 5, 21, 9, 21, 11]
abbrev dktJ35_mergeLo_13 : List UInt8 := dkwJ35_mergeLo_13 ++ dktJ35_mergeLo_14
def dkwJ35_mergeLo_12 : List UInt8 := [21, 4, 157, 0, 11, 187, 0, 41, 89, 183, 0, 43, 191, 25, 5, 21, 8, 50, 192, 0, 69, 25, 6]
abbrev dktJ35_mergeLo_12 : List UInt8 := dkwJ35_mergeLo_12 ++ dktJ35_mergeLo_13
def dkwJ35_mergeLo_11 : List UInt8 := [167, 1, 11, 21, 11, 21, 12, 128, 21, 10, 161, 255, 138, 178, 0, 37, 154, 0, 21, 28, 4, 164, 0, 8]
abbrev dktJ35_mergeLo_11 : List UInt8 := dkwJ35_mergeLo_11 ++ dktJ35_mergeLo_12
def dkwJ35_mergeLo_10 : List UInt8 := [25, 6, 21, 7, 132, 7, 1, 50, 83, 132, 11, 1, 3, 54, 12, 132, 2, 255, 28, 4, 160, 0, 6]
abbrev dktJ35_mergeLo_10 : List UInt8 := dkwJ35_mergeLo_10 ++ dktJ35_mergeLo_11
def dkwJ35_mergeLo_9 : List UInt8 := [132, 12, 1, 3, 54, 11, 132, 4, 255, 21, 4, 154, 0, 39, 167, 1, 44, 25, 5, 21, 9, 132, 9, 1]
abbrev dktJ35_mergeLo_9 : List UInt8 := dkwJ35_mergeLo_9 ++ dktJ35_mergeLo_10
def dkwJ35_mergeLo_8 : List UInt8 := [185, 0, 71, 2, 0, 156, 0, 36, 25, 5, 21, 9, 132, 9, 1, 25, 5, 21, 8, 132, 8, 1, 50, 83]
abbrev dktJ35_mergeLo_8 : List UInt8 := dkwJ35_mergeLo_8 ++ dktJ35_mergeLo_9
def dkwJ35_mergeLo_7 : List UInt8 := [187, 0, 41, 89, 183, 0, 43, 191, 25, 5, 21, 8, 50, 192, 0, 69, 25, 6, 21, 7, 50]
abbrev dktJ35_mergeLo_7 : List UInt8 := dkwJ35_mergeLo_7 ++ dktJ35_mergeLo_8
def dkwJ35_mergeLo_6 : List UInt8 := [54, 10, 3, 54, 11, 3, 54, 12, 178, 0, 37, 154, 0, 21, 28, 4, 164, 0, 8, 21, 4, 157, 0, 11]
abbrev dktJ35_mergeLo_6 : List UInt8 := dkwJ35_mergeLo_6 ++ dktJ35_mergeLo_7
def dkwJ35_mergeLo_5 : List UInt8 := [21, 4, 184, 0, 75, 25, 5, 21, 9, 21, 4, 96, 25, 6, 21, 7, 50, 83, 177, 42, 180, 0, 9]
abbrev dktJ35_mergeLo_5 : List UInt8 := dkwJ35_mergeLo_5 ++ dktJ35_mergeLo_6
def dkwJ35_mergeLo_4 : List UInt8 := [21, 7, 25, 5, 21, 9, 28, 184, 0, 75, 177, 28, 4, 160, 0, 30, 25, 5, 21, 8, 25, 5, 21, 9]
abbrev dktJ35_mergeLo_4 : List UInt8 := dkwJ35_mergeLo_4 ++ dktJ35_mergeLo_5
def dkwJ35_mergeLo_3 : List UInt8 := [21, 9, 132, 9, 1, 25, 5, 21, 8, 132, 8, 1, 50, 83, 132, 4, 255, 21, 4, 154, 0, 16, 25, 6]
abbrev dktJ35_mergeLo_3 : List UInt8 := dkwJ35_mergeLo_3 ++ dktJ35_mergeLo_4
def dkwJ35_mergeLo_2 : List UInt8 := [180, 0, 23, 54, 7, 29, 54, 8, 27, 54, 9, 25, 5, 27, 25, 6, 21, 7, 28, 184, 0, 75, 25, 5]
abbrev dktJ35_mergeLo_2 : List UInt8 := dkwJ35_mergeLo_2 ++ dktJ35_mergeLo_3
def dkwJ35_mergeLo_1 : List UInt8 := [187, 0, 41, 89, 183, 0, 43, 191, 42, 180, 0, 16, 58, 5, 42, 28, 182, 0, 103, 58, 6, 42]
abbrev dktJ35_mergeLo_1 : List UInt8 := dkwJ35_mergeLo_1 ++ dktJ35_mergeLo_2
def dkwJ35_mergeLo_0 : List UInt8 := [178, 0, 37, 154, 0, 27, 28, 158, 0, 15, 21, 4, 158, 0, 10, 27, 28, 96, 29, 159, 0, 11]
abbrev dktJ35_mergeLo_0 : List UInt8 := dkwJ35_mergeLo_0 ++ dktJ35_mergeLo_1
theorem dksJ35_mergeLo_0 : cJ35_mergeLo.data.toList.drop 0 = dktJ35_mergeLo_0 := by decide +kernel
theorem dksJ35_mergeLo_1 : cJ35_mergeLo.data.toList.drop 22 = dktJ35_mergeLo_1 := dk_seg dksJ35_mergeLo_0 22 rfl rfl
theorem dksJ35_mergeLo_2 : cJ35_mergeLo.data.toList.drop 44 = dktJ35_mergeLo_2 := dk_seg dksJ35_mergeLo_1 22 rfl rfl
theorem dksJ35_mergeLo_3 : cJ35_mergeLo.data.toList.drop 68 = dktJ35_mergeLo_3 := dk_seg dksJ35_mergeLo_2 24 rfl rfl
theorem dksJ35_mergeLo_4 : cJ35_mergeLo.data.toList.drop 92 = dktJ35_mergeLo_4 := dk_seg dksJ35_mergeLo_3 24 rfl rfl
theorem dksJ35_mergeLo_5 : cJ35_mergeLo.data.toList.drop 116 = dktJ35_mergeLo_5 := dk_seg dksJ35_mergeLo_4 24 rfl rfl
theorem dksJ35_mergeLo_6 : cJ35_mergeLo.data.toList.drop 139 = dktJ35_mergeLo_6 := dk_seg dksJ35_mergeLo_5 23 rfl rfl
theorem dksJ35_mergeLo_7 : cJ35_mergeLo.data.toList.drop 163 = dktJ35_mergeLo_7 := dk_seg dksJ35_mergeLo_6 24 rfl rfl
theorem dksJ35_mergeLo_8 : cJ35_mergeLo.data.toList.drop 184 = dktJ35_mergeLo_8 := dk_seg dksJ35_mergeLo_7 21 rfl rfl
theorem dksJ35_mergeLo_9 : cJ35_mergeLo.data.toList.drop 208 = dktJ35_mergeLo_9 := dk_seg dksJ35_mergeLo_8 24 rfl rfl
theorem dksJ35_mergeLo_10 : cJ35_mergeLo.data.toList.drop 232 = dktJ35_mergeLo_10 := dk_seg dksJ35_mergeLo_9 24 rfl rfl
theorem dksJ35_mergeLo_11 : cJ35_mergeLo.data.toList.drop 255 = dktJ35_mergeLo_11 := dk_seg dksJ35_mergeLo_10 23 rfl rfl
theorem dksJ35_mergeLo_12 : cJ35_mergeLo.data.toList.drop 279 = dktJ35_mergeLo_12 := dk_seg dksJ35_mergeLo_11 24 rfl rfl
theorem dksJ35_mergeLo_13 : cJ35_mergeLo.data.toList.drop 302 = dktJ35_mergeLo_13 := dk_seg dksJ35_mergeLo_12 23 rfl rfl
theorem dksJ35_mergeLo_14 : cJ35_mergeLo.data.toList.drop 326 = dktJ35_mergeLo_14 := dk_seg dksJ35_mergeLo_13 24 rfl rfl
theorem dksJ35_mergeLo_15 : cJ35_mergeLo.data.toList.drop 350 = dktJ35_mergeLo_15 := dk_seg dksJ35_mergeLo_14 24 rfl rfl
theorem dksJ35_mergeLo_16 : cJ35_mergeLo.data.toList.drop 372 = dktJ35_mergeLo_16 := dk_seg dksJ35_mergeLo_15 22 rfl rfl
theorem dksJ35_mergeLo_17 : cJ35_mergeLo.data.toList.drop 395 = dktJ35_mergeLo_17 := dk_seg dksJ35_mergeLo_16 23 rfl rfl
theorem dksJ35_mergeLo_18 : cJ35_mergeLo.data.toList.drop 418 = dktJ35_mergeLo_18 := dk_seg dksJ35_mergeLo_17 23 rfl rfl
theorem dksJ35_mergeLo_19 : cJ35_mergeLo.data.toList.drop 442 = dktJ35_mergeLo_19 := dk_seg dksJ35_mergeLo_18 24 rfl rfl
theorem dksJ35_mergeLo_20 : cJ35_mergeLo.data.toList.drop 466 = dktJ35_mergeLo_20 := dk_seg dksJ35_mergeLo_19 24 rfl rfl
theorem dksJ35_mergeLo_21 : cJ35_mergeLo.data.toList.drop 488 = dktJ35_mergeLo_21 := dk_seg dksJ35_mergeLo_20 22 rfl rfl
theorem dksJ35_mergeLo_22 : cJ35_mergeLo.data.toList.drop 510 = dktJ35_mergeLo_22 := dk_seg dksJ35_mergeLo_21 22 rfl rfl
theorem dksJ35_mergeLo_23 : cJ35_mergeLo.data.toList.drop 533 = dktJ35_mergeLo_23 := dk_seg dksJ35_mergeLo_22 23 rfl rfl
theorem dksJ35_mergeLo_24 : cJ35_mergeLo.data.toList.drop 557 = dktJ35_mergeLo_24 := dk_seg dksJ35_mergeLo_23 24 rfl rfl
theorem dksJ35_mergeLo_25 : cJ35_mergeLo.data.toList.drop 581 = dktJ35_mergeLo_25 := dk_seg dksJ35_mergeLo_24 24 rfl rfl
theorem dksJ35_mergeLo_26 : cJ35_mergeLo.data.toList.drop 605 = dktJ35_mergeLo_26 := dk_seg dksJ35_mergeLo_25 24 rfl rfl
theorem dksJ35_mergeLo_27 : cJ35_mergeLo.data.toList.drop 627 = dktJ35_mergeLo_27 := dk_seg dksJ35_mergeLo_26 22 rfl rfl
theorem dksJ35_mergeLo_28 : cJ35_mergeLo.data.toList.drop 651 = dktJ35_mergeLo_28 := dk_seg dksJ35_mergeLo_27 24 rfl rfl
theorem dJ35_mergeLo_0 : decode cJ35_mergeLo 0 = .ok (.getstatic 37, 3) := dk_178 0 37 (dk_at dksJ35_mergeLo_0 0 rfl rfl)
theorem dJ35_mergeLo_3 : decode cJ35_mergeLo 3 = .ok (.ifCond .ne 27, 3) := dk_154 0 27 (dk_at dksJ35_mergeLo_0 3 rfl rfl)
theorem dJ35_mergeLo_6 : decode cJ35_mergeLo 6 = .ok (.iload_n 2, 1) := dk_28 (dk_at dksJ35_mergeLo_0 6 rfl rfl)
theorem dJ35_mergeLo_7 : decode cJ35_mergeLo 7 = .ok (.ifCond .le 15, 3) := dk_158 0 15 (dk_at dksJ35_mergeLo_0 7 rfl rfl)
theorem dJ35_mergeLo_10 : decode cJ35_mergeLo 10 = .ok (.iload 4, 2) := dk_21 4 (dk_at dksJ35_mergeLo_0 10 rfl rfl)
theorem dJ35_mergeLo_12 : decode cJ35_mergeLo 12 = .ok (.ifCond .le 10, 3) := dk_158 0 10 (dk_at dksJ35_mergeLo_0 12 rfl rfl)
theorem dJ35_mergeLo_15 : decode cJ35_mergeLo 15 = .ok (.iload_n 1, 1) := dk_27 (dk_at dksJ35_mergeLo_0 15 rfl rfl)
theorem dJ35_mergeLo_16 : decode cJ35_mergeLo 16 = .ok (.iload_n 2, 1) := dk_28 (dk_at dksJ35_mergeLo_0 16 rfl rfl)
theorem dJ35_mergeLo_17 : decode cJ35_mergeLo 17 = .ok (.iadd, 1) := dk_96 (dk_at dksJ35_mergeLo_0 17 rfl rfl)
theorem dJ35_mergeLo_18 : decode cJ35_mergeLo 18 = .ok (.iload_n 3, 1) := dk_29 (dk_at dksJ35_mergeLo_0 18 rfl rfl)
theorem dJ35_mergeLo_19 : decode cJ35_mergeLo 19 = .ok (.if_icmp .eq 11, 3) := dk_159 0 11 (dk_at dksJ35_mergeLo_0 19 rfl rfl)
theorem dJ35_mergeLo_22 : decode cJ35_mergeLo 22 = .ok (.new 41, 3) := dk_187 0 41 (dk_at dksJ35_mergeLo_1 0 rfl rfl)
theorem dJ35_mergeLo_25 : decode cJ35_mergeLo 25 = .ok (.dup, 1) := dk_89 (dk_at dksJ35_mergeLo_1 3 rfl rfl)
theorem dJ35_mergeLo_26 : decode cJ35_mergeLo 26 = .ok (.invokespecial 43, 3) := dk_183 0 43 (dk_at dksJ35_mergeLo_1 4 rfl rfl)
theorem dJ35_mergeLo_29 : decode cJ35_mergeLo 29 = .ok (.athrow, 1) := dk_191 (dk_at dksJ35_mergeLo_1 7 rfl rfl)
theorem dJ35_mergeLo_30 : decode cJ35_mergeLo 30 = .ok (.aload_n 0, 1) := dk_42 (dk_at dksJ35_mergeLo_1 8 rfl rfl)
theorem dJ35_mergeLo_31 : decode cJ35_mergeLo 31 = .ok (.getfield 16, 3) := dk_180 0 16 (dk_at dksJ35_mergeLo_1 9 rfl rfl)
theorem dJ35_mergeLo_34 : decode cJ35_mergeLo 34 = .ok (.astore 5, 2) := dk_58 5 (dk_at dksJ35_mergeLo_1 12 rfl rfl)
theorem dJ35_mergeLo_36 : decode cJ35_mergeLo 36 = .ok (.aload_n 0, 1) := dk_42 (dk_at dksJ35_mergeLo_1 14 rfl rfl)
theorem dJ35_mergeLo_37 : decode cJ35_mergeLo 37 = .ok (.iload_n 2, 1) := dk_28 (dk_at dksJ35_mergeLo_1 15 rfl rfl)
theorem dJ35_mergeLo_38 : decode cJ35_mergeLo 38 = .ok (.invokevirtual 103, 3) := dk_182 0 103 (dk_at dksJ35_mergeLo_1 16 rfl rfl)
theorem dJ35_mergeLo_41 : decode cJ35_mergeLo 41 = .ok (.astore 6, 2) := dk_58 6 (dk_at dksJ35_mergeLo_1 19 rfl rfl)
theorem dJ35_mergeLo_43 : decode cJ35_mergeLo 43 = .ok (.aload_n 0, 1) := dk_42 (dk_at dksJ35_mergeLo_1 21 rfl rfl)
theorem dJ35_mergeLo_44 : decode cJ35_mergeLo 44 = .ok (.getfield 23, 3) := dk_180 0 23 (dk_at dksJ35_mergeLo_2 0 rfl rfl)
theorem dJ35_mergeLo_47 : decode cJ35_mergeLo 47 = .ok (.istore 7, 2) := dk_54 7 (dk_at dksJ35_mergeLo_2 3 rfl rfl)
theorem dJ35_mergeLo_49 : decode cJ35_mergeLo 49 = .ok (.iload_n 3, 1) := dk_29 (dk_at dksJ35_mergeLo_2 5 rfl rfl)
theorem dJ35_mergeLo_50 : decode cJ35_mergeLo 50 = .ok (.istore 8, 2) := dk_54 8 (dk_at dksJ35_mergeLo_2 6 rfl rfl)
theorem dJ35_mergeLo_52 : decode cJ35_mergeLo 52 = .ok (.iload_n 1, 1) := dk_27 (dk_at dksJ35_mergeLo_2 8 rfl rfl)
theorem dJ35_mergeLo_53 : decode cJ35_mergeLo 53 = .ok (.istore 9, 2) := dk_54 9 (dk_at dksJ35_mergeLo_2 9 rfl rfl)
theorem dJ35_mergeLo_55 : decode cJ35_mergeLo 55 = .ok (.aload 5, 2) := dk_25 5 (dk_at dksJ35_mergeLo_2 11 rfl rfl)
theorem dJ35_mergeLo_57 : decode cJ35_mergeLo 57 = .ok (.iload_n 1, 1) := dk_27 (dk_at dksJ35_mergeLo_2 13 rfl rfl)
theorem dJ35_mergeLo_58 : decode cJ35_mergeLo 58 = .ok (.aload 6, 2) := dk_25 6 (dk_at dksJ35_mergeLo_2 14 rfl rfl)
theorem dJ35_mergeLo_60 : decode cJ35_mergeLo 60 = .ok (.iload 7, 2) := dk_21 7 (dk_at dksJ35_mergeLo_2 16 rfl rfl)
theorem dJ35_mergeLo_62 : decode cJ35_mergeLo 62 = .ok (.iload_n 2, 1) := dk_28 (dk_at dksJ35_mergeLo_2 18 rfl rfl)
theorem dJ35_mergeLo_63 : decode cJ35_mergeLo 63 = .ok (.invokestatic 75, 3) := dk_184 0 75 (dk_at dksJ35_mergeLo_2 19 rfl rfl)
theorem dJ35_mergeLo_66 : decode cJ35_mergeLo 66 = .ok (.aload 5, 2) := dk_25 5 (dk_at dksJ35_mergeLo_2 22 rfl rfl)
theorem dJ35_mergeLo_68 : decode cJ35_mergeLo 68 = .ok (.iload 9, 2) := dk_21 9 (dk_at dksJ35_mergeLo_3 0 rfl rfl)
theorem dJ35_mergeLo_70 : decode cJ35_mergeLo 70 = .ok (.iinc 9 1, 3) := dk_132 9 1 (dk_at dksJ35_mergeLo_3 2 rfl rfl)
theorem dJ35_mergeLo_73 : decode cJ35_mergeLo 73 = .ok (.aload 5, 2) := dk_25 5 (dk_at dksJ35_mergeLo_3 5 rfl rfl)
theorem dJ35_mergeLo_75 : decode cJ35_mergeLo 75 = .ok (.iload 8, 2) := dk_21 8 (dk_at dksJ35_mergeLo_3 7 rfl rfl)
theorem dJ35_mergeLo_77 : decode cJ35_mergeLo 77 = .ok (.iinc 8 1, 3) := dk_132 8 1 (dk_at dksJ35_mergeLo_3 9 rfl rfl)
theorem dJ35_mergeLo_80 : decode cJ35_mergeLo 80 = .ok (.aaload, 1) := dk_50 (dk_at dksJ35_mergeLo_3 12 rfl rfl)
theorem dJ35_mergeLo_81 : decode cJ35_mergeLo 81 = .ok (.aastore, 1) := dk_83 (dk_at dksJ35_mergeLo_3 13 rfl rfl)
theorem dJ35_mergeLo_82 : decode cJ35_mergeLo 82 = .ok (.iinc 4 (-1), 3) := dk_132 4 255 (dk_at dksJ35_mergeLo_3 14 rfl rfl)
theorem dJ35_mergeLo_85 : decode cJ35_mergeLo 85 = .ok (.iload 4, 2) := dk_21 4 (dk_at dksJ35_mergeLo_3 17 rfl rfl)
theorem dJ35_mergeLo_87 : decode cJ35_mergeLo 87 = .ok (.ifCond .ne 16, 3) := dk_154 0 16 (dk_at dksJ35_mergeLo_3 19 rfl rfl)
theorem dJ35_mergeLo_90 : decode cJ35_mergeLo 90 = .ok (.aload 6, 2) := dk_25 6 (dk_at dksJ35_mergeLo_3 22 rfl rfl)
theorem dJ35_mergeLo_92 : decode cJ35_mergeLo 92 = .ok (.iload 7, 2) := dk_21 7 (dk_at dksJ35_mergeLo_4 0 rfl rfl)
theorem dJ35_mergeLo_94 : decode cJ35_mergeLo 94 = .ok (.aload 5, 2) := dk_25 5 (dk_at dksJ35_mergeLo_4 2 rfl rfl)
theorem dJ35_mergeLo_96 : decode cJ35_mergeLo 96 = .ok (.iload 9, 2) := dk_21 9 (dk_at dksJ35_mergeLo_4 4 rfl rfl)
theorem dJ35_mergeLo_98 : decode cJ35_mergeLo 98 = .ok (.iload_n 2, 1) := dk_28 (dk_at dksJ35_mergeLo_4 6 rfl rfl)
theorem dJ35_mergeLo_99 : decode cJ35_mergeLo 99 = .ok (.invokestatic 75, 3) := dk_184 0 75 (dk_at dksJ35_mergeLo_4 7 rfl rfl)
theorem dJ35_mergeLo_102 : decode cJ35_mergeLo 102 = .ok (.return_, 1) := dk_177 (dk_at dksJ35_mergeLo_4 10 rfl rfl)
theorem dJ35_mergeLo_103 : decode cJ35_mergeLo 103 = .ok (.iload_n 2, 1) := dk_28 (dk_at dksJ35_mergeLo_4 11 rfl rfl)
theorem dJ35_mergeLo_104 : decode cJ35_mergeLo 104 = .ok (.iconst 1, 1) := dk_4 (dk_at dksJ35_mergeLo_4 12 rfl rfl)
theorem dJ35_mergeLo_105 : decode cJ35_mergeLo 105 = .ok (.if_icmp .ne 30, 3) := dk_160 0 30 (dk_at dksJ35_mergeLo_4 13 rfl rfl)
theorem dJ35_mergeLo_108 : decode cJ35_mergeLo 108 = .ok (.aload 5, 2) := dk_25 5 (dk_at dksJ35_mergeLo_4 16 rfl rfl)
theorem dJ35_mergeLo_110 : decode cJ35_mergeLo 110 = .ok (.iload 8, 2) := dk_21 8 (dk_at dksJ35_mergeLo_4 18 rfl rfl)
theorem dJ35_mergeLo_112 : decode cJ35_mergeLo 112 = .ok (.aload 5, 2) := dk_25 5 (dk_at dksJ35_mergeLo_4 20 rfl rfl)
theorem dJ35_mergeLo_114 : decode cJ35_mergeLo 114 = .ok (.iload 9, 2) := dk_21 9 (dk_at dksJ35_mergeLo_4 22 rfl rfl)
theorem dJ35_mergeLo_116 : decode cJ35_mergeLo 116 = .ok (.iload 4, 2) := dk_21 4 (dk_at dksJ35_mergeLo_5 0 rfl rfl)
theorem dJ35_mergeLo_118 : decode cJ35_mergeLo 118 = .ok (.invokestatic 75, 3) := dk_184 0 75 (dk_at dksJ35_mergeLo_5 2 rfl rfl)
theorem dJ35_mergeLo_121 : decode cJ35_mergeLo 121 = .ok (.aload 5, 2) := dk_25 5 (dk_at dksJ35_mergeLo_5 5 rfl rfl)
theorem dJ35_mergeLo_123 : decode cJ35_mergeLo 123 = .ok (.iload 9, 2) := dk_21 9 (dk_at dksJ35_mergeLo_5 7 rfl rfl)
theorem dJ35_mergeLo_125 : decode cJ35_mergeLo 125 = .ok (.iload 4, 2) := dk_21 4 (dk_at dksJ35_mergeLo_5 9 rfl rfl)
theorem dJ35_mergeLo_127 : decode cJ35_mergeLo 127 = .ok (.iadd, 1) := dk_96 (dk_at dksJ35_mergeLo_5 11 rfl rfl)
theorem dJ35_mergeLo_128 : decode cJ35_mergeLo 128 = .ok (.aload 6, 2) := dk_25 6 (dk_at dksJ35_mergeLo_5 12 rfl rfl)
theorem dJ35_mergeLo_130 : decode cJ35_mergeLo 130 = .ok (.iload 7, 2) := dk_21 7 (dk_at dksJ35_mergeLo_5 14 rfl rfl)
theorem dJ35_mergeLo_132 : decode cJ35_mergeLo 132 = .ok (.aaload, 1) := dk_50 (dk_at dksJ35_mergeLo_5 16 rfl rfl)
theorem dJ35_mergeLo_133 : decode cJ35_mergeLo 133 = .ok (.aastore, 1) := dk_83 (dk_at dksJ35_mergeLo_5 17 rfl rfl)
theorem dJ35_mergeLo_134 : decode cJ35_mergeLo 134 = .ok (.return_, 1) := dk_177 (dk_at dksJ35_mergeLo_5 18 rfl rfl)
theorem dJ35_mergeLo_135 : decode cJ35_mergeLo 135 = .ok (.aload_n 0, 1) := dk_42 (dk_at dksJ35_mergeLo_5 19 rfl rfl)
theorem dJ35_mergeLo_136 : decode cJ35_mergeLo 136 = .ok (.getfield 9, 3) := dk_180 0 9 (dk_at dksJ35_mergeLo_5 20 rfl rfl)
theorem dJ35_mergeLo_139 : decode cJ35_mergeLo 139 = .ok (.istore 10, 2) := dk_54 10 (dk_at dksJ35_mergeLo_6 0 rfl rfl)
theorem dJ35_mergeLo_141 : decode cJ35_mergeLo 141 = .ok (.iconst 0, 1) := dk_3 (dk_at dksJ35_mergeLo_6 2 rfl rfl)
theorem dJ35_mergeLo_142 : decode cJ35_mergeLo 142 = .ok (.istore 11, 2) := dk_54 11 (dk_at dksJ35_mergeLo_6 3 rfl rfl)
theorem dJ35_mergeLo_144 : decode cJ35_mergeLo 144 = .ok (.iconst 0, 1) := dk_3 (dk_at dksJ35_mergeLo_6 5 rfl rfl)
theorem dJ35_mergeLo_145 : decode cJ35_mergeLo 145 = .ok (.istore 12, 2) := dk_54 12 (dk_at dksJ35_mergeLo_6 6 rfl rfl)
theorem dJ35_mergeLo_147 : decode cJ35_mergeLo 147 = .ok (.getstatic 37, 3) := dk_178 0 37 (dk_at dksJ35_mergeLo_6 8 rfl rfl)
theorem dJ35_mergeLo_150 : decode cJ35_mergeLo 150 = .ok (.ifCond .ne 21, 3) := dk_154 0 21 (dk_at dksJ35_mergeLo_6 11 rfl rfl)
theorem dJ35_mergeLo_153 : decode cJ35_mergeLo 153 = .ok (.iload_n 2, 1) := dk_28 (dk_at dksJ35_mergeLo_6 14 rfl rfl)
theorem dJ35_mergeLo_154 : decode cJ35_mergeLo 154 = .ok (.iconst 1, 1) := dk_4 (dk_at dksJ35_mergeLo_6 15 rfl rfl)
theorem dJ35_mergeLo_155 : decode cJ35_mergeLo 155 = .ok (.if_icmp .le 8, 3) := dk_164 0 8 (dk_at dksJ35_mergeLo_6 16 rfl rfl)
theorem dJ35_mergeLo_158 : decode cJ35_mergeLo 158 = .ok (.iload 4, 2) := dk_21 4 (dk_at dksJ35_mergeLo_6 19 rfl rfl)
theorem dJ35_mergeLo_160 : decode cJ35_mergeLo 160 = .ok (.ifCond .gt 11, 3) := dk_157 0 11 (dk_at dksJ35_mergeLo_6 21 rfl rfl)
theorem dJ35_mergeLo_163 : decode cJ35_mergeLo 163 = .ok (.new 41, 3) := dk_187 0 41 (dk_at dksJ35_mergeLo_7 0 rfl rfl)
theorem dJ35_mergeLo_166 : decode cJ35_mergeLo 166 = .ok (.dup, 1) := dk_89 (dk_at dksJ35_mergeLo_7 3 rfl rfl)
theorem dJ35_mergeLo_167 : decode cJ35_mergeLo 167 = .ok (.invokespecial 43, 3) := dk_183 0 43 (dk_at dksJ35_mergeLo_7 4 rfl rfl)
theorem dJ35_mergeLo_170 : decode cJ35_mergeLo 170 = .ok (.athrow, 1) := dk_191 (dk_at dksJ35_mergeLo_7 7 rfl rfl)
theorem dJ35_mergeLo_171 : decode cJ35_mergeLo 171 = .ok (.aload 5, 2) := dk_25 5 (dk_at dksJ35_mergeLo_7 8 rfl rfl)
theorem dJ35_mergeLo_173 : decode cJ35_mergeLo 173 = .ok (.iload 8, 2) := dk_21 8 (dk_at dksJ35_mergeLo_7 10 rfl rfl)
theorem dJ35_mergeLo_175 : decode cJ35_mergeLo 175 = .ok (.aaload, 1) := dk_50 (dk_at dksJ35_mergeLo_7 12 rfl rfl)
theorem dJ35_mergeLo_176 : decode cJ35_mergeLo 176 = .ok (.checkcast 69, 3) := dk_192 0 69 (dk_at dksJ35_mergeLo_7 13 rfl rfl)
theorem dJ35_mergeLo_179 : decode cJ35_mergeLo 179 = .ok (.aload 6, 2) := dk_25 6 (dk_at dksJ35_mergeLo_7 16 rfl rfl)
theorem dJ35_mergeLo_181 : decode cJ35_mergeLo 181 = .ok (.iload 7, 2) := dk_21 7 (dk_at dksJ35_mergeLo_7 18 rfl rfl)
theorem dJ35_mergeLo_183 : decode cJ35_mergeLo 183 = .ok (.aaload, 1) := dk_50 (dk_at dksJ35_mergeLo_7 20 rfl rfl)
theorem dJ35_mergeLo_184 : decode cJ35_mergeLo 184 = .ok (.invokeinterface 71 2, 5) := by decide +kernel
theorem dJ35_mergeLo_189 : decode cJ35_mergeLo 189 = .ok (.ifCond .ge 36, 3) := dk_156 0 36 (dk_at dksJ35_mergeLo_8 5 rfl rfl)
theorem dJ35_mergeLo_192 : decode cJ35_mergeLo 192 = .ok (.aload 5, 2) := dk_25 5 (dk_at dksJ35_mergeLo_8 8 rfl rfl)
theorem dJ35_mergeLo_194 : decode cJ35_mergeLo 194 = .ok (.iload 9, 2) := dk_21 9 (dk_at dksJ35_mergeLo_8 10 rfl rfl)
theorem dJ35_mergeLo_196 : decode cJ35_mergeLo 196 = .ok (.iinc 9 1, 3) := dk_132 9 1 (dk_at dksJ35_mergeLo_8 12 rfl rfl)
theorem dJ35_mergeLo_199 : decode cJ35_mergeLo 199 = .ok (.aload 5, 2) := dk_25 5 (dk_at dksJ35_mergeLo_8 15 rfl rfl)
theorem dJ35_mergeLo_201 : decode cJ35_mergeLo 201 = .ok (.iload 8, 2) := dk_21 8 (dk_at dksJ35_mergeLo_8 17 rfl rfl)
theorem dJ35_mergeLo_203 : decode cJ35_mergeLo 203 = .ok (.iinc 8 1, 3) := dk_132 8 1 (dk_at dksJ35_mergeLo_8 19 rfl rfl)
theorem dJ35_mergeLo_206 : decode cJ35_mergeLo 206 = .ok (.aaload, 1) := dk_50 (dk_at dksJ35_mergeLo_8 22 rfl rfl)
theorem dJ35_mergeLo_207 : decode cJ35_mergeLo 207 = .ok (.aastore, 1) := dk_83 (dk_at dksJ35_mergeLo_8 23 rfl rfl)
theorem dJ35_mergeLo_208 : decode cJ35_mergeLo 208 = .ok (.iinc 12 1, 3) := dk_132 12 1 (dk_at dksJ35_mergeLo_9 0 rfl rfl)
theorem dJ35_mergeLo_211 : decode cJ35_mergeLo 211 = .ok (.iconst 0, 1) := dk_3 (dk_at dksJ35_mergeLo_9 3 rfl rfl)
theorem dJ35_mergeLo_212 : decode cJ35_mergeLo 212 = .ok (.istore 11, 2) := dk_54 11 (dk_at dksJ35_mergeLo_9 4 rfl rfl)
theorem dJ35_mergeLo_214 : decode cJ35_mergeLo 214 = .ok (.iinc 4 (-1), 3) := dk_132 4 255 (dk_at dksJ35_mergeLo_9 6 rfl rfl)
theorem dJ35_mergeLo_217 : decode cJ35_mergeLo 217 = .ok (.iload 4, 2) := dk_21 4 (dk_at dksJ35_mergeLo_9 9 rfl rfl)
theorem dJ35_mergeLo_219 : decode cJ35_mergeLo 219 = .ok (.ifCond .ne 39, 3) := dk_154 0 39 (dk_at dksJ35_mergeLo_9 11 rfl rfl)
theorem dJ35_mergeLo_222 : decode cJ35_mergeLo 222 = .ok (.goto 300, 3) := dk_167 1 44 (dk_at dksJ35_mergeLo_9 14 rfl rfl)
theorem dJ35_mergeLo_225 : decode cJ35_mergeLo 225 = .ok (.aload 5, 2) := dk_25 5 (dk_at dksJ35_mergeLo_9 17 rfl rfl)
theorem dJ35_mergeLo_227 : decode cJ35_mergeLo 227 = .ok (.iload 9, 2) := dk_21 9 (dk_at dksJ35_mergeLo_9 19 rfl rfl)
theorem dJ35_mergeLo_229 : decode cJ35_mergeLo 229 = .ok (.iinc 9 1, 3) := dk_132 9 1 (dk_at dksJ35_mergeLo_9 21 rfl rfl)
theorem dJ35_mergeLo_232 : decode cJ35_mergeLo 232 = .ok (.aload 6, 2) := dk_25 6 (dk_at dksJ35_mergeLo_10 0 rfl rfl)
theorem dJ35_mergeLo_234 : decode cJ35_mergeLo 234 = .ok (.iload 7, 2) := dk_21 7 (dk_at dksJ35_mergeLo_10 2 rfl rfl)
theorem dJ35_mergeLo_236 : decode cJ35_mergeLo 236 = .ok (.iinc 7 1, 3) := dk_132 7 1 (dk_at dksJ35_mergeLo_10 4 rfl rfl)
theorem dJ35_mergeLo_239 : decode cJ35_mergeLo 239 = .ok (.aaload, 1) := dk_50 (dk_at dksJ35_mergeLo_10 7 rfl rfl)
theorem dJ35_mergeLo_240 : decode cJ35_mergeLo 240 = .ok (.aastore, 1) := dk_83 (dk_at dksJ35_mergeLo_10 8 rfl rfl)
theorem dJ35_mergeLo_241 : decode cJ35_mergeLo 241 = .ok (.iinc 11 1, 3) := dk_132 11 1 (dk_at dksJ35_mergeLo_10 9 rfl rfl)
theorem dJ35_mergeLo_244 : decode cJ35_mergeLo 244 = .ok (.iconst 0, 1) := dk_3 (dk_at dksJ35_mergeLo_10 12 rfl rfl)
theorem dJ35_mergeLo_245 : decode cJ35_mergeLo 245 = .ok (.istore 12, 2) := dk_54 12 (dk_at dksJ35_mergeLo_10 13 rfl rfl)
theorem dJ35_mergeLo_247 : decode cJ35_mergeLo 247 = .ok (.iinc 2 (-1), 3) := dk_132 2 255 (dk_at dksJ35_mergeLo_10 15 rfl rfl)
theorem dJ35_mergeLo_250 : decode cJ35_mergeLo 250 = .ok (.iload_n 2, 1) := dk_28 (dk_at dksJ35_mergeLo_10 18 rfl rfl)
theorem dJ35_mergeLo_251 : decode cJ35_mergeLo 251 = .ok (.iconst 1, 1) := dk_4 (dk_at dksJ35_mergeLo_10 19 rfl rfl)
theorem dJ35_mergeLo_252 : decode cJ35_mergeLo 252 = .ok (.if_icmp .ne 6, 3) := dk_160 0 6 (dk_at dksJ35_mergeLo_10 20 rfl rfl)
theorem dJ35_mergeLo_255 : decode cJ35_mergeLo 255 = .ok (.goto 267, 3) := dk_167 1 11 (dk_at dksJ35_mergeLo_11 0 rfl rfl)
theorem dJ35_mergeLo_258 : decode cJ35_mergeLo 258 = .ok (.iload 11, 2) := dk_21 11 (dk_at dksJ35_mergeLo_11 3 rfl rfl)
theorem dJ35_mergeLo_260 : decode cJ35_mergeLo 260 = .ok (.iload 12, 2) := dk_21 12 (dk_at dksJ35_mergeLo_11 5 rfl rfl)
theorem dJ35_mergeLo_262 : decode cJ35_mergeLo 262 = .ok (.ior, 1) := dk_128 (dk_at dksJ35_mergeLo_11 7 rfl rfl)
theorem dJ35_mergeLo_263 : decode cJ35_mergeLo 263 = .ok (.iload 10, 2) := dk_21 10 (dk_at dksJ35_mergeLo_11 8 rfl rfl)
theorem dJ35_mergeLo_265 : decode cJ35_mergeLo 265 = .ok (.if_icmp .lt (-118), 3) := dk_161 255 138 (dk_at dksJ35_mergeLo_11 10 rfl rfl)
theorem dJ35_mergeLo_268 : decode cJ35_mergeLo 268 = .ok (.getstatic 37, 3) := dk_178 0 37 (dk_at dksJ35_mergeLo_11 13 rfl rfl)
theorem dJ35_mergeLo_271 : decode cJ35_mergeLo 271 = .ok (.ifCond .ne 21, 3) := dk_154 0 21 (dk_at dksJ35_mergeLo_11 16 rfl rfl)
theorem dJ35_mergeLo_274 : decode cJ35_mergeLo 274 = .ok (.iload_n 2, 1) := dk_28 (dk_at dksJ35_mergeLo_11 19 rfl rfl)
theorem dJ35_mergeLo_275 : decode cJ35_mergeLo 275 = .ok (.iconst 1, 1) := dk_4 (dk_at dksJ35_mergeLo_11 20 rfl rfl)
theorem dJ35_mergeLo_276 : decode cJ35_mergeLo 276 = .ok (.if_icmp .le 8, 3) := dk_164 0 8 (dk_at dksJ35_mergeLo_11 21 rfl rfl)
theorem dJ35_mergeLo_279 : decode cJ35_mergeLo 279 = .ok (.iload 4, 2) := dk_21 4 (dk_at dksJ35_mergeLo_12 0 rfl rfl)
theorem dJ35_mergeLo_281 : decode cJ35_mergeLo 281 = .ok (.ifCond .gt 11, 3) := dk_157 0 11 (dk_at dksJ35_mergeLo_12 2 rfl rfl)
theorem dJ35_mergeLo_284 : decode cJ35_mergeLo 284 = .ok (.new 41, 3) := dk_187 0 41 (dk_at dksJ35_mergeLo_12 5 rfl rfl)
theorem dJ35_mergeLo_287 : decode cJ35_mergeLo 287 = .ok (.dup, 1) := dk_89 (dk_at dksJ35_mergeLo_12 8 rfl rfl)
theorem dJ35_mergeLo_288 : decode cJ35_mergeLo 288 = .ok (.invokespecial 43, 3) := dk_183 0 43 (dk_at dksJ35_mergeLo_12 9 rfl rfl)
theorem dJ35_mergeLo_291 : decode cJ35_mergeLo 291 = .ok (.athrow, 1) := dk_191 (dk_at dksJ35_mergeLo_12 12 rfl rfl)
theorem dJ35_mergeLo_292 : decode cJ35_mergeLo 292 = .ok (.aload 5, 2) := dk_25 5 (dk_at dksJ35_mergeLo_12 13 rfl rfl)
theorem dJ35_mergeLo_294 : decode cJ35_mergeLo 294 = .ok (.iload 8, 2) := dk_21 8 (dk_at dksJ35_mergeLo_12 15 rfl rfl)
theorem dJ35_mergeLo_296 : decode cJ35_mergeLo 296 = .ok (.aaload, 1) := dk_50 (dk_at dksJ35_mergeLo_12 17 rfl rfl)
theorem dJ35_mergeLo_297 : decode cJ35_mergeLo 297 = .ok (.checkcast 69, 3) := dk_192 0 69 (dk_at dksJ35_mergeLo_12 18 rfl rfl)
theorem dJ35_mergeLo_300 : decode cJ35_mergeLo 300 = .ok (.aload 6, 2) := dk_25 6 (dk_at dksJ35_mergeLo_12 21 rfl rfl)
theorem dJ35_mergeLo_302 : decode cJ35_mergeLo 302 = .ok (.iload 7, 2) := dk_21 7 (dk_at dksJ35_mergeLo_13 0 rfl rfl)
theorem dJ35_mergeLo_304 : decode cJ35_mergeLo 304 = .ok (.iload_n 2, 1) := dk_28 (dk_at dksJ35_mergeLo_13 2 rfl rfl)
theorem dJ35_mergeLo_305 : decode cJ35_mergeLo 305 = .ok (.iconst 0, 1) := dk_3 (dk_at dksJ35_mergeLo_13 3 rfl rfl)
theorem dJ35_mergeLo_306 : decode cJ35_mergeLo 306 = .ok (.invokestatic 89, 3) := dk_184 0 89 (dk_at dksJ35_mergeLo_13 4 rfl rfl)
theorem dJ35_mergeLo_309 : decode cJ35_mergeLo 309 = .ok (.istore 11, 2) := dk_54 11 (dk_at dksJ35_mergeLo_13 7 rfl rfl)
theorem dJ35_mergeLo_311 : decode cJ35_mergeLo 311 = .ok (.iload 11, 2) := dk_21 11 (dk_at dksJ35_mergeLo_13 9 rfl rfl)
theorem dJ35_mergeLo_313 : decode cJ35_mergeLo 313 = .ok (.ifCond .eq 43, 3) := dk_153 0 43 (dk_at dksJ35_mergeLo_13 11 rfl rfl)
theorem dJ35_mergeLo_316 : decode cJ35_mergeLo 316 = .ok (.aload 6, 2) := dk_25 6 (dk_at dksJ35_mergeLo_13 14 rfl rfl)
theorem dJ35_mergeLo_318 : decode cJ35_mergeLo 318 = .ok (.iload 7, 2) := dk_21 7 (dk_at dksJ35_mergeLo_13 16 rfl rfl)
theorem dJ35_mergeLo_320 : decode cJ35_mergeLo 320 = .ok (.aload 5, 2) := dk_25 5 (dk_at dksJ35_mergeLo_13 18 rfl rfl)
theorem dJ35_mergeLo_322 : decode cJ35_mergeLo 322 = .ok (.iload 9, 2) := dk_21 9 (dk_at dksJ35_mergeLo_13 20 rfl rfl)
theorem dJ35_mergeLo_324 : decode cJ35_mergeLo 324 = .ok (.iload 11, 2) := dk_21 11 (dk_at dksJ35_mergeLo_13 22 rfl rfl)
theorem dJ35_mergeLo_326 : decode cJ35_mergeLo 326 = .ok (.invokestatic 75, 3) := dk_184 0 75 (dk_at dksJ35_mergeLo_14 0 rfl rfl)
theorem dJ35_mergeLo_329 : decode cJ35_mergeLo 329 = .ok (.iload 9, 2) := dk_21 9 (dk_at dksJ35_mergeLo_14 3 rfl rfl)
theorem dJ35_mergeLo_331 : decode cJ35_mergeLo 331 = .ok (.iload 11, 2) := dk_21 11 (dk_at dksJ35_mergeLo_14 5 rfl rfl)
theorem dJ35_mergeLo_333 : decode cJ35_mergeLo 333 = .ok (.iadd, 1) := dk_96 (dk_at dksJ35_mergeLo_14 7 rfl rfl)
theorem dJ35_mergeLo_334 : decode cJ35_mergeLo 334 = .ok (.istore 9, 2) := dk_54 9 (dk_at dksJ35_mergeLo_14 8 rfl rfl)
theorem dJ35_mergeLo_336 : decode cJ35_mergeLo 336 = .ok (.iload 7, 2) := dk_21 7 (dk_at dksJ35_mergeLo_14 10 rfl rfl)
theorem dJ35_mergeLo_338 : decode cJ35_mergeLo 338 = .ok (.iload 11, 2) := dk_21 11 (dk_at dksJ35_mergeLo_14 12 rfl rfl)
theorem dJ35_mergeLo_340 : decode cJ35_mergeLo 340 = .ok (.iadd, 1) := dk_96 (dk_at dksJ35_mergeLo_14 14 rfl rfl)
theorem dJ35_mergeLo_341 : decode cJ35_mergeLo 341 = .ok (.istore 7, 2) := dk_54 7 (dk_at dksJ35_mergeLo_14 15 rfl rfl)
theorem dJ35_mergeLo_343 : decode cJ35_mergeLo 343 = .ok (.iload_n 2, 1) := dk_28 (dk_at dksJ35_mergeLo_14 17 rfl rfl)
theorem dJ35_mergeLo_344 : decode cJ35_mergeLo 344 = .ok (.iload 11, 2) := dk_21 11 (dk_at dksJ35_mergeLo_14 18 rfl rfl)
theorem dJ35_mergeLo_346 : decode cJ35_mergeLo 346 = .ok (.isub, 1) := dk_100 (dk_at dksJ35_mergeLo_14 20 rfl rfl)
theorem dJ35_mergeLo_347 : decode cJ35_mergeLo 347 = .ok (.istore_n 2, 1) := dk_61 (dk_at dksJ35_mergeLo_14 21 rfl rfl)
theorem dJ35_mergeLo_348 : decode cJ35_mergeLo 348 = .ok (.iload_n 2, 1) := dk_28 (dk_at dksJ35_mergeLo_14 22 rfl rfl)
theorem dJ35_mergeLo_349 : decode cJ35_mergeLo 349 = .ok (.iconst 1, 1) := dk_4 (dk_at dksJ35_mergeLo_14 23 rfl rfl)
theorem dJ35_mergeLo_350 : decode cJ35_mergeLo 350 = .ok (.if_icmp .gt 6, 3) := dk_163 0 6 (dk_at dksJ35_mergeLo_15 0 rfl rfl)
theorem dJ35_mergeLo_353 : decode cJ35_mergeLo 353 = .ok (.goto 169, 3) := dk_167 0 169 (dk_at dksJ35_mergeLo_15 3 rfl rfl)
theorem dJ35_mergeLo_356 : decode cJ35_mergeLo 356 = .ok (.aload 5, 2) := dk_25 5 (dk_at dksJ35_mergeLo_15 6 rfl rfl)
theorem dJ35_mergeLo_358 : decode cJ35_mergeLo 358 = .ok (.iload 9, 2) := dk_21 9 (dk_at dksJ35_mergeLo_15 8 rfl rfl)
theorem dJ35_mergeLo_360 : decode cJ35_mergeLo 360 = .ok (.iinc 9 1, 3) := dk_132 9 1 (dk_at dksJ35_mergeLo_15 10 rfl rfl)
theorem dJ35_mergeLo_363 : decode cJ35_mergeLo 363 = .ok (.aload 5, 2) := dk_25 5 (dk_at dksJ35_mergeLo_15 13 rfl rfl)
theorem dJ35_mergeLo_365 : decode cJ35_mergeLo 365 = .ok (.iload 8, 2) := dk_21 8 (dk_at dksJ35_mergeLo_15 15 rfl rfl)
theorem dJ35_mergeLo_367 : decode cJ35_mergeLo 367 = .ok (.iinc 8 1, 3) := dk_132 8 1 (dk_at dksJ35_mergeLo_15 17 rfl rfl)
theorem dJ35_mergeLo_370 : decode cJ35_mergeLo 370 = .ok (.aaload, 1) := dk_50 (dk_at dksJ35_mergeLo_15 20 rfl rfl)
theorem dJ35_mergeLo_371 : decode cJ35_mergeLo 371 = .ok (.aastore, 1) := dk_83 (dk_at dksJ35_mergeLo_15 21 rfl rfl)
theorem dJ35_mergeLo_372 : decode cJ35_mergeLo 372 = .ok (.iinc 4 (-1), 3) := dk_132 4 255 (dk_at dksJ35_mergeLo_16 0 rfl rfl)
theorem dJ35_mergeLo_375 : decode cJ35_mergeLo 375 = .ok (.iload 4, 2) := dk_21 4 (dk_at dksJ35_mergeLo_16 3 rfl rfl)
theorem dJ35_mergeLo_377 : decode cJ35_mergeLo 377 = .ok (.ifCond .ne 6, 3) := dk_154 0 6 (dk_at dksJ35_mergeLo_16 5 rfl rfl)
theorem dJ35_mergeLo_380 : decode cJ35_mergeLo 380 = .ok (.goto 142, 3) := dk_167 0 142 (dk_at dksJ35_mergeLo_16 8 rfl rfl)
theorem dJ35_mergeLo_383 : decode cJ35_mergeLo 383 = .ok (.aload 6, 2) := dk_25 6 (dk_at dksJ35_mergeLo_16 11 rfl rfl)
theorem dJ35_mergeLo_385 : decode cJ35_mergeLo 385 = .ok (.iload 7, 2) := dk_21 7 (dk_at dksJ35_mergeLo_16 13 rfl rfl)
theorem dJ35_mergeLo_387 : decode cJ35_mergeLo 387 = .ok (.aaload, 1) := dk_50 (dk_at dksJ35_mergeLo_16 15 rfl rfl)
theorem dJ35_mergeLo_388 : decode cJ35_mergeLo 388 = .ok (.checkcast 69, 3) := dk_192 0 69 (dk_at dksJ35_mergeLo_16 16 rfl rfl)
theorem dJ35_mergeLo_391 : decode cJ35_mergeLo 391 = .ok (.aload 5, 2) := dk_25 5 (dk_at dksJ35_mergeLo_16 19 rfl rfl)
theorem dJ35_mergeLo_393 : decode cJ35_mergeLo 393 = .ok (.iload 8, 2) := dk_21 8 (dk_at dksJ35_mergeLo_16 21 rfl rfl)
theorem dJ35_mergeLo_395 : decode cJ35_mergeLo 395 = .ok (.iload 4, 2) := dk_21 4 (dk_at dksJ35_mergeLo_17 0 rfl rfl)
theorem dJ35_mergeLo_397 : decode cJ35_mergeLo 397 = .ok (.iconst 0, 1) := dk_3 (dk_at dksJ35_mergeLo_17 2 rfl rfl)
theorem dJ35_mergeLo_398 : decode cJ35_mergeLo 398 = .ok (.invokestatic 93, 3) := dk_184 0 93 (dk_at dksJ35_mergeLo_17 3 rfl rfl)
theorem dJ35_mergeLo_401 : decode cJ35_mergeLo 401 = .ok (.istore 12, 2) := dk_54 12 (dk_at dksJ35_mergeLo_17 6 rfl rfl)
theorem dJ35_mergeLo_403 : decode cJ35_mergeLo 403 = .ok (.iload 12, 2) := dk_21 12 (dk_at dksJ35_mergeLo_17 8 rfl rfl)
theorem dJ35_mergeLo_405 : decode cJ35_mergeLo 405 = .ok (.ifCond .eq 45, 3) := dk_153 0 45 (dk_at dksJ35_mergeLo_17 10 rfl rfl)
theorem dJ35_mergeLo_408 : decode cJ35_mergeLo 408 = .ok (.aload 5, 2) := dk_25 5 (dk_at dksJ35_mergeLo_17 13 rfl rfl)
theorem dJ35_mergeLo_410 : decode cJ35_mergeLo 410 = .ok (.iload 8, 2) := dk_21 8 (dk_at dksJ35_mergeLo_17 15 rfl rfl)
theorem dJ35_mergeLo_412 : decode cJ35_mergeLo 412 = .ok (.aload 5, 2) := dk_25 5 (dk_at dksJ35_mergeLo_17 17 rfl rfl)
theorem dJ35_mergeLo_414 : decode cJ35_mergeLo 414 = .ok (.iload 9, 2) := dk_21 9 (dk_at dksJ35_mergeLo_17 19 rfl rfl)
theorem dJ35_mergeLo_416 : decode cJ35_mergeLo 416 = .ok (.iload 12, 2) := dk_21 12 (dk_at dksJ35_mergeLo_17 21 rfl rfl)
theorem dJ35_mergeLo_418 : decode cJ35_mergeLo 418 = .ok (.invokestatic 75, 3) := dk_184 0 75 (dk_at dksJ35_mergeLo_18 0 rfl rfl)
theorem dJ35_mergeLo_421 : decode cJ35_mergeLo 421 = .ok (.iload 9, 2) := dk_21 9 (dk_at dksJ35_mergeLo_18 3 rfl rfl)
theorem dJ35_mergeLo_423 : decode cJ35_mergeLo 423 = .ok (.iload 12, 2) := dk_21 12 (dk_at dksJ35_mergeLo_18 5 rfl rfl)
theorem dJ35_mergeLo_425 : decode cJ35_mergeLo 425 = .ok (.iadd, 1) := dk_96 (dk_at dksJ35_mergeLo_18 7 rfl rfl)
theorem dJ35_mergeLo_426 : decode cJ35_mergeLo 426 = .ok (.istore 9, 2) := dk_54 9 (dk_at dksJ35_mergeLo_18 8 rfl rfl)
theorem dJ35_mergeLo_428 : decode cJ35_mergeLo 428 = .ok (.iload 8, 2) := dk_21 8 (dk_at dksJ35_mergeLo_18 10 rfl rfl)
theorem dJ35_mergeLo_430 : decode cJ35_mergeLo 430 = .ok (.iload 12, 2) := dk_21 12 (dk_at dksJ35_mergeLo_18 12 rfl rfl)
theorem dJ35_mergeLo_432 : decode cJ35_mergeLo 432 = .ok (.iadd, 1) := dk_96 (dk_at dksJ35_mergeLo_18 14 rfl rfl)
theorem dJ35_mergeLo_433 : decode cJ35_mergeLo 433 = .ok (.istore 8, 2) := dk_54 8 (dk_at dksJ35_mergeLo_18 15 rfl rfl)
theorem dJ35_mergeLo_435 : decode cJ35_mergeLo 435 = .ok (.iload 4, 2) := dk_21 4 (dk_at dksJ35_mergeLo_18 17 rfl rfl)
theorem dJ35_mergeLo_437 : decode cJ35_mergeLo 437 = .ok (.iload 12, 2) := dk_21 12 (dk_at dksJ35_mergeLo_18 19 rfl rfl)
theorem dJ35_mergeLo_439 : decode cJ35_mergeLo 439 = .ok (.isub, 1) := dk_100 (dk_at dksJ35_mergeLo_18 21 rfl rfl)
theorem dJ35_mergeLo_440 : decode cJ35_mergeLo 440 = .ok (.istore 4, 2) := dk_54 4 (dk_at dksJ35_mergeLo_18 22 rfl rfl)
theorem dJ35_mergeLo_442 : decode cJ35_mergeLo 442 = .ok (.iload 4, 2) := dk_21 4 (dk_at dksJ35_mergeLo_19 0 rfl rfl)
theorem dJ35_mergeLo_444 : decode cJ35_mergeLo 444 = .ok (.ifCond .ne 6, 3) := dk_154 0 6 (dk_at dksJ35_mergeLo_19 2 rfl rfl)
theorem dJ35_mergeLo_447 : decode cJ35_mergeLo 447 = .ok (.goto 75, 3) := dk_167 0 75 (dk_at dksJ35_mergeLo_19 5 rfl rfl)
theorem dJ35_mergeLo_450 : decode cJ35_mergeLo 450 = .ok (.aload 5, 2) := dk_25 5 (dk_at dksJ35_mergeLo_19 8 rfl rfl)
theorem dJ35_mergeLo_452 : decode cJ35_mergeLo 452 = .ok (.iload 9, 2) := dk_21 9 (dk_at dksJ35_mergeLo_19 10 rfl rfl)
theorem dJ35_mergeLo_454 : decode cJ35_mergeLo 454 = .ok (.iinc 9 1, 3) := dk_132 9 1 (dk_at dksJ35_mergeLo_19 12 rfl rfl)
theorem dJ35_mergeLo_457 : decode cJ35_mergeLo 457 = .ok (.aload 6, 2) := dk_25 6 (dk_at dksJ35_mergeLo_19 15 rfl rfl)
theorem dJ35_mergeLo_459 : decode cJ35_mergeLo 459 = .ok (.iload 7, 2) := dk_21 7 (dk_at dksJ35_mergeLo_19 17 rfl rfl)
theorem dJ35_mergeLo_461 : decode cJ35_mergeLo 461 = .ok (.iinc 7 1, 3) := dk_132 7 1 (dk_at dksJ35_mergeLo_19 19 rfl rfl)
theorem dJ35_mergeLo_464 : decode cJ35_mergeLo 464 = .ok (.aaload, 1) := dk_50 (dk_at dksJ35_mergeLo_19 22 rfl rfl)
theorem dJ35_mergeLo_465 : decode cJ35_mergeLo 465 = .ok (.aastore, 1) := dk_83 (dk_at dksJ35_mergeLo_19 23 rfl rfl)
theorem dJ35_mergeLo_466 : decode cJ35_mergeLo 466 = .ok (.iinc 2 (-1), 3) := dk_132 2 255 (dk_at dksJ35_mergeLo_20 0 rfl rfl)
theorem dJ35_mergeLo_469 : decode cJ35_mergeLo 469 = .ok (.iload_n 2, 1) := dk_28 (dk_at dksJ35_mergeLo_20 3 rfl rfl)
theorem dJ35_mergeLo_470 : decode cJ35_mergeLo 470 = .ok (.iconst 1, 1) := dk_4 (dk_at dksJ35_mergeLo_20 4 rfl rfl)
theorem dJ35_mergeLo_471 : decode cJ35_mergeLo 471 = .ok (.if_icmp .ne 6, 3) := dk_160 0 6 (dk_at dksJ35_mergeLo_20 5 rfl rfl)
theorem dJ35_mergeLo_474 : decode cJ35_mergeLo 474 = .ok (.goto 48, 3) := dk_167 0 48 (dk_at dksJ35_mergeLo_20 8 rfl rfl)
theorem dJ35_mergeLo_477 : decode cJ35_mergeLo 477 = .ok (.iinc 10 (-1), 3) := dk_132 10 255 (dk_at dksJ35_mergeLo_20 11 rfl rfl)
theorem dJ35_mergeLo_480 : decode cJ35_mergeLo 480 = .ok (.iload 11, 2) := dk_21 11 (dk_at dksJ35_mergeLo_20 14 rfl rfl)
theorem dJ35_mergeLo_482 : decode cJ35_mergeLo 482 = .ok (.bipush 7, 2) := dk_16 7 (dk_at dksJ35_mergeLo_20 16 rfl rfl)
theorem dJ35_mergeLo_484 : decode cJ35_mergeLo 484 = .ok (.if_icmp .lt 7, 3) := dk_161 0 7 (dk_at dksJ35_mergeLo_20 18 rfl rfl)
theorem dJ35_mergeLo_487 : decode cJ35_mergeLo 487 = .ok (.iconst 1, 1) := dk_4 (dk_at dksJ35_mergeLo_20 21 rfl rfl)
theorem dJ35_mergeLo_488 : decode cJ35_mergeLo 488 = .ok (.goto 4, 3) := dk_167 0 4 (dk_at dksJ35_mergeLo_21 0 rfl rfl)
theorem dJ35_mergeLo_491 : decode cJ35_mergeLo 491 = .ok (.iconst 0, 1) := dk_3 (dk_at dksJ35_mergeLo_21 3 rfl rfl)
theorem dJ35_mergeLo_492 : decode cJ35_mergeLo 492 = .ok (.iload 12, 2) := dk_21 12 (dk_at dksJ35_mergeLo_21 4 rfl rfl)
theorem dJ35_mergeLo_494 : decode cJ35_mergeLo 494 = .ok (.bipush 7, 2) := dk_16 7 (dk_at dksJ35_mergeLo_21 6 rfl rfl)
theorem dJ35_mergeLo_496 : decode cJ35_mergeLo 496 = .ok (.if_icmp .lt 7, 3) := dk_161 0 7 (dk_at dksJ35_mergeLo_21 8 rfl rfl)
theorem dJ35_mergeLo_499 : decode cJ35_mergeLo 499 = .ok (.iconst 1, 1) := dk_4 (dk_at dksJ35_mergeLo_21 11 rfl rfl)
theorem dJ35_mergeLo_500 : decode cJ35_mergeLo 500 = .ok (.goto 4, 3) := dk_167 0 4 (dk_at dksJ35_mergeLo_21 12 rfl rfl)
theorem dJ35_mergeLo_503 : decode cJ35_mergeLo 503 = .ok (.iconst 0, 1) := dk_3 (dk_at dksJ35_mergeLo_21 15 rfl rfl)
theorem dJ35_mergeLo_504 : decode cJ35_mergeLo 504 = .ok (.ior, 1) := dk_128 (dk_at dksJ35_mergeLo_21 16 rfl rfl)
theorem dJ35_mergeLo_505 : decode cJ35_mergeLo 505 = .ok (.ifCond .ne (-237), 3) := dk_154 255 19 (dk_at dksJ35_mergeLo_21 17 rfl rfl)
theorem dJ35_mergeLo_508 : decode cJ35_mergeLo 508 = .ok (.iload 10, 2) := dk_21 10 (dk_at dksJ35_mergeLo_21 20 rfl rfl)
theorem dJ35_mergeLo_510 : decode cJ35_mergeLo 510 = .ok (.ifCond .ge 6, 3) := dk_156 0 6 (dk_at dksJ35_mergeLo_22 0 rfl rfl)
theorem dJ35_mergeLo_513 : decode cJ35_mergeLo 513 = .ok (.iconst 0, 1) := dk_3 (dk_at dksJ35_mergeLo_22 3 rfl rfl)
theorem dJ35_mergeLo_514 : decode cJ35_mergeLo 514 = .ok (.istore 10, 2) := dk_54 10 (dk_at dksJ35_mergeLo_22 4 rfl rfl)
theorem dJ35_mergeLo_516 : decode cJ35_mergeLo 516 = .ok (.iinc 10 2, 3) := dk_132 10 2 (dk_at dksJ35_mergeLo_22 6 rfl rfl)
theorem dJ35_mergeLo_519 : decode cJ35_mergeLo 519 = .ok (.goto (-378), 3) := dk_167 254 134 (dk_at dksJ35_mergeLo_22 9 rfl rfl)
theorem dJ35_mergeLo_522 : decode cJ35_mergeLo 522 = .ok (.aload_n 0, 1) := dk_42 (dk_at dksJ35_mergeLo_22 12 rfl rfl)
theorem dJ35_mergeLo_523 : decode cJ35_mergeLo 523 = .ok (.iload 10, 2) := dk_21 10 (dk_at dksJ35_mergeLo_22 13 rfl rfl)
theorem dJ35_mergeLo_525 : decode cJ35_mergeLo 525 = .ok (.iconst 1, 1) := dk_4 (dk_at dksJ35_mergeLo_22 15 rfl rfl)
theorem dJ35_mergeLo_526 : decode cJ35_mergeLo 526 = .ok (.if_icmp .ge 7, 3) := dk_162 0 7 (dk_at dksJ35_mergeLo_22 16 rfl rfl)
theorem dJ35_mergeLo_529 : decode cJ35_mergeLo 529 = .ok (.iconst 1, 1) := dk_4 (dk_at dksJ35_mergeLo_22 19 rfl rfl)
theorem dJ35_mergeLo_530 : decode cJ35_mergeLo 530 = .ok (.goto 5, 3) := dk_167 0 5 (dk_at dksJ35_mergeLo_22 20 rfl rfl)
theorem dJ35_mergeLo_533 : decode cJ35_mergeLo 533 = .ok (.iload 10, 2) := dk_21 10 (dk_at dksJ35_mergeLo_23 0 rfl rfl)
theorem dJ35_mergeLo_535 : decode cJ35_mergeLo 535 = .ok (.putfield 9, 3) := dk_181 0 9 (dk_at dksJ35_mergeLo_23 2 rfl rfl)
theorem dJ35_mergeLo_538 : decode cJ35_mergeLo 538 = .ok (.iload_n 2, 1) := dk_28 (dk_at dksJ35_mergeLo_23 5 rfl rfl)
theorem dJ35_mergeLo_539 : decode cJ35_mergeLo 539 = .ok (.iconst 1, 1) := dk_4 (dk_at dksJ35_mergeLo_23 6 rfl rfl)
theorem dJ35_mergeLo_540 : decode cJ35_mergeLo 540 = .ok (.if_icmp .ne 51, 3) := dk_160 0 51 (dk_at dksJ35_mergeLo_23 7 rfl rfl)
theorem dJ35_mergeLo_543 : decode cJ35_mergeLo 543 = .ok (.getstatic 37, 3) := dk_178 0 37 (dk_at dksJ35_mergeLo_23 10 rfl rfl)
theorem dJ35_mergeLo_546 : decode cJ35_mergeLo 546 = .ok (.ifCond .ne 16, 3) := dk_154 0 16 (dk_at dksJ35_mergeLo_23 13 rfl rfl)
theorem dJ35_mergeLo_549 : decode cJ35_mergeLo 549 = .ok (.iload 4, 2) := dk_21 4 (dk_at dksJ35_mergeLo_23 16 rfl rfl)
theorem dJ35_mergeLo_551 : decode cJ35_mergeLo 551 = .ok (.ifCond .gt 11, 3) := dk_157 0 11 (dk_at dksJ35_mergeLo_23 18 rfl rfl)
theorem dJ35_mergeLo_554 : decode cJ35_mergeLo 554 = .ok (.new 41, 3) := dk_187 0 41 (dk_at dksJ35_mergeLo_23 21 rfl rfl)
theorem dJ35_mergeLo_557 : decode cJ35_mergeLo 557 = .ok (.dup, 1) := dk_89 (dk_at dksJ35_mergeLo_24 0 rfl rfl)
theorem dJ35_mergeLo_558 : decode cJ35_mergeLo 558 = .ok (.invokespecial 43, 3) := dk_183 0 43 (dk_at dksJ35_mergeLo_24 1 rfl rfl)
theorem dJ35_mergeLo_561 : decode cJ35_mergeLo 561 = .ok (.athrow, 1) := dk_191 (dk_at dksJ35_mergeLo_24 4 rfl rfl)
theorem dJ35_mergeLo_562 : decode cJ35_mergeLo 562 = .ok (.aload 5, 2) := dk_25 5 (dk_at dksJ35_mergeLo_24 5 rfl rfl)
theorem dJ35_mergeLo_564 : decode cJ35_mergeLo 564 = .ok (.iload 8, 2) := dk_21 8 (dk_at dksJ35_mergeLo_24 7 rfl rfl)
theorem dJ35_mergeLo_566 : decode cJ35_mergeLo 566 = .ok (.aload 5, 2) := dk_25 5 (dk_at dksJ35_mergeLo_24 9 rfl rfl)
theorem dJ35_mergeLo_568 : decode cJ35_mergeLo 568 = .ok (.iload 9, 2) := dk_21 9 (dk_at dksJ35_mergeLo_24 11 rfl rfl)
theorem dJ35_mergeLo_570 : decode cJ35_mergeLo 570 = .ok (.iload 4, 2) := dk_21 4 (dk_at dksJ35_mergeLo_24 13 rfl rfl)
theorem dJ35_mergeLo_572 : decode cJ35_mergeLo 572 = .ok (.invokestatic 75, 3) := dk_184 0 75 (dk_at dksJ35_mergeLo_24 15 rfl rfl)
theorem dJ35_mergeLo_575 : decode cJ35_mergeLo 575 = .ok (.aload 5, 2) := dk_25 5 (dk_at dksJ35_mergeLo_24 18 rfl rfl)
theorem dJ35_mergeLo_577 : decode cJ35_mergeLo 577 = .ok (.iload 9, 2) := dk_21 9 (dk_at dksJ35_mergeLo_24 20 rfl rfl)
theorem dJ35_mergeLo_579 : decode cJ35_mergeLo 579 = .ok (.iload 4, 2) := dk_21 4 (dk_at dksJ35_mergeLo_24 22 rfl rfl)
theorem dJ35_mergeLo_581 : decode cJ35_mergeLo 581 = .ok (.iadd, 1) := dk_96 (dk_at dksJ35_mergeLo_25 0 rfl rfl)
theorem dJ35_mergeLo_582 : decode cJ35_mergeLo 582 = .ok (.aload 6, 2) := dk_25 6 (dk_at dksJ35_mergeLo_25 1 rfl rfl)
theorem dJ35_mergeLo_584 : decode cJ35_mergeLo 584 = .ok (.iload 7, 2) := dk_21 7 (dk_at dksJ35_mergeLo_25 3 rfl rfl)
theorem dJ35_mergeLo_586 : decode cJ35_mergeLo 586 = .ok (.aaload, 1) := dk_50 (dk_at dksJ35_mergeLo_25 5 rfl rfl)
theorem dJ35_mergeLo_587 : decode cJ35_mergeLo 587 = .ok (.aastore, 1) := dk_83 (dk_at dksJ35_mergeLo_25 6 rfl rfl)
theorem dJ35_mergeLo_588 : decode cJ35_mergeLo 588 = .ok (.goto 67, 3) := dk_167 0 67 (dk_at dksJ35_mergeLo_25 7 rfl rfl)
theorem dJ35_mergeLo_591 : decode cJ35_mergeLo 591 = .ok (.iload_n 2, 1) := dk_28 (dk_at dksJ35_mergeLo_25 10 rfl rfl)
theorem dJ35_mergeLo_592 : decode cJ35_mergeLo 592 = .ok (.ifCond .ne 13, 3) := dk_154 0 13 (dk_at dksJ35_mergeLo_25 11 rfl rfl)
theorem dJ35_mergeLo_595 : decode cJ35_mergeLo 595 = .ok (.new 107, 3) := dk_187 0 107 (dk_at dksJ35_mergeLo_25 14 rfl rfl)
theorem dJ35_mergeLo_598 : decode cJ35_mergeLo 598 = .ok (.dup, 1) := dk_89 (dk_at dksJ35_mergeLo_25 17 rfl rfl)
theorem dJ35_mergeLo_599 : decode cJ35_mergeLo 599 = .ok (.ldc 109, 2) := dk_18 109 (dk_at dksJ35_mergeLo_25 18 rfl rfl)
theorem dJ35_mergeLo_601 : decode cJ35_mergeLo 601 = .ok (.invokespecial 111, 3) := dk_183 0 111 (dk_at dksJ35_mergeLo_25 20 rfl rfl)
theorem dJ35_mergeLo_604 : decode cJ35_mergeLo 604 = .ok (.athrow, 1) := dk_191 (dk_at dksJ35_mergeLo_25 23 rfl rfl)
theorem dJ35_mergeLo_605 : decode cJ35_mergeLo 605 = .ok (.getstatic 37, 3) := dk_178 0 37 (dk_at dksJ35_mergeLo_26 0 rfl rfl)
theorem dJ35_mergeLo_608 : decode cJ35_mergeLo 608 = .ok (.ifCond .ne 16, 3) := dk_154 0 16 (dk_at dksJ35_mergeLo_26 3 rfl rfl)
theorem dJ35_mergeLo_611 : decode cJ35_mergeLo 611 = .ok (.iload 4, 2) := dk_21 4 (dk_at dksJ35_mergeLo_26 6 rfl rfl)
theorem dJ35_mergeLo_613 : decode cJ35_mergeLo 613 = .ok (.ifCond .eq 11, 3) := dk_153 0 11 (dk_at dksJ35_mergeLo_26 8 rfl rfl)
theorem dJ35_mergeLo_616 : decode cJ35_mergeLo 616 = .ok (.new 41, 3) := dk_187 0 41 (dk_at dksJ35_mergeLo_26 11 rfl rfl)
theorem dJ35_mergeLo_619 : decode cJ35_mergeLo 619 = .ok (.dup, 1) := dk_89 (dk_at dksJ35_mergeLo_26 14 rfl rfl)
theorem dJ35_mergeLo_620 : decode cJ35_mergeLo 620 = .ok (.invokespecial 43, 3) := dk_183 0 43 (dk_at dksJ35_mergeLo_26 15 rfl rfl)
theorem dJ35_mergeLo_623 : decode cJ35_mergeLo 623 = .ok (.athrow, 1) := dk_191 (dk_at dksJ35_mergeLo_26 18 rfl rfl)
theorem dJ35_mergeLo_624 : decode cJ35_mergeLo 624 = .ok (.getstatic 37, 3) := dk_178 0 37 (dk_at dksJ35_mergeLo_26 19 rfl rfl)
theorem dJ35_mergeLo_627 : decode cJ35_mergeLo 627 = .ok (.ifCond .ne 16, 3) := dk_154 0 16 (dk_at dksJ35_mergeLo_27 0 rfl rfl)
theorem dJ35_mergeLo_630 : decode cJ35_mergeLo 630 = .ok (.iload_n 2, 1) := dk_28 (dk_at dksJ35_mergeLo_27 3 rfl rfl)
theorem dJ35_mergeLo_631 : decode cJ35_mergeLo 631 = .ok (.iconst 1, 1) := dk_4 (dk_at dksJ35_mergeLo_27 4 rfl rfl)
theorem dJ35_mergeLo_632 : decode cJ35_mergeLo 632 = .ok (.if_icmp .gt 11, 3) := dk_163 0 11 (dk_at dksJ35_mergeLo_27 5 rfl rfl)
theorem dJ35_mergeLo_635 : decode cJ35_mergeLo 635 = .ok (.new 41, 3) := dk_187 0 41 (dk_at dksJ35_mergeLo_27 8 rfl rfl)
theorem dJ35_mergeLo_638 : decode cJ35_mergeLo 638 = .ok (.dup, 1) := dk_89 (dk_at dksJ35_mergeLo_27 11 rfl rfl)
theorem dJ35_mergeLo_639 : decode cJ35_mergeLo 639 = .ok (.invokespecial 43, 3) := dk_183 0 43 (dk_at dksJ35_mergeLo_27 12 rfl rfl)
theorem dJ35_mergeLo_642 : decode cJ35_mergeLo 642 = .ok (.athrow, 1) := dk_191 (dk_at dksJ35_mergeLo_27 15 rfl rfl)
theorem dJ35_mergeLo_643 : decode cJ35_mergeLo 643 = .ok (.aload 6, 2) := dk_25 6 (dk_at dksJ35_mergeLo_27 16 rfl rfl)
theorem dJ35_mergeLo_645 : decode cJ35_mergeLo 645 = .ok (.iload 7, 2) := dk_21 7 (dk_at dksJ35_mergeLo_27 18 rfl rfl)
theorem dJ35_mergeLo_647 : decode cJ35_mergeLo 647 = .ok (.aload 5, 2) := dk_25 5 (dk_at dksJ35_mergeLo_27 20 rfl rfl)
theorem dJ35_mergeLo_649 : decode cJ35_mergeLo 649 = .ok (.iload 9, 2) := dk_21 9 (dk_at dksJ35_mergeLo_27 22 rfl rfl)
theorem dJ35_mergeLo_651 : decode cJ35_mergeLo 651 = .ok (.iload_n 2, 1) := dk_28 (dk_at dksJ35_mergeLo_28 0 rfl rfl)
theorem dJ35_mergeLo_652 : decode cJ35_mergeLo 652 = .ok (.invokestatic 75, 3) := dk_184 0 75 (dk_at dksJ35_mergeLo_28 1 rfl rfl)
theorem dJ35_mergeLo_655 : decode cJ35_mergeLo 655 = .ok (.return_, 1) := dk_177 (dk_at dksJ35_mergeLo_28 4 rfl rfl)
abbrev cJ35_ensureCapacity : ByteArray := prog_62_method_15_code
def yJ35_ensureCapacity : MethodName := ⟨RJ35, "ensureCapacity", "(I)[Ljava/lang/Object;"⟩
def dkwJ35_ensureCapacity_2 : List UInt8 := [181, 0, 20, 42, 28, 181, 0, 26, 42, 3, 181, 0, 23, 42, 180, 0, 20, 176]
abbrev dktJ35_ensureCapacity_2 : List UInt8 := dkwJ35_ensureCapacity_2 ++ []
def dkwJ35_ensureCapacity_1 : List UInt8 := [167, 0, 15, 28, 42, 180, 0, 16, 190, 4, 124, 184, 0, 119, 61, 28, 189, 0, 2, 78, 42, 45]
abbrev dktJ35_ensureCapacity_1 : List UInt8 := dkwJ35_ensureCapacity_1 ++ dktJ35_ensureCapacity_2
def dkwJ35_ensureCapacity_0 : List UInt8 := [42, 180, 0, 26, 27, 162, 0, 54, 2, 27, 184, 0, 114, 124, 61, 132, 2, 1, 28, 156, 0, 8, 27, 61]
abbrev dktJ35_ensureCapacity_0 : List UInt8 := dkwJ35_ensureCapacity_0 ++ dktJ35_ensureCapacity_1
theorem dksJ35_ensureCapacity_0 : cJ35_ensureCapacity.data.toList.drop 0 = dktJ35_ensureCapacity_0 := by decide +kernel
theorem dksJ35_ensureCapacity_1 : cJ35_ensureCapacity.data.toList.drop 24 = dktJ35_ensureCapacity_1 := dk_seg dksJ35_ensureCapacity_0 24 rfl rfl
theorem dksJ35_ensureCapacity_2 : cJ35_ensureCapacity.data.toList.drop 46 = dktJ35_ensureCapacity_2 := dk_seg dksJ35_ensureCapacity_1 22 rfl rfl
theorem dJ35_ensureCapacity_0 : decode cJ35_ensureCapacity 0 = .ok (.aload_n 0, 1) := dk_42 (dk_at dksJ35_ensureCapacity_0 0 rfl rfl)
theorem dJ35_ensureCapacity_1 : decode cJ35_ensureCapacity 1 = .ok (.getfield 26, 3) := dk_180 0 26 (dk_at dksJ35_ensureCapacity_0 1 rfl rfl)
theorem dJ35_ensureCapacity_4 : decode cJ35_ensureCapacity 4 = .ok (.iload_n 1, 1) := dk_27 (dk_at dksJ35_ensureCapacity_0 4 rfl rfl)
theorem dJ35_ensureCapacity_5 : decode cJ35_ensureCapacity 5 = .ok (.if_icmp .ge 54, 3) := dk_162 0 54 (dk_at dksJ35_ensureCapacity_0 5 rfl rfl)
theorem dJ35_ensureCapacity_8 : decode cJ35_ensureCapacity 8 = .ok (.iconst (-1), 1) := dk_2 (dk_at dksJ35_ensureCapacity_0 8 rfl rfl)
theorem dJ35_ensureCapacity_9 : decode cJ35_ensureCapacity 9 = .ok (.iload_n 1, 1) := dk_27 (dk_at dksJ35_ensureCapacity_0 9 rfl rfl)
theorem dJ35_ensureCapacity_10 : decode cJ35_ensureCapacity 10 = .ok (.invokestatic 114, 3) := dk_184 0 114 (dk_at dksJ35_ensureCapacity_0 10 rfl rfl)
theorem dJ35_ensureCapacity_13 : decode cJ35_ensureCapacity 13 = .ok (.iushr, 1) := dk_124 (dk_at dksJ35_ensureCapacity_0 13 rfl rfl)
theorem dJ35_ensureCapacity_14 : decode cJ35_ensureCapacity 14 = .ok (.istore_n 2, 1) := dk_61 (dk_at dksJ35_ensureCapacity_0 14 rfl rfl)
theorem dJ35_ensureCapacity_15 : decode cJ35_ensureCapacity 15 = .ok (.iinc 2 1, 3) := dk_132 2 1 (dk_at dksJ35_ensureCapacity_0 15 rfl rfl)
theorem dJ35_ensureCapacity_18 : decode cJ35_ensureCapacity 18 = .ok (.iload_n 2, 1) := dk_28 (dk_at dksJ35_ensureCapacity_0 18 rfl rfl)
theorem dJ35_ensureCapacity_19 : decode cJ35_ensureCapacity 19 = .ok (.ifCond .ge 8, 3) := dk_156 0 8 (dk_at dksJ35_ensureCapacity_0 19 rfl rfl)
theorem dJ35_ensureCapacity_22 : decode cJ35_ensureCapacity 22 = .ok (.iload_n 1, 1) := dk_27 (dk_at dksJ35_ensureCapacity_0 22 rfl rfl)
theorem dJ35_ensureCapacity_23 : decode cJ35_ensureCapacity 23 = .ok (.istore_n 2, 1) := dk_61 (dk_at dksJ35_ensureCapacity_0 23 rfl rfl)
theorem dJ35_ensureCapacity_24 : decode cJ35_ensureCapacity 24 = .ok (.goto 15, 3) := dk_167 0 15 (dk_at dksJ35_ensureCapacity_1 0 rfl rfl)
theorem dJ35_ensureCapacity_27 : decode cJ35_ensureCapacity 27 = .ok (.iload_n 2, 1) := dk_28 (dk_at dksJ35_ensureCapacity_1 3 rfl rfl)
theorem dJ35_ensureCapacity_28 : decode cJ35_ensureCapacity 28 = .ok (.aload_n 0, 1) := dk_42 (dk_at dksJ35_ensureCapacity_1 4 rfl rfl)
theorem dJ35_ensureCapacity_29 : decode cJ35_ensureCapacity 29 = .ok (.getfield 16, 3) := dk_180 0 16 (dk_at dksJ35_ensureCapacity_1 5 rfl rfl)
theorem dJ35_ensureCapacity_32 : decode cJ35_ensureCapacity 32 = .ok (.arraylength, 1) := dk_190 (dk_at dksJ35_ensureCapacity_1 8 rfl rfl)
theorem dJ35_ensureCapacity_33 : decode cJ35_ensureCapacity 33 = .ok (.iconst 1, 1) := dk_4 (dk_at dksJ35_ensureCapacity_1 9 rfl rfl)
theorem dJ35_ensureCapacity_34 : decode cJ35_ensureCapacity 34 = .ok (.iushr, 1) := dk_124 (dk_at dksJ35_ensureCapacity_1 10 rfl rfl)
theorem dJ35_ensureCapacity_35 : decode cJ35_ensureCapacity 35 = .ok (.invokestatic 119, 3) := dk_184 0 119 (dk_at dksJ35_ensureCapacity_1 11 rfl rfl)
theorem dJ35_ensureCapacity_38 : decode cJ35_ensureCapacity 38 = .ok (.istore_n 2, 1) := dk_61 (dk_at dksJ35_ensureCapacity_1 14 rfl rfl)
theorem dJ35_ensureCapacity_39 : decode cJ35_ensureCapacity 39 = .ok (.iload_n 2, 1) := dk_28 (dk_at dksJ35_ensureCapacity_1 15 rfl rfl)
theorem dJ35_ensureCapacity_40 : decode cJ35_ensureCapacity 40 = .ok (.anewarray 2, 3) := dk_189 0 2 (dk_at dksJ35_ensureCapacity_1 16 rfl rfl)
theorem dJ35_ensureCapacity_43 : decode cJ35_ensureCapacity 43 = .ok (.astore_n 3, 1) := dk_78 (dk_at dksJ35_ensureCapacity_1 19 rfl rfl)
theorem dJ35_ensureCapacity_44 : decode cJ35_ensureCapacity 44 = .ok (.aload_n 0, 1) := dk_42 (dk_at dksJ35_ensureCapacity_1 20 rfl rfl)
theorem dJ35_ensureCapacity_45 : decode cJ35_ensureCapacity 45 = .ok (.aload_n 3, 1) := dk_45 (dk_at dksJ35_ensureCapacity_1 21 rfl rfl)
theorem dJ35_ensureCapacity_46 : decode cJ35_ensureCapacity 46 = .ok (.putfield 20, 3) := dk_181 0 20 (dk_at dksJ35_ensureCapacity_2 0 rfl rfl)
theorem dJ35_ensureCapacity_49 : decode cJ35_ensureCapacity 49 = .ok (.aload_n 0, 1) := dk_42 (dk_at dksJ35_ensureCapacity_2 3 rfl rfl)
theorem dJ35_ensureCapacity_50 : decode cJ35_ensureCapacity 50 = .ok (.iload_n 2, 1) := dk_28 (dk_at dksJ35_ensureCapacity_2 4 rfl rfl)
theorem dJ35_ensureCapacity_51 : decode cJ35_ensureCapacity 51 = .ok (.putfield 26, 3) := dk_181 0 26 (dk_at dksJ35_ensureCapacity_2 5 rfl rfl)
theorem dJ35_ensureCapacity_54 : decode cJ35_ensureCapacity 54 = .ok (.aload_n 0, 1) := dk_42 (dk_at dksJ35_ensureCapacity_2 8 rfl rfl)
theorem dJ35_ensureCapacity_55 : decode cJ35_ensureCapacity 55 = .ok (.iconst 0, 1) := dk_3 (dk_at dksJ35_ensureCapacity_2 9 rfl rfl)
theorem dJ35_ensureCapacity_56 : decode cJ35_ensureCapacity 56 = .ok (.putfield 23, 3) := dk_181 0 23 (dk_at dksJ35_ensureCapacity_2 10 rfl rfl)
theorem dJ35_ensureCapacity_59 : decode cJ35_ensureCapacity 59 = .ok (.aload_n 0, 1) := dk_42 (dk_at dksJ35_ensureCapacity_2 13 rfl rfl)
theorem dJ35_ensureCapacity_60 : decode cJ35_ensureCapacity 60 = .ok (.getfield 20, 3) := dk_180 0 20 (dk_at dksJ35_ensureCapacity_2 14 rfl rfl)
theorem dJ35_ensureCapacity_63 : decode cJ35_ensureCapacity 63 = .ok (.areturn, 1) := dk_176 (dk_at dksJ35_ensureCapacity_2 17 rfl rfl)
abbrev cJ35_mergeHi : ByteArray := prog_62_method_14_code
def yJ35_mergeHi : MethodName := ⟨RJ35, "mergeHi", "(IIII)V"⟩
def dkwJ35_mergeHi_31 : List UInt8 := [100, 100, 21, 4, 184, 0, 75, 177]
abbrev dktJ35_mergeHi_31 : List UInt8 := dkwJ35_mergeHi_31 ++ []
def dkwJ35_mergeHi_30 : List UInt8 := [21, 4, 157, 0, 11, 187, 0, 41, 89, 183, 0, 43, 191, 25, 6, 21, 7, 25, 5, 21, 10, 21, 4, 4]
abbrev dktJ35_mergeHi_30 : List UInt8 := dkwJ35_mergeHi_30 ++ dktJ35_mergeHi_31
def dkwJ35_mergeHi_29 : List UInt8 := [178, 0, 37, 154, 0, 15, 28, 153, 0, 11, 187, 0, 41, 89, 183, 0, 43, 191, 178, 0, 37, 154, 0, 16]
abbrev dktJ35_mergeHi_29 : List UInt8 := dkwJ35_mergeHi_29 ++ dktJ35_mergeHi_30
def dkwJ35_mergeHi_28 : List UInt8 := [25, 6, 21, 9, 50, 83, 167, 0, 73, 21, 4, 154, 0, 13, 187, 0, 107, 89, 18, 109, 183, 0, 111, 191]
abbrev dktJ35_mergeHi_28 : List UInt8 := dkwJ35_mergeHi_28 ++ dktJ35_mergeHi_29
def dkwJ35_mergeHi_27 : List UInt8 := [100, 54, 8, 25, 5, 21, 8, 4, 96, 25, 5, 21, 10, 4, 96, 28, 184, 0, 75, 25, 5, 21, 10]
abbrev dktJ35_mergeHi_27 : List UInt8 := dkwJ35_mergeHi_27 ++ dktJ35_mergeHi_28
def dkwJ35_mergeHi_26 : List UInt8 := [154, 0, 15, 28, 157, 0, 11, 187, 0, 41, 89, 183, 0, 43, 191, 21, 10, 28, 100, 54, 10, 21, 8, 28]
abbrev dktJ35_mergeHi_26 : List UInt8 := dkwJ35_mergeHi_26 ++ dktJ35_mergeHi_27
def dkwJ35_mergeHi_25 : List UInt8 := [21, 11, 4, 162, 0, 7, 4, 167, 0, 5, 21, 11, 181, 0, 9, 21, 4, 4, 160, 0, 62, 178, 0, 37]
abbrev dktJ35_mergeHi_25 : List UInt8 := dkwJ35_mergeHi_25 ++ dktJ35_mergeHi_26
def dkwJ35_mergeHi_24 : List UInt8 := [167, 0, 4, 3, 128, 154, 255, 2, 21, 11, 156, 0, 6, 3, 54, 11, 132, 11, 2, 167, 254, 117, 42]
abbrev dktJ35_mergeHi_24 : List UInt8 := dkwJ35_mergeHi_24 ++ dktJ35_mergeHi_25
def dkwJ35_mergeHi_23 : List UInt8 := [132, 11, 255, 21, 12, 16, 7, 161, 0, 7, 4, 167, 0, 4, 3, 21, 13, 16, 7, 161, 0, 7, 4]
abbrev dktJ35_mergeHi_23 : List UInt8 := dkwJ35_mergeHi_23 ++ dktJ35_mergeHi_24
def dkwJ35_mergeHi_22 : List UInt8 := [132, 10, 255, 25, 5, 21, 8, 132, 8, 255, 50, 83, 132, 2, 255, 28, 154, 0, 6, 167, 0, 48]
abbrev dktJ35_mergeHi_22 : List UInt8 := dkwJ35_mergeHi_22 ++ dktJ35_mergeHi_23
def dkwJ35_mergeHi_21 : List UInt8 := [21, 10, 4, 96, 21, 13, 184, 0, 75, 21, 4, 4, 163, 0, 6, 167, 0, 74, 25, 5, 21, 10]
abbrev dktJ35_mergeHi_21 : List UInt8 := dkwJ35_mergeHi_21 ++ dktJ35_mergeHi_22
def dkwJ35_mergeHi_20 : List UInt8 := [54, 10, 21, 9, 21, 13, 100, 54, 9, 21, 4, 21, 13, 100, 54, 4, 25, 6, 21, 9, 4, 96, 25, 5]
abbrev dktJ35_mergeHi_20 : List UInt8 := dkwJ35_mergeHi_20 ++ dktJ35_mergeHi_21
def dkwJ35_mergeHi_19 : List UInt8 := [21, 7, 21, 4, 21, 4, 4, 100, 184, 0, 93, 100, 54, 13, 21, 13, 153, 0, 50, 21, 10, 21, 13, 100]
abbrev dktJ35_mergeHi_19 : List UInt8 := dkwJ35_mergeHi_19 ++ dktJ35_mergeHi_20
def dkwJ35_mergeHi_18 : List UInt8 := [132, 4, 255, 21, 4, 4, 160, 0, 6, 167, 0, 152, 21, 4, 25, 5, 21, 8, 50, 192, 0, 69, 25, 6]
abbrev dktJ35_mergeHi_18 : List UInt8 := dkwJ35_mergeHi_18 ++ dktJ35_mergeHi_19
def dkwJ35_mergeHi_17 : List UInt8 := [154, 0, 6, 167, 0, 180, 25, 5, 21, 10, 132, 10, 255, 25, 6, 21, 9, 132, 9, 255, 50, 83]
abbrev dktJ35_mergeHi_17 : List UInt8 := dkwJ35_mergeHi_17 ++ dktJ35_mergeHi_18
def dkwJ35_mergeHi_16 : List UInt8 := [21, 12, 100, 61, 25, 5, 21, 8, 4, 96, 25, 5, 21, 10, 4, 96, 21, 12, 184, 0, 75, 28]
abbrev dktJ35_mergeHi_16 : List UInt8 := dkwJ35_mergeHi_16 ++ dktJ35_mergeHi_17
def dkwJ35_mergeHi_15 : List UInt8 := [100, 54, 12, 21, 12, 153, 0, 46, 21, 10, 21, 12, 100, 54, 10, 21, 8, 21, 12, 100, 54, 8, 28]
abbrev dktJ35_mergeHi_15 : List UInt8 := dkwJ35_mergeHi_15 ++ dktJ35_mergeHi_16
def dkwJ35_mergeHi_14 : List UInt8 := [89, 183, 0, 43, 191, 28, 25, 6, 21, 9, 50, 192, 0, 69, 25, 5, 27, 28, 28, 4, 100, 184, 0, 89]
abbrev dktJ35_mergeHi_14 : List UInt8 := dkwJ35_mergeHi_14 ++ dktJ35_mergeHi_15
def dkwJ35_mergeHi_13 : List UInt8 := [21, 11, 161, 255, 138, 178, 0, 37, 154, 0, 21, 28, 158, 0, 9, 21, 4, 4, 163, 0, 11, 187, 0, 41]
abbrev dktJ35_mergeHi_13 : List UInt8 := dkwJ35_mergeHi_13 ++ dktJ35_mergeHi_14
def dkwJ35_mergeHi_12 : List UInt8 := [132, 13, 1, 3, 54, 12, 132, 4, 255, 21, 4, 4, 160, 0, 6, 167, 1, 28, 21, 12, 21, 13, 128]
abbrev dktJ35_mergeHi_12 : List UInt8 := dkwJ35_mergeHi_12 ++ dktJ35_mergeHi_13
def dkwJ35_mergeHi_11 : List UInt8 := [154, 0, 40, 167, 1, 62, 25, 5, 21, 10, 132, 10, 255, 25, 6, 21, 9, 132, 9, 255, 50, 83]
abbrev dktJ35_mergeHi_11 : List UInt8 := dkwJ35_mergeHi_11 ++ dktJ35_mergeHi_12
def dkwJ35_mergeHi_10 : List UInt8 := [132, 10, 255, 25, 5, 21, 8, 132, 8, 255, 50, 83, 132, 12, 1, 3, 54, 13, 132, 2, 255, 28]
abbrev dktJ35_mergeHi_10 : List UInt8 := dkwJ35_mergeHi_10 ++ dktJ35_mergeHi_11
def dkwJ35_mergeHi_9 : List UInt8 := [21, 9, 50, 192, 0, 69, 25, 5, 21, 8, 50, 185, 0, 71, 2, 0, 156, 0, 35, 25, 5, 21, 10]
abbrev dktJ35_mergeHi_9 : List UInt8 := dkwJ35_mergeHi_9 ++ dktJ35_mergeHi_10
def dkwJ35_mergeHi_8 : List UInt8 := [154, 0, 21, 28, 158, 0, 9, 21, 4, 4, 163, 0, 11, 187, 0, 41, 89, 183, 0, 43, 191, 25, 6]
abbrev dktJ35_mergeHi_8 : List UInt8 := dkwJ35_mergeHi_8 ++ dktJ35_mergeHi_9
def dkwJ35_mergeHi_7 : List UInt8 := [21, 10, 25, 6, 21, 9, 50, 83, 177, 42, 180, 0, 9, 54, 11, 3, 54, 12, 3, 54, 13, 178, 0, 37]
abbrev dktJ35_mergeHi_7 : List UInt8 := dkwJ35_mergeHi_7 ++ dktJ35_mergeHi_8
def dkwJ35_mergeHi_6 : List UInt8 := [21, 8, 28, 100, 54, 8, 25, 5, 21, 8, 4, 96, 25, 5, 21, 10, 4, 96, 28, 184, 0, 75, 25, 5]
abbrev dktJ35_mergeHi_6 : List UInt8 := dkwJ35_mergeHi_6 ++ dktJ35_mergeHi_7
def dkwJ35_mergeHi_5 : List UInt8 := [21, 4, 4, 100, 100, 21, 4, 184, 0, 75, 177, 21, 4, 4, 160, 0, 42, 21, 10, 28, 100, 54, 10]
abbrev dktJ35_mergeHi_5 : List UInt8 := dkwJ35_mergeHi_5 ++ dktJ35_mergeHi_6
def dkwJ35_mergeHi_4 : List UInt8 := [25, 5, 21, 8, 132, 8, 255, 50, 83, 132, 2, 255, 28, 154, 0, 22, 25, 6, 21, 7, 25, 5, 21, 10]
abbrev dktJ35_mergeHi_4 : List UInt8 := dkwJ35_mergeHi_4 ++ dktJ35_mergeHi_5
def dkwJ35_mergeHi_3 : List UInt8 := [21, 7, 21, 4, 96, 4, 100, 54, 9, 29, 21, 4, 96, 4, 100, 54, 10, 25, 5, 21, 10, 132, 10, 255]
abbrev dktJ35_mergeHi_3 : List UInt8 := dkwJ35_mergeHi_3 ++ dktJ35_mergeHi_4
def dkwJ35_mergeHi_2 : List UInt8 := [180, 0, 23, 54, 7, 25, 5, 29, 25, 6, 21, 7, 21, 4, 184, 0, 75, 27, 28, 96, 4, 100, 54, 8]
abbrev dktJ35_mergeHi_2 : List UInt8 := dkwJ35_mergeHi_2 ++ dktJ35_mergeHi_3
def dkwJ35_mergeHi_1 : List UInt8 := [187, 0, 41, 89, 183, 0, 43, 191, 42, 180, 0, 16, 58, 5, 42, 21, 4, 182, 0, 103, 58, 6, 42]
abbrev dktJ35_mergeHi_1 : List UInt8 := dkwJ35_mergeHi_1 ++ dktJ35_mergeHi_2
def dkwJ35_mergeHi_0 : List UInt8 := [178, 0, 37, 154, 0, 27, 28, 158, 0, 15, 21, 4, 158, 0, 10, 27, 28, 96, 29, 159, 0, 11]
abbrev dktJ35_mergeHi_0 : List UInt8 := dkwJ35_mergeHi_0 ++ dktJ35_mergeHi_1
theorem dksJ35_mergeHi_0 : cJ35_mergeHi.data.toList.drop 0 = dktJ35_mergeHi_0 := by decide +kernel
theorem dksJ35_mergeHi_1 : cJ35_mergeHi.data.toList.drop 22 = dktJ35_mergeHi_1 := dk_seg dksJ35_mergeHi_0 22 rfl rfl
theorem dksJ35_mergeHi_2 : cJ35_mergeHi.data.toList.drop 45 = dktJ35_mergeHi_2 := dk_seg dksJ35_mergeHi_1 23 rfl rfl
theorem dksJ35_mergeHi_3 : cJ35_mergeHi.data.toList.drop 69 = dktJ35_mergeHi_3 := dk_seg dksJ35_mergeHi_2 24 rfl rfl
theorem dksJ35_mergeHi_4 : cJ35_mergeHi.data.toList.drop 93 = dktJ35_mergeHi_4 := dk_seg dksJ35_mergeHi_3 24 rfl rfl
theorem dksJ35_mergeHi_5 : cJ35_mergeHi.data.toList.drop 117 = dktJ35_mergeHi_5 := dk_seg dksJ35_mergeHi_4 24 rfl rfl
theorem dksJ35_mergeHi_6 : cJ35_mergeHi.data.toList.drop 140 = dktJ35_mergeHi_6 := dk_seg dksJ35_mergeHi_5 23 rfl rfl
theorem dksJ35_mergeHi_7 : cJ35_mergeHi.data.toList.drop 164 = dktJ35_mergeHi_7 := dk_seg dksJ35_mergeHi_6 24 rfl rfl
theorem dksJ35_mergeHi_8 : cJ35_mergeHi.data.toList.drop 188 = dktJ35_mergeHi_8 := dk_seg dksJ35_mergeHi_7 24 rfl rfl
theorem dksJ35_mergeHi_9 : cJ35_mergeHi.data.toList.drop 211 = dktJ35_mergeHi_9 := dk_seg dksJ35_mergeHi_8 23 rfl rfl
theorem dksJ35_mergeHi_10 : cJ35_mergeHi.data.toList.drop 234 = dktJ35_mergeHi_10 := dk_seg dksJ35_mergeHi_9 23 rfl rfl
theorem dksJ35_mergeHi_11 : cJ35_mergeHi.data.toList.drop 256 = dktJ35_mergeHi_11 := dk_seg dksJ35_mergeHi_10 22 rfl rfl
theorem dksJ35_mergeHi_12 : cJ35_mergeHi.data.toList.drop 278 = dktJ35_mergeHi_12 := dk_seg dksJ35_mergeHi_11 22 rfl rfl
theorem dksJ35_mergeHi_13 : cJ35_mergeHi.data.toList.drop 301 = dktJ35_mergeHi_13 := dk_seg dksJ35_mergeHi_12 23 rfl rfl
theorem dksJ35_mergeHi_14 : cJ35_mergeHi.data.toList.drop 325 = dktJ35_mergeHi_14 := dk_seg dksJ35_mergeHi_13 24 rfl rfl
theorem dksJ35_mergeHi_15 : cJ35_mergeHi.data.toList.drop 349 = dktJ35_mergeHi_15 := dk_seg dksJ35_mergeHi_14 24 rfl rfl
theorem dksJ35_mergeHi_16 : cJ35_mergeHi.data.toList.drop 372 = dktJ35_mergeHi_16 := dk_seg dksJ35_mergeHi_15 23 rfl rfl
theorem dksJ35_mergeHi_17 : cJ35_mergeHi.data.toList.drop 394 = dktJ35_mergeHi_17 := dk_seg dksJ35_mergeHi_16 22 rfl rfl
theorem dksJ35_mergeHi_18 : cJ35_mergeHi.data.toList.drop 416 = dktJ35_mergeHi_18 := dk_seg dksJ35_mergeHi_17 22 rfl rfl
theorem dksJ35_mergeHi_19 : cJ35_mergeHi.data.toList.drop 440 = dktJ35_mergeHi_19 := dk_seg dksJ35_mergeHi_18 24 rfl rfl
theorem dksJ35_mergeHi_20 : cJ35_mergeHi.data.toList.drop 464 = dktJ35_mergeHi_20 := dk_seg dksJ35_mergeHi_19 24 rfl rfl
theorem dksJ35_mergeHi_21 : cJ35_mergeHi.data.toList.drop 488 = dktJ35_mergeHi_21 := dk_seg dksJ35_mergeHi_20 24 rfl rfl
theorem dksJ35_mergeHi_22 : cJ35_mergeHi.data.toList.drop 510 = dktJ35_mergeHi_22 := dk_seg dksJ35_mergeHi_21 22 rfl rfl
theorem dksJ35_mergeHi_23 : cJ35_mergeHi.data.toList.drop 532 = dktJ35_mergeHi_23 := dk_seg dksJ35_mergeHi_22 22 rfl rfl
theorem dksJ35_mergeHi_24 : cJ35_mergeHi.data.toList.drop 555 = dktJ35_mergeHi_24 := dk_seg dksJ35_mergeHi_23 23 rfl rfl
theorem dksJ35_mergeHi_25 : cJ35_mergeHi.data.toList.drop 578 = dktJ35_mergeHi_25 := dk_seg dksJ35_mergeHi_24 23 rfl rfl
theorem dksJ35_mergeHi_26 : cJ35_mergeHi.data.toList.drop 602 = dktJ35_mergeHi_26 := dk_seg dksJ35_mergeHi_25 24 rfl rfl
theorem dksJ35_mergeHi_27 : cJ35_mergeHi.data.toList.drop 626 = dktJ35_mergeHi_27 := dk_seg dksJ35_mergeHi_26 24 rfl rfl
theorem dksJ35_mergeHi_28 : cJ35_mergeHi.data.toList.drop 649 = dktJ35_mergeHi_28 := dk_seg dksJ35_mergeHi_27 23 rfl rfl
theorem dksJ35_mergeHi_29 : cJ35_mergeHi.data.toList.drop 673 = dktJ35_mergeHi_29 := dk_seg dksJ35_mergeHi_28 24 rfl rfl
theorem dksJ35_mergeHi_30 : cJ35_mergeHi.data.toList.drop 697 = dktJ35_mergeHi_30 := dk_seg dksJ35_mergeHi_29 24 rfl rfl
theorem dksJ35_mergeHi_31 : cJ35_mergeHi.data.toList.drop 721 = dktJ35_mergeHi_31 := dk_seg dksJ35_mergeHi_30 24 rfl rfl
theorem dJ35_mergeHi_0 : decode cJ35_mergeHi 0 = .ok (.getstatic 37, 3) := dk_178 0 37 (dk_at dksJ35_mergeHi_0 0 rfl rfl)
theorem dJ35_mergeHi_3 : decode cJ35_mergeHi 3 = .ok (.ifCond .ne 27, 3) := dk_154 0 27 (dk_at dksJ35_mergeHi_0 3 rfl rfl)
theorem dJ35_mergeHi_6 : decode cJ35_mergeHi 6 = .ok (.iload_n 2, 1) := dk_28 (dk_at dksJ35_mergeHi_0 6 rfl rfl)
theorem dJ35_mergeHi_7 : decode cJ35_mergeHi 7 = .ok (.ifCond .le 15, 3) := dk_158 0 15 (dk_at dksJ35_mergeHi_0 7 rfl rfl)
theorem dJ35_mergeHi_10 : decode cJ35_mergeHi 10 = .ok (.iload 4, 2) := dk_21 4 (dk_at dksJ35_mergeHi_0 10 rfl rfl)
theorem dJ35_mergeHi_12 : decode cJ35_mergeHi 12 = .ok (.ifCond .le 10, 3) := dk_158 0 10 (dk_at dksJ35_mergeHi_0 12 rfl rfl)
theorem dJ35_mergeHi_15 : decode cJ35_mergeHi 15 = .ok (.iload_n 1, 1) := dk_27 (dk_at dksJ35_mergeHi_0 15 rfl rfl)
theorem dJ35_mergeHi_16 : decode cJ35_mergeHi 16 = .ok (.iload_n 2, 1) := dk_28 (dk_at dksJ35_mergeHi_0 16 rfl rfl)
theorem dJ35_mergeHi_17 : decode cJ35_mergeHi 17 = .ok (.iadd, 1) := dk_96 (dk_at dksJ35_mergeHi_0 17 rfl rfl)
theorem dJ35_mergeHi_18 : decode cJ35_mergeHi 18 = .ok (.iload_n 3, 1) := dk_29 (dk_at dksJ35_mergeHi_0 18 rfl rfl)
theorem dJ35_mergeHi_19 : decode cJ35_mergeHi 19 = .ok (.if_icmp .eq 11, 3) := dk_159 0 11 (dk_at dksJ35_mergeHi_0 19 rfl rfl)
theorem dJ35_mergeHi_22 : decode cJ35_mergeHi 22 = .ok (.new 41, 3) := dk_187 0 41 (dk_at dksJ35_mergeHi_1 0 rfl rfl)
theorem dJ35_mergeHi_25 : decode cJ35_mergeHi 25 = .ok (.dup, 1) := dk_89 (dk_at dksJ35_mergeHi_1 3 rfl rfl)
theorem dJ35_mergeHi_26 : decode cJ35_mergeHi 26 = .ok (.invokespecial 43, 3) := dk_183 0 43 (dk_at dksJ35_mergeHi_1 4 rfl rfl)
theorem dJ35_mergeHi_29 : decode cJ35_mergeHi 29 = .ok (.athrow, 1) := dk_191 (dk_at dksJ35_mergeHi_1 7 rfl rfl)
theorem dJ35_mergeHi_30 : decode cJ35_mergeHi 30 = .ok (.aload_n 0, 1) := dk_42 (dk_at dksJ35_mergeHi_1 8 rfl rfl)
theorem dJ35_mergeHi_31 : decode cJ35_mergeHi 31 = .ok (.getfield 16, 3) := dk_180 0 16 (dk_at dksJ35_mergeHi_1 9 rfl rfl)
theorem dJ35_mergeHi_34 : decode cJ35_mergeHi 34 = .ok (.astore 5, 2) := dk_58 5 (dk_at dksJ35_mergeHi_1 12 rfl rfl)
theorem dJ35_mergeHi_36 : decode cJ35_mergeHi 36 = .ok (.aload_n 0, 1) := dk_42 (dk_at dksJ35_mergeHi_1 14 rfl rfl)
theorem dJ35_mergeHi_37 : decode cJ35_mergeHi 37 = .ok (.iload 4, 2) := dk_21 4 (dk_at dksJ35_mergeHi_1 15 rfl rfl)
theorem dJ35_mergeHi_39 : decode cJ35_mergeHi 39 = .ok (.invokevirtual 103, 3) := dk_182 0 103 (dk_at dksJ35_mergeHi_1 17 rfl rfl)
theorem dJ35_mergeHi_42 : decode cJ35_mergeHi 42 = .ok (.astore 6, 2) := dk_58 6 (dk_at dksJ35_mergeHi_1 20 rfl rfl)
theorem dJ35_mergeHi_44 : decode cJ35_mergeHi 44 = .ok (.aload_n 0, 1) := dk_42 (dk_at dksJ35_mergeHi_1 22 rfl rfl)
theorem dJ35_mergeHi_45 : decode cJ35_mergeHi 45 = .ok (.getfield 23, 3) := dk_180 0 23 (dk_at dksJ35_mergeHi_2 0 rfl rfl)
theorem dJ35_mergeHi_48 : decode cJ35_mergeHi 48 = .ok (.istore 7, 2) := dk_54 7 (dk_at dksJ35_mergeHi_2 3 rfl rfl)
theorem dJ35_mergeHi_50 : decode cJ35_mergeHi 50 = .ok (.aload 5, 2) := dk_25 5 (dk_at dksJ35_mergeHi_2 5 rfl rfl)
theorem dJ35_mergeHi_52 : decode cJ35_mergeHi 52 = .ok (.iload_n 3, 1) := dk_29 (dk_at dksJ35_mergeHi_2 7 rfl rfl)
theorem dJ35_mergeHi_53 : decode cJ35_mergeHi 53 = .ok (.aload 6, 2) := dk_25 6 (dk_at dksJ35_mergeHi_2 8 rfl rfl)
theorem dJ35_mergeHi_55 : decode cJ35_mergeHi 55 = .ok (.iload 7, 2) := dk_21 7 (dk_at dksJ35_mergeHi_2 10 rfl rfl)
theorem dJ35_mergeHi_57 : decode cJ35_mergeHi 57 = .ok (.iload 4, 2) := dk_21 4 (dk_at dksJ35_mergeHi_2 12 rfl rfl)
theorem dJ35_mergeHi_59 : decode cJ35_mergeHi 59 = .ok (.invokestatic 75, 3) := dk_184 0 75 (dk_at dksJ35_mergeHi_2 14 rfl rfl)
theorem dJ35_mergeHi_62 : decode cJ35_mergeHi 62 = .ok (.iload_n 1, 1) := dk_27 (dk_at dksJ35_mergeHi_2 17 rfl rfl)
theorem dJ35_mergeHi_63 : decode cJ35_mergeHi 63 = .ok (.iload_n 2, 1) := dk_28 (dk_at dksJ35_mergeHi_2 18 rfl rfl)
theorem dJ35_mergeHi_64 : decode cJ35_mergeHi 64 = .ok (.iadd, 1) := dk_96 (dk_at dksJ35_mergeHi_2 19 rfl rfl)
theorem dJ35_mergeHi_65 : decode cJ35_mergeHi 65 = .ok (.iconst 1, 1) := dk_4 (dk_at dksJ35_mergeHi_2 20 rfl rfl)
theorem dJ35_mergeHi_66 : decode cJ35_mergeHi 66 = .ok (.isub, 1) := dk_100 (dk_at dksJ35_mergeHi_2 21 rfl rfl)
theorem dJ35_mergeHi_67 : decode cJ35_mergeHi 67 = .ok (.istore 8, 2) := dk_54 8 (dk_at dksJ35_mergeHi_2 22 rfl rfl)
theorem dJ35_mergeHi_69 : decode cJ35_mergeHi 69 = .ok (.iload 7, 2) := dk_21 7 (dk_at dksJ35_mergeHi_3 0 rfl rfl)
theorem dJ35_mergeHi_71 : decode cJ35_mergeHi 71 = .ok (.iload 4, 2) := dk_21 4 (dk_at dksJ35_mergeHi_3 2 rfl rfl)
theorem dJ35_mergeHi_73 : decode cJ35_mergeHi 73 = .ok (.iadd, 1) := dk_96 (dk_at dksJ35_mergeHi_3 4 rfl rfl)
theorem dJ35_mergeHi_74 : decode cJ35_mergeHi 74 = .ok (.iconst 1, 1) := dk_4 (dk_at dksJ35_mergeHi_3 5 rfl rfl)
theorem dJ35_mergeHi_75 : decode cJ35_mergeHi 75 = .ok (.isub, 1) := dk_100 (dk_at dksJ35_mergeHi_3 6 rfl rfl)
theorem dJ35_mergeHi_76 : decode cJ35_mergeHi 76 = .ok (.istore 9, 2) := dk_54 9 (dk_at dksJ35_mergeHi_3 7 rfl rfl)
theorem dJ35_mergeHi_78 : decode cJ35_mergeHi 78 = .ok (.iload_n 3, 1) := dk_29 (dk_at dksJ35_mergeHi_3 9 rfl rfl)
theorem dJ35_mergeHi_79 : decode cJ35_mergeHi 79 = .ok (.iload 4, 2) := dk_21 4 (dk_at dksJ35_mergeHi_3 10 rfl rfl)
theorem dJ35_mergeHi_81 : decode cJ35_mergeHi 81 = .ok (.iadd, 1) := dk_96 (dk_at dksJ35_mergeHi_3 12 rfl rfl)
theorem dJ35_mergeHi_82 : decode cJ35_mergeHi 82 = .ok (.iconst 1, 1) := dk_4 (dk_at dksJ35_mergeHi_3 13 rfl rfl)
theorem dJ35_mergeHi_83 : decode cJ35_mergeHi 83 = .ok (.isub, 1) := dk_100 (dk_at dksJ35_mergeHi_3 14 rfl rfl)
theorem dJ35_mergeHi_84 : decode cJ35_mergeHi 84 = .ok (.istore 10, 2) := dk_54 10 (dk_at dksJ35_mergeHi_3 15 rfl rfl)
theorem dJ35_mergeHi_86 : decode cJ35_mergeHi 86 = .ok (.aload 5, 2) := dk_25 5 (dk_at dksJ35_mergeHi_3 17 rfl rfl)
theorem dJ35_mergeHi_88 : decode cJ35_mergeHi 88 = .ok (.iload 10, 2) := dk_21 10 (dk_at dksJ35_mergeHi_3 19 rfl rfl)
theorem dJ35_mergeHi_90 : decode cJ35_mergeHi 90 = .ok (.iinc 10 (-1), 3) := dk_132 10 255 (dk_at dksJ35_mergeHi_3 21 rfl rfl)
theorem dJ35_mergeHi_93 : decode cJ35_mergeHi 93 = .ok (.aload 5, 2) := dk_25 5 (dk_at dksJ35_mergeHi_4 0 rfl rfl)
theorem dJ35_mergeHi_95 : decode cJ35_mergeHi 95 = .ok (.iload 8, 2) := dk_21 8 (dk_at dksJ35_mergeHi_4 2 rfl rfl)
theorem dJ35_mergeHi_97 : decode cJ35_mergeHi 97 = .ok (.iinc 8 (-1), 3) := dk_132 8 255 (dk_at dksJ35_mergeHi_4 4 rfl rfl)
theorem dJ35_mergeHi_100 : decode cJ35_mergeHi 100 = .ok (.aaload, 1) := dk_50 (dk_at dksJ35_mergeHi_4 7 rfl rfl)
theorem dJ35_mergeHi_101 : decode cJ35_mergeHi 101 = .ok (.aastore, 1) := dk_83 (dk_at dksJ35_mergeHi_4 8 rfl rfl)
theorem dJ35_mergeHi_102 : decode cJ35_mergeHi 102 = .ok (.iinc 2 (-1), 3) := dk_132 2 255 (dk_at dksJ35_mergeHi_4 9 rfl rfl)
theorem dJ35_mergeHi_105 : decode cJ35_mergeHi 105 = .ok (.iload_n 2, 1) := dk_28 (dk_at dksJ35_mergeHi_4 12 rfl rfl)
theorem dJ35_mergeHi_106 : decode cJ35_mergeHi 106 = .ok (.ifCond .ne 22, 3) := dk_154 0 22 (dk_at dksJ35_mergeHi_4 13 rfl rfl)
theorem dJ35_mergeHi_109 : decode cJ35_mergeHi 109 = .ok (.aload 6, 2) := dk_25 6 (dk_at dksJ35_mergeHi_4 16 rfl rfl)
theorem dJ35_mergeHi_111 : decode cJ35_mergeHi 111 = .ok (.iload 7, 2) := dk_21 7 (dk_at dksJ35_mergeHi_4 18 rfl rfl)
theorem dJ35_mergeHi_113 : decode cJ35_mergeHi 113 = .ok (.aload 5, 2) := dk_25 5 (dk_at dksJ35_mergeHi_4 20 rfl rfl)
theorem dJ35_mergeHi_115 : decode cJ35_mergeHi 115 = .ok (.iload 10, 2) := dk_21 10 (dk_at dksJ35_mergeHi_4 22 rfl rfl)
theorem dJ35_mergeHi_117 : decode cJ35_mergeHi 117 = .ok (.iload 4, 2) := dk_21 4 (dk_at dksJ35_mergeHi_5 0 rfl rfl)
theorem dJ35_mergeHi_119 : decode cJ35_mergeHi 119 = .ok (.iconst 1, 1) := dk_4 (dk_at dksJ35_mergeHi_5 2 rfl rfl)
theorem dJ35_mergeHi_120 : decode cJ35_mergeHi 120 = .ok (.isub, 1) := dk_100 (dk_at dksJ35_mergeHi_5 3 rfl rfl)
theorem dJ35_mergeHi_121 : decode cJ35_mergeHi 121 = .ok (.isub, 1) := dk_100 (dk_at dksJ35_mergeHi_5 4 rfl rfl)
theorem dJ35_mergeHi_122 : decode cJ35_mergeHi 122 = .ok (.iload 4, 2) := dk_21 4 (dk_at dksJ35_mergeHi_5 5 rfl rfl)
theorem dJ35_mergeHi_124 : decode cJ35_mergeHi 124 = .ok (.invokestatic 75, 3) := dk_184 0 75 (dk_at dksJ35_mergeHi_5 7 rfl rfl)
theorem dJ35_mergeHi_127 : decode cJ35_mergeHi 127 = .ok (.return_, 1) := dk_177 (dk_at dksJ35_mergeHi_5 10 rfl rfl)
theorem dJ35_mergeHi_128 : decode cJ35_mergeHi 128 = .ok (.iload 4, 2) := dk_21 4 (dk_at dksJ35_mergeHi_5 11 rfl rfl)
theorem dJ35_mergeHi_130 : decode cJ35_mergeHi 130 = .ok (.iconst 1, 1) := dk_4 (dk_at dksJ35_mergeHi_5 13 rfl rfl)
theorem dJ35_mergeHi_131 : decode cJ35_mergeHi 131 = .ok (.if_icmp .ne 42, 3) := dk_160 0 42 (dk_at dksJ35_mergeHi_5 14 rfl rfl)
theorem dJ35_mergeHi_134 : decode cJ35_mergeHi 134 = .ok (.iload 10, 2) := dk_21 10 (dk_at dksJ35_mergeHi_5 17 rfl rfl)
theorem dJ35_mergeHi_136 : decode cJ35_mergeHi 136 = .ok (.iload_n 2, 1) := dk_28 (dk_at dksJ35_mergeHi_5 19 rfl rfl)
theorem dJ35_mergeHi_137 : decode cJ35_mergeHi 137 = .ok (.isub, 1) := dk_100 (dk_at dksJ35_mergeHi_5 20 rfl rfl)
theorem dJ35_mergeHi_138 : decode cJ35_mergeHi 138 = .ok (.istore 10, 2) := dk_54 10 (dk_at dksJ35_mergeHi_5 21 rfl rfl)
theorem dJ35_mergeHi_140 : decode cJ35_mergeHi 140 = .ok (.iload 8, 2) := dk_21 8 (dk_at dksJ35_mergeHi_6 0 rfl rfl)
theorem dJ35_mergeHi_142 : decode cJ35_mergeHi 142 = .ok (.iload_n 2, 1) := dk_28 (dk_at dksJ35_mergeHi_6 2 rfl rfl)
theorem dJ35_mergeHi_143 : decode cJ35_mergeHi 143 = .ok (.isub, 1) := dk_100 (dk_at dksJ35_mergeHi_6 3 rfl rfl)
theorem dJ35_mergeHi_144 : decode cJ35_mergeHi 144 = .ok (.istore 8, 2) := dk_54 8 (dk_at dksJ35_mergeHi_6 4 rfl rfl)
theorem dJ35_mergeHi_146 : decode cJ35_mergeHi 146 = .ok (.aload 5, 2) := dk_25 5 (dk_at dksJ35_mergeHi_6 6 rfl rfl)
theorem dJ35_mergeHi_148 : decode cJ35_mergeHi 148 = .ok (.iload 8, 2) := dk_21 8 (dk_at dksJ35_mergeHi_6 8 rfl rfl)
theorem dJ35_mergeHi_150 : decode cJ35_mergeHi 150 = .ok (.iconst 1, 1) := dk_4 (dk_at dksJ35_mergeHi_6 10 rfl rfl)
theorem dJ35_mergeHi_151 : decode cJ35_mergeHi 151 = .ok (.iadd, 1) := dk_96 (dk_at dksJ35_mergeHi_6 11 rfl rfl)
theorem dJ35_mergeHi_152 : decode cJ35_mergeHi 152 = .ok (.aload 5, 2) := dk_25 5 (dk_at dksJ35_mergeHi_6 12 rfl rfl)
theorem dJ35_mergeHi_154 : decode cJ35_mergeHi 154 = .ok (.iload 10, 2) := dk_21 10 (dk_at dksJ35_mergeHi_6 14 rfl rfl)
theorem dJ35_mergeHi_156 : decode cJ35_mergeHi 156 = .ok (.iconst 1, 1) := dk_4 (dk_at dksJ35_mergeHi_6 16 rfl rfl)
theorem dJ35_mergeHi_157 : decode cJ35_mergeHi 157 = .ok (.iadd, 1) := dk_96 (dk_at dksJ35_mergeHi_6 17 rfl rfl)
theorem dJ35_mergeHi_158 : decode cJ35_mergeHi 158 = .ok (.iload_n 2, 1) := dk_28 (dk_at dksJ35_mergeHi_6 18 rfl rfl)
theorem dJ35_mergeHi_159 : decode cJ35_mergeHi 159 = .ok (.invokestatic 75, 3) := dk_184 0 75 (dk_at dksJ35_mergeHi_6 19 rfl rfl)
theorem dJ35_mergeHi_162 : decode cJ35_mergeHi 162 = .ok (.aload 5, 2) := dk_25 5 (dk_at dksJ35_mergeHi_6 22 rfl rfl)
theorem dJ35_mergeHi_164 : decode cJ35_mergeHi 164 = .ok (.iload 10, 2) := dk_21 10 (dk_at dksJ35_mergeHi_7 0 rfl rfl)
theorem dJ35_mergeHi_166 : decode cJ35_mergeHi 166 = .ok (.aload 6, 2) := dk_25 6 (dk_at dksJ35_mergeHi_7 2 rfl rfl)
theorem dJ35_mergeHi_168 : decode cJ35_mergeHi 168 = .ok (.iload 9, 2) := dk_21 9 (dk_at dksJ35_mergeHi_7 4 rfl rfl)
theorem dJ35_mergeHi_170 : decode cJ35_mergeHi 170 = .ok (.aaload, 1) := dk_50 (dk_at dksJ35_mergeHi_7 6 rfl rfl)
theorem dJ35_mergeHi_171 : decode cJ35_mergeHi 171 = .ok (.aastore, 1) := dk_83 (dk_at dksJ35_mergeHi_7 7 rfl rfl)
theorem dJ35_mergeHi_172 : decode cJ35_mergeHi 172 = .ok (.return_, 1) := dk_177 (dk_at dksJ35_mergeHi_7 8 rfl rfl)
theorem dJ35_mergeHi_173 : decode cJ35_mergeHi 173 = .ok (.aload_n 0, 1) := dk_42 (dk_at dksJ35_mergeHi_7 9 rfl rfl)
theorem dJ35_mergeHi_174 : decode cJ35_mergeHi 174 = .ok (.getfield 9, 3) := dk_180 0 9 (dk_at dksJ35_mergeHi_7 10 rfl rfl)
theorem dJ35_mergeHi_177 : decode cJ35_mergeHi 177 = .ok (.istore 11, 2) := dk_54 11 (dk_at dksJ35_mergeHi_7 13 rfl rfl)
theorem dJ35_mergeHi_179 : decode cJ35_mergeHi 179 = .ok (.iconst 0, 1) := dk_3 (dk_at dksJ35_mergeHi_7 15 rfl rfl)
theorem dJ35_mergeHi_180 : decode cJ35_mergeHi 180 = .ok (.istore 12, 2) := dk_54 12 (dk_at dksJ35_mergeHi_7 16 rfl rfl)
theorem dJ35_mergeHi_182 : decode cJ35_mergeHi 182 = .ok (.iconst 0, 1) := dk_3 (dk_at dksJ35_mergeHi_7 18 rfl rfl)
theorem dJ35_mergeHi_183 : decode cJ35_mergeHi 183 = .ok (.istore 13, 2) := dk_54 13 (dk_at dksJ35_mergeHi_7 19 rfl rfl)
theorem dJ35_mergeHi_185 : decode cJ35_mergeHi 185 = .ok (.getstatic 37, 3) := dk_178 0 37 (dk_at dksJ35_mergeHi_7 21 rfl rfl)
theorem dJ35_mergeHi_188 : decode cJ35_mergeHi 188 = .ok (.ifCond .ne 21, 3) := dk_154 0 21 (dk_at dksJ35_mergeHi_8 0 rfl rfl)
theorem dJ35_mergeHi_191 : decode cJ35_mergeHi 191 = .ok (.iload_n 2, 1) := dk_28 (dk_at dksJ35_mergeHi_8 3 rfl rfl)
theorem dJ35_mergeHi_192 : decode cJ35_mergeHi 192 = .ok (.ifCond .le 9, 3) := dk_158 0 9 (dk_at dksJ35_mergeHi_8 4 rfl rfl)
theorem dJ35_mergeHi_195 : decode cJ35_mergeHi 195 = .ok (.iload 4, 2) := dk_21 4 (dk_at dksJ35_mergeHi_8 7 rfl rfl)
theorem dJ35_mergeHi_197 : decode cJ35_mergeHi 197 = .ok (.iconst 1, 1) := dk_4 (dk_at dksJ35_mergeHi_8 9 rfl rfl)
theorem dJ35_mergeHi_198 : decode cJ35_mergeHi 198 = .ok (.if_icmp .gt 11, 3) := dk_163 0 11 (dk_at dksJ35_mergeHi_8 10 rfl rfl)
theorem dJ35_mergeHi_201 : decode cJ35_mergeHi 201 = .ok (.new 41, 3) := dk_187 0 41 (dk_at dksJ35_mergeHi_8 13 rfl rfl)
theorem dJ35_mergeHi_204 : decode cJ35_mergeHi 204 = .ok (.dup, 1) := dk_89 (dk_at dksJ35_mergeHi_8 16 rfl rfl)
theorem dJ35_mergeHi_205 : decode cJ35_mergeHi 205 = .ok (.invokespecial 43, 3) := dk_183 0 43 (dk_at dksJ35_mergeHi_8 17 rfl rfl)
theorem dJ35_mergeHi_208 : decode cJ35_mergeHi 208 = .ok (.athrow, 1) := dk_191 (dk_at dksJ35_mergeHi_8 20 rfl rfl)
theorem dJ35_mergeHi_209 : decode cJ35_mergeHi 209 = .ok (.aload 6, 2) := dk_25 6 (dk_at dksJ35_mergeHi_8 21 rfl rfl)
theorem dJ35_mergeHi_211 : decode cJ35_mergeHi 211 = .ok (.iload 9, 2) := dk_21 9 (dk_at dksJ35_mergeHi_9 0 rfl rfl)
theorem dJ35_mergeHi_213 : decode cJ35_mergeHi 213 = .ok (.aaload, 1) := dk_50 (dk_at dksJ35_mergeHi_9 2 rfl rfl)
theorem dJ35_mergeHi_214 : decode cJ35_mergeHi 214 = .ok (.checkcast 69, 3) := dk_192 0 69 (dk_at dksJ35_mergeHi_9 3 rfl rfl)
theorem dJ35_mergeHi_217 : decode cJ35_mergeHi 217 = .ok (.aload 5, 2) := dk_25 5 (dk_at dksJ35_mergeHi_9 6 rfl rfl)
theorem dJ35_mergeHi_219 : decode cJ35_mergeHi 219 = .ok (.iload 8, 2) := dk_21 8 (dk_at dksJ35_mergeHi_9 8 rfl rfl)
theorem dJ35_mergeHi_221 : decode cJ35_mergeHi 221 = .ok (.aaload, 1) := dk_50 (dk_at dksJ35_mergeHi_9 10 rfl rfl)
theorem dJ35_mergeHi_222 : decode cJ35_mergeHi 222 = .ok (.invokeinterface 71 2, 5) := by decide +kernel
theorem dJ35_mergeHi_227 : decode cJ35_mergeHi 227 = .ok (.ifCond .ge 35, 3) := dk_156 0 35 (dk_at dksJ35_mergeHi_9 16 rfl rfl)
theorem dJ35_mergeHi_230 : decode cJ35_mergeHi 230 = .ok (.aload 5, 2) := dk_25 5 (dk_at dksJ35_mergeHi_9 19 rfl rfl)
theorem dJ35_mergeHi_232 : decode cJ35_mergeHi 232 = .ok (.iload 10, 2) := dk_21 10 (dk_at dksJ35_mergeHi_9 21 rfl rfl)
theorem dJ35_mergeHi_234 : decode cJ35_mergeHi 234 = .ok (.iinc 10 (-1), 3) := dk_132 10 255 (dk_at dksJ35_mergeHi_10 0 rfl rfl)
theorem dJ35_mergeHi_237 : decode cJ35_mergeHi 237 = .ok (.aload 5, 2) := dk_25 5 (dk_at dksJ35_mergeHi_10 3 rfl rfl)
theorem dJ35_mergeHi_239 : decode cJ35_mergeHi 239 = .ok (.iload 8, 2) := dk_21 8 (dk_at dksJ35_mergeHi_10 5 rfl rfl)
theorem dJ35_mergeHi_241 : decode cJ35_mergeHi 241 = .ok (.iinc 8 (-1), 3) := dk_132 8 255 (dk_at dksJ35_mergeHi_10 7 rfl rfl)
theorem dJ35_mergeHi_244 : decode cJ35_mergeHi 244 = .ok (.aaload, 1) := dk_50 (dk_at dksJ35_mergeHi_10 10 rfl rfl)
theorem dJ35_mergeHi_245 : decode cJ35_mergeHi 245 = .ok (.aastore, 1) := dk_83 (dk_at dksJ35_mergeHi_10 11 rfl rfl)
theorem dJ35_mergeHi_246 : decode cJ35_mergeHi 246 = .ok (.iinc 12 1, 3) := dk_132 12 1 (dk_at dksJ35_mergeHi_10 12 rfl rfl)
theorem dJ35_mergeHi_249 : decode cJ35_mergeHi 249 = .ok (.iconst 0, 1) := dk_3 (dk_at dksJ35_mergeHi_10 15 rfl rfl)
theorem dJ35_mergeHi_250 : decode cJ35_mergeHi 250 = .ok (.istore 13, 2) := dk_54 13 (dk_at dksJ35_mergeHi_10 16 rfl rfl)
theorem dJ35_mergeHi_252 : decode cJ35_mergeHi 252 = .ok (.iinc 2 (-1), 3) := dk_132 2 255 (dk_at dksJ35_mergeHi_10 18 rfl rfl)
theorem dJ35_mergeHi_255 : decode cJ35_mergeHi 255 = .ok (.iload_n 2, 1) := dk_28 (dk_at dksJ35_mergeHi_10 21 rfl rfl)
theorem dJ35_mergeHi_256 : decode cJ35_mergeHi 256 = .ok (.ifCond .ne 40, 3) := dk_154 0 40 (dk_at dksJ35_mergeHi_11 0 rfl rfl)
theorem dJ35_mergeHi_259 : decode cJ35_mergeHi 259 = .ok (.goto 318, 3) := dk_167 1 62 (dk_at dksJ35_mergeHi_11 3 rfl rfl)
theorem dJ35_mergeHi_262 : decode cJ35_mergeHi 262 = .ok (.aload 5, 2) := dk_25 5 (dk_at dksJ35_mergeHi_11 6 rfl rfl)
theorem dJ35_mergeHi_264 : decode cJ35_mergeHi 264 = .ok (.iload 10, 2) := dk_21 10 (dk_at dksJ35_mergeHi_11 8 rfl rfl)
theorem dJ35_mergeHi_266 : decode cJ35_mergeHi 266 = .ok (.iinc 10 (-1), 3) := dk_132 10 255 (dk_at dksJ35_mergeHi_11 10 rfl rfl)
theorem dJ35_mergeHi_269 : decode cJ35_mergeHi 269 = .ok (.aload 6, 2) := dk_25 6 (dk_at dksJ35_mergeHi_11 13 rfl rfl)
theorem dJ35_mergeHi_271 : decode cJ35_mergeHi 271 = .ok (.iload 9, 2) := dk_21 9 (dk_at dksJ35_mergeHi_11 15 rfl rfl)
theorem dJ35_mergeHi_273 : decode cJ35_mergeHi 273 = .ok (.iinc 9 (-1), 3) := dk_132 9 255 (dk_at dksJ35_mergeHi_11 17 rfl rfl)
theorem dJ35_mergeHi_276 : decode cJ35_mergeHi 276 = .ok (.aaload, 1) := dk_50 (dk_at dksJ35_mergeHi_11 20 rfl rfl)
theorem dJ35_mergeHi_277 : decode cJ35_mergeHi 277 = .ok (.aastore, 1) := dk_83 (dk_at dksJ35_mergeHi_11 21 rfl rfl)
theorem dJ35_mergeHi_278 : decode cJ35_mergeHi 278 = .ok (.iinc 13 1, 3) := dk_132 13 1 (dk_at dksJ35_mergeHi_12 0 rfl rfl)
theorem dJ35_mergeHi_281 : decode cJ35_mergeHi 281 = .ok (.iconst 0, 1) := dk_3 (dk_at dksJ35_mergeHi_12 3 rfl rfl)
theorem dJ35_mergeHi_282 : decode cJ35_mergeHi 282 = .ok (.istore 12, 2) := dk_54 12 (dk_at dksJ35_mergeHi_12 4 rfl rfl)
theorem dJ35_mergeHi_284 : decode cJ35_mergeHi 284 = .ok (.iinc 4 (-1), 3) := dk_132 4 255 (dk_at dksJ35_mergeHi_12 6 rfl rfl)
theorem dJ35_mergeHi_287 : decode cJ35_mergeHi 287 = .ok (.iload 4, 2) := dk_21 4 (dk_at dksJ35_mergeHi_12 9 rfl rfl)
theorem dJ35_mergeHi_289 : decode cJ35_mergeHi 289 = .ok (.iconst 1, 1) := dk_4 (dk_at dksJ35_mergeHi_12 11 rfl rfl)
theorem dJ35_mergeHi_290 : decode cJ35_mergeHi 290 = .ok (.if_icmp .ne 6, 3) := dk_160 0 6 (dk_at dksJ35_mergeHi_12 12 rfl rfl)
theorem dJ35_mergeHi_293 : decode cJ35_mergeHi 293 = .ok (.goto 284, 3) := dk_167 1 28 (dk_at dksJ35_mergeHi_12 15 rfl rfl)
theorem dJ35_mergeHi_296 : decode cJ35_mergeHi 296 = .ok (.iload 12, 2) := dk_21 12 (dk_at dksJ35_mergeHi_12 18 rfl rfl)
theorem dJ35_mergeHi_298 : decode cJ35_mergeHi 298 = .ok (.iload 13, 2) := dk_21 13 (dk_at dksJ35_mergeHi_12 20 rfl rfl)
theorem dJ35_mergeHi_300 : decode cJ35_mergeHi 300 = .ok (.ior, 1) := dk_128 (dk_at dksJ35_mergeHi_12 22 rfl rfl)
theorem dJ35_mergeHi_301 : decode cJ35_mergeHi 301 = .ok (.iload 11, 2) := dk_21 11 (dk_at dksJ35_mergeHi_13 0 rfl rfl)
theorem dJ35_mergeHi_303 : decode cJ35_mergeHi 303 = .ok (.if_icmp .lt (-118), 3) := dk_161 255 138 (dk_at dksJ35_mergeHi_13 2 rfl rfl)
theorem dJ35_mergeHi_306 : decode cJ35_mergeHi 306 = .ok (.getstatic 37, 3) := dk_178 0 37 (dk_at dksJ35_mergeHi_13 5 rfl rfl)
theorem dJ35_mergeHi_309 : decode cJ35_mergeHi 309 = .ok (.ifCond .ne 21, 3) := dk_154 0 21 (dk_at dksJ35_mergeHi_13 8 rfl rfl)
theorem dJ35_mergeHi_312 : decode cJ35_mergeHi 312 = .ok (.iload_n 2, 1) := dk_28 (dk_at dksJ35_mergeHi_13 11 rfl rfl)
theorem dJ35_mergeHi_313 : decode cJ35_mergeHi 313 = .ok (.ifCond .le 9, 3) := dk_158 0 9 (dk_at dksJ35_mergeHi_13 12 rfl rfl)
theorem dJ35_mergeHi_316 : decode cJ35_mergeHi 316 = .ok (.iload 4, 2) := dk_21 4 (dk_at dksJ35_mergeHi_13 15 rfl rfl)
theorem dJ35_mergeHi_318 : decode cJ35_mergeHi 318 = .ok (.iconst 1, 1) := dk_4 (dk_at dksJ35_mergeHi_13 17 rfl rfl)
theorem dJ35_mergeHi_319 : decode cJ35_mergeHi 319 = .ok (.if_icmp .gt 11, 3) := dk_163 0 11 (dk_at dksJ35_mergeHi_13 18 rfl rfl)
theorem dJ35_mergeHi_322 : decode cJ35_mergeHi 322 = .ok (.new 41, 3) := dk_187 0 41 (dk_at dksJ35_mergeHi_13 21 rfl rfl)
theorem dJ35_mergeHi_325 : decode cJ35_mergeHi 325 = .ok (.dup, 1) := dk_89 (dk_at dksJ35_mergeHi_14 0 rfl rfl)
theorem dJ35_mergeHi_326 : decode cJ35_mergeHi 326 = .ok (.invokespecial 43, 3) := dk_183 0 43 (dk_at dksJ35_mergeHi_14 1 rfl rfl)
theorem dJ35_mergeHi_329 : decode cJ35_mergeHi 329 = .ok (.athrow, 1) := dk_191 (dk_at dksJ35_mergeHi_14 4 rfl rfl)
theorem dJ35_mergeHi_330 : decode cJ35_mergeHi 330 = .ok (.iload_n 2, 1) := dk_28 (dk_at dksJ35_mergeHi_14 5 rfl rfl)
theorem dJ35_mergeHi_331 : decode cJ35_mergeHi 331 = .ok (.aload 6, 2) := dk_25 6 (dk_at dksJ35_mergeHi_14 6 rfl rfl)
theorem dJ35_mergeHi_333 : decode cJ35_mergeHi 333 = .ok (.iload 9, 2) := dk_21 9 (dk_at dksJ35_mergeHi_14 8 rfl rfl)
theorem dJ35_mergeHi_335 : decode cJ35_mergeHi 335 = .ok (.aaload, 1) := dk_50 (dk_at dksJ35_mergeHi_14 10 rfl rfl)
theorem dJ35_mergeHi_336 : decode cJ35_mergeHi 336 = .ok (.checkcast 69, 3) := dk_192 0 69 (dk_at dksJ35_mergeHi_14 11 rfl rfl)
theorem dJ35_mergeHi_339 : decode cJ35_mergeHi 339 = .ok (.aload 5, 2) := dk_25 5 (dk_at dksJ35_mergeHi_14 14 rfl rfl)
theorem dJ35_mergeHi_341 : decode cJ35_mergeHi 341 = .ok (.iload_n 1, 1) := dk_27 (dk_at dksJ35_mergeHi_14 16 rfl rfl)
theorem dJ35_mergeHi_342 : decode cJ35_mergeHi 342 = .ok (.iload_n 2, 1) := dk_28 (dk_at dksJ35_mergeHi_14 17 rfl rfl)
theorem dJ35_mergeHi_343 : decode cJ35_mergeHi 343 = .ok (.iload_n 2, 1) := dk_28 (dk_at dksJ35_mergeHi_14 18 rfl rfl)
theorem dJ35_mergeHi_344 : decode cJ35_mergeHi 344 = .ok (.iconst 1, 1) := dk_4 (dk_at dksJ35_mergeHi_14 19 rfl rfl)
theorem dJ35_mergeHi_345 : decode cJ35_mergeHi 345 = .ok (.isub, 1) := dk_100 (dk_at dksJ35_mergeHi_14 20 rfl rfl)
theorem dJ35_mergeHi_346 : decode cJ35_mergeHi 346 = .ok (.invokestatic 89, 3) := dk_184 0 89 (dk_at dksJ35_mergeHi_14 21 rfl rfl)
theorem dJ35_mergeHi_349 : decode cJ35_mergeHi 349 = .ok (.isub, 1) := dk_100 (dk_at dksJ35_mergeHi_15 0 rfl rfl)
theorem dJ35_mergeHi_350 : decode cJ35_mergeHi 350 = .ok (.istore 12, 2) := dk_54 12 (dk_at dksJ35_mergeHi_15 1 rfl rfl)
theorem dJ35_mergeHi_352 : decode cJ35_mergeHi 352 = .ok (.iload 12, 2) := dk_21 12 (dk_at dksJ35_mergeHi_15 3 rfl rfl)
theorem dJ35_mergeHi_354 : decode cJ35_mergeHi 354 = .ok (.ifCond .eq 46, 3) := dk_153 0 46 (dk_at dksJ35_mergeHi_15 5 rfl rfl)
theorem dJ35_mergeHi_357 : decode cJ35_mergeHi 357 = .ok (.iload 10, 2) := dk_21 10 (dk_at dksJ35_mergeHi_15 8 rfl rfl)
theorem dJ35_mergeHi_359 : decode cJ35_mergeHi 359 = .ok (.iload 12, 2) := dk_21 12 (dk_at dksJ35_mergeHi_15 10 rfl rfl)
theorem dJ35_mergeHi_361 : decode cJ35_mergeHi 361 = .ok (.isub, 1) := dk_100 (dk_at dksJ35_mergeHi_15 12 rfl rfl)
theorem dJ35_mergeHi_362 : decode cJ35_mergeHi 362 = .ok (.istore 10, 2) := dk_54 10 (dk_at dksJ35_mergeHi_15 13 rfl rfl)
theorem dJ35_mergeHi_364 : decode cJ35_mergeHi 364 = .ok (.iload 8, 2) := dk_21 8 (dk_at dksJ35_mergeHi_15 15 rfl rfl)
theorem dJ35_mergeHi_366 : decode cJ35_mergeHi 366 = .ok (.iload 12, 2) := dk_21 12 (dk_at dksJ35_mergeHi_15 17 rfl rfl)
theorem dJ35_mergeHi_368 : decode cJ35_mergeHi 368 = .ok (.isub, 1) := dk_100 (dk_at dksJ35_mergeHi_15 19 rfl rfl)
theorem dJ35_mergeHi_369 : decode cJ35_mergeHi 369 = .ok (.istore 8, 2) := dk_54 8 (dk_at dksJ35_mergeHi_15 20 rfl rfl)
theorem dJ35_mergeHi_371 : decode cJ35_mergeHi 371 = .ok (.iload_n 2, 1) := dk_28 (dk_at dksJ35_mergeHi_15 22 rfl rfl)
theorem dJ35_mergeHi_372 : decode cJ35_mergeHi 372 = .ok (.iload 12, 2) := dk_21 12 (dk_at dksJ35_mergeHi_16 0 rfl rfl)
theorem dJ35_mergeHi_374 : decode cJ35_mergeHi 374 = .ok (.isub, 1) := dk_100 (dk_at dksJ35_mergeHi_16 2 rfl rfl)
theorem dJ35_mergeHi_375 : decode cJ35_mergeHi 375 = .ok (.istore_n 2, 1) := dk_61 (dk_at dksJ35_mergeHi_16 3 rfl rfl)
theorem dJ35_mergeHi_376 : decode cJ35_mergeHi 376 = .ok (.aload 5, 2) := dk_25 5 (dk_at dksJ35_mergeHi_16 4 rfl rfl)
theorem dJ35_mergeHi_378 : decode cJ35_mergeHi 378 = .ok (.iload 8, 2) := dk_21 8 (dk_at dksJ35_mergeHi_16 6 rfl rfl)
theorem dJ35_mergeHi_380 : decode cJ35_mergeHi 380 = .ok (.iconst 1, 1) := dk_4 (dk_at dksJ35_mergeHi_16 8 rfl rfl)
theorem dJ35_mergeHi_381 : decode cJ35_mergeHi 381 = .ok (.iadd, 1) := dk_96 (dk_at dksJ35_mergeHi_16 9 rfl rfl)
theorem dJ35_mergeHi_382 : decode cJ35_mergeHi 382 = .ok (.aload 5, 2) := dk_25 5 (dk_at dksJ35_mergeHi_16 10 rfl rfl)
theorem dJ35_mergeHi_384 : decode cJ35_mergeHi 384 = .ok (.iload 10, 2) := dk_21 10 (dk_at dksJ35_mergeHi_16 12 rfl rfl)
theorem dJ35_mergeHi_386 : decode cJ35_mergeHi 386 = .ok (.iconst 1, 1) := dk_4 (dk_at dksJ35_mergeHi_16 14 rfl rfl)
theorem dJ35_mergeHi_387 : decode cJ35_mergeHi 387 = .ok (.iadd, 1) := dk_96 (dk_at dksJ35_mergeHi_16 15 rfl rfl)
theorem dJ35_mergeHi_388 : decode cJ35_mergeHi 388 = .ok (.iload 12, 2) := dk_21 12 (dk_at dksJ35_mergeHi_16 16 rfl rfl)
theorem dJ35_mergeHi_390 : decode cJ35_mergeHi 390 = .ok (.invokestatic 75, 3) := dk_184 0 75 (dk_at dksJ35_mergeHi_16 18 rfl rfl)
theorem dJ35_mergeHi_393 : decode cJ35_mergeHi 393 = .ok (.iload_n 2, 1) := dk_28 (dk_at dksJ35_mergeHi_16 21 rfl rfl)
theorem dJ35_mergeHi_394 : decode cJ35_mergeHi 394 = .ok (.ifCond .ne 6, 3) := dk_154 0 6 (dk_at dksJ35_mergeHi_17 0 rfl rfl)
theorem dJ35_mergeHi_397 : decode cJ35_mergeHi 397 = .ok (.goto 180, 3) := dk_167 0 180 (dk_at dksJ35_mergeHi_17 3 rfl rfl)
theorem dJ35_mergeHi_400 : decode cJ35_mergeHi 400 = .ok (.aload 5, 2) := dk_25 5 (dk_at dksJ35_mergeHi_17 6 rfl rfl)
theorem dJ35_mergeHi_402 : decode cJ35_mergeHi 402 = .ok (.iload 10, 2) := dk_21 10 (dk_at dksJ35_mergeHi_17 8 rfl rfl)
theorem dJ35_mergeHi_404 : decode cJ35_mergeHi 404 = .ok (.iinc 10 (-1), 3) := dk_132 10 255 (dk_at dksJ35_mergeHi_17 10 rfl rfl)
theorem dJ35_mergeHi_407 : decode cJ35_mergeHi 407 = .ok (.aload 6, 2) := dk_25 6 (dk_at dksJ35_mergeHi_17 13 rfl rfl)
theorem dJ35_mergeHi_409 : decode cJ35_mergeHi 409 = .ok (.iload 9, 2) := dk_21 9 (dk_at dksJ35_mergeHi_17 15 rfl rfl)
theorem dJ35_mergeHi_411 : decode cJ35_mergeHi 411 = .ok (.iinc 9 (-1), 3) := dk_132 9 255 (dk_at dksJ35_mergeHi_17 17 rfl rfl)
theorem dJ35_mergeHi_414 : decode cJ35_mergeHi 414 = .ok (.aaload, 1) := dk_50 (dk_at dksJ35_mergeHi_17 20 rfl rfl)
theorem dJ35_mergeHi_415 : decode cJ35_mergeHi 415 = .ok (.aastore, 1) := dk_83 (dk_at dksJ35_mergeHi_17 21 rfl rfl)
theorem dJ35_mergeHi_416 : decode cJ35_mergeHi 416 = .ok (.iinc 4 (-1), 3) := dk_132 4 255 (dk_at dksJ35_mergeHi_18 0 rfl rfl)
theorem dJ35_mergeHi_419 : decode cJ35_mergeHi 419 = .ok (.iload 4, 2) := dk_21 4 (dk_at dksJ35_mergeHi_18 3 rfl rfl)
theorem dJ35_mergeHi_421 : decode cJ35_mergeHi 421 = .ok (.iconst 1, 1) := dk_4 (dk_at dksJ35_mergeHi_18 5 rfl rfl)
theorem dJ35_mergeHi_422 : decode cJ35_mergeHi 422 = .ok (.if_icmp .ne 6, 3) := dk_160 0 6 (dk_at dksJ35_mergeHi_18 6 rfl rfl)
theorem dJ35_mergeHi_425 : decode cJ35_mergeHi 425 = .ok (.goto 152, 3) := dk_167 0 152 (dk_at dksJ35_mergeHi_18 9 rfl rfl)
theorem dJ35_mergeHi_428 : decode cJ35_mergeHi 428 = .ok (.iload 4, 2) := dk_21 4 (dk_at dksJ35_mergeHi_18 12 rfl rfl)
theorem dJ35_mergeHi_430 : decode cJ35_mergeHi 430 = .ok (.aload 5, 2) := dk_25 5 (dk_at dksJ35_mergeHi_18 14 rfl rfl)
theorem dJ35_mergeHi_432 : decode cJ35_mergeHi 432 = .ok (.iload 8, 2) := dk_21 8 (dk_at dksJ35_mergeHi_18 16 rfl rfl)
theorem dJ35_mergeHi_434 : decode cJ35_mergeHi 434 = .ok (.aaload, 1) := dk_50 (dk_at dksJ35_mergeHi_18 18 rfl rfl)
theorem dJ35_mergeHi_435 : decode cJ35_mergeHi 435 = .ok (.checkcast 69, 3) := dk_192 0 69 (dk_at dksJ35_mergeHi_18 19 rfl rfl)
theorem dJ35_mergeHi_438 : decode cJ35_mergeHi 438 = .ok (.aload 6, 2) := dk_25 6 (dk_at dksJ35_mergeHi_18 22 rfl rfl)
theorem dJ35_mergeHi_440 : decode cJ35_mergeHi 440 = .ok (.iload 7, 2) := dk_21 7 (dk_at dksJ35_mergeHi_19 0 rfl rfl)
theorem dJ35_mergeHi_442 : decode cJ35_mergeHi 442 = .ok (.iload 4, 2) := dk_21 4 (dk_at dksJ35_mergeHi_19 2 rfl rfl)
theorem dJ35_mergeHi_444 : decode cJ35_mergeHi 444 = .ok (.iload 4, 2) := dk_21 4 (dk_at dksJ35_mergeHi_19 4 rfl rfl)
theorem dJ35_mergeHi_446 : decode cJ35_mergeHi 446 = .ok (.iconst 1, 1) := dk_4 (dk_at dksJ35_mergeHi_19 6 rfl rfl)
theorem dJ35_mergeHi_447 : decode cJ35_mergeHi 447 = .ok (.isub, 1) := dk_100 (dk_at dksJ35_mergeHi_19 7 rfl rfl)
theorem dJ35_mergeHi_448 : decode cJ35_mergeHi 448 = .ok (.invokestatic 93, 3) := dk_184 0 93 (dk_at dksJ35_mergeHi_19 8 rfl rfl)
theorem dJ35_mergeHi_451 : decode cJ35_mergeHi 451 = .ok (.isub, 1) := dk_100 (dk_at dksJ35_mergeHi_19 11 rfl rfl)
theorem dJ35_mergeHi_452 : decode cJ35_mergeHi 452 = .ok (.istore 13, 2) := dk_54 13 (dk_at dksJ35_mergeHi_19 12 rfl rfl)
theorem dJ35_mergeHi_454 : decode cJ35_mergeHi 454 = .ok (.iload 13, 2) := dk_21 13 (dk_at dksJ35_mergeHi_19 14 rfl rfl)
theorem dJ35_mergeHi_456 : decode cJ35_mergeHi 456 = .ok (.ifCond .eq 50, 3) := dk_153 0 50 (dk_at dksJ35_mergeHi_19 16 rfl rfl)
theorem dJ35_mergeHi_459 : decode cJ35_mergeHi 459 = .ok (.iload 10, 2) := dk_21 10 (dk_at dksJ35_mergeHi_19 19 rfl rfl)
theorem dJ35_mergeHi_461 : decode cJ35_mergeHi 461 = .ok (.iload 13, 2) := dk_21 13 (dk_at dksJ35_mergeHi_19 21 rfl rfl)
theorem dJ35_mergeHi_463 : decode cJ35_mergeHi 463 = .ok (.isub, 1) := dk_100 (dk_at dksJ35_mergeHi_19 23 rfl rfl)
theorem dJ35_mergeHi_464 : decode cJ35_mergeHi 464 = .ok (.istore 10, 2) := dk_54 10 (dk_at dksJ35_mergeHi_20 0 rfl rfl)
theorem dJ35_mergeHi_466 : decode cJ35_mergeHi 466 = .ok (.iload 9, 2) := dk_21 9 (dk_at dksJ35_mergeHi_20 2 rfl rfl)
theorem dJ35_mergeHi_468 : decode cJ35_mergeHi 468 = .ok (.iload 13, 2) := dk_21 13 (dk_at dksJ35_mergeHi_20 4 rfl rfl)
theorem dJ35_mergeHi_470 : decode cJ35_mergeHi 470 = .ok (.isub, 1) := dk_100 (dk_at dksJ35_mergeHi_20 6 rfl rfl)
theorem dJ35_mergeHi_471 : decode cJ35_mergeHi 471 = .ok (.istore 9, 2) := dk_54 9 (dk_at dksJ35_mergeHi_20 7 rfl rfl)
theorem dJ35_mergeHi_473 : decode cJ35_mergeHi 473 = .ok (.iload 4, 2) := dk_21 4 (dk_at dksJ35_mergeHi_20 9 rfl rfl)
theorem dJ35_mergeHi_475 : decode cJ35_mergeHi 475 = .ok (.iload 13, 2) := dk_21 13 (dk_at dksJ35_mergeHi_20 11 rfl rfl)
theorem dJ35_mergeHi_477 : decode cJ35_mergeHi 477 = .ok (.isub, 1) := dk_100 (dk_at dksJ35_mergeHi_20 13 rfl rfl)
theorem dJ35_mergeHi_478 : decode cJ35_mergeHi 478 = .ok (.istore 4, 2) := dk_54 4 (dk_at dksJ35_mergeHi_20 14 rfl rfl)
theorem dJ35_mergeHi_480 : decode cJ35_mergeHi 480 = .ok (.aload 6, 2) := dk_25 6 (dk_at dksJ35_mergeHi_20 16 rfl rfl)
theorem dJ35_mergeHi_482 : decode cJ35_mergeHi 482 = .ok (.iload 9, 2) := dk_21 9 (dk_at dksJ35_mergeHi_20 18 rfl rfl)
theorem dJ35_mergeHi_484 : decode cJ35_mergeHi 484 = .ok (.iconst 1, 1) := dk_4 (dk_at dksJ35_mergeHi_20 20 rfl rfl)
theorem dJ35_mergeHi_485 : decode cJ35_mergeHi 485 = .ok (.iadd, 1) := dk_96 (dk_at dksJ35_mergeHi_20 21 rfl rfl)
theorem dJ35_mergeHi_486 : decode cJ35_mergeHi 486 = .ok (.aload 5, 2) := dk_25 5 (dk_at dksJ35_mergeHi_20 22 rfl rfl)
theorem dJ35_mergeHi_488 : decode cJ35_mergeHi 488 = .ok (.iload 10, 2) := dk_21 10 (dk_at dksJ35_mergeHi_21 0 rfl rfl)
theorem dJ35_mergeHi_490 : decode cJ35_mergeHi 490 = .ok (.iconst 1, 1) := dk_4 (dk_at dksJ35_mergeHi_21 2 rfl rfl)
theorem dJ35_mergeHi_491 : decode cJ35_mergeHi 491 = .ok (.iadd, 1) := dk_96 (dk_at dksJ35_mergeHi_21 3 rfl rfl)
theorem dJ35_mergeHi_492 : decode cJ35_mergeHi 492 = .ok (.iload 13, 2) := dk_21 13 (dk_at dksJ35_mergeHi_21 4 rfl rfl)
theorem dJ35_mergeHi_494 : decode cJ35_mergeHi 494 = .ok (.invokestatic 75, 3) := dk_184 0 75 (dk_at dksJ35_mergeHi_21 6 rfl rfl)
theorem dJ35_mergeHi_497 : decode cJ35_mergeHi 497 = .ok (.iload 4, 2) := dk_21 4 (dk_at dksJ35_mergeHi_21 9 rfl rfl)
theorem dJ35_mergeHi_499 : decode cJ35_mergeHi 499 = .ok (.iconst 1, 1) := dk_4 (dk_at dksJ35_mergeHi_21 11 rfl rfl)
theorem dJ35_mergeHi_500 : decode cJ35_mergeHi 500 = .ok (.if_icmp .gt 6, 3) := dk_163 0 6 (dk_at dksJ35_mergeHi_21 12 rfl rfl)
theorem dJ35_mergeHi_503 : decode cJ35_mergeHi 503 = .ok (.goto 74, 3) := dk_167 0 74 (dk_at dksJ35_mergeHi_21 15 rfl rfl)
theorem dJ35_mergeHi_506 : decode cJ35_mergeHi 506 = .ok (.aload 5, 2) := dk_25 5 (dk_at dksJ35_mergeHi_21 18 rfl rfl)
theorem dJ35_mergeHi_508 : decode cJ35_mergeHi 508 = .ok (.iload 10, 2) := dk_21 10 (dk_at dksJ35_mergeHi_21 20 rfl rfl)
theorem dJ35_mergeHi_510 : decode cJ35_mergeHi 510 = .ok (.iinc 10 (-1), 3) := dk_132 10 255 (dk_at dksJ35_mergeHi_22 0 rfl rfl)
theorem dJ35_mergeHi_513 : decode cJ35_mergeHi 513 = .ok (.aload 5, 2) := dk_25 5 (dk_at dksJ35_mergeHi_22 3 rfl rfl)
theorem dJ35_mergeHi_515 : decode cJ35_mergeHi 515 = .ok (.iload 8, 2) := dk_21 8 (dk_at dksJ35_mergeHi_22 5 rfl rfl)
theorem dJ35_mergeHi_517 : decode cJ35_mergeHi 517 = .ok (.iinc 8 (-1), 3) := dk_132 8 255 (dk_at dksJ35_mergeHi_22 7 rfl rfl)
theorem dJ35_mergeHi_520 : decode cJ35_mergeHi 520 = .ok (.aaload, 1) := dk_50 (dk_at dksJ35_mergeHi_22 10 rfl rfl)
theorem dJ35_mergeHi_521 : decode cJ35_mergeHi 521 = .ok (.aastore, 1) := dk_83 (dk_at dksJ35_mergeHi_22 11 rfl rfl)
theorem dJ35_mergeHi_522 : decode cJ35_mergeHi 522 = .ok (.iinc 2 (-1), 3) := dk_132 2 255 (dk_at dksJ35_mergeHi_22 12 rfl rfl)
theorem dJ35_mergeHi_525 : decode cJ35_mergeHi 525 = .ok (.iload_n 2, 1) := dk_28 (dk_at dksJ35_mergeHi_22 15 rfl rfl)
theorem dJ35_mergeHi_526 : decode cJ35_mergeHi 526 = .ok (.ifCond .ne 6, 3) := dk_154 0 6 (dk_at dksJ35_mergeHi_22 16 rfl rfl)
theorem dJ35_mergeHi_529 : decode cJ35_mergeHi 529 = .ok (.goto 48, 3) := dk_167 0 48 (dk_at dksJ35_mergeHi_22 19 rfl rfl)
theorem dJ35_mergeHi_532 : decode cJ35_mergeHi 532 = .ok (.iinc 11 (-1), 3) := dk_132 11 255 (dk_at dksJ35_mergeHi_23 0 rfl rfl)
theorem dJ35_mergeHi_535 : decode cJ35_mergeHi 535 = .ok (.iload 12, 2) := dk_21 12 (dk_at dksJ35_mergeHi_23 3 rfl rfl)
theorem dJ35_mergeHi_537 : decode cJ35_mergeHi 537 = .ok (.bipush 7, 2) := dk_16 7 (dk_at dksJ35_mergeHi_23 5 rfl rfl)
theorem dJ35_mergeHi_539 : decode cJ35_mergeHi 539 = .ok (.if_icmp .lt 7, 3) := dk_161 0 7 (dk_at dksJ35_mergeHi_23 7 rfl rfl)
theorem dJ35_mergeHi_542 : decode cJ35_mergeHi 542 = .ok (.iconst 1, 1) := dk_4 (dk_at dksJ35_mergeHi_23 10 rfl rfl)
theorem dJ35_mergeHi_543 : decode cJ35_mergeHi 543 = .ok (.goto 4, 3) := dk_167 0 4 (dk_at dksJ35_mergeHi_23 11 rfl rfl)
theorem dJ35_mergeHi_546 : decode cJ35_mergeHi 546 = .ok (.iconst 0, 1) := dk_3 (dk_at dksJ35_mergeHi_23 14 rfl rfl)
theorem dJ35_mergeHi_547 : decode cJ35_mergeHi 547 = .ok (.iload 13, 2) := dk_21 13 (dk_at dksJ35_mergeHi_23 15 rfl rfl)
theorem dJ35_mergeHi_549 : decode cJ35_mergeHi 549 = .ok (.bipush 7, 2) := dk_16 7 (dk_at dksJ35_mergeHi_23 17 rfl rfl)
theorem dJ35_mergeHi_551 : decode cJ35_mergeHi 551 = .ok (.if_icmp .lt 7, 3) := dk_161 0 7 (dk_at dksJ35_mergeHi_23 19 rfl rfl)
theorem dJ35_mergeHi_554 : decode cJ35_mergeHi 554 = .ok (.iconst 1, 1) := dk_4 (dk_at dksJ35_mergeHi_23 22 rfl rfl)
theorem dJ35_mergeHi_555 : decode cJ35_mergeHi 555 = .ok (.goto 4, 3) := dk_167 0 4 (dk_at dksJ35_mergeHi_24 0 rfl rfl)
theorem dJ35_mergeHi_558 : decode cJ35_mergeHi 558 = .ok (.iconst 0, 1) := dk_3 (dk_at dksJ35_mergeHi_24 3 rfl rfl)
theorem dJ35_mergeHi_559 : decode cJ35_mergeHi 559 = .ok (.ior, 1) := dk_128 (dk_at dksJ35_mergeHi_24 4 rfl rfl)
theorem dJ35_mergeHi_560 : decode cJ35_mergeHi 560 = .ok (.ifCond .ne (-254), 3) := dk_154 255 2 (dk_at dksJ35_mergeHi_24 5 rfl rfl)
theorem dJ35_mergeHi_563 : decode cJ35_mergeHi 563 = .ok (.iload 11, 2) := dk_21 11 (dk_at dksJ35_mergeHi_24 8 rfl rfl)
theorem dJ35_mergeHi_565 : decode cJ35_mergeHi 565 = .ok (.ifCond .ge 6, 3) := dk_156 0 6 (dk_at dksJ35_mergeHi_24 10 rfl rfl)
theorem dJ35_mergeHi_568 : decode cJ35_mergeHi 568 = .ok (.iconst 0, 1) := dk_3 (dk_at dksJ35_mergeHi_24 13 rfl rfl)
theorem dJ35_mergeHi_569 : decode cJ35_mergeHi 569 = .ok (.istore 11, 2) := dk_54 11 (dk_at dksJ35_mergeHi_24 14 rfl rfl)
theorem dJ35_mergeHi_571 : decode cJ35_mergeHi 571 = .ok (.iinc 11 2, 3) := dk_132 11 2 (dk_at dksJ35_mergeHi_24 16 rfl rfl)
theorem dJ35_mergeHi_574 : decode cJ35_mergeHi 574 = .ok (.goto (-395), 3) := dk_167 254 117 (dk_at dksJ35_mergeHi_24 19 rfl rfl)
theorem dJ35_mergeHi_577 : decode cJ35_mergeHi 577 = .ok (.aload_n 0, 1) := dk_42 (dk_at dksJ35_mergeHi_24 22 rfl rfl)
theorem dJ35_mergeHi_578 : decode cJ35_mergeHi 578 = .ok (.iload 11, 2) := dk_21 11 (dk_at dksJ35_mergeHi_25 0 rfl rfl)
theorem dJ35_mergeHi_580 : decode cJ35_mergeHi 580 = .ok (.iconst 1, 1) := dk_4 (dk_at dksJ35_mergeHi_25 2 rfl rfl)
theorem dJ35_mergeHi_581 : decode cJ35_mergeHi 581 = .ok (.if_icmp .ge 7, 3) := dk_162 0 7 (dk_at dksJ35_mergeHi_25 3 rfl rfl)
theorem dJ35_mergeHi_584 : decode cJ35_mergeHi 584 = .ok (.iconst 1, 1) := dk_4 (dk_at dksJ35_mergeHi_25 6 rfl rfl)
theorem dJ35_mergeHi_585 : decode cJ35_mergeHi 585 = .ok (.goto 5, 3) := dk_167 0 5 (dk_at dksJ35_mergeHi_25 7 rfl rfl)
theorem dJ35_mergeHi_588 : decode cJ35_mergeHi 588 = .ok (.iload 11, 2) := dk_21 11 (dk_at dksJ35_mergeHi_25 10 rfl rfl)
theorem dJ35_mergeHi_590 : decode cJ35_mergeHi 590 = .ok (.putfield 9, 3) := dk_181 0 9 (dk_at dksJ35_mergeHi_25 12 rfl rfl)
theorem dJ35_mergeHi_593 : decode cJ35_mergeHi 593 = .ok (.iload 4, 2) := dk_21 4 (dk_at dksJ35_mergeHi_25 15 rfl rfl)
theorem dJ35_mergeHi_595 : decode cJ35_mergeHi 595 = .ok (.iconst 1, 1) := dk_4 (dk_at dksJ35_mergeHi_25 17 rfl rfl)
theorem dJ35_mergeHi_596 : decode cJ35_mergeHi 596 = .ok (.if_icmp .ne 62, 3) := dk_160 0 62 (dk_at dksJ35_mergeHi_25 18 rfl rfl)
theorem dJ35_mergeHi_599 : decode cJ35_mergeHi 599 = .ok (.getstatic 37, 3) := dk_178 0 37 (dk_at dksJ35_mergeHi_25 21 rfl rfl)
theorem dJ35_mergeHi_602 : decode cJ35_mergeHi 602 = .ok (.ifCond .ne 15, 3) := dk_154 0 15 (dk_at dksJ35_mergeHi_26 0 rfl rfl)
theorem dJ35_mergeHi_605 : decode cJ35_mergeHi 605 = .ok (.iload_n 2, 1) := dk_28 (dk_at dksJ35_mergeHi_26 3 rfl rfl)
theorem dJ35_mergeHi_606 : decode cJ35_mergeHi 606 = .ok (.ifCond .gt 11, 3) := dk_157 0 11 (dk_at dksJ35_mergeHi_26 4 rfl rfl)
theorem dJ35_mergeHi_609 : decode cJ35_mergeHi 609 = .ok (.new 41, 3) := dk_187 0 41 (dk_at dksJ35_mergeHi_26 7 rfl rfl)
theorem dJ35_mergeHi_612 : decode cJ35_mergeHi 612 = .ok (.dup, 1) := dk_89 (dk_at dksJ35_mergeHi_26 10 rfl rfl)
theorem dJ35_mergeHi_613 : decode cJ35_mergeHi 613 = .ok (.invokespecial 43, 3) := dk_183 0 43 (dk_at dksJ35_mergeHi_26 11 rfl rfl)
theorem dJ35_mergeHi_616 : decode cJ35_mergeHi 616 = .ok (.athrow, 1) := dk_191 (dk_at dksJ35_mergeHi_26 14 rfl rfl)
theorem dJ35_mergeHi_617 : decode cJ35_mergeHi 617 = .ok (.iload 10, 2) := dk_21 10 (dk_at dksJ35_mergeHi_26 15 rfl rfl)
theorem dJ35_mergeHi_619 : decode cJ35_mergeHi 619 = .ok (.iload_n 2, 1) := dk_28 (dk_at dksJ35_mergeHi_26 17 rfl rfl)
theorem dJ35_mergeHi_620 : decode cJ35_mergeHi 620 = .ok (.isub, 1) := dk_100 (dk_at dksJ35_mergeHi_26 18 rfl rfl)
theorem dJ35_mergeHi_621 : decode cJ35_mergeHi 621 = .ok (.istore 10, 2) := dk_54 10 (dk_at dksJ35_mergeHi_26 19 rfl rfl)
theorem dJ35_mergeHi_623 : decode cJ35_mergeHi 623 = .ok (.iload 8, 2) := dk_21 8 (dk_at dksJ35_mergeHi_26 21 rfl rfl)
theorem dJ35_mergeHi_625 : decode cJ35_mergeHi 625 = .ok (.iload_n 2, 1) := dk_28 (dk_at dksJ35_mergeHi_26 23 rfl rfl)
theorem dJ35_mergeHi_626 : decode cJ35_mergeHi 626 = .ok (.isub, 1) := dk_100 (dk_at dksJ35_mergeHi_27 0 rfl rfl)
theorem dJ35_mergeHi_627 : decode cJ35_mergeHi 627 = .ok (.istore 8, 2) := dk_54 8 (dk_at dksJ35_mergeHi_27 1 rfl rfl)
theorem dJ35_mergeHi_629 : decode cJ35_mergeHi 629 = .ok (.aload 5, 2) := dk_25 5 (dk_at dksJ35_mergeHi_27 3 rfl rfl)
theorem dJ35_mergeHi_631 : decode cJ35_mergeHi 631 = .ok (.iload 8, 2) := dk_21 8 (dk_at dksJ35_mergeHi_27 5 rfl rfl)
theorem dJ35_mergeHi_633 : decode cJ35_mergeHi 633 = .ok (.iconst 1, 1) := dk_4 (dk_at dksJ35_mergeHi_27 7 rfl rfl)
theorem dJ35_mergeHi_634 : decode cJ35_mergeHi 634 = .ok (.iadd, 1) := dk_96 (dk_at dksJ35_mergeHi_27 8 rfl rfl)
theorem dJ35_mergeHi_635 : decode cJ35_mergeHi 635 = .ok (.aload 5, 2) := dk_25 5 (dk_at dksJ35_mergeHi_27 9 rfl rfl)
theorem dJ35_mergeHi_637 : decode cJ35_mergeHi 637 = .ok (.iload 10, 2) := dk_21 10 (dk_at dksJ35_mergeHi_27 11 rfl rfl)
theorem dJ35_mergeHi_639 : decode cJ35_mergeHi 639 = .ok (.iconst 1, 1) := dk_4 (dk_at dksJ35_mergeHi_27 13 rfl rfl)
theorem dJ35_mergeHi_640 : decode cJ35_mergeHi 640 = .ok (.iadd, 1) := dk_96 (dk_at dksJ35_mergeHi_27 14 rfl rfl)
theorem dJ35_mergeHi_641 : decode cJ35_mergeHi 641 = .ok (.iload_n 2, 1) := dk_28 (dk_at dksJ35_mergeHi_27 15 rfl rfl)
theorem dJ35_mergeHi_642 : decode cJ35_mergeHi 642 = .ok (.invokestatic 75, 3) := dk_184 0 75 (dk_at dksJ35_mergeHi_27 16 rfl rfl)
theorem dJ35_mergeHi_645 : decode cJ35_mergeHi 645 = .ok (.aload 5, 2) := dk_25 5 (dk_at dksJ35_mergeHi_27 19 rfl rfl)
theorem dJ35_mergeHi_647 : decode cJ35_mergeHi 647 = .ok (.iload 10, 2) := dk_21 10 (dk_at dksJ35_mergeHi_27 21 rfl rfl)
theorem dJ35_mergeHi_649 : decode cJ35_mergeHi 649 = .ok (.aload 6, 2) := dk_25 6 (dk_at dksJ35_mergeHi_28 0 rfl rfl)
theorem dJ35_mergeHi_651 : decode cJ35_mergeHi 651 = .ok (.iload 9, 2) := dk_21 9 (dk_at dksJ35_mergeHi_28 2 rfl rfl)
theorem dJ35_mergeHi_653 : decode cJ35_mergeHi 653 = .ok (.aaload, 1) := dk_50 (dk_at dksJ35_mergeHi_28 4 rfl rfl)
theorem dJ35_mergeHi_654 : decode cJ35_mergeHi 654 = .ok (.aastore, 1) := dk_83 (dk_at dksJ35_mergeHi_28 5 rfl rfl)
theorem dJ35_mergeHi_655 : decode cJ35_mergeHi 655 = .ok (.goto 73, 3) := dk_167 0 73 (dk_at dksJ35_mergeHi_28 6 rfl rfl)
theorem dJ35_mergeHi_658 : decode cJ35_mergeHi 658 = .ok (.iload 4, 2) := dk_21 4 (dk_at dksJ35_mergeHi_28 9 rfl rfl)
theorem dJ35_mergeHi_660 : decode cJ35_mergeHi 660 = .ok (.ifCond .ne 13, 3) := dk_154 0 13 (dk_at dksJ35_mergeHi_28 11 rfl rfl)
theorem dJ35_mergeHi_663 : decode cJ35_mergeHi 663 = .ok (.new 107, 3) := dk_187 0 107 (dk_at dksJ35_mergeHi_28 14 rfl rfl)
theorem dJ35_mergeHi_666 : decode cJ35_mergeHi 666 = .ok (.dup, 1) := dk_89 (dk_at dksJ35_mergeHi_28 17 rfl rfl)
theorem dJ35_mergeHi_667 : decode cJ35_mergeHi 667 = .ok (.ldc 109, 2) := dk_18 109 (dk_at dksJ35_mergeHi_28 18 rfl rfl)
theorem dJ35_mergeHi_669 : decode cJ35_mergeHi 669 = .ok (.invokespecial 111, 3) := dk_183 0 111 (dk_at dksJ35_mergeHi_28 20 rfl rfl)
theorem dJ35_mergeHi_672 : decode cJ35_mergeHi 672 = .ok (.athrow, 1) := dk_191 (dk_at dksJ35_mergeHi_28 23 rfl rfl)
theorem dJ35_mergeHi_673 : decode cJ35_mergeHi 673 = .ok (.getstatic 37, 3) := dk_178 0 37 (dk_at dksJ35_mergeHi_29 0 rfl rfl)
theorem dJ35_mergeHi_676 : decode cJ35_mergeHi 676 = .ok (.ifCond .ne 15, 3) := dk_154 0 15 (dk_at dksJ35_mergeHi_29 3 rfl rfl)
theorem dJ35_mergeHi_679 : decode cJ35_mergeHi 679 = .ok (.iload_n 2, 1) := dk_28 (dk_at dksJ35_mergeHi_29 6 rfl rfl)
theorem dJ35_mergeHi_680 : decode cJ35_mergeHi 680 = .ok (.ifCond .eq 11, 3) := dk_153 0 11 (dk_at dksJ35_mergeHi_29 7 rfl rfl)
theorem dJ35_mergeHi_683 : decode cJ35_mergeHi 683 = .ok (.new 41, 3) := dk_187 0 41 (dk_at dksJ35_mergeHi_29 10 rfl rfl)
theorem dJ35_mergeHi_686 : decode cJ35_mergeHi 686 = .ok (.dup, 1) := dk_89 (dk_at dksJ35_mergeHi_29 13 rfl rfl)
theorem dJ35_mergeHi_687 : decode cJ35_mergeHi 687 = .ok (.invokespecial 43, 3) := dk_183 0 43 (dk_at dksJ35_mergeHi_29 14 rfl rfl)
theorem dJ35_mergeHi_690 : decode cJ35_mergeHi 690 = .ok (.athrow, 1) := dk_191 (dk_at dksJ35_mergeHi_29 17 rfl rfl)
theorem dJ35_mergeHi_691 : decode cJ35_mergeHi 691 = .ok (.getstatic 37, 3) := dk_178 0 37 (dk_at dksJ35_mergeHi_29 18 rfl rfl)
theorem dJ35_mergeHi_694 : decode cJ35_mergeHi 694 = .ok (.ifCond .ne 16, 3) := dk_154 0 16 (dk_at dksJ35_mergeHi_29 21 rfl rfl)
theorem dJ35_mergeHi_697 : decode cJ35_mergeHi 697 = .ok (.iload 4, 2) := dk_21 4 (dk_at dksJ35_mergeHi_30 0 rfl rfl)
theorem dJ35_mergeHi_699 : decode cJ35_mergeHi 699 = .ok (.ifCond .gt 11, 3) := dk_157 0 11 (dk_at dksJ35_mergeHi_30 2 rfl rfl)
theorem dJ35_mergeHi_702 : decode cJ35_mergeHi 702 = .ok (.new 41, 3) := dk_187 0 41 (dk_at dksJ35_mergeHi_30 5 rfl rfl)
theorem dJ35_mergeHi_705 : decode cJ35_mergeHi 705 = .ok (.dup, 1) := dk_89 (dk_at dksJ35_mergeHi_30 8 rfl rfl)
theorem dJ35_mergeHi_706 : decode cJ35_mergeHi 706 = .ok (.invokespecial 43, 3) := dk_183 0 43 (dk_at dksJ35_mergeHi_30 9 rfl rfl)
theorem dJ35_mergeHi_709 : decode cJ35_mergeHi 709 = .ok (.athrow, 1) := dk_191 (dk_at dksJ35_mergeHi_30 12 rfl rfl)
theorem dJ35_mergeHi_710 : decode cJ35_mergeHi 710 = .ok (.aload 6, 2) := dk_25 6 (dk_at dksJ35_mergeHi_30 13 rfl rfl)
theorem dJ35_mergeHi_712 : decode cJ35_mergeHi 712 = .ok (.iload 7, 2) := dk_21 7 (dk_at dksJ35_mergeHi_30 15 rfl rfl)
theorem dJ35_mergeHi_714 : decode cJ35_mergeHi 714 = .ok (.aload 5, 2) := dk_25 5 (dk_at dksJ35_mergeHi_30 17 rfl rfl)
theorem dJ35_mergeHi_716 : decode cJ35_mergeHi 716 = .ok (.iload 10, 2) := dk_21 10 (dk_at dksJ35_mergeHi_30 19 rfl rfl)
theorem dJ35_mergeHi_718 : decode cJ35_mergeHi 718 = .ok (.iload 4, 2) := dk_21 4 (dk_at dksJ35_mergeHi_30 21 rfl rfl)
theorem dJ35_mergeHi_720 : decode cJ35_mergeHi 720 = .ok (.iconst 1, 1) := dk_4 (dk_at dksJ35_mergeHi_30 23 rfl rfl)
theorem dJ35_mergeHi_721 : decode cJ35_mergeHi 721 = .ok (.isub, 1) := dk_100 (dk_at dksJ35_mergeHi_31 0 rfl rfl)
theorem dJ35_mergeHi_722 : decode cJ35_mergeHi 722 = .ok (.isub, 1) := dk_100 (dk_at dksJ35_mergeHi_31 1 rfl rfl)
theorem dJ35_mergeHi_723 : decode cJ35_mergeHi 723 = .ok (.iload 4, 2) := dk_21 4 (dk_at dksJ35_mergeHi_31 2 rfl rfl)
theorem dJ35_mergeHi_725 : decode cJ35_mergeHi 725 = .ok (.invokestatic 75, 3) := dk_184 0 75 (dk_at dksJ35_mergeHi_31 4 rfl rfl)
theorem dJ35_mergeHi_728 : decode cJ35_mergeHi 728 = .ok (.return_, 1) := dk_177 (dk_at dksJ35_mergeHi_31 7 rfl rfl)
abbrev cJ35_mergeForceCollapse : ByteArray := prog_62_method_9_code
def yJ35_mergeForceCollapse : MethodName := ⟨RJ35, "mergeForceCollapse", "()V"⟩
def dkwJ35_mergeForceCollapse_2 : List UInt8 := [167, 255, 210, 177]
abbrev dktJ35_mergeForceCollapse_2 : List UInt8 := dkwJ35_mergeForceCollapse_2 ++ []
def dkwJ35_mergeForceCollapse_1 : List UInt8 := [4, 100, 46, 42, 180, 0, 34, 27, 4, 96, 46, 162, 0, 6, 132, 1, 255, 42, 27, 182, 0, 85]
abbrev dktJ35_mergeForceCollapse_1 : List UInt8 := dkwJ35_mergeForceCollapse_1 ++ dktJ35_mergeForceCollapse_2
def dkwJ35_mergeForceCollapse_0 : List UInt8 := [42, 180, 0, 13, 4, 164, 0, 44, 42, 180, 0, 13, 5, 100, 60, 27, 158, 0, 25, 42, 180, 0, 34, 27]
abbrev dktJ35_mergeForceCollapse_0 : List UInt8 := dkwJ35_mergeForceCollapse_0 ++ dktJ35_mergeForceCollapse_1
theorem dksJ35_mergeForceCollapse_0 : cJ35_mergeForceCollapse.data.toList.drop 0 = dktJ35_mergeForceCollapse_0 := by decide +kernel
theorem dksJ35_mergeForceCollapse_1 : cJ35_mergeForceCollapse.data.toList.drop 24 = dktJ35_mergeForceCollapse_1 := dk_seg dksJ35_mergeForceCollapse_0 24 rfl rfl
theorem dksJ35_mergeForceCollapse_2 : cJ35_mergeForceCollapse.data.toList.drop 46 = dktJ35_mergeForceCollapse_2 := dk_seg dksJ35_mergeForceCollapse_1 22 rfl rfl
theorem dJ35_mergeForceCollapse_0 : decode cJ35_mergeForceCollapse 0 = .ok (.aload_n 0, 1) := dk_42 (dk_at dksJ35_mergeForceCollapse_0 0 rfl rfl)
theorem dJ35_mergeForceCollapse_1 : decode cJ35_mergeForceCollapse 1 = .ok (.getfield 13, 3) := dk_180 0 13 (dk_at dksJ35_mergeForceCollapse_0 1 rfl rfl)
theorem dJ35_mergeForceCollapse_4 : decode cJ35_mergeForceCollapse 4 = .ok (.iconst 1, 1) := dk_4 (dk_at dksJ35_mergeForceCollapse_0 4 rfl rfl)
theorem dJ35_mergeForceCollapse_5 : decode cJ35_mergeForceCollapse 5 = .ok (.if_icmp .le 44, 3) := dk_164 0 44 (dk_at dksJ35_mergeForceCollapse_0 5 rfl rfl)
theorem dJ35_mergeForceCollapse_8 : decode cJ35_mergeForceCollapse 8 = .ok (.aload_n 0, 1) := dk_42 (dk_at dksJ35_mergeForceCollapse_0 8 rfl rfl)
theorem dJ35_mergeForceCollapse_9 : decode cJ35_mergeForceCollapse 9 = .ok (.getfield 13, 3) := dk_180 0 13 (dk_at dksJ35_mergeForceCollapse_0 9 rfl rfl)
theorem dJ35_mergeForceCollapse_12 : decode cJ35_mergeForceCollapse 12 = .ok (.iconst 2, 1) := dk_5 (dk_at dksJ35_mergeForceCollapse_0 12 rfl rfl)
theorem dJ35_mergeForceCollapse_13 : decode cJ35_mergeForceCollapse 13 = .ok (.isub, 1) := dk_100 (dk_at dksJ35_mergeForceCollapse_0 13 rfl rfl)
theorem dJ35_mergeForceCollapse_14 : decode cJ35_mergeForceCollapse 14 = .ok (.istore_n 1, 1) := dk_60 (dk_at dksJ35_mergeForceCollapse_0 14 rfl rfl)
theorem dJ35_mergeForceCollapse_15 : decode cJ35_mergeForceCollapse 15 = .ok (.iload_n 1, 1) := dk_27 (dk_at dksJ35_mergeForceCollapse_0 15 rfl rfl)
theorem dJ35_mergeForceCollapse_16 : decode cJ35_mergeForceCollapse 16 = .ok (.ifCond .le 25, 3) := dk_158 0 25 (dk_at dksJ35_mergeForceCollapse_0 16 rfl rfl)
theorem dJ35_mergeForceCollapse_19 : decode cJ35_mergeForceCollapse 19 = .ok (.aload_n 0, 1) := dk_42 (dk_at dksJ35_mergeForceCollapse_0 19 rfl rfl)
theorem dJ35_mergeForceCollapse_20 : decode cJ35_mergeForceCollapse 20 = .ok (.getfield 34, 3) := dk_180 0 34 (dk_at dksJ35_mergeForceCollapse_0 20 rfl rfl)
theorem dJ35_mergeForceCollapse_23 : decode cJ35_mergeForceCollapse 23 = .ok (.iload_n 1, 1) := dk_27 (dk_at dksJ35_mergeForceCollapse_0 23 rfl rfl)
theorem dJ35_mergeForceCollapse_24 : decode cJ35_mergeForceCollapse 24 = .ok (.iconst 1, 1) := dk_4 (dk_at dksJ35_mergeForceCollapse_1 0 rfl rfl)
theorem dJ35_mergeForceCollapse_25 : decode cJ35_mergeForceCollapse 25 = .ok (.isub, 1) := dk_100 (dk_at dksJ35_mergeForceCollapse_1 1 rfl rfl)
theorem dJ35_mergeForceCollapse_26 : decode cJ35_mergeForceCollapse 26 = .ok (.iaload, 1) := dk_46 (dk_at dksJ35_mergeForceCollapse_1 2 rfl rfl)
theorem dJ35_mergeForceCollapse_27 : decode cJ35_mergeForceCollapse 27 = .ok (.aload_n 0, 1) := dk_42 (dk_at dksJ35_mergeForceCollapse_1 3 rfl rfl)
theorem dJ35_mergeForceCollapse_28 : decode cJ35_mergeForceCollapse 28 = .ok (.getfield 34, 3) := dk_180 0 34 (dk_at dksJ35_mergeForceCollapse_1 4 rfl rfl)
theorem dJ35_mergeForceCollapse_31 : decode cJ35_mergeForceCollapse 31 = .ok (.iload_n 1, 1) := dk_27 (dk_at dksJ35_mergeForceCollapse_1 7 rfl rfl)
theorem dJ35_mergeForceCollapse_32 : decode cJ35_mergeForceCollapse 32 = .ok (.iconst 1, 1) := dk_4 (dk_at dksJ35_mergeForceCollapse_1 8 rfl rfl)
theorem dJ35_mergeForceCollapse_33 : decode cJ35_mergeForceCollapse 33 = .ok (.iadd, 1) := dk_96 (dk_at dksJ35_mergeForceCollapse_1 9 rfl rfl)
theorem dJ35_mergeForceCollapse_34 : decode cJ35_mergeForceCollapse 34 = .ok (.iaload, 1) := dk_46 (dk_at dksJ35_mergeForceCollapse_1 10 rfl rfl)
theorem dJ35_mergeForceCollapse_35 : decode cJ35_mergeForceCollapse 35 = .ok (.if_icmp .ge 6, 3) := dk_162 0 6 (dk_at dksJ35_mergeForceCollapse_1 11 rfl rfl)
theorem dJ35_mergeForceCollapse_38 : decode cJ35_mergeForceCollapse 38 = .ok (.iinc 1 (-1), 3) := dk_132 1 255 (dk_at dksJ35_mergeForceCollapse_1 14 rfl rfl)
theorem dJ35_mergeForceCollapse_41 : decode cJ35_mergeForceCollapse 41 = .ok (.aload_n 0, 1) := dk_42 (dk_at dksJ35_mergeForceCollapse_1 17 rfl rfl)
theorem dJ35_mergeForceCollapse_42 : decode cJ35_mergeForceCollapse 42 = .ok (.iload_n 1, 1) := dk_27 (dk_at dksJ35_mergeForceCollapse_1 18 rfl rfl)
theorem dJ35_mergeForceCollapse_43 : decode cJ35_mergeForceCollapse 43 = .ok (.invokevirtual 85, 3) := dk_182 0 85 (dk_at dksJ35_mergeForceCollapse_1 19 rfl rfl)
theorem dJ35_mergeForceCollapse_46 : decode cJ35_mergeForceCollapse 46 = .ok (.goto (-46), 3) := dk_167 255 210 (dk_at dksJ35_mergeForceCollapse_2 0 rfl rfl)
theorem dJ35_mergeForceCollapse_49 : decode cJ35_mergeForceCollapse 49 = .ok (.return_, 1) := dk_177 (dk_at dksJ35_mergeForceCollapse_2 3 rfl rfl)
theorem q171 : (Jvm.Cond.initialized "java/util/ComparableTimSort") ∈ lw_all := lw_g (lw_at lw_m1 49 rfl) rfl
theorem q1006 : (Jvm.Cond.selects "java/util/ComparableTimSort" ({ cls := "java/lang/Object", name := "getClass", desc := "()Ljava/lang/Class;" } : Jvm.MethodName) ({ cls := "java/lang/Object", name := "getClass", desc := "()Ljava/lang/Class;" } : Jvm.MethodName)) ∈ lw_all := lw_g (lw_at lw_m4 164 rfl) rfl
theorem q1987 : (Jvm.Cond.static ({ cls := "java/util/ComparableTimSort", name := "sort", desc := "([Ljava/lang/Object;II[Ljava/lang/Object;II)V" } : Jvm.MethodName)) ∈ lw_all := lw_g (lw_at lw_m8 185 rfl) rfl
theorem q1988 : (Jvm.Cond.code ({ cls := "java/util/ComparableTimSort", name := "sort", desc := "([Ljava/lang/Object;II[Ljava/lang/Object;II)V" } : Jvm.MethodName) prog_62_method_2_code (11 : Nat) (Option.none : Option Jvm.ClassFile.FieldType)) ∈ lw_all := lw_g (lw_at lw_m8 186 rfl) rfl
theorem q1989 : (Jvm.Cond.fieldLink "java/util/ComparableTimSort" (37 : Nat) "java/util/ComparableTimSort" "$assertionsDisabled" "Z") ∈ lw_all := lw_g (lw_at lw_m8 187 rfl) rfl
theorem q1990 : (Jvm.Cond.laysStatic "java/util/ComparableTimSort" "$assertionsDisabled" "Z") ∈ lw_tbl := lw_at lw_m8 188 rfl
theorem q1991 : (Jvm.Cond.methodLink "java/util/ComparableTimSort" (44 : Nat) ({ cls := "java/util/ComparableTimSort", name := "countRunAndMakeAscending", desc := "([Ljava/lang/Object;II)I" } : Jvm.MethodName)) ∈ lw_all := lw_g (lw_at lw_m8 189 rfl) rfl
theorem q1992 : (Jvm.Cond.static ({ cls := "java/util/ComparableTimSort", name := "countRunAndMakeAscending", desc := "([Ljava/lang/Object;II)I" } : Jvm.MethodName)) ∈ lw_all := lw_g (lw_at lw_m8 190 rfl) rfl
theorem q1993 : (Jvm.Cond.code ({ cls := "java/util/ComparableTimSort", name := "countRunAndMakeAscending", desc := "([Ljava/lang/Object;II)I" } : Jvm.MethodName) prog_62_method_4_code (4 : Nat) (Option.some Jvm.ClassFile.FieldType.int)) ∈ lw_all := lw_g (lw_at lw_m8 191 rfl) rfl
theorem q1994 : (Jvm.Cond.classLink "java/util/ComparableTimSort" (69 : Nat) "java/lang/Comparable") ∈ lw_all := lw_g (lw_at lw_m8 192 rfl) rfl
theorem q1995 : (Jvm.Cond.interfaceEntry "java/util/ComparableTimSort" (71 : Nat)) ∈ lw_tbl := lw_at lw_m8 193 rfl
theorem q1996 : (Jvm.Cond.methodLink "java/util/ComparableTimSort" (71 : Nat) ({ cls := "java/lang/Comparable", name := "compareTo", desc := "(Ljava/lang/Object;)I" } : Jvm.MethodName)) ∈ lw_all := lw_g (lw_at lw_m8 194 rfl) rfl
theorem q1997 : (Jvm.Cond.methodLink "java/util/ComparableTimSort" (81 : Nat) ({ cls := "java/util/ComparableTimSort", name := "reverseRange", desc := "([Ljava/lang/Object;II)V" } : Jvm.MethodName)) ∈ lw_all := lw_g (lw_at lw_m8 195 rfl) rfl
theorem q1998 : (Jvm.Cond.static ({ cls := "java/util/ComparableTimSort", name := "reverseRange", desc := "([Ljava/lang/Object;II)V" } : Jvm.MethodName)) ∈ lw_all := lw_g (lw_at lw_m8 196 rfl) rfl
theorem q1999 : (Jvm.Cond.code ({ cls := "java/util/ComparableTimSort", name := "reverseRange", desc := "([Ljava/lang/Object;II)V" } : Jvm.MethodName) prog_62_method_5_code (4 : Nat) (Option.none : Option Jvm.ClassFile.FieldType)) ∈ lw_all := lw_g (lw_at lw_m8 197 rfl) rfl
theorem q2000 : (Jvm.Cond.methodLink "java/util/ComparableTimSort" (48 : Nat) ({ cls := "java/util/ComparableTimSort", name := "binarySort", desc := "([Ljava/lang/Object;III)V" } : Jvm.MethodName)) ∈ lw_all := lw_g (lw_at lw_m8 198 rfl) rfl
theorem q2001 : (Jvm.Cond.static ({ cls := "java/util/ComparableTimSort", name := "binarySort", desc := "([Ljava/lang/Object;III)V" } : Jvm.MethodName)) ∈ lw_all := lw_g (lw_at lw_m8 199 rfl) rfl
theorem q2002 : (Jvm.Cond.code ({ cls := "java/util/ComparableTimSort", name := "binarySort", desc := "([Ljava/lang/Object;III)V" } : Jvm.MethodName) prog_62_method_3_code (8 : Nat) (Option.none : Option Jvm.ClassFile.FieldType)) ∈ lw_all := lw_g (lw_at lw_m8 200 rfl) rfl
theorem q2003 : (Jvm.Cond.methodLink "java/util/ComparableTimSort" (75 : Nat) ({ cls := "java/lang/System", name := "arraycopy", desc := "(Ljava/lang/Object;ILjava/lang/Object;II)V" } : Jvm.MethodName)) ∈ lw_all := lw_g (lw_at lw_m8 201 rfl) rfl
theorem q2004 : (Jvm.Cond.classLink "java/util/ComparableTimSort" (7 : Nat) "java/util/ComparableTimSort") ∈ lw_all := lw_g (lw_at lw_m8 202 rfl) rfl
theorem q2005 : (Jvm.Cond.instantiable "java/util/ComparableTimSort" (8 : Nat)) ∈ lw_all := lw_g (lw_at lw_m8 203 rfl) rfl
theorem q2006 : (Jvm.Cond.methodLink "java/util/ComparableTimSort" (52 : Nat) ({ cls := "java/util/ComparableTimSort", name := "<init>", desc := "([Ljava/lang/Object;[Ljava/lang/Object;II)V" } : Jvm.MethodName)) ∈ lw_all := lw_g (lw_at lw_m8 204 rfl) rfl
theorem q2007 : (Jvm.Cond.instanceMethod ({ cls := "java/util/ComparableTimSort", name := "<init>", desc := "([Ljava/lang/Object;[Ljava/lang/Object;II)V" } : Jvm.MethodName)) ∈ lw_all := lw_g (lw_at lw_m8 205 rfl) rfl
theorem q2008 : (Jvm.Cond.code ({ cls := "java/util/ComparableTimSort", name := "<init>", desc := "([Ljava/lang/Object;[Ljava/lang/Object;II)V" } : Jvm.MethodName) prog_62_method_1_code (8 : Nat) (Option.none : Option Jvm.ClassFile.FieldType)) ∈ lw_all := lw_g (lw_at lw_m8 206 rfl) rfl
theorem q2009 : (Jvm.Cond.methodLink "java/util/ComparableTimSort" (1 : Nat) ({ cls := "java/lang/Object", name := "<init>", desc := "()V" } : Jvm.MethodName)) ∈ lw_all := lw_g (lw_at lw_m8 207 rfl) rfl
theorem q2010 : (Jvm.Cond.classLink "java/util/ComparableTimSort" (2 : Nat) "java/lang/Object") ∈ lw_all := lw_g (lw_at lw_m8 208 rfl) rfl
theorem q2011 : (Jvm.Cond.constant "java/util/ComparableTimSort" (29 : Nat) (119151 : Int32)) ∈ lw_all := lw_g (lw_at lw_m8 209 rfl) rfl
theorem q2012 : (Jvm.Cond.fieldLink "java/util/ComparableTimSort" (16 : Nat) "java/util/ComparableTimSort" "a" "[Ljava/lang/Object;") ∈ lw_all := lw_g (lw_at lw_m8 210 rfl) rfl
theorem q2013 : (Jvm.Cond.fieldLink "java/util/ComparableTimSort" (9 : Nat) "java/util/ComparableTimSort" "minGallop" "I") ∈ lw_all := lw_g (lw_at lw_m8 211 rfl) rfl
theorem q2014 : (Jvm.Cond.fieldLink "java/util/ComparableTimSort" (20 : Nat) "java/util/ComparableTimSort" "tmp" "[Ljava/lang/Object;") ∈ lw_all := lw_g (lw_at lw_m8 212 rfl) rfl
theorem q2015 : (Jvm.Cond.fieldLink "java/util/ComparableTimSort" (23 : Nat) "java/util/ComparableTimSort" "tmpBase" "I") ∈ lw_all := lw_g (lw_at lw_m8 213 rfl) rfl
theorem q2016 : (Jvm.Cond.fieldLink "java/util/ComparableTimSort" (26 : Nat) "java/util/ComparableTimSort" "tmpLen" "I") ∈ lw_all := lw_g (lw_at lw_m8 214 rfl) rfl
theorem q2017 : (Jvm.Cond.fieldLink "java/util/ComparableTimSort" (13 : Nat) "java/util/ComparableTimSort" "stackSize" "I") ∈ lw_all := lw_g (lw_at lw_m8 215 rfl) rfl
theorem q2018 : (Jvm.Cond.fieldLink "java/util/ComparableTimSort" (30 : Nat) "java/util/ComparableTimSort" "runBase" "[I") ∈ lw_all := lw_g (lw_at lw_m8 216 rfl) rfl
theorem q2019 : (Jvm.Cond.fieldLink "java/util/ComparableTimSort" (34 : Nat) "java/util/ComparableTimSort" "runLen" "[I") ∈ lw_all := lw_g (lw_at lw_m8 217 rfl) rfl
theorem q2020 : (Jvm.Cond.laysFinal "java/util/ComparableTimSort" "java/util/ComparableTimSort" "a" "[Ljava/lang/Object;") ∈ lw_all := lw_g (lw_at lw_m8 218 rfl) rfl
theorem q2021 : (Jvm.Cond.soleField "java/util/ComparableTimSort" "a") ∈ lw_all := lw_g (lw_at lw_m8 219 rfl) rfl
theorem q2022 : (Jvm.Cond.lays "java/util/ComparableTimSort" "java/util/ComparableTimSort" "minGallop" "I") ∈ lw_all := lw_g (lw_at lw_m8 220 rfl) rfl
theorem q2023 : (Jvm.Cond.soleField "java/util/ComparableTimSort" "minGallop") ∈ lw_all := lw_g (lw_at lw_m8 221 rfl) rfl
theorem q2024 : (Jvm.Cond.lays "java/util/ComparableTimSort" "java/util/ComparableTimSort" "tmp" "[Ljava/lang/Object;") ∈ lw_all := lw_g (lw_at lw_m8 222 rfl) rfl
theorem q2025 : (Jvm.Cond.soleField "java/util/ComparableTimSort" "tmp") ∈ lw_all := lw_g (lw_at lw_m8 223 rfl) rfl
theorem q2026 : (Jvm.Cond.lays "java/util/ComparableTimSort" "java/util/ComparableTimSort" "tmpBase" "I") ∈ lw_all := lw_g (lw_at lw_m8 224 rfl) rfl
theorem q2027 : (Jvm.Cond.soleField "java/util/ComparableTimSort" "tmpBase") ∈ lw_all := lw_g (lw_at lw_m8 225 rfl) rfl
theorem q2028 : (Jvm.Cond.lays "java/util/ComparableTimSort" "java/util/ComparableTimSort" "tmpLen" "I") ∈ lw_all := lw_g (lw_at lw_m8 226 rfl) rfl
theorem q2029 : (Jvm.Cond.soleField "java/util/ComparableTimSort" "tmpLen") ∈ lw_all := lw_g (lw_at lw_m8 227 rfl) rfl
theorem q2030 : (Jvm.Cond.lays "java/util/ComparableTimSort" "java/util/ComparableTimSort" "stackSize" "I") ∈ lw_all := lw_g (lw_at lw_m8 228 rfl) rfl
theorem q2031 : (Jvm.Cond.soleField "java/util/ComparableTimSort" "stackSize") ∈ lw_all := lw_g (lw_at lw_m8 229 rfl) rfl
theorem q2032 : (Jvm.Cond.laysFinal "java/util/ComparableTimSort" "java/util/ComparableTimSort" "runBase" "[I") ∈ lw_all := lw_g (lw_at lw_m8 230 rfl) rfl
theorem q2033 : (Jvm.Cond.soleField "java/util/ComparableTimSort" "runBase") ∈ lw_all := lw_g (lw_at lw_m8 231 rfl) rfl
theorem q2034 : (Jvm.Cond.laysFinal "java/util/ComparableTimSort" "java/util/ComparableTimSort" "runLen" "[I") ∈ lw_all := lw_g (lw_at lw_m8 232 rfl) rfl
theorem q2035 : (Jvm.Cond.soleField "java/util/ComparableTimSort" "runLen") ∈ lw_all := lw_g (lw_at lw_m8 233 rfl) rfl
theorem q2036 : (Jvm.Cond.superclass "java/util/ComparableTimSort" "java/lang/Object") ∈ lw_all := lw_g (lw_at lw_m8 234 rfl) rfl
theorem q2037 : (Jvm.Cond.methodLink "java/util/ComparableTimSort" (55 : Nat) ({ cls := "java/util/ComparableTimSort", name := "minRunLength", desc := "(I)I" } : Jvm.MethodName)) ∈ lw_all := lw_g (lw_at lw_m8 235 rfl) rfl
theorem q2038 : (Jvm.Cond.static ({ cls := "java/util/ComparableTimSort", name := "minRunLength", desc := "(I)I" } : Jvm.MethodName)) ∈ lw_all := lw_g (lw_at lw_m8 236 rfl) rfl
theorem q2039 : (Jvm.Cond.code ({ cls := "java/util/ComparableTimSort", name := "minRunLength", desc := "(I)I" } : Jvm.MethodName) prog_62_method_6_code (2 : Nat) (Option.some Jvm.ClassFile.FieldType.int)) ∈ lw_all := lw_g (lw_at lw_m8 237 rfl) rfl
theorem q2040 : (Jvm.Cond.methodLink "java/util/ComparableTimSort" (59 : Nat) ({ cls := "java/util/ComparableTimSort", name := "pushRun", desc := "(II)V" } : Jvm.MethodName)) ∈ lw_all := lw_g (lw_at lw_m8 238 rfl) rfl
theorem q2041 : (Jvm.Cond.privateMethod ({ cls := "java/util/ComparableTimSort", name := "pushRun", desc := "(II)V" } : Jvm.MethodName)) ∈ lw_tbl := lw_at lw_m8 239 rfl
theorem q2042 : (Jvm.Cond.instanceMethod ({ cls := "java/util/ComparableTimSort", name := "pushRun", desc := "(II)V" } : Jvm.MethodName)) ∈ lw_all := lw_g (lw_at lw_m9 0 rfl) rfl
theorem q2043 : (Jvm.Cond.code ({ cls := "java/util/ComparableTimSort", name := "pushRun", desc := "(II)V" } : Jvm.MethodName) prog_62_method_7_code (3 : Nat) (Option.none : Option Jvm.ClassFile.FieldType)) ∈ lw_all := lw_g (lw_at lw_m9 1 rfl) rfl
theorem q2044 : (Jvm.Cond.methodLink "java/util/ComparableTimSort" (63 : Nat) ({ cls := "java/util/ComparableTimSort", name := "mergeCollapse", desc := "()V" } : Jvm.MethodName)) ∈ lw_all := lw_g (lw_at lw_m9 2 rfl) rfl
theorem q2045 : (Jvm.Cond.privateMethod ({ cls := "java/util/ComparableTimSort", name := "mergeCollapse", desc := "()V" } : Jvm.MethodName)) ∈ lw_tbl := lw_at lw_m9 3 rfl
theorem q2046 : (Jvm.Cond.instanceMethod ({ cls := "java/util/ComparableTimSort", name := "mergeCollapse", desc := "()V" } : Jvm.MethodName)) ∈ lw_all := lw_g (lw_at lw_m9 4 rfl) rfl
theorem q2047 : (Jvm.Cond.code ({ cls := "java/util/ComparableTimSort", name := "mergeCollapse", desc := "()V" } : Jvm.MethodName) prog_62_method_8_code (2 : Nat) (Option.none : Option Jvm.ClassFile.FieldType)) ∈ lw_all := lw_g (lw_at lw_m9 5 rfl) rfl
theorem q2048 : (Jvm.Cond.methodLink "java/util/ComparableTimSort" (85 : Nat) ({ cls := "java/util/ComparableTimSort", name := "mergeAt", desc := "(I)V" } : Jvm.MethodName)) ∈ lw_all := lw_g (lw_at lw_m9 6 rfl) rfl
theorem q2049 : (Jvm.Cond.privateMethod ({ cls := "java/util/ComparableTimSort", name := "mergeAt", desc := "(I)V" } : Jvm.MethodName)) ∈ lw_tbl := lw_at lw_m9 7 rfl
theorem q2050 : (Jvm.Cond.instanceMethod ({ cls := "java/util/ComparableTimSort", name := "mergeAt", desc := "(I)V" } : Jvm.MethodName)) ∈ lw_all := lw_g (lw_at lw_m9 8 rfl) rfl
theorem q2051 : (Jvm.Cond.code ({ cls := "java/util/ComparableTimSort", name := "mergeAt", desc := "(I)V" } : Jvm.MethodName) prog_62_method_10_code (7 : Nat) (Option.none : Option Jvm.ClassFile.FieldType)) ∈ lw_all := lw_g (lw_at lw_m9 9 rfl) rfl
theorem q2052 : (Jvm.Cond.methodLink "java/util/ComparableTimSort" (89 : Nat) ({ cls := "java/util/ComparableTimSort", name := "gallopRight", desc := "(Ljava/lang/Comparable;[Ljava/lang/Object;III)I" } : Jvm.MethodName)) ∈ lw_all := lw_g (lw_at lw_m9 10 rfl) rfl
theorem q2053 : (Jvm.Cond.static ({ cls := "java/util/ComparableTimSort", name := "gallopRight", desc := "(Ljava/lang/Comparable;[Ljava/lang/Object;III)I" } : Jvm.MethodName)) ∈ lw_all := lw_g (lw_at lw_m9 11 rfl) rfl
theorem q2054 : (Jvm.Cond.code ({ cls := "java/util/ComparableTimSort", name := "gallopRight", desc := "(Ljava/lang/Comparable;[Ljava/lang/Object;III)I" } : Jvm.MethodName) prog_62_method_12_code (9 : Nat) (Option.some Jvm.ClassFile.FieldType.int)) ∈ lw_all := lw_g (lw_at lw_m9 12 rfl) rfl
theorem q2055 : (Jvm.Cond.methodLink "java/util/ComparableTimSort" (93 : Nat) ({ cls := "java/util/ComparableTimSort", name := "gallopLeft", desc := "(Ljava/lang/Comparable;[Ljava/lang/Object;III)I" } : Jvm.MethodName)) ∈ lw_all := lw_g (lw_at lw_m9 13 rfl) rfl
theorem q2056 : (Jvm.Cond.static ({ cls := "java/util/ComparableTimSort", name := "gallopLeft", desc := "(Ljava/lang/Comparable;[Ljava/lang/Object;III)I" } : Jvm.MethodName)) ∈ lw_all := lw_g (lw_at lw_m9 14 rfl) rfl
theorem q2057 : (Jvm.Cond.code ({ cls := "java/util/ComparableTimSort", name := "gallopLeft", desc := "(Ljava/lang/Comparable;[Ljava/lang/Object;III)I" } : Jvm.MethodName) prog_62_method_11_code (9 : Nat) (Option.some Jvm.ClassFile.FieldType.int)) ∈ lw_all := lw_g (lw_at lw_m9 15 rfl) rfl
theorem q2058 : (Jvm.Cond.methodLink "java/util/ComparableTimSort" (96 : Nat) ({ cls := "java/util/ComparableTimSort", name := "mergeLo", desc := "(IIII)V" } : Jvm.MethodName)) ∈ lw_all := lw_g (lw_at lw_m9 16 rfl) rfl
theorem q2059 : (Jvm.Cond.privateMethod ({ cls := "java/util/ComparableTimSort", name := "mergeLo", desc := "(IIII)V" } : Jvm.MethodName)) ∈ lw_tbl := lw_at lw_m9 17 rfl
theorem q2060 : (Jvm.Cond.instanceMethod ({ cls := "java/util/ComparableTimSort", name := "mergeLo", desc := "(IIII)V" } : Jvm.MethodName)) ∈ lw_all := lw_g (lw_at lw_m9 18 rfl) rfl
theorem q2061 : (Jvm.Cond.code ({ cls := "java/util/ComparableTimSort", name := "mergeLo", desc := "(IIII)V" } : Jvm.MethodName) prog_62_method_13_code (13 : Nat) (Option.none : Option Jvm.ClassFile.FieldType)) ∈ lw_all := lw_g (lw_at lw_m9 19 rfl) rfl
theorem q2062 : (Jvm.Cond.methodLink "java/util/ComparableTimSort" (103 : Nat) ({ cls := "java/util/ComparableTimSort", name := "ensureCapacity", desc := "(I)[Ljava/lang/Object;" } : Jvm.MethodName)) ∈ lw_all := lw_g (lw_at lw_m9 20 rfl) rfl
theorem q2063 : (Jvm.Cond.privateMethod ({ cls := "java/util/ComparableTimSort", name := "ensureCapacity", desc := "(I)[Ljava/lang/Object;" } : Jvm.MethodName)) ∈ lw_tbl := lw_at lw_m9 21 rfl
theorem q2064 : (Jvm.Cond.instanceMethod ({ cls := "java/util/ComparableTimSort", name := "ensureCapacity", desc := "(I)[Ljava/lang/Object;" } : Jvm.MethodName)) ∈ lw_all := lw_g (lw_at lw_m9 22 rfl) rfl
theorem q2065 : (Jvm.Cond.code ({ cls := "java/util/ComparableTimSort", name := "ensureCapacity", desc := "(I)[Ljava/lang/Object;" } : Jvm.MethodName) prog_62_method_15_code (4 : Nat) (Option.some (Jvm.ClassFile.FieldType.array (Jvm.ClassFile.FieldType.object "java/lang/Object")))) ∈ lw_all := lw_g (lw_at lw_m9 23 rfl) rfl
theorem q2066 : (Jvm.Cond.methodLink "java/util/ComparableTimSort" (114 : Nat) ({ cls := "java/lang/Integer", name := "numberOfLeadingZeros", desc := "(I)I" } : Jvm.MethodName)) ∈ lw_all := lw_g (lw_at lw_m9 24 rfl) rfl
theorem q2067 : (Jvm.Cond.methodLink "java/util/ComparableTimSort" (119 : Nat) ({ cls := "java/lang/Math", name := "min", desc := "(II)I" } : Jvm.MethodName)) ∈ lw_all := lw_g (lw_at lw_m9 25 rfl) rfl
theorem q2068 : (Jvm.Cond.classLink "java/util/ComparableTimSort" (107 : Nat) "java/lang/IllegalArgumentException") ∈ lw_all := lw_g (lw_at lw_m9 26 rfl) rfl
theorem q2069 : (Jvm.Cond.stringRef "java/util/ComparableTimSort" (109 : Nat) "Comparison method violates its general contract\x21") ∈ lw_tbl := lw_at lw_m9 27 rfl
theorem q2070 : (Jvm.Cond.methodLink "java/util/ComparableTimSort" (111 : Nat) ({ cls := "java/lang/IllegalArgumentException", name := "<init>", desc := "(Ljava/lang/String;)V" } : Jvm.MethodName)) ∈ lw_all := lw_g (lw_at lw_m9 28 rfl) rfl
theorem q2071 : (Jvm.Cond.methodLink "java/util/ComparableTimSort" (100 : Nat) ({ cls := "java/util/ComparableTimSort", name := "mergeHi", desc := "(IIII)V" } : Jvm.MethodName)) ∈ lw_all := lw_g (lw_at lw_m9 29 rfl) rfl
theorem q2072 : (Jvm.Cond.privateMethod ({ cls := "java/util/ComparableTimSort", name := "mergeHi", desc := "(IIII)V" } : Jvm.MethodName)) ∈ lw_tbl := lw_at lw_m9 30 rfl
theorem q2073 : (Jvm.Cond.instanceMethod ({ cls := "java/util/ComparableTimSort", name := "mergeHi", desc := "(IIII)V" } : Jvm.MethodName)) ∈ lw_all := lw_g (lw_at lw_m9 31 rfl) rfl
theorem q2074 : (Jvm.Cond.code ({ cls := "java/util/ComparableTimSort", name := "mergeHi", desc := "(IIII)V" } : Jvm.MethodName) prog_62_method_14_code (14 : Nat) (Option.none : Option Jvm.ClassFile.FieldType)) ∈ lw_all := lw_g (lw_at lw_m9 32 rfl) rfl
theorem q2075 : (Jvm.Cond.methodLink "java/util/ComparableTimSort" (66 : Nat) ({ cls := "java/util/ComparableTimSort", name := "mergeForceCollapse", desc := "()V" } : Jvm.MethodName)) ∈ lw_all := lw_g (lw_at lw_m9 33 rfl) rfl
theorem q2076 : (Jvm.Cond.privateMethod ({ cls := "java/util/ComparableTimSort", name := "mergeForceCollapse", desc := "()V" } : Jvm.MethodName)) ∈ lw_tbl := lw_at lw_m9 34 rfl
theorem q2077 : (Jvm.Cond.instanceMethod ({ cls := "java/util/ComparableTimSort", name := "mergeForceCollapse", desc := "()V" } : Jvm.MethodName)) ∈ lw_all := lw_g (lw_at lw_m9 35 rfl) rfl
theorem q2078 : (Jvm.Cond.code ({ cls := "java/util/ComparableTimSort", name := "mergeForceCollapse", desc := "()V" } : Jvm.MethodName) prog_62_method_9_code (2 : Nat) (Option.none : Option Jvm.ClassFile.FieldType)) ∈ lw_all := lw_g (lw_at lw_m9 36 rfl) rfl
theorem q3697 : (Jvm.Cond.castable "java/util/ComparableTimSort" "java/lang/Object") ∈ lw_tbl := lw_at lw_m15 215 rfl
theorem in_J35 : ∀ w ∈ wsJ350, w ∈ lw_all := lw_in wsJ350 [2020, 2022, 2024, 2026, 2028, 2030, 2032, 2034] (by decide +kernel) (by decide +kernel)
/-! java/lang/Character -/
set_option maxRecDepth 100000
def RJ41 : String := "java/lang/Character"
abbrev cJ41_isValidCodePoint : ByteArray := prog_22_method_11_code
def yJ41_isValidCodePoint : MethodName := ⟨RJ41, "isValidCodePoint", "(I)Z"⟩
def dkwJ41_isValidCodePoint_0 : List UInt8 := [26, 16, 16, 124, 60, 27, 16, 17, 162, 0, 7, 4, 167, 0, 4, 3, 172]
abbrev dktJ41_isValidCodePoint_0 : List UInt8 := dkwJ41_isValidCodePoint_0 ++ []
theorem dksJ41_isValidCodePoint_0 : cJ41_isValidCodePoint.data.toList.drop 0 = dktJ41_isValidCodePoint_0 := by decide +kernel
theorem dJ41_isValidCodePoint_0 : decode cJ41_isValidCodePoint 0 = .ok (.iload_n 0, 1) := dk_26 (dk_at dksJ41_isValidCodePoint_0 0 rfl rfl)
theorem dJ41_isValidCodePoint_1 : decode cJ41_isValidCodePoint 1 = .ok (.bipush 16, 2) := dk_16 16 (dk_at dksJ41_isValidCodePoint_0 1 rfl rfl)
theorem dJ41_isValidCodePoint_3 : decode cJ41_isValidCodePoint 3 = .ok (.iushr, 1) := dk_124 (dk_at dksJ41_isValidCodePoint_0 3 rfl rfl)
theorem dJ41_isValidCodePoint_4 : decode cJ41_isValidCodePoint 4 = .ok (.istore_n 1, 1) := dk_60 (dk_at dksJ41_isValidCodePoint_0 4 rfl rfl)
theorem dJ41_isValidCodePoint_5 : decode cJ41_isValidCodePoint 5 = .ok (.iload_n 1, 1) := dk_27 (dk_at dksJ41_isValidCodePoint_0 5 rfl rfl)
theorem dJ41_isValidCodePoint_6 : decode cJ41_isValidCodePoint 6 = .ok (.bipush 17, 2) := dk_16 17 (dk_at dksJ41_isValidCodePoint_0 6 rfl rfl)
theorem dJ41_isValidCodePoint_8 : decode cJ41_isValidCodePoint 8 = .ok (.if_icmp .ge 7, 3) := dk_162 0 7 (dk_at dksJ41_isValidCodePoint_0 8 rfl rfl)
theorem dJ41_isValidCodePoint_11 : decode cJ41_isValidCodePoint 11 = .ok (.iconst 1, 1) := dk_4 (dk_at dksJ41_isValidCodePoint_0 11 rfl rfl)
theorem dJ41_isValidCodePoint_12 : decode cJ41_isValidCodePoint 12 = .ok (.goto 4, 3) := dk_167 0 4 (dk_at dksJ41_isValidCodePoint_0 12 rfl rfl)
theorem dJ41_isValidCodePoint_15 : decode cJ41_isValidCodePoint 15 = .ok (.iconst 0, 1) := dk_3 (dk_at dksJ41_isValidCodePoint_0 15 rfl rfl)
theorem dJ41_isValidCodePoint_16 : decode cJ41_isValidCodePoint 16 = .ok (.ireturn, 1) := dk_172 (dk_at dksJ41_isValidCodePoint_0 16 rfl rfl)
abbrev cJ41_highSurrogate : ByteArray := prog_22_method_28_code
def yJ41_highSurrogate : MethodName := ⟨RJ41, "highSurrogate", "(I)C"⟩
def dkwJ41_highSurrogate_0 : List UInt8 := [26, 16, 10, 124, 18, 110, 96, 146, 172]
abbrev dktJ41_highSurrogate_0 : List UInt8 := dkwJ41_highSurrogate_0 ++ []
theorem dksJ41_highSurrogate_0 : cJ41_highSurrogate.data.toList.drop 0 = dktJ41_highSurrogate_0 := by decide +kernel
theorem dJ41_highSurrogate_0 : decode cJ41_highSurrogate 0 = .ok (.iload_n 0, 1) := dk_26 (dk_at dksJ41_highSurrogate_0 0 rfl rfl)
theorem dJ41_highSurrogate_1 : decode cJ41_highSurrogate 1 = .ok (.bipush 10, 2) := dk_16 10 (dk_at dksJ41_highSurrogate_0 1 rfl rfl)
theorem dJ41_highSurrogate_3 : decode cJ41_highSurrogate 3 = .ok (.iushr, 1) := dk_124 (dk_at dksJ41_highSurrogate_0 3 rfl rfl)
theorem dJ41_highSurrogate_4 : decode cJ41_highSurrogate 4 = .ok (.ldc 110, 2) := dk_18 110 (dk_at dksJ41_highSurrogate_0 4 rfl rfl)
theorem dJ41_highSurrogate_6 : decode cJ41_highSurrogate 6 = .ok (.iadd, 1) := dk_96 (dk_at dksJ41_highSurrogate_0 6 rfl rfl)
theorem dJ41_highSurrogate_7 : decode cJ41_highSurrogate 7 = .ok (.i2c, 1) := dk_146 (dk_at dksJ41_highSurrogate_0 7 rfl rfl)
theorem dJ41_highSurrogate_8 : decode cJ41_highSurrogate 8 = .ok (.ireturn, 1) := dk_172 (dk_at dksJ41_highSurrogate_0 8 rfl rfl)
abbrev cJ41_lowSurrogate : ByteArray := prog_22_method_29_code
def yJ41_lowSurrogate : MethodName := ⟨RJ41, "lowSurrogate", "(I)C"⟩
def dkwJ41_lowSurrogate_0 : List UInt8 := [26, 17, 3, 255, 126, 18, 76, 96, 146, 172]
abbrev dktJ41_lowSurrogate_0 : List UInt8 := dkwJ41_lowSurrogate_0 ++ []
theorem dksJ41_lowSurrogate_0 : cJ41_lowSurrogate.data.toList.drop 0 = dktJ41_lowSurrogate_0 := by decide +kernel
theorem dJ41_lowSurrogate_0 : decode cJ41_lowSurrogate 0 = .ok (.iload_n 0, 1) := dk_26 (dk_at dksJ41_lowSurrogate_0 0 rfl rfl)
theorem dJ41_lowSurrogate_1 : decode cJ41_lowSurrogate 1 = .ok (.sipush 1023, 3) := dk_17 3 255 (dk_at dksJ41_lowSurrogate_0 1 rfl rfl)
theorem dJ41_lowSurrogate_4 : decode cJ41_lowSurrogate 4 = .ok (.iand, 1) := dk_126 (dk_at dksJ41_lowSurrogate_0 4 rfl rfl)
theorem dJ41_lowSurrogate_5 : decode cJ41_lowSurrogate 5 = .ok (.ldc 76, 2) := dk_18 76 (dk_at dksJ41_lowSurrogate_0 5 rfl rfl)
theorem dJ41_lowSurrogate_7 : decode cJ41_lowSurrogate 7 = .ok (.iadd, 1) := dk_96 (dk_at dksJ41_lowSurrogate_0 7 rfl rfl)
theorem dJ41_lowSurrogate_8 : decode cJ41_lowSurrogate 8 = .ok (.i2c, 1) := dk_146 (dk_at dksJ41_lowSurrogate_0 8 rfl rfl)
theorem dJ41_lowSurrogate_9 : decode cJ41_lowSurrogate 9 = .ok (.ireturn, 1) := dk_172 (dk_at dksJ41_lowSurrogate_0 9 rfl rfl)
theorem q180 : (Jvm.Cond.initialized "java/lang/Character") ∈ lw_all := lw_g (lw_at lw_m1 58 rfl) rfl
theorem q2470 : (Jvm.Cond.static ({ cls := "java/lang/Character", name := "isValidCodePoint", desc := "(I)Z" } : Jvm.MethodName)) ∈ lw_all := lw_g (lw_at lw_m10 188 rfl) rfl
theorem q2471 : (Jvm.Cond.code ({ cls := "java/lang/Character", name := "isValidCodePoint", desc := "(I)Z" } : Jvm.MethodName) prog_22_method_11_code (2 : Nat) (Option.some Jvm.ClassFile.FieldType.boolean)) ∈ lw_all := lw_g (lw_at lw_m10 189 rfl) rfl
theorem q2473 : (Jvm.Cond.static ({ cls := "java/lang/Character", name := "highSurrogate", desc := "(I)C" } : Jvm.MethodName)) ∈ lw_all := lw_g (lw_at lw_m10 191 rfl) rfl
theorem q2474 : (Jvm.Cond.code ({ cls := "java/lang/Character", name := "highSurrogate", desc := "(I)C" } : Jvm.MethodName) prog_22_method_28_code (1 : Nat) (Option.some Jvm.ClassFile.FieldType.char)) ∈ lw_all := lw_g (lw_at lw_m10 192 rfl) rfl
theorem q2475 : (Jvm.Cond.constant "java/lang/Character" (110 : Nat) (55232 : Int32)) ∈ lw_all := lw_g (lw_at lw_m10 193 rfl) rfl
theorem q2477 : (Jvm.Cond.static ({ cls := "java/lang/Character", name := "lowSurrogate", desc := "(I)C" } : Jvm.MethodName)) ∈ lw_all := lw_g (lw_at lw_m10 195 rfl) rfl
theorem q2478 : (Jvm.Cond.code ({ cls := "java/lang/Character", name := "lowSurrogate", desc := "(I)C" } : Jvm.MethodName) prog_22_method_29_code (1 : Nat) (Option.some Jvm.ClassFile.FieldType.char)) ∈ lw_all := lw_g (lw_at lw_m10 196 rfl) rfl
theorem q2479 : (Jvm.Cond.constant "java/lang/Character" (76 : Nat) (56320 : Int32)) ∈ lw_all := lw_g (lw_at lw_m10 197 rfl) rfl
/-! jdk/internal/misc/Unsafe -/
set_option maxRecDepth 100000
def RJ32 : String := "jdk/internal/misc/Unsafe"
abbrev cJ32_getLongUnaligned : ByteArray := prog_90_method_334_code
def yJ32_getLongUnaligned : MethodName := ⟨RJ32, "getLongUnaligned", "(Ljava/lang/Object;J)J"⟩
def dkwJ32_getLongUnaligned_7 : List UInt8 := [182, 0, 39, 184, 2, 197, 173]
abbrev dktJ32_getLongUnaligned_7 : List UInt8 := dkwJ32_getLongUnaligned_7 ++ []
def dkwJ32_getLongUnaligned_6 : List UInt8 := [20, 2, 195, 97, 182, 0, 39, 42, 43, 32, 20, 2, 190, 97, 182, 0, 39, 42, 43, 32, 20, 2, 184, 97]
abbrev dktJ32_getLongUnaligned_6 : List UInt8 := dkwJ32_getLongUnaligned_6 ++ dktJ32_getLongUnaligned_7
def dkwJ32_getLongUnaligned_5 : List UInt8 := [43, 32, 20, 1, 93, 97, 182, 0, 39, 42, 43, 32, 20, 0, 205, 97, 182, 0, 39, 42, 43, 32]
abbrev dktJ32_getLongUnaligned_5 : List UInt8 := dkwJ32_getLongUnaligned_5 ++ dktJ32_getLongUnaligned_6
def dkwJ32_getLongUnaligned_4 : List UInt8 := [43, 32, 182, 0, 39, 42, 43, 32, 10, 97, 182, 0, 39, 42, 43, 32, 20, 0, 203, 97, 182, 0, 39, 42]
abbrev dktJ32_getLongUnaligned_4 : List UInt8 := dkwJ32_getLongUnaligned_4 ++ dktJ32_getLongUnaligned_5
def dkwJ32_getLongUnaligned_3 : List UInt8 := [43, 32, 20, 0, 205, 97, 182, 0, 47, 42, 43, 32, 20, 2, 190, 97, 182, 0, 47, 184, 2, 192, 173, 42]
abbrev dktJ32_getLongUnaligned_3 : List UInt8 := dkwJ32_getLongUnaligned_3 ++ dktJ32_getLongUnaligned_4
def dkwJ32_getLongUnaligned_2 : List UInt8 := [10, 127, 9, 148, 154, 0, 43, 42, 43, 32, 182, 0, 47, 42, 43, 32, 20, 0, 203, 97, 182, 0, 47, 42]
abbrev dktJ32_getLongUnaligned_2 : List UInt8 := dkwJ32_getLongUnaligned_2 ++ dktJ32_getLongUnaligned_3
def dkwJ32_getLongUnaligned_1 : List UInt8 := [154, 0, 23, 42, 43, 32, 182, 0, 17, 42, 43, 32, 20, 0, 205, 97, 182, 0, 17, 184, 2, 186, 173, 32]
abbrev dktJ32_getLongUnaligned_1 : List UInt8 := dkwJ32_getLongUnaligned_1 ++ dktJ32_getLongUnaligned_2
def dkwJ32_getLongUnaligned_0 : List UInt8 := [32, 20, 2, 184, 127, 9, 148, 154, 0, 10, 42, 43, 32, 182, 0, 27, 173, 32, 20, 1, 93, 127, 9, 148]
abbrev dktJ32_getLongUnaligned_0 : List UInt8 := dkwJ32_getLongUnaligned_0 ++ dktJ32_getLongUnaligned_1
theorem dksJ32_getLongUnaligned_0 : cJ32_getLongUnaligned.data.toList.drop 0 = dktJ32_getLongUnaligned_0 := by decide +kernel
theorem dksJ32_getLongUnaligned_1 : cJ32_getLongUnaligned.data.toList.drop 24 = dktJ32_getLongUnaligned_1 := dk_seg dksJ32_getLongUnaligned_0 24 rfl rfl
theorem dksJ32_getLongUnaligned_2 : cJ32_getLongUnaligned.data.toList.drop 48 = dktJ32_getLongUnaligned_2 := dk_seg dksJ32_getLongUnaligned_1 24 rfl rfl
theorem dksJ32_getLongUnaligned_3 : cJ32_getLongUnaligned.data.toList.drop 72 = dktJ32_getLongUnaligned_3 := dk_seg dksJ32_getLongUnaligned_2 24 rfl rfl
theorem dksJ32_getLongUnaligned_4 : cJ32_getLongUnaligned.data.toList.drop 96 = dktJ32_getLongUnaligned_4 := dk_seg dksJ32_getLongUnaligned_3 24 rfl rfl
theorem dksJ32_getLongUnaligned_5 : cJ32_getLongUnaligned.data.toList.drop 120 = dktJ32_getLongUnaligned_5 := dk_seg dksJ32_getLongUnaligned_4 24 rfl rfl
theorem dksJ32_getLongUnaligned_6 : cJ32_getLongUnaligned.data.toList.drop 142 = dktJ32_getLongUnaligned_6 := dk_seg dksJ32_getLongUnaligned_5 22 rfl rfl
theorem dksJ32_getLongUnaligned_7 : cJ32_getLongUnaligned.data.toList.drop 166 = dktJ32_getLongUnaligned_7 := dk_seg dksJ32_getLongUnaligned_6 24 rfl rfl
theorem dJ32_getLongUnaligned_0 : decode cJ32_getLongUnaligned 0 = .ok (.lload_n 2, 1) := dk_32 (dk_at dksJ32_getLongUnaligned_0 0 rfl rfl)
theorem dJ32_getLongUnaligned_1 : decode cJ32_getLongUnaligned 1 = .ok (.ldc2_w 696, 3) := dk_20 2 184 (dk_at dksJ32_getLongUnaligned_0 1 rfl rfl)
theorem dJ32_getLongUnaligned_4 : decode cJ32_getLongUnaligned 4 = .ok (.land, 1) := dk_127 (dk_at dksJ32_getLongUnaligned_0 4 rfl rfl)
theorem dJ32_getLongUnaligned_5 : decode cJ32_getLongUnaligned 5 = .ok (.lconst 0, 1) := dk_9 (dk_at dksJ32_getLongUnaligned_0 5 rfl rfl)
theorem dJ32_getLongUnaligned_6 : decode cJ32_getLongUnaligned 6 = .ok (.lcmp, 1) := dk_148 (dk_at dksJ32_getLongUnaligned_0 6 rfl rfl)
theorem dJ32_getLongUnaligned_7 : decode cJ32_getLongUnaligned 7 = .ok (.ifCond .ne 10, 3) := dk_154 0 10 (dk_at dksJ32_getLongUnaligned_0 7 rfl rfl)
theorem dJ32_getLongUnaligned_10 : decode cJ32_getLongUnaligned 10 = .ok (.aload_n 0, 1) := dk_42 (dk_at dksJ32_getLongUnaligned_0 10 rfl rfl)
theorem dJ32_getLongUnaligned_11 : decode cJ32_getLongUnaligned 11 = .ok (.aload_n 1, 1) := dk_43 (dk_at dksJ32_getLongUnaligned_0 11 rfl rfl)
theorem dJ32_getLongUnaligned_12 : decode cJ32_getLongUnaligned 12 = .ok (.lload_n 2, 1) := dk_32 (dk_at dksJ32_getLongUnaligned_0 12 rfl rfl)
theorem dJ32_getLongUnaligned_13 : decode cJ32_getLongUnaligned 13 = .ok (.invokevirtual 27, 3) := dk_182 0 27 (dk_at dksJ32_getLongUnaligned_0 13 rfl rfl)
theorem dJ32_getLongUnaligned_16 : decode cJ32_getLongUnaligned 16 = .ok (.lreturn, 1) := dk_173 (dk_at dksJ32_getLongUnaligned_0 16 rfl rfl)
theorem dJ32_getLongUnaligned_17 : decode cJ32_getLongUnaligned 17 = .ok (.lload_n 2, 1) := dk_32 (dk_at dksJ32_getLongUnaligned_0 17 rfl rfl)
theorem dJ32_getLongUnaligned_18 : decode cJ32_getLongUnaligned 18 = .ok (.ldc2_w 349, 3) := dk_20 1 93 (dk_at dksJ32_getLongUnaligned_0 18 rfl rfl)
theorem dJ32_getLongUnaligned_21 : decode cJ32_getLongUnaligned 21 = .ok (.land, 1) := dk_127 (dk_at dksJ32_getLongUnaligned_0 21 rfl rfl)
theorem dJ32_getLongUnaligned_22 : decode cJ32_getLongUnaligned 22 = .ok (.lconst 0, 1) := dk_9 (dk_at dksJ32_getLongUnaligned_0 22 rfl rfl)
theorem dJ32_getLongUnaligned_23 : decode cJ32_getLongUnaligned 23 = .ok (.lcmp, 1) := dk_148 (dk_at dksJ32_getLongUnaligned_0 23 rfl rfl)
theorem dJ32_getLongUnaligned_24 : decode cJ32_getLongUnaligned 24 = .ok (.ifCond .ne 23, 3) := dk_154 0 23 (dk_at dksJ32_getLongUnaligned_1 0 rfl rfl)
theorem dJ32_getLongUnaligned_27 : decode cJ32_getLongUnaligned 27 = .ok (.aload_n 0, 1) := dk_42 (dk_at dksJ32_getLongUnaligned_1 3 rfl rfl)
theorem dJ32_getLongUnaligned_28 : decode cJ32_getLongUnaligned 28 = .ok (.aload_n 1, 1) := dk_43 (dk_at dksJ32_getLongUnaligned_1 4 rfl rfl)
theorem dJ32_getLongUnaligned_29 : decode cJ32_getLongUnaligned 29 = .ok (.lload_n 2, 1) := dk_32 (dk_at dksJ32_getLongUnaligned_1 5 rfl rfl)
theorem dJ32_getLongUnaligned_30 : decode cJ32_getLongUnaligned 30 = .ok (.invokevirtual 17, 3) := dk_182 0 17 (dk_at dksJ32_getLongUnaligned_1 6 rfl rfl)
theorem dJ32_getLongUnaligned_33 : decode cJ32_getLongUnaligned 33 = .ok (.aload_n 0, 1) := dk_42 (dk_at dksJ32_getLongUnaligned_1 9 rfl rfl)
theorem dJ32_getLongUnaligned_34 : decode cJ32_getLongUnaligned 34 = .ok (.aload_n 1, 1) := dk_43 (dk_at dksJ32_getLongUnaligned_1 10 rfl rfl)
theorem dJ32_getLongUnaligned_35 : decode cJ32_getLongUnaligned 35 = .ok (.lload_n 2, 1) := dk_32 (dk_at dksJ32_getLongUnaligned_1 11 rfl rfl)
theorem dJ32_getLongUnaligned_36 : decode cJ32_getLongUnaligned 36 = .ok (.ldc2_w 205, 3) := dk_20 0 205 (dk_at dksJ32_getLongUnaligned_1 12 rfl rfl)
theorem dJ32_getLongUnaligned_39 : decode cJ32_getLongUnaligned 39 = .ok (.ladd, 1) := dk_97 (dk_at dksJ32_getLongUnaligned_1 15 rfl rfl)
theorem dJ32_getLongUnaligned_40 : decode cJ32_getLongUnaligned 40 = .ok (.invokevirtual 17, 3) := dk_182 0 17 (dk_at dksJ32_getLongUnaligned_1 16 rfl rfl)
theorem dJ32_getLongUnaligned_43 : decode cJ32_getLongUnaligned 43 = .ok (.invokestatic 698, 3) := dk_184 2 186 (dk_at dksJ32_getLongUnaligned_1 19 rfl rfl)
theorem dJ32_getLongUnaligned_46 : decode cJ32_getLongUnaligned 46 = .ok (.lreturn, 1) := dk_173 (dk_at dksJ32_getLongUnaligned_1 22 rfl rfl)
theorem dJ32_getLongUnaligned_47 : decode cJ32_getLongUnaligned 47 = .ok (.lload_n 2, 1) := dk_32 (dk_at dksJ32_getLongUnaligned_1 23 rfl rfl)
theorem dJ32_getLongUnaligned_48 : decode cJ32_getLongUnaligned 48 = .ok (.lconst 1, 1) := dk_10 (dk_at dksJ32_getLongUnaligned_2 0 rfl rfl)
theorem dJ32_getLongUnaligned_49 : decode cJ32_getLongUnaligned 49 = .ok (.land, 1) := dk_127 (dk_at dksJ32_getLongUnaligned_2 1 rfl rfl)
theorem dJ32_getLongUnaligned_50 : decode cJ32_getLongUnaligned 50 = .ok (.lconst 0, 1) := dk_9 (dk_at dksJ32_getLongUnaligned_2 2 rfl rfl)
theorem dJ32_getLongUnaligned_51 : decode cJ32_getLongUnaligned 51 = .ok (.lcmp, 1) := dk_148 (dk_at dksJ32_getLongUnaligned_2 3 rfl rfl)
theorem dJ32_getLongUnaligned_52 : decode cJ32_getLongUnaligned 52 = .ok (.ifCond .ne 43, 3) := dk_154 0 43 (dk_at dksJ32_getLongUnaligned_2 4 rfl rfl)
theorem dJ32_getLongUnaligned_55 : decode cJ32_getLongUnaligned 55 = .ok (.aload_n 0, 1) := dk_42 (dk_at dksJ32_getLongUnaligned_2 7 rfl rfl)
theorem dJ32_getLongUnaligned_56 : decode cJ32_getLongUnaligned 56 = .ok (.aload_n 1, 1) := dk_43 (dk_at dksJ32_getLongUnaligned_2 8 rfl rfl)
theorem dJ32_getLongUnaligned_57 : decode cJ32_getLongUnaligned 57 = .ok (.lload_n 2, 1) := dk_32 (dk_at dksJ32_getLongUnaligned_2 9 rfl rfl)
theorem dJ32_getLongUnaligned_58 : decode cJ32_getLongUnaligned 58 = .ok (.invokevirtual 47, 3) := dk_182 0 47 (dk_at dksJ32_getLongUnaligned_2 10 rfl rfl)
theorem dJ32_getLongUnaligned_61 : decode cJ32_getLongUnaligned 61 = .ok (.aload_n 0, 1) := dk_42 (dk_at dksJ32_getLongUnaligned_2 13 rfl rfl)
theorem dJ32_getLongUnaligned_62 : decode cJ32_getLongUnaligned 62 = .ok (.aload_n 1, 1) := dk_43 (dk_at dksJ32_getLongUnaligned_2 14 rfl rfl)
theorem dJ32_getLongUnaligned_63 : decode cJ32_getLongUnaligned 63 = .ok (.lload_n 2, 1) := dk_32 (dk_at dksJ32_getLongUnaligned_2 15 rfl rfl)
theorem dJ32_getLongUnaligned_64 : decode cJ32_getLongUnaligned 64 = .ok (.ldc2_w 203, 3) := dk_20 0 203 (dk_at dksJ32_getLongUnaligned_2 16 rfl rfl)
theorem dJ32_getLongUnaligned_67 : decode cJ32_getLongUnaligned 67 = .ok (.ladd, 1) := dk_97 (dk_at dksJ32_getLongUnaligned_2 19 rfl rfl)
theorem dJ32_getLongUnaligned_68 : decode cJ32_getLongUnaligned 68 = .ok (.invokevirtual 47, 3) := dk_182 0 47 (dk_at dksJ32_getLongUnaligned_2 20 rfl rfl)
theorem dJ32_getLongUnaligned_71 : decode cJ32_getLongUnaligned 71 = .ok (.aload_n 0, 1) := dk_42 (dk_at dksJ32_getLongUnaligned_2 23 rfl rfl)
theorem dJ32_getLongUnaligned_72 : decode cJ32_getLongUnaligned 72 = .ok (.aload_n 1, 1) := dk_43 (dk_at dksJ32_getLongUnaligned_3 0 rfl rfl)
theorem dJ32_getLongUnaligned_73 : decode cJ32_getLongUnaligned 73 = .ok (.lload_n 2, 1) := dk_32 (dk_at dksJ32_getLongUnaligned_3 1 rfl rfl)
theorem dJ32_getLongUnaligned_74 : decode cJ32_getLongUnaligned 74 = .ok (.ldc2_w 205, 3) := dk_20 0 205 (dk_at dksJ32_getLongUnaligned_3 2 rfl rfl)
theorem dJ32_getLongUnaligned_77 : decode cJ32_getLongUnaligned 77 = .ok (.ladd, 1) := dk_97 (dk_at dksJ32_getLongUnaligned_3 5 rfl rfl)
theorem dJ32_getLongUnaligned_78 : decode cJ32_getLongUnaligned 78 = .ok (.invokevirtual 47, 3) := dk_182 0 47 (dk_at dksJ32_getLongUnaligned_3 6 rfl rfl)
theorem dJ32_getLongUnaligned_81 : decode cJ32_getLongUnaligned 81 = .ok (.aload_n 0, 1) := dk_42 (dk_at dksJ32_getLongUnaligned_3 9 rfl rfl)
theorem dJ32_getLongUnaligned_82 : decode cJ32_getLongUnaligned 82 = .ok (.aload_n 1, 1) := dk_43 (dk_at dksJ32_getLongUnaligned_3 10 rfl rfl)
theorem dJ32_getLongUnaligned_83 : decode cJ32_getLongUnaligned 83 = .ok (.lload_n 2, 1) := dk_32 (dk_at dksJ32_getLongUnaligned_3 11 rfl rfl)
theorem dJ32_getLongUnaligned_84 : decode cJ32_getLongUnaligned 84 = .ok (.ldc2_w 702, 3) := dk_20 2 190 (dk_at dksJ32_getLongUnaligned_3 12 rfl rfl)
theorem dJ32_getLongUnaligned_87 : decode cJ32_getLongUnaligned 87 = .ok (.ladd, 1) := dk_97 (dk_at dksJ32_getLongUnaligned_3 15 rfl rfl)
theorem dJ32_getLongUnaligned_88 : decode cJ32_getLongUnaligned 88 = .ok (.invokevirtual 47, 3) := dk_182 0 47 (dk_at dksJ32_getLongUnaligned_3 16 rfl rfl)
theorem dJ32_getLongUnaligned_91 : decode cJ32_getLongUnaligned 91 = .ok (.invokestatic 704, 3) := dk_184 2 192 (dk_at dksJ32_getLongUnaligned_3 19 rfl rfl)
theorem dJ32_getLongUnaligned_94 : decode cJ32_getLongUnaligned 94 = .ok (.lreturn, 1) := dk_173 (dk_at dksJ32_getLongUnaligned_3 22 rfl rfl)
theorem dJ32_getLongUnaligned_95 : decode cJ32_getLongUnaligned 95 = .ok (.aload_n 0, 1) := dk_42 (dk_at dksJ32_getLongUnaligned_3 23 rfl rfl)
theorem dJ32_getLongUnaligned_96 : decode cJ32_getLongUnaligned 96 = .ok (.aload_n 1, 1) := dk_43 (dk_at dksJ32_getLongUnaligned_4 0 rfl rfl)
theorem dJ32_getLongUnaligned_97 : decode cJ32_getLongUnaligned 97 = .ok (.lload_n 2, 1) := dk_32 (dk_at dksJ32_getLongUnaligned_4 1 rfl rfl)
theorem dJ32_getLongUnaligned_98 : decode cJ32_getLongUnaligned 98 = .ok (.invokevirtual 39, 3) := dk_182 0 39 (dk_at dksJ32_getLongUnaligned_4 2 rfl rfl)
theorem dJ32_getLongUnaligned_101 : decode cJ32_getLongUnaligned 101 = .ok (.aload_n 0, 1) := dk_42 (dk_at dksJ32_getLongUnaligned_4 5 rfl rfl)
theorem dJ32_getLongUnaligned_102 : decode cJ32_getLongUnaligned 102 = .ok (.aload_n 1, 1) := dk_43 (dk_at dksJ32_getLongUnaligned_4 6 rfl rfl)
theorem dJ32_getLongUnaligned_103 : decode cJ32_getLongUnaligned 103 = .ok (.lload_n 2, 1) := dk_32 (dk_at dksJ32_getLongUnaligned_4 7 rfl rfl)
theorem dJ32_getLongUnaligned_104 : decode cJ32_getLongUnaligned 104 = .ok (.lconst 1, 1) := dk_10 (dk_at dksJ32_getLongUnaligned_4 8 rfl rfl)
theorem dJ32_getLongUnaligned_105 : decode cJ32_getLongUnaligned 105 = .ok (.ladd, 1) := dk_97 (dk_at dksJ32_getLongUnaligned_4 9 rfl rfl)
theorem dJ32_getLongUnaligned_106 : decode cJ32_getLongUnaligned 106 = .ok (.invokevirtual 39, 3) := dk_182 0 39 (dk_at dksJ32_getLongUnaligned_4 10 rfl rfl)
theorem dJ32_getLongUnaligned_109 : decode cJ32_getLongUnaligned 109 = .ok (.aload_n 0, 1) := dk_42 (dk_at dksJ32_getLongUnaligned_4 13 rfl rfl)
theorem dJ32_getLongUnaligned_110 : decode cJ32_getLongUnaligned 110 = .ok (.aload_n 1, 1) := dk_43 (dk_at dksJ32_getLongUnaligned_4 14 rfl rfl)
theorem dJ32_getLongUnaligned_111 : decode cJ32_getLongUnaligned 111 = .ok (.lload_n 2, 1) := dk_32 (dk_at dksJ32_getLongUnaligned_4 15 rfl rfl)
theorem dJ32_getLongUnaligned_112 : decode cJ32_getLongUnaligned 112 = .ok (.ldc2_w 203, 3) := dk_20 0 203 (dk_at dksJ32_getLongUnaligned_4 16 rfl rfl)
theorem dJ32_getLongUnaligned_115 : decode cJ32_getLongUnaligned 115 = .ok (.ladd, 1) := dk_97 (dk_at dksJ32_getLongUnaligned_4 19 rfl rfl)
theorem dJ32_getLongUnaligned_116 : decode cJ32_getLongUnaligned 116 = .ok (.invokevirtual 39, 3) := dk_182 0 39 (dk_at dksJ32_getLongUnaligned_4 20 rfl rfl)
theorem dJ32_getLongUnaligned_119 : decode cJ32_getLongUnaligned 119 = .ok (.aload_n 0, 1) := dk_42 (dk_at dksJ32_getLongUnaligned_4 23 rfl rfl)
theorem dJ32_getLongUnaligned_120 : decode cJ32_getLongUnaligned 120 = .ok (.aload_n 1, 1) := dk_43 (dk_at dksJ32_getLongUnaligned_5 0 rfl rfl)
theorem dJ32_getLongUnaligned_121 : decode cJ32_getLongUnaligned 121 = .ok (.lload_n 2, 1) := dk_32 (dk_at dksJ32_getLongUnaligned_5 1 rfl rfl)
theorem dJ32_getLongUnaligned_122 : decode cJ32_getLongUnaligned 122 = .ok (.ldc2_w 349, 3) := dk_20 1 93 (dk_at dksJ32_getLongUnaligned_5 2 rfl rfl)
theorem dJ32_getLongUnaligned_125 : decode cJ32_getLongUnaligned 125 = .ok (.ladd, 1) := dk_97 (dk_at dksJ32_getLongUnaligned_5 5 rfl rfl)
theorem dJ32_getLongUnaligned_126 : decode cJ32_getLongUnaligned 126 = .ok (.invokevirtual 39, 3) := dk_182 0 39 (dk_at dksJ32_getLongUnaligned_5 6 rfl rfl)
theorem dJ32_getLongUnaligned_129 : decode cJ32_getLongUnaligned 129 = .ok (.aload_n 0, 1) := dk_42 (dk_at dksJ32_getLongUnaligned_5 9 rfl rfl)
theorem dJ32_getLongUnaligned_130 : decode cJ32_getLongUnaligned 130 = .ok (.aload_n 1, 1) := dk_43 (dk_at dksJ32_getLongUnaligned_5 10 rfl rfl)
theorem dJ32_getLongUnaligned_131 : decode cJ32_getLongUnaligned 131 = .ok (.lload_n 2, 1) := dk_32 (dk_at dksJ32_getLongUnaligned_5 11 rfl rfl)
theorem dJ32_getLongUnaligned_132 : decode cJ32_getLongUnaligned 132 = .ok (.ldc2_w 205, 3) := dk_20 0 205 (dk_at dksJ32_getLongUnaligned_5 12 rfl rfl)
theorem dJ32_getLongUnaligned_135 : decode cJ32_getLongUnaligned 135 = .ok (.ladd, 1) := dk_97 (dk_at dksJ32_getLongUnaligned_5 15 rfl rfl)
theorem dJ32_getLongUnaligned_136 : decode cJ32_getLongUnaligned 136 = .ok (.invokevirtual 39, 3) := dk_182 0 39 (dk_at dksJ32_getLongUnaligned_5 16 rfl rfl)
theorem dJ32_getLongUnaligned_139 : decode cJ32_getLongUnaligned 139 = .ok (.aload_n 0, 1) := dk_42 (dk_at dksJ32_getLongUnaligned_5 19 rfl rfl)
theorem dJ32_getLongUnaligned_140 : decode cJ32_getLongUnaligned 140 = .ok (.aload_n 1, 1) := dk_43 (dk_at dksJ32_getLongUnaligned_5 20 rfl rfl)
theorem dJ32_getLongUnaligned_141 : decode cJ32_getLongUnaligned 141 = .ok (.lload_n 2, 1) := dk_32 (dk_at dksJ32_getLongUnaligned_5 21 rfl rfl)
theorem dJ32_getLongUnaligned_142 : decode cJ32_getLongUnaligned 142 = .ok (.ldc2_w 707, 3) := dk_20 2 195 (dk_at dksJ32_getLongUnaligned_6 0 rfl rfl)
theorem dJ32_getLongUnaligned_145 : decode cJ32_getLongUnaligned 145 = .ok (.ladd, 1) := dk_97 (dk_at dksJ32_getLongUnaligned_6 3 rfl rfl)
theorem dJ32_getLongUnaligned_146 : decode cJ32_getLongUnaligned 146 = .ok (.invokevirtual 39, 3) := dk_182 0 39 (dk_at dksJ32_getLongUnaligned_6 4 rfl rfl)
theorem dJ32_getLongUnaligned_149 : decode cJ32_getLongUnaligned 149 = .ok (.aload_n 0, 1) := dk_42 (dk_at dksJ32_getLongUnaligned_6 7 rfl rfl)
theorem dJ32_getLongUnaligned_150 : decode cJ32_getLongUnaligned 150 = .ok (.aload_n 1, 1) := dk_43 (dk_at dksJ32_getLongUnaligned_6 8 rfl rfl)
theorem dJ32_getLongUnaligned_151 : decode cJ32_getLongUnaligned 151 = .ok (.lload_n 2, 1) := dk_32 (dk_at dksJ32_getLongUnaligned_6 9 rfl rfl)
theorem dJ32_getLongUnaligned_152 : decode cJ32_getLongUnaligned 152 = .ok (.ldc2_w 702, 3) := dk_20 2 190 (dk_at dksJ32_getLongUnaligned_6 10 rfl rfl)
theorem dJ32_getLongUnaligned_155 : decode cJ32_getLongUnaligned 155 = .ok (.ladd, 1) := dk_97 (dk_at dksJ32_getLongUnaligned_6 13 rfl rfl)
theorem dJ32_getLongUnaligned_156 : decode cJ32_getLongUnaligned 156 = .ok (.invokevirtual 39, 3) := dk_182 0 39 (dk_at dksJ32_getLongUnaligned_6 14 rfl rfl)
theorem dJ32_getLongUnaligned_159 : decode cJ32_getLongUnaligned 159 = .ok (.aload_n 0, 1) := dk_42 (dk_at dksJ32_getLongUnaligned_6 17 rfl rfl)
theorem dJ32_getLongUnaligned_160 : decode cJ32_getLongUnaligned 160 = .ok (.aload_n 1, 1) := dk_43 (dk_at dksJ32_getLongUnaligned_6 18 rfl rfl)
theorem dJ32_getLongUnaligned_161 : decode cJ32_getLongUnaligned 161 = .ok (.lload_n 2, 1) := dk_32 (dk_at dksJ32_getLongUnaligned_6 19 rfl rfl)
theorem dJ32_getLongUnaligned_162 : decode cJ32_getLongUnaligned 162 = .ok (.ldc2_w 696, 3) := dk_20 2 184 (dk_at dksJ32_getLongUnaligned_6 20 rfl rfl)
theorem dJ32_getLongUnaligned_165 : decode cJ32_getLongUnaligned 165 = .ok (.ladd, 1) := dk_97 (dk_at dksJ32_getLongUnaligned_6 23 rfl rfl)
theorem dJ32_getLongUnaligned_166 : decode cJ32_getLongUnaligned 166 = .ok (.invokevirtual 39, 3) := dk_182 0 39 (dk_at dksJ32_getLongUnaligned_7 0 rfl rfl)
theorem dJ32_getLongUnaligned_169 : decode cJ32_getLongUnaligned 169 = .ok (.invokestatic 709, 3) := dk_184 2 197 (dk_at dksJ32_getLongUnaligned_7 3 rfl rfl)
theorem dJ32_getLongUnaligned_172 : decode cJ32_getLongUnaligned 172 = .ok (.lreturn, 1) := dk_173 (dk_at dksJ32_getLongUnaligned_7 6 rfl rfl)
abbrev cJ32_makeLong : ByteArray := prog_90_method_353_code
def yJ32_makeLong : MethodName := ⟨RJ32, "makeLong", "(II)J"⟩
def dkwJ32_makeLong_1 : List UInt8 := [173]
abbrev dktJ32_makeLong_1 : List UInt8 := dkwJ32_makeLong_1 ++ []
def dkwJ32_makeLong_0 : List UInt8 := [26, 184, 3, 23, 16, 32, 3, 184, 3, 16, 121, 27, 184, 3, 23, 16, 32, 16, 32, 184, 3, 16, 121, 129]
abbrev dktJ32_makeLong_0 : List UInt8 := dkwJ32_makeLong_0 ++ dktJ32_makeLong_1
theorem dksJ32_makeLong_0 : cJ32_makeLong.data.toList.drop 0 = dktJ32_makeLong_0 := by decide +kernel
theorem dksJ32_makeLong_1 : cJ32_makeLong.data.toList.drop 24 = dktJ32_makeLong_1 := dk_seg dksJ32_makeLong_0 24 rfl rfl
theorem dJ32_makeLong_0 : decode cJ32_makeLong 0 = .ok (.iload_n 0, 1) := dk_26 (dk_at dksJ32_makeLong_0 0 rfl rfl)
theorem dJ32_makeLong_1 : decode cJ32_makeLong 1 = .ok (.invokestatic 791, 3) := dk_184 3 23 (dk_at dksJ32_makeLong_0 1 rfl rfl)
theorem dJ32_makeLong_4 : decode cJ32_makeLong 4 = .ok (.bipush 32, 2) := dk_16 32 (dk_at dksJ32_makeLong_0 4 rfl rfl)
theorem dJ32_makeLong_6 : decode cJ32_makeLong 6 = .ok (.iconst 0, 1) := dk_3 (dk_at dksJ32_makeLong_0 6 rfl rfl)
theorem dJ32_makeLong_7 : decode cJ32_makeLong 7 = .ok (.invokestatic 784, 3) := dk_184 3 16 (dk_at dksJ32_makeLong_0 7 rfl rfl)
theorem dJ32_makeLong_10 : decode cJ32_makeLong 10 = .ok (.lshl, 1) := dk_121 (dk_at dksJ32_makeLong_0 10 rfl rfl)
theorem dJ32_makeLong_11 : decode cJ32_makeLong 11 = .ok (.iload_n 1, 1) := dk_27 (dk_at dksJ32_makeLong_0 11 rfl rfl)
theorem dJ32_makeLong_12 : decode cJ32_makeLong 12 = .ok (.invokestatic 791, 3) := dk_184 3 23 (dk_at dksJ32_makeLong_0 12 rfl rfl)
theorem dJ32_makeLong_15 : decode cJ32_makeLong 15 = .ok (.bipush 32, 2) := dk_16 32 (dk_at dksJ32_makeLong_0 15 rfl rfl)
theorem dJ32_makeLong_17 : decode cJ32_makeLong 17 = .ok (.bipush 32, 2) := dk_16 32 (dk_at dksJ32_makeLong_0 17 rfl rfl)
theorem dJ32_makeLong_19 : decode cJ32_makeLong 19 = .ok (.invokestatic 784, 3) := dk_184 3 16 (dk_at dksJ32_makeLong_0 19 rfl rfl)
theorem dJ32_makeLong_22 : decode cJ32_makeLong 22 = .ok (.lshl, 1) := dk_121 (dk_at dksJ32_makeLong_0 22 rfl rfl)
theorem dJ32_makeLong_23 : decode cJ32_makeLong 23 = .ok (.lor, 1) := dk_129 (dk_at dksJ32_makeLong_0 23 rfl rfl)
theorem dJ32_makeLong_24 : decode cJ32_makeLong 24 = .ok (.lreturn, 1) := dk_173 (dk_at dksJ32_makeLong_1 0 rfl rfl)
abbrev cJ32_toUnsignedLong : ByteArray := prog_90_method_370_code
def yJ32_toUnsignedLong : MethodName := ⟨RJ32, "toUnsignedLong", "(I)J"⟩
def dkwJ32_toUnsignedLong_0 : List UInt8 := [26, 133, 20, 3, 44, 127, 173]
abbrev dktJ32_toUnsignedLong_0 : List UInt8 := dkwJ32_toUnsignedLong_0 ++ []
theorem dksJ32_toUnsignedLong_0 : cJ32_toUnsignedLong.data.toList.drop 0 = dktJ32_toUnsignedLong_0 := by decide +kernel
theorem dJ32_toUnsignedLong_0 : decode cJ32_toUnsignedLong 0 = .ok (.iload_n 0, 1) := dk_26 (dk_at dksJ32_toUnsignedLong_0 0 rfl rfl)
theorem dJ32_toUnsignedLong_1 : decode cJ32_toUnsignedLong 1 = .ok (.i2l, 1) := dk_133 (dk_at dksJ32_toUnsignedLong_0 1 rfl rfl)
theorem dJ32_toUnsignedLong_2 : decode cJ32_toUnsignedLong 2 = .ok (.ldc2_w 812, 3) := dk_20 3 44 (dk_at dksJ32_toUnsignedLong_0 2 rfl rfl)
theorem dJ32_toUnsignedLong_5 : decode cJ32_toUnsignedLong 5 = .ok (.land, 1) := dk_127 (dk_at dksJ32_toUnsignedLong_0 5 rfl rfl)
theorem dJ32_toUnsignedLong_6 : decode cJ32_toUnsignedLong 6 = .ok (.lreturn, 1) := dk_173 (dk_at dksJ32_toUnsignedLong_0 6 rfl rfl)
abbrev cJ32_pickPos : ByteArray := prog_90_method_350_code
def yJ32_pickPos : MethodName := ⟨RJ32, "pickPos", "(II)I"⟩
def dkwJ32_pickPos_0 : List UInt8 := [178, 1, 95, 153, 0, 9, 26, 27, 100, 167, 0, 4, 27, 172]
abbrev dktJ32_pickPos_0 : List UInt8 := dkwJ32_pickPos_0 ++ []
theorem dksJ32_pickPos_0 : cJ32_pickPos.data.toList.drop 0 = dktJ32_pickPos_0 := by decide +kernel
theorem dJ32_pickPos_0 : decode cJ32_pickPos 0 = .ok (.getstatic 351, 3) := dk_178 1 95 (dk_at dksJ32_pickPos_0 0 rfl rfl)
theorem dJ32_pickPos_3 : decode cJ32_pickPos 3 = .ok (.ifCond .eq 9, 3) := dk_153 0 9 (dk_at dksJ32_pickPos_0 3 rfl rfl)
theorem dJ32_pickPos_6 : decode cJ32_pickPos 6 = .ok (.iload_n 0, 1) := dk_26 (dk_at dksJ32_pickPos_0 6 rfl rfl)
theorem dJ32_pickPos_7 : decode cJ32_pickPos 7 = .ok (.iload_n 1, 1) := dk_27 (dk_at dksJ32_pickPos_0 7 rfl rfl)
theorem dJ32_pickPos_8 : decode cJ32_pickPos 8 = .ok (.isub, 1) := dk_100 (dk_at dksJ32_pickPos_0 8 rfl rfl)
theorem dJ32_pickPos_9 : decode cJ32_pickPos 9 = .ok (.goto 4, 3) := dk_167 0 4 (dk_at dksJ32_pickPos_0 9 rfl rfl)
theorem dJ32_pickPos_12 : decode cJ32_pickPos 12 = .ok (.iload_n 1, 1) := dk_27 (dk_at dksJ32_pickPos_0 12 rfl rfl)
theorem dJ32_pickPos_13 : decode cJ32_pickPos 13 = .ok (.ireturn, 1) := dk_172 (dk_at dksJ32_pickPos_0 13 rfl rfl)
abbrev cJ32_makeLong_2 : ByteArray := prog_90_method_352_code
def yJ32_makeLong_2 : MethodName := ⟨RJ32, "makeLong", "(SSSS)J"⟩
def dkwJ32_makeLong_2_2 : List UInt8 := [121, 129, 173]
abbrev dktJ32_makeLong_2_2 : List UInt8 := dkwJ32_makeLong_2_2 ++ []
def dkwJ32_makeLong_2_1 : List UInt8 := [28, 184, 3, 20, 16, 48, 16, 32, 184, 3, 16, 121, 129, 29, 184, 3, 20, 16, 48, 16, 48, 184, 3, 16]
abbrev dktJ32_makeLong_2_1 : List UInt8 := dkwJ32_makeLong_2_1 ++ dktJ32_makeLong_2_2
def dkwJ32_makeLong_2_0 : List UInt8 := [26, 184, 3, 20, 16, 48, 3, 184, 3, 16, 121, 27, 184, 3, 20, 16, 48, 16, 16, 184, 3, 16, 121, 129]
abbrev dktJ32_makeLong_2_0 : List UInt8 := dkwJ32_makeLong_2_0 ++ dktJ32_makeLong_2_1
theorem dksJ32_makeLong_2_0 : cJ32_makeLong_2.data.toList.drop 0 = dktJ32_makeLong_2_0 := by decide +kernel
theorem dksJ32_makeLong_2_1 : cJ32_makeLong_2.data.toList.drop 24 = dktJ32_makeLong_2_1 := dk_seg dksJ32_makeLong_2_0 24 rfl rfl
theorem dksJ32_makeLong_2_2 : cJ32_makeLong_2.data.toList.drop 48 = dktJ32_makeLong_2_2 := dk_seg dksJ32_makeLong_2_1 24 rfl rfl
theorem dJ32_makeLong_2_0 : decode cJ32_makeLong_2 0 = .ok (.iload_n 0, 1) := dk_26 (dk_at dksJ32_makeLong_2_0 0 rfl rfl)
theorem dJ32_makeLong_2_1 : decode cJ32_makeLong_2 1 = .ok (.invokestatic 788, 3) := dk_184 3 20 (dk_at dksJ32_makeLong_2_0 1 rfl rfl)
theorem dJ32_makeLong_2_4 : decode cJ32_makeLong_2 4 = .ok (.bipush 48, 2) := dk_16 48 (dk_at dksJ32_makeLong_2_0 4 rfl rfl)
theorem dJ32_makeLong_2_6 : decode cJ32_makeLong_2 6 = .ok (.iconst 0, 1) := dk_3 (dk_at dksJ32_makeLong_2_0 6 rfl rfl)
theorem dJ32_makeLong_2_7 : decode cJ32_makeLong_2 7 = .ok (.invokestatic 784, 3) := dk_184 3 16 (dk_at dksJ32_makeLong_2_0 7 rfl rfl)
theorem dJ32_makeLong_2_10 : decode cJ32_makeLong_2 10 = .ok (.lshl, 1) := dk_121 (dk_at dksJ32_makeLong_2_0 10 rfl rfl)
theorem dJ32_makeLong_2_11 : decode cJ32_makeLong_2 11 = .ok (.iload_n 1, 1) := dk_27 (dk_at dksJ32_makeLong_2_0 11 rfl rfl)
theorem dJ32_makeLong_2_12 : decode cJ32_makeLong_2 12 = .ok (.invokestatic 788, 3) := dk_184 3 20 (dk_at dksJ32_makeLong_2_0 12 rfl rfl)
theorem dJ32_makeLong_2_15 : decode cJ32_makeLong_2 15 = .ok (.bipush 48, 2) := dk_16 48 (dk_at dksJ32_makeLong_2_0 15 rfl rfl)
theorem dJ32_makeLong_2_17 : decode cJ32_makeLong_2 17 = .ok (.bipush 16, 2) := dk_16 16 (dk_at dksJ32_makeLong_2_0 17 rfl rfl)
theorem dJ32_makeLong_2_19 : decode cJ32_makeLong_2 19 = .ok (.invokestatic 784, 3) := dk_184 3 16 (dk_at dksJ32_makeLong_2_0 19 rfl rfl)
theorem dJ32_makeLong_2_22 : decode cJ32_makeLong_2 22 = .ok (.lshl, 1) := dk_121 (dk_at dksJ32_makeLong_2_0 22 rfl rfl)
theorem dJ32_makeLong_2_23 : decode cJ32_makeLong_2 23 = .ok (.lor, 1) := dk_129 (dk_at dksJ32_makeLong_2_0 23 rfl rfl)
theorem dJ32_makeLong_2_24 : decode cJ32_makeLong_2 24 = .ok (.iload_n 2, 1) := dk_28 (dk_at dksJ32_makeLong_2_1 0 rfl rfl)
theorem dJ32_makeLong_2_25 : decode cJ32_makeLong_2 25 = .ok (.invokestatic 788, 3) := dk_184 3 20 (dk_at dksJ32_makeLong_2_1 1 rfl rfl)
theorem dJ32_makeLong_2_28 : decode cJ32_makeLong_2 28 = .ok (.bipush 48, 2) := dk_16 48 (dk_at dksJ32_makeLong_2_1 4 rfl rfl)
theorem dJ32_makeLong_2_30 : decode cJ32_makeLong_2 30 = .ok (.bipush 32, 2) := dk_16 32 (dk_at dksJ32_makeLong_2_1 6 rfl rfl)
theorem dJ32_makeLong_2_32 : decode cJ32_makeLong_2 32 = .ok (.invokestatic 784, 3) := dk_184 3 16 (dk_at dksJ32_makeLong_2_1 8 rfl rfl)
theorem dJ32_makeLong_2_35 : decode cJ32_makeLong_2 35 = .ok (.lshl, 1) := dk_121 (dk_at dksJ32_makeLong_2_1 11 rfl rfl)
theorem dJ32_makeLong_2_36 : decode cJ32_makeLong_2 36 = .ok (.lor, 1) := dk_129 (dk_at dksJ32_makeLong_2_1 12 rfl rfl)
theorem dJ32_makeLong_2_37 : decode cJ32_makeLong_2 37 = .ok (.iload_n 3, 1) := dk_29 (dk_at dksJ32_makeLong_2_1 13 rfl rfl)
theorem dJ32_makeLong_2_38 : decode cJ32_makeLong_2 38 = .ok (.invokestatic 788, 3) := dk_184 3 20 (dk_at dksJ32_makeLong_2_1 14 rfl rfl)
theorem dJ32_makeLong_2_41 : decode cJ32_makeLong_2 41 = .ok (.bipush 48, 2) := dk_16 48 (dk_at dksJ32_makeLong_2_1 17 rfl rfl)
theorem dJ32_makeLong_2_43 : decode cJ32_makeLong_2 43 = .ok (.bipush 48, 2) := dk_16 48 (dk_at dksJ32_makeLong_2_1 19 rfl rfl)
theorem dJ32_makeLong_2_45 : decode cJ32_makeLong_2 45 = .ok (.invokestatic 784, 3) := dk_184 3 16 (dk_at dksJ32_makeLong_2_1 21 rfl rfl)
theorem dJ32_makeLong_2_48 : decode cJ32_makeLong_2 48 = .ok (.lshl, 1) := dk_121 (dk_at dksJ32_makeLong_2_2 0 rfl rfl)
theorem dJ32_makeLong_2_49 : decode cJ32_makeLong_2 49 = .ok (.lor, 1) := dk_129 (dk_at dksJ32_makeLong_2_2 1 rfl rfl)
theorem dJ32_makeLong_2_50 : decode cJ32_makeLong_2 50 = .ok (.lreturn, 1) := dk_173 (dk_at dksJ32_makeLong_2_2 2 rfl rfl)
abbrev cJ32_toUnsignedLong_2 : ByteArray := prog_90_method_369_code
def yJ32_toUnsignedLong_2 : MethodName := ⟨RJ32, "toUnsignedLong", "(S)J"⟩
def dkwJ32_toUnsignedLong_2_0 : List UInt8 := [26, 133, 20, 3, 42, 127, 173]
abbrev dktJ32_toUnsignedLong_2_0 : List UInt8 := dkwJ32_toUnsignedLong_2_0 ++ []
theorem dksJ32_toUnsignedLong_2_0 : cJ32_toUnsignedLong_2.data.toList.drop 0 = dktJ32_toUnsignedLong_2_0 := by decide +kernel
theorem dJ32_toUnsignedLong_2_0 : decode cJ32_toUnsignedLong_2 0 = .ok (.iload_n 0, 1) := dk_26 (dk_at dksJ32_toUnsignedLong_2_0 0 rfl rfl)
theorem dJ32_toUnsignedLong_2_1 : decode cJ32_toUnsignedLong_2 1 = .ok (.i2l, 1) := dk_133 (dk_at dksJ32_toUnsignedLong_2_0 1 rfl rfl)
theorem dJ32_toUnsignedLong_2_2 : decode cJ32_toUnsignedLong_2 2 = .ok (.ldc2_w 810, 3) := dk_20 3 42 (dk_at dksJ32_toUnsignedLong_2_0 2 rfl rfl)
theorem dJ32_toUnsignedLong_2_5 : decode cJ32_toUnsignedLong_2 5 = .ok (.land, 1) := dk_127 (dk_at dksJ32_toUnsignedLong_2_0 5 rfl rfl)
theorem dJ32_toUnsignedLong_2_6 : decode cJ32_toUnsignedLong_2 6 = .ok (.lreturn, 1) := dk_173 (dk_at dksJ32_toUnsignedLong_2_0 6 rfl rfl)
abbrev cJ32_makeLong_3 : ByteArray := prog_90_method_351_code
def yJ32_makeLong_3 : MethodName := ⟨RJ32, "makeLong", "(BBBBBBBB)J"⟩
def dkwJ32_makeLong_3_4 : List UInt8 := [184, 3, 13, 16, 56, 16, 56, 184, 3, 16, 121, 129, 173]
abbrev dktJ32_makeLong_3_4 : List UInt8 := dkwJ32_makeLong_3_4 ++ []
def dkwJ32_makeLong_3_3 : List UInt8 := [16, 40, 184, 3, 16, 121, 129, 21, 6, 184, 3, 13, 16, 56, 16, 48, 184, 3, 16, 121, 129, 21, 7]
abbrev dktJ32_makeLong_3_3 : List UInt8 := dkwJ32_makeLong_3_3 ++ dktJ32_makeLong_3_4
def dkwJ32_makeLong_3_2 : List UInt8 := [121, 129, 21, 4, 184, 3, 13, 16, 56, 16, 32, 184, 3, 16, 121, 129, 21, 5, 184, 3, 13, 16, 56]
abbrev dktJ32_makeLong_3_2 : List UInt8 := dkwJ32_makeLong_3_2 ++ dktJ32_makeLong_3_3
def dkwJ32_makeLong_3_1 : List UInt8 := [28, 184, 3, 13, 16, 56, 16, 16, 184, 3, 16, 121, 129, 29, 184, 3, 13, 16, 56, 16, 24, 184, 3, 16]
abbrev dktJ32_makeLong_3_1 : List UInt8 := dkwJ32_makeLong_3_1 ++ dktJ32_makeLong_3_2
def dkwJ32_makeLong_3_0 : List UInt8 := [26, 184, 3, 13, 16, 56, 3, 184, 3, 16, 121, 27, 184, 3, 13, 16, 56, 16, 8, 184, 3, 16, 121, 129]
abbrev dktJ32_makeLong_3_0 : List UInt8 := dkwJ32_makeLong_3_0 ++ dktJ32_makeLong_3_1
theorem dksJ32_makeLong_3_0 : cJ32_makeLong_3.data.toList.drop 0 = dktJ32_makeLong_3_0 := by decide +kernel
theorem dksJ32_makeLong_3_1 : cJ32_makeLong_3.data.toList.drop 24 = dktJ32_makeLong_3_1 := dk_seg dksJ32_makeLong_3_0 24 rfl rfl
theorem dksJ32_makeLong_3_2 : cJ32_makeLong_3.data.toList.drop 48 = dktJ32_makeLong_3_2 := dk_seg dksJ32_makeLong_3_1 24 rfl rfl
theorem dksJ32_makeLong_3_3 : cJ32_makeLong_3.data.toList.drop 71 = dktJ32_makeLong_3_3 := dk_seg dksJ32_makeLong_3_2 23 rfl rfl
theorem dksJ32_makeLong_3_4 : cJ32_makeLong_3.data.toList.drop 94 = dktJ32_makeLong_3_4 := dk_seg dksJ32_makeLong_3_3 23 rfl rfl
theorem dJ32_makeLong_3_0 : decode cJ32_makeLong_3 0 = .ok (.iload_n 0, 1) := dk_26 (dk_at dksJ32_makeLong_3_0 0 rfl rfl)
theorem dJ32_makeLong_3_1 : decode cJ32_makeLong_3 1 = .ok (.invokestatic 781, 3) := dk_184 3 13 (dk_at dksJ32_makeLong_3_0 1 rfl rfl)
theorem dJ32_makeLong_3_4 : decode cJ32_makeLong_3 4 = .ok (.bipush 56, 2) := dk_16 56 (dk_at dksJ32_makeLong_3_0 4 rfl rfl)
theorem dJ32_makeLong_3_6 : decode cJ32_makeLong_3 6 = .ok (.iconst 0, 1) := dk_3 (dk_at dksJ32_makeLong_3_0 6 rfl rfl)
theorem dJ32_makeLong_3_7 : decode cJ32_makeLong_3 7 = .ok (.invokestatic 784, 3) := dk_184 3 16 (dk_at dksJ32_makeLong_3_0 7 rfl rfl)
theorem dJ32_makeLong_3_10 : decode cJ32_makeLong_3 10 = .ok (.lshl, 1) := dk_121 (dk_at dksJ32_makeLong_3_0 10 rfl rfl)
theorem dJ32_makeLong_3_11 : decode cJ32_makeLong_3 11 = .ok (.iload_n 1, 1) := dk_27 (dk_at dksJ32_makeLong_3_0 11 rfl rfl)
theorem dJ32_makeLong_3_12 : decode cJ32_makeLong_3 12 = .ok (.invokestatic 781, 3) := dk_184 3 13 (dk_at dksJ32_makeLong_3_0 12 rfl rfl)
theorem dJ32_makeLong_3_15 : decode cJ32_makeLong_3 15 = .ok (.bipush 56, 2) := dk_16 56 (dk_at dksJ32_makeLong_3_0 15 rfl rfl)
theorem dJ32_makeLong_3_17 : decode cJ32_makeLong_3 17 = .ok (.bipush 8, 2) := dk_16 8 (dk_at dksJ32_makeLong_3_0 17 rfl rfl)
theorem dJ32_makeLong_3_19 : decode cJ32_makeLong_3 19 = .ok (.invokestatic 784, 3) := dk_184 3 16 (dk_at dksJ32_makeLong_3_0 19 rfl rfl)
theorem dJ32_makeLong_3_22 : decode cJ32_makeLong_3 22 = .ok (.lshl, 1) := dk_121 (dk_at dksJ32_makeLong_3_0 22 rfl rfl)
theorem dJ32_makeLong_3_23 : decode cJ32_makeLong_3 23 = .ok (.lor, 1) := dk_129 (dk_at dksJ32_makeLong_3_0 23 rfl rfl)
theorem dJ32_makeLong_3_24 : decode cJ32_makeLong_3 24 = .ok (.iload_n 2, 1) := dk_28 (dk_at dksJ32_makeLong_3_1 0 rfl rfl)
theorem dJ32_makeLong_3_25 : decode cJ32_makeLong_3 25 = .ok (.invokestatic 781, 3) := dk_184 3 13 (dk_at dksJ32_makeLong_3_1 1 rfl rfl)
theorem dJ32_makeLong_3_28 : decode cJ32_makeLong_3 28 = .ok (.bipush 56, 2) := dk_16 56 (dk_at dksJ32_makeLong_3_1 4 rfl rfl)
theorem dJ32_makeLong_3_30 : decode cJ32_makeLong_3 30 = .ok (.bipush 16, 2) := dk_16 16 (dk_at dksJ32_makeLong_3_1 6 rfl rfl)
theorem dJ32_makeLong_3_32 : decode cJ32_makeLong_3 32 = .ok (.invokestatic 784, 3) := dk_184 3 16 (dk_at dksJ32_makeLong_3_1 8 rfl rfl)
theorem dJ32_makeLong_3_35 : decode cJ32_makeLong_3 35 = .ok (.lshl, 1) := dk_121 (dk_at dksJ32_makeLong_3_1 11 rfl rfl)
theorem dJ32_makeLong_3_36 : decode cJ32_makeLong_3 36 = .ok (.lor, 1) := dk_129 (dk_at dksJ32_makeLong_3_1 12 rfl rfl)
theorem dJ32_makeLong_3_37 : decode cJ32_makeLong_3 37 = .ok (.iload_n 3, 1) := dk_29 (dk_at dksJ32_makeLong_3_1 13 rfl rfl)
theorem dJ32_makeLong_3_38 : decode cJ32_makeLong_3 38 = .ok (.invokestatic 781, 3) := dk_184 3 13 (dk_at dksJ32_makeLong_3_1 14 rfl rfl)
theorem dJ32_makeLong_3_41 : decode cJ32_makeLong_3 41 = .ok (.bipush 56, 2) := dk_16 56 (dk_at dksJ32_makeLong_3_1 17 rfl rfl)
theorem dJ32_makeLong_3_43 : decode cJ32_makeLong_3 43 = .ok (.bipush 24, 2) := dk_16 24 (dk_at dksJ32_makeLong_3_1 19 rfl rfl)
theorem dJ32_makeLong_3_45 : decode cJ32_makeLong_3 45 = .ok (.invokestatic 784, 3) := dk_184 3 16 (dk_at dksJ32_makeLong_3_1 21 rfl rfl)
theorem dJ32_makeLong_3_48 : decode cJ32_makeLong_3 48 = .ok (.lshl, 1) := dk_121 (dk_at dksJ32_makeLong_3_2 0 rfl rfl)
theorem dJ32_makeLong_3_49 : decode cJ32_makeLong_3 49 = .ok (.lor, 1) := dk_129 (dk_at dksJ32_makeLong_3_2 1 rfl rfl)
theorem dJ32_makeLong_3_50 : decode cJ32_makeLong_3 50 = .ok (.iload 4, 2) := dk_21 4 (dk_at dksJ32_makeLong_3_2 2 rfl rfl)
theorem dJ32_makeLong_3_52 : decode cJ32_makeLong_3 52 = .ok (.invokestatic 781, 3) := dk_184 3 13 (dk_at dksJ32_makeLong_3_2 4 rfl rfl)
theorem dJ32_makeLong_3_55 : decode cJ32_makeLong_3 55 = .ok (.bipush 56, 2) := dk_16 56 (dk_at dksJ32_makeLong_3_2 7 rfl rfl)
theorem dJ32_makeLong_3_57 : decode cJ32_makeLong_3 57 = .ok (.bipush 32, 2) := dk_16 32 (dk_at dksJ32_makeLong_3_2 9 rfl rfl)
theorem dJ32_makeLong_3_59 : decode cJ32_makeLong_3 59 = .ok (.invokestatic 784, 3) := dk_184 3 16 (dk_at dksJ32_makeLong_3_2 11 rfl rfl)
theorem dJ32_makeLong_3_62 : decode cJ32_makeLong_3 62 = .ok (.lshl, 1) := dk_121 (dk_at dksJ32_makeLong_3_2 14 rfl rfl)
theorem dJ32_makeLong_3_63 : decode cJ32_makeLong_3 63 = .ok (.lor, 1) := dk_129 (dk_at dksJ32_makeLong_3_2 15 rfl rfl)
theorem dJ32_makeLong_3_64 : decode cJ32_makeLong_3 64 = .ok (.iload 5, 2) := dk_21 5 (dk_at dksJ32_makeLong_3_2 16 rfl rfl)
theorem dJ32_makeLong_3_66 : decode cJ32_makeLong_3 66 = .ok (.invokestatic 781, 3) := dk_184 3 13 (dk_at dksJ32_makeLong_3_2 18 rfl rfl)
theorem dJ32_makeLong_3_69 : decode cJ32_makeLong_3 69 = .ok (.bipush 56, 2) := dk_16 56 (dk_at dksJ32_makeLong_3_2 21 rfl rfl)
theorem dJ32_makeLong_3_71 : decode cJ32_makeLong_3 71 = .ok (.bipush 40, 2) := dk_16 40 (dk_at dksJ32_makeLong_3_3 0 rfl rfl)
theorem dJ32_makeLong_3_73 : decode cJ32_makeLong_3 73 = .ok (.invokestatic 784, 3) := dk_184 3 16 (dk_at dksJ32_makeLong_3_3 2 rfl rfl)
theorem dJ32_makeLong_3_76 : decode cJ32_makeLong_3 76 = .ok (.lshl, 1) := dk_121 (dk_at dksJ32_makeLong_3_3 5 rfl rfl)
theorem dJ32_makeLong_3_77 : decode cJ32_makeLong_3 77 = .ok (.lor, 1) := dk_129 (dk_at dksJ32_makeLong_3_3 6 rfl rfl)
theorem dJ32_makeLong_3_78 : decode cJ32_makeLong_3 78 = .ok (.iload 6, 2) := dk_21 6 (dk_at dksJ32_makeLong_3_3 7 rfl rfl)
theorem dJ32_makeLong_3_80 : decode cJ32_makeLong_3 80 = .ok (.invokestatic 781, 3) := dk_184 3 13 (dk_at dksJ32_makeLong_3_3 9 rfl rfl)
theorem dJ32_makeLong_3_83 : decode cJ32_makeLong_3 83 = .ok (.bipush 56, 2) := dk_16 56 (dk_at dksJ32_makeLong_3_3 12 rfl rfl)
theorem dJ32_makeLong_3_85 : decode cJ32_makeLong_3 85 = .ok (.bipush 48, 2) := dk_16 48 (dk_at dksJ32_makeLong_3_3 14 rfl rfl)
theorem dJ32_makeLong_3_87 : decode cJ32_makeLong_3 87 = .ok (.invokestatic 784, 3) := dk_184 3 16 (dk_at dksJ32_makeLong_3_3 16 rfl rfl)
theorem dJ32_makeLong_3_90 : decode cJ32_makeLong_3 90 = .ok (.lshl, 1) := dk_121 (dk_at dksJ32_makeLong_3_3 19 rfl rfl)
theorem dJ32_makeLong_3_91 : decode cJ32_makeLong_3 91 = .ok (.lor, 1) := dk_129 (dk_at dksJ32_makeLong_3_3 20 rfl rfl)
theorem dJ32_makeLong_3_92 : decode cJ32_makeLong_3 92 = .ok (.iload 7, 2) := dk_21 7 (dk_at dksJ32_makeLong_3_3 21 rfl rfl)
theorem dJ32_makeLong_3_94 : decode cJ32_makeLong_3 94 = .ok (.invokestatic 781, 3) := dk_184 3 13 (dk_at dksJ32_makeLong_3_4 0 rfl rfl)
theorem dJ32_makeLong_3_97 : decode cJ32_makeLong_3 97 = .ok (.bipush 56, 2) := dk_16 56 (dk_at dksJ32_makeLong_3_4 3 rfl rfl)
theorem dJ32_makeLong_3_99 : decode cJ32_makeLong_3 99 = .ok (.bipush 56, 2) := dk_16 56 (dk_at dksJ32_makeLong_3_4 5 rfl rfl)
theorem dJ32_makeLong_3_101 : decode cJ32_makeLong_3 101 = .ok (.invokestatic 784, 3) := dk_184 3 16 (dk_at dksJ32_makeLong_3_4 7 rfl rfl)
theorem dJ32_makeLong_3_104 : decode cJ32_makeLong_3 104 = .ok (.lshl, 1) := dk_121 (dk_at dksJ32_makeLong_3_4 10 rfl rfl)
theorem dJ32_makeLong_3_105 : decode cJ32_makeLong_3 105 = .ok (.lor, 1) := dk_129 (dk_at dksJ32_makeLong_3_4 11 rfl rfl)
theorem dJ32_makeLong_3_106 : decode cJ32_makeLong_3 106 = .ok (.lreturn, 1) := dk_173 (dk_at dksJ32_makeLong_3_4 12 rfl rfl)
abbrev cJ32_toUnsignedLong_3 : ByteArray := prog_90_method_368_code
def yJ32_toUnsignedLong_3 : MethodName := ⟨RJ32, "toUnsignedLong", "(B)J"⟩
def dkwJ32_toUnsignedLong_3_0 : List UInt8 := [26, 133, 20, 3, 40, 127, 173]
abbrev dktJ32_toUnsignedLong_3_0 : List UInt8 := dkwJ32_toUnsignedLong_3_0 ++ []
theorem dksJ32_toUnsignedLong_3_0 : cJ32_toUnsignedLong_3.data.toList.drop 0 = dktJ32_toUnsignedLong_3_0 := by decide +kernel
theorem dJ32_toUnsignedLong_3_0 : decode cJ32_toUnsignedLong_3 0 = .ok (.iload_n 0, 1) := dk_26 (dk_at dksJ32_toUnsignedLong_3_0 0 rfl rfl)
theorem dJ32_toUnsignedLong_3_1 : decode cJ32_toUnsignedLong_3 1 = .ok (.i2l, 1) := dk_133 (dk_at dksJ32_toUnsignedLong_3_0 1 rfl rfl)
theorem dJ32_toUnsignedLong_3_2 : decode cJ32_toUnsignedLong_3 2 = .ok (.ldc2_w 808, 3) := dk_20 3 40 (dk_at dksJ32_toUnsignedLong_3_0 2 rfl rfl)
theorem dJ32_toUnsignedLong_3_5 : decode cJ32_toUnsignedLong_3 5 = .ok (.land, 1) := dk_127 (dk_at dksJ32_toUnsignedLong_3_0 5 rfl rfl)
theorem dJ32_toUnsignedLong_3_6 : decode cJ32_toUnsignedLong_3 6 = .ok (.lreturn, 1) := dk_173 (dk_at dksJ32_toUnsignedLong_3_0 6 rfl rfl)
abbrev cJ32_getIntUnaligned : ByteArray := prog_90_method_336_code
def yJ32_getIntUnaligned : MethodName := ⟨RJ32, "getIntUnaligned", "(Ljava/lang/Object;J)I"⟩
def dkwJ32_getIntUnaligned_3 : List UInt8 := [43, 32, 20, 1, 93, 97, 182, 0, 39, 184, 2, 211, 172]
abbrev dktJ32_getIntUnaligned_3 : List UInt8 := dkwJ32_getIntUnaligned_3 ++ []
def dkwJ32_getIntUnaligned_2 : List UInt8 := [43, 32, 182, 0, 39, 42, 43, 32, 10, 97, 182, 0, 39, 42, 43, 32, 20, 0, 203, 97, 182, 0, 39, 42]
abbrev dktJ32_getIntUnaligned_2 : List UInt8 := dkwJ32_getIntUnaligned_2 ++ dktJ32_getIntUnaligned_3
def dkwJ32_getIntUnaligned_1 : List UInt8 := [154, 0, 23, 42, 43, 32, 182, 0, 47, 42, 43, 32, 20, 0, 203, 97, 182, 0, 47, 184, 2, 207, 172, 42]
abbrev dktJ32_getIntUnaligned_1 : List UInt8 := dkwJ32_getIntUnaligned_1 ++ dktJ32_getIntUnaligned_2
def dkwJ32_getIntUnaligned_0 : List UInt8 := [32, 20, 1, 93, 127, 9, 148, 154, 0, 10, 42, 43, 32, 182, 0, 17, 172, 32, 10, 127, 9, 148]
abbrev dktJ32_getIntUnaligned_0 : List UInt8 := dkwJ32_getIntUnaligned_0 ++ dktJ32_getIntUnaligned_1
theorem dksJ32_getIntUnaligned_0 : cJ32_getIntUnaligned.data.toList.drop 0 = dktJ32_getIntUnaligned_0 := by decide +kernel
theorem dksJ32_getIntUnaligned_1 : cJ32_getIntUnaligned.data.toList.drop 22 = dktJ32_getIntUnaligned_1 := dk_seg dksJ32_getIntUnaligned_0 22 rfl rfl
theorem dksJ32_getIntUnaligned_2 : cJ32_getIntUnaligned.data.toList.drop 46 = dktJ32_getIntUnaligned_2 := dk_seg dksJ32_getIntUnaligned_1 24 rfl rfl
theorem dksJ32_getIntUnaligned_3 : cJ32_getIntUnaligned.data.toList.drop 70 = dktJ32_getIntUnaligned_3 := dk_seg dksJ32_getIntUnaligned_2 24 rfl rfl
theorem dJ32_getIntUnaligned_0 : decode cJ32_getIntUnaligned 0 = .ok (.lload_n 2, 1) := dk_32 (dk_at dksJ32_getIntUnaligned_0 0 rfl rfl)
theorem dJ32_getIntUnaligned_1 : decode cJ32_getIntUnaligned 1 = .ok (.ldc2_w 349, 3) := dk_20 1 93 (dk_at dksJ32_getIntUnaligned_0 1 rfl rfl)
theorem dJ32_getIntUnaligned_4 : decode cJ32_getIntUnaligned 4 = .ok (.land, 1) := dk_127 (dk_at dksJ32_getIntUnaligned_0 4 rfl rfl)
theorem dJ32_getIntUnaligned_5 : decode cJ32_getIntUnaligned 5 = .ok (.lconst 0, 1) := dk_9 (dk_at dksJ32_getIntUnaligned_0 5 rfl rfl)
theorem dJ32_getIntUnaligned_6 : decode cJ32_getIntUnaligned 6 = .ok (.lcmp, 1) := dk_148 (dk_at dksJ32_getIntUnaligned_0 6 rfl rfl)
theorem dJ32_getIntUnaligned_7 : decode cJ32_getIntUnaligned 7 = .ok (.ifCond .ne 10, 3) := dk_154 0 10 (dk_at dksJ32_getIntUnaligned_0 7 rfl rfl)
theorem dJ32_getIntUnaligned_10 : decode cJ32_getIntUnaligned 10 = .ok (.aload_n 0, 1) := dk_42 (dk_at dksJ32_getIntUnaligned_0 10 rfl rfl)
theorem dJ32_getIntUnaligned_11 : decode cJ32_getIntUnaligned 11 = .ok (.aload_n 1, 1) := dk_43 (dk_at dksJ32_getIntUnaligned_0 11 rfl rfl)
theorem dJ32_getIntUnaligned_12 : decode cJ32_getIntUnaligned 12 = .ok (.lload_n 2, 1) := dk_32 (dk_at dksJ32_getIntUnaligned_0 12 rfl rfl)
theorem dJ32_getIntUnaligned_13 : decode cJ32_getIntUnaligned 13 = .ok (.invokevirtual 17, 3) := dk_182 0 17 (dk_at dksJ32_getIntUnaligned_0 13 rfl rfl)
theorem dJ32_getIntUnaligned_16 : decode cJ32_getIntUnaligned 16 = .ok (.ireturn, 1) := dk_172 (dk_at dksJ32_getIntUnaligned_0 16 rfl rfl)
theorem dJ32_getIntUnaligned_17 : decode cJ32_getIntUnaligned 17 = .ok (.lload_n 2, 1) := dk_32 (dk_at dksJ32_getIntUnaligned_0 17 rfl rfl)
theorem dJ32_getIntUnaligned_18 : decode cJ32_getIntUnaligned 18 = .ok (.lconst 1, 1) := dk_10 (dk_at dksJ32_getIntUnaligned_0 18 rfl rfl)
theorem dJ32_getIntUnaligned_19 : decode cJ32_getIntUnaligned 19 = .ok (.land, 1) := dk_127 (dk_at dksJ32_getIntUnaligned_0 19 rfl rfl)
theorem dJ32_getIntUnaligned_20 : decode cJ32_getIntUnaligned 20 = .ok (.lconst 0, 1) := dk_9 (dk_at dksJ32_getIntUnaligned_0 20 rfl rfl)
theorem dJ32_getIntUnaligned_21 : decode cJ32_getIntUnaligned 21 = .ok (.lcmp, 1) := dk_148 (dk_at dksJ32_getIntUnaligned_0 21 rfl rfl)
theorem dJ32_getIntUnaligned_22 : decode cJ32_getIntUnaligned 22 = .ok (.ifCond .ne 23, 3) := dk_154 0 23 (dk_at dksJ32_getIntUnaligned_1 0 rfl rfl)
theorem dJ32_getIntUnaligned_25 : decode cJ32_getIntUnaligned 25 = .ok (.aload_n 0, 1) := dk_42 (dk_at dksJ32_getIntUnaligned_1 3 rfl rfl)
theorem dJ32_getIntUnaligned_26 : decode cJ32_getIntUnaligned 26 = .ok (.aload_n 1, 1) := dk_43 (dk_at dksJ32_getIntUnaligned_1 4 rfl rfl)
theorem dJ32_getIntUnaligned_27 : decode cJ32_getIntUnaligned 27 = .ok (.lload_n 2, 1) := dk_32 (dk_at dksJ32_getIntUnaligned_1 5 rfl rfl)
theorem dJ32_getIntUnaligned_28 : decode cJ32_getIntUnaligned 28 = .ok (.invokevirtual 47, 3) := dk_182 0 47 (dk_at dksJ32_getIntUnaligned_1 6 rfl rfl)
theorem dJ32_getIntUnaligned_31 : decode cJ32_getIntUnaligned 31 = .ok (.aload_n 0, 1) := dk_42 (dk_at dksJ32_getIntUnaligned_1 9 rfl rfl)
theorem dJ32_getIntUnaligned_32 : decode cJ32_getIntUnaligned 32 = .ok (.aload_n 1, 1) := dk_43 (dk_at dksJ32_getIntUnaligned_1 10 rfl rfl)
theorem dJ32_getIntUnaligned_33 : decode cJ32_getIntUnaligned 33 = .ok (.lload_n 2, 1) := dk_32 (dk_at dksJ32_getIntUnaligned_1 11 rfl rfl)
theorem dJ32_getIntUnaligned_34 : decode cJ32_getIntUnaligned 34 = .ok (.ldc2_w 203, 3) := dk_20 0 203 (dk_at dksJ32_getIntUnaligned_1 12 rfl rfl)
theorem dJ32_getIntUnaligned_37 : decode cJ32_getIntUnaligned 37 = .ok (.ladd, 1) := dk_97 (dk_at dksJ32_getIntUnaligned_1 15 rfl rfl)
theorem dJ32_getIntUnaligned_38 : decode cJ32_getIntUnaligned 38 = .ok (.invokevirtual 47, 3) := dk_182 0 47 (dk_at dksJ32_getIntUnaligned_1 16 rfl rfl)
theorem dJ32_getIntUnaligned_41 : decode cJ32_getIntUnaligned 41 = .ok (.invokestatic 719, 3) := dk_184 2 207 (dk_at dksJ32_getIntUnaligned_1 19 rfl rfl)
theorem dJ32_getIntUnaligned_44 : decode cJ32_getIntUnaligned 44 = .ok (.ireturn, 1) := dk_172 (dk_at dksJ32_getIntUnaligned_1 22 rfl rfl)
theorem dJ32_getIntUnaligned_45 : decode cJ32_getIntUnaligned 45 = .ok (.aload_n 0, 1) := dk_42 (dk_at dksJ32_getIntUnaligned_1 23 rfl rfl)
theorem dJ32_getIntUnaligned_46 : decode cJ32_getIntUnaligned 46 = .ok (.aload_n 1, 1) := dk_43 (dk_at dksJ32_getIntUnaligned_2 0 rfl rfl)
theorem dJ32_getIntUnaligned_47 : decode cJ32_getIntUnaligned 47 = .ok (.lload_n 2, 1) := dk_32 (dk_at dksJ32_getIntUnaligned_2 1 rfl rfl)
theorem dJ32_getIntUnaligned_48 : decode cJ32_getIntUnaligned 48 = .ok (.invokevirtual 39, 3) := dk_182 0 39 (dk_at dksJ32_getIntUnaligned_2 2 rfl rfl)
theorem dJ32_getIntUnaligned_51 : decode cJ32_getIntUnaligned 51 = .ok (.aload_n 0, 1) := dk_42 (dk_at dksJ32_getIntUnaligned_2 5 rfl rfl)
theorem dJ32_getIntUnaligned_52 : decode cJ32_getIntUnaligned 52 = .ok (.aload_n 1, 1) := dk_43 (dk_at dksJ32_getIntUnaligned_2 6 rfl rfl)
theorem dJ32_getIntUnaligned_53 : decode cJ32_getIntUnaligned 53 = .ok (.lload_n 2, 1) := dk_32 (dk_at dksJ32_getIntUnaligned_2 7 rfl rfl)
theorem dJ32_getIntUnaligned_54 : decode cJ32_getIntUnaligned 54 = .ok (.lconst 1, 1) := dk_10 (dk_at dksJ32_getIntUnaligned_2 8 rfl rfl)
theorem dJ32_getIntUnaligned_55 : decode cJ32_getIntUnaligned 55 = .ok (.ladd, 1) := dk_97 (dk_at dksJ32_getIntUnaligned_2 9 rfl rfl)
theorem dJ32_getIntUnaligned_56 : decode cJ32_getIntUnaligned 56 = .ok (.invokevirtual 39, 3) := dk_182 0 39 (dk_at dksJ32_getIntUnaligned_2 10 rfl rfl)
theorem dJ32_getIntUnaligned_59 : decode cJ32_getIntUnaligned 59 = .ok (.aload_n 0, 1) := dk_42 (dk_at dksJ32_getIntUnaligned_2 13 rfl rfl)
theorem dJ32_getIntUnaligned_60 : decode cJ32_getIntUnaligned 60 = .ok (.aload_n 1, 1) := dk_43 (dk_at dksJ32_getIntUnaligned_2 14 rfl rfl)
theorem dJ32_getIntUnaligned_61 : decode cJ32_getIntUnaligned 61 = .ok (.lload_n 2, 1) := dk_32 (dk_at dksJ32_getIntUnaligned_2 15 rfl rfl)
theorem dJ32_getIntUnaligned_62 : decode cJ32_getIntUnaligned 62 = .ok (.ldc2_w 203, 3) := dk_20 0 203 (dk_at dksJ32_getIntUnaligned_2 16 rfl rfl)
theorem dJ32_getIntUnaligned_65 : decode cJ32_getIntUnaligned 65 = .ok (.ladd, 1) := dk_97 (dk_at dksJ32_getIntUnaligned_2 19 rfl rfl)
theorem dJ32_getIntUnaligned_66 : decode cJ32_getIntUnaligned 66 = .ok (.invokevirtual 39, 3) := dk_182 0 39 (dk_at dksJ32_getIntUnaligned_2 20 rfl rfl)
theorem dJ32_getIntUnaligned_69 : decode cJ32_getIntUnaligned 69 = .ok (.aload_n 0, 1) := dk_42 (dk_at dksJ32_getIntUnaligned_2 23 rfl rfl)
theorem dJ32_getIntUnaligned_70 : decode cJ32_getIntUnaligned 70 = .ok (.aload_n 1, 1) := dk_43 (dk_at dksJ32_getIntUnaligned_3 0 rfl rfl)
theorem dJ32_getIntUnaligned_71 : decode cJ32_getIntUnaligned 71 = .ok (.lload_n 2, 1) := dk_32 (dk_at dksJ32_getIntUnaligned_3 1 rfl rfl)
theorem dJ32_getIntUnaligned_72 : decode cJ32_getIntUnaligned 72 = .ok (.ldc2_w 349, 3) := dk_20 1 93 (dk_at dksJ32_getIntUnaligned_3 2 rfl rfl)
theorem dJ32_getIntUnaligned_75 : decode cJ32_getIntUnaligned 75 = .ok (.ladd, 1) := dk_97 (dk_at dksJ32_getIntUnaligned_3 5 rfl rfl)
theorem dJ32_getIntUnaligned_76 : decode cJ32_getIntUnaligned 76 = .ok (.invokevirtual 39, 3) := dk_182 0 39 (dk_at dksJ32_getIntUnaligned_3 6 rfl rfl)
theorem dJ32_getIntUnaligned_79 : decode cJ32_getIntUnaligned 79 = .ok (.invokestatic 723, 3) := dk_184 2 211 (dk_at dksJ32_getIntUnaligned_3 9 rfl rfl)
theorem dJ32_getIntUnaligned_82 : decode cJ32_getIntUnaligned 82 = .ok (.ireturn, 1) := dk_172 (dk_at dksJ32_getIntUnaligned_3 12 rfl rfl)
abbrev cJ32_makeInt : ByteArray := prog_90_method_354_code
def yJ32_makeInt : MethodName := ⟨RJ32, "makeInt", "(SS)I"⟩
def dkwJ32_makeInt_1 : List UInt8 := [172]
abbrev dktJ32_makeInt_1 : List UInt8 := dkwJ32_makeInt_1 ++ []
def dkwJ32_makeInt_0 : List UInt8 := [26, 184, 3, 24, 16, 16, 3, 184, 3, 16, 120, 27, 184, 3, 24, 16, 16, 16, 16, 184, 3, 16, 120, 128]
abbrev dktJ32_makeInt_0 : List UInt8 := dkwJ32_makeInt_0 ++ dktJ32_makeInt_1
theorem dksJ32_makeInt_0 : cJ32_makeInt.data.toList.drop 0 = dktJ32_makeInt_0 := by decide +kernel
theorem dksJ32_makeInt_1 : cJ32_makeInt.data.toList.drop 24 = dktJ32_makeInt_1 := dk_seg dksJ32_makeInt_0 24 rfl rfl
theorem dJ32_makeInt_0 : decode cJ32_makeInt 0 = .ok (.iload_n 0, 1) := dk_26 (dk_at dksJ32_makeInt_0 0 rfl rfl)
theorem dJ32_makeInt_1 : decode cJ32_makeInt 1 = .ok (.invokestatic 792, 3) := dk_184 3 24 (dk_at dksJ32_makeInt_0 1 rfl rfl)
theorem dJ32_makeInt_4 : decode cJ32_makeInt 4 = .ok (.bipush 16, 2) := dk_16 16 (dk_at dksJ32_makeInt_0 4 rfl rfl)
theorem dJ32_makeInt_6 : decode cJ32_makeInt 6 = .ok (.iconst 0, 1) := dk_3 (dk_at dksJ32_makeInt_0 6 rfl rfl)
theorem dJ32_makeInt_7 : decode cJ32_makeInt 7 = .ok (.invokestatic 784, 3) := dk_184 3 16 (dk_at dksJ32_makeInt_0 7 rfl rfl)
theorem dJ32_makeInt_10 : decode cJ32_makeInt 10 = .ok (.ishl, 1) := dk_120 (dk_at dksJ32_makeInt_0 10 rfl rfl)
theorem dJ32_makeInt_11 : decode cJ32_makeInt 11 = .ok (.iload_n 1, 1) := dk_27 (dk_at dksJ32_makeInt_0 11 rfl rfl)
theorem dJ32_makeInt_12 : decode cJ32_makeInt 12 = .ok (.invokestatic 792, 3) := dk_184 3 24 (dk_at dksJ32_makeInt_0 12 rfl rfl)
theorem dJ32_makeInt_15 : decode cJ32_makeInt 15 = .ok (.bipush 16, 2) := dk_16 16 (dk_at dksJ32_makeInt_0 15 rfl rfl)
theorem dJ32_makeInt_17 : decode cJ32_makeInt 17 = .ok (.bipush 16, 2) := dk_16 16 (dk_at dksJ32_makeInt_0 17 rfl rfl)
theorem dJ32_makeInt_19 : decode cJ32_makeInt 19 = .ok (.invokestatic 784, 3) := dk_184 3 16 (dk_at dksJ32_makeInt_0 19 rfl rfl)
theorem dJ32_makeInt_22 : decode cJ32_makeInt 22 = .ok (.ishl, 1) := dk_120 (dk_at dksJ32_makeInt_0 22 rfl rfl)
theorem dJ32_makeInt_23 : decode cJ32_makeInt 23 = .ok (.ior, 1) := dk_128 (dk_at dksJ32_makeInt_0 23 rfl rfl)
theorem dJ32_makeInt_24 : decode cJ32_makeInt 24 = .ok (.ireturn, 1) := dk_172 (dk_at dksJ32_makeInt_1 0 rfl rfl)
abbrev cJ32_toUnsignedInt : ByteArray := prog_90_method_367_code
def yJ32_toUnsignedInt : MethodName := ⟨RJ32, "toUnsignedInt", "(S)I"⟩
def dkwJ32_toUnsignedInt_0 : List UInt8 := [26, 19, 1, 118, 126, 172]
abbrev dktJ32_toUnsignedInt_0 : List UInt8 := dkwJ32_toUnsignedInt_0 ++ []
theorem dksJ32_toUnsignedInt_0 : cJ32_toUnsignedInt.data.toList.drop 0 = dktJ32_toUnsignedInt_0 := by decide +kernel
theorem dJ32_toUnsignedInt_0 : decode cJ32_toUnsignedInt 0 = .ok (.iload_n 0, 1) := dk_26 (dk_at dksJ32_toUnsignedInt_0 0 rfl rfl)
theorem dJ32_toUnsignedInt_1 : decode cJ32_toUnsignedInt 1 = .ok (.ldc_w 374, 3) := dk_19 1 118 (dk_at dksJ32_toUnsignedInt_0 1 rfl rfl)
theorem dJ32_toUnsignedInt_4 : decode cJ32_toUnsignedInt 4 = .ok (.iand, 1) := dk_126 (dk_at dksJ32_toUnsignedInt_0 4 rfl rfl)
theorem dJ32_toUnsignedInt_5 : decode cJ32_toUnsignedInt 5 = .ok (.ireturn, 1) := dk_172 (dk_at dksJ32_toUnsignedInt_0 5 rfl rfl)
abbrev cJ32_makeInt_2 : ByteArray := prog_90_method_355_code
def yJ32_makeInt_2 : MethodName := ⟨RJ32, "makeInt", "(BBBB)I"⟩
def dkwJ32_makeInt_2_2 : List UInt8 := [120, 128, 172]
abbrev dktJ32_makeInt_2_2 : List UInt8 := dkwJ32_makeInt_2_2 ++ []
def dkwJ32_makeInt_2_1 : List UInt8 := [28, 184, 3, 28, 16, 24, 16, 16, 184, 3, 16, 120, 128, 29, 184, 3, 28, 16, 24, 16, 24, 184, 3, 16]
abbrev dktJ32_makeInt_2_1 : List UInt8 := dkwJ32_makeInt_2_1 ++ dktJ32_makeInt_2_2
def dkwJ32_makeInt_2_0 : List UInt8 := [26, 184, 3, 28, 16, 24, 3, 184, 3, 16, 120, 27, 184, 3, 28, 16, 24, 16, 8, 184, 3, 16, 120, 128]
abbrev dktJ32_makeInt_2_0 : List UInt8 := dkwJ32_makeInt_2_0 ++ dktJ32_makeInt_2_1
theorem dksJ32_makeInt_2_0 : cJ32_makeInt_2.data.toList.drop 0 = dktJ32_makeInt_2_0 := by decide +kernel
theorem dksJ32_makeInt_2_1 : cJ32_makeInt_2.data.toList.drop 24 = dktJ32_makeInt_2_1 := dk_seg dksJ32_makeInt_2_0 24 rfl rfl
theorem dksJ32_makeInt_2_2 : cJ32_makeInt_2.data.toList.drop 48 = dktJ32_makeInt_2_2 := dk_seg dksJ32_makeInt_2_1 24 rfl rfl
theorem dJ32_makeInt_2_0 : decode cJ32_makeInt_2 0 = .ok (.iload_n 0, 1) := dk_26 (dk_at dksJ32_makeInt_2_0 0 rfl rfl)
theorem dJ32_makeInt_2_1 : decode cJ32_makeInt_2 1 = .ok (.invokestatic 796, 3) := dk_184 3 28 (dk_at dksJ32_makeInt_2_0 1 rfl rfl)
theorem dJ32_makeInt_2_4 : decode cJ32_makeInt_2 4 = .ok (.bipush 24, 2) := dk_16 24 (dk_at dksJ32_makeInt_2_0 4 rfl rfl)
theorem dJ32_makeInt_2_6 : decode cJ32_makeInt_2 6 = .ok (.iconst 0, 1) := dk_3 (dk_at dksJ32_makeInt_2_0 6 rfl rfl)
theorem dJ32_makeInt_2_7 : decode cJ32_makeInt_2 7 = .ok (.invokestatic 784, 3) := dk_184 3 16 (dk_at dksJ32_makeInt_2_0 7 rfl rfl)
theorem dJ32_makeInt_2_10 : decode cJ32_makeInt_2 10 = .ok (.ishl, 1) := dk_120 (dk_at dksJ32_makeInt_2_0 10 rfl rfl)
theorem dJ32_makeInt_2_11 : decode cJ32_makeInt_2 11 = .ok (.iload_n 1, 1) := dk_27 (dk_at dksJ32_makeInt_2_0 11 rfl rfl)
theorem dJ32_makeInt_2_12 : decode cJ32_makeInt_2 12 = .ok (.invokestatic 796, 3) := dk_184 3 28 (dk_at dksJ32_makeInt_2_0 12 rfl rfl)
theorem dJ32_makeInt_2_15 : decode cJ32_makeInt_2 15 = .ok (.bipush 24, 2) := dk_16 24 (dk_at dksJ32_makeInt_2_0 15 rfl rfl)
theorem dJ32_makeInt_2_17 : decode cJ32_makeInt_2 17 = .ok (.bipush 8, 2) := dk_16 8 (dk_at dksJ32_makeInt_2_0 17 rfl rfl)
theorem dJ32_makeInt_2_19 : decode cJ32_makeInt_2 19 = .ok (.invokestatic 784, 3) := dk_184 3 16 (dk_at dksJ32_makeInt_2_0 19 rfl rfl)
theorem dJ32_makeInt_2_22 : decode cJ32_makeInt_2 22 = .ok (.ishl, 1) := dk_120 (dk_at dksJ32_makeInt_2_0 22 rfl rfl)
theorem dJ32_makeInt_2_23 : decode cJ32_makeInt_2 23 = .ok (.ior, 1) := dk_128 (dk_at dksJ32_makeInt_2_0 23 rfl rfl)
theorem dJ32_makeInt_2_24 : decode cJ32_makeInt_2 24 = .ok (.iload_n 2, 1) := dk_28 (dk_at dksJ32_makeInt_2_1 0 rfl rfl)
theorem dJ32_makeInt_2_25 : decode cJ32_makeInt_2 25 = .ok (.invokestatic 796, 3) := dk_184 3 28 (dk_at dksJ32_makeInt_2_1 1 rfl rfl)
theorem dJ32_makeInt_2_28 : decode cJ32_makeInt_2 28 = .ok (.bipush 24, 2) := dk_16 24 (dk_at dksJ32_makeInt_2_1 4 rfl rfl)
theorem dJ32_makeInt_2_30 : decode cJ32_makeInt_2 30 = .ok (.bipush 16, 2) := dk_16 16 (dk_at dksJ32_makeInt_2_1 6 rfl rfl)
theorem dJ32_makeInt_2_32 : decode cJ32_makeInt_2 32 = .ok (.invokestatic 784, 3) := dk_184 3 16 (dk_at dksJ32_makeInt_2_1 8 rfl rfl)
theorem dJ32_makeInt_2_35 : decode cJ32_makeInt_2 35 = .ok (.ishl, 1) := dk_120 (dk_at dksJ32_makeInt_2_1 11 rfl rfl)
theorem dJ32_makeInt_2_36 : decode cJ32_makeInt_2 36 = .ok (.ior, 1) := dk_128 (dk_at dksJ32_makeInt_2_1 12 rfl rfl)
theorem dJ32_makeInt_2_37 : decode cJ32_makeInt_2 37 = .ok (.iload_n 3, 1) := dk_29 (dk_at dksJ32_makeInt_2_1 13 rfl rfl)
theorem dJ32_makeInt_2_38 : decode cJ32_makeInt_2 38 = .ok (.invokestatic 796, 3) := dk_184 3 28 (dk_at dksJ32_makeInt_2_1 14 rfl rfl)
theorem dJ32_makeInt_2_41 : decode cJ32_makeInt_2 41 = .ok (.bipush 24, 2) := dk_16 24 (dk_at dksJ32_makeInt_2_1 17 rfl rfl)
theorem dJ32_makeInt_2_43 : decode cJ32_makeInt_2 43 = .ok (.bipush 24, 2) := dk_16 24 (dk_at dksJ32_makeInt_2_1 19 rfl rfl)
theorem dJ32_makeInt_2_45 : decode cJ32_makeInt_2 45 = .ok (.invokestatic 784, 3) := dk_184 3 16 (dk_at dksJ32_makeInt_2_1 21 rfl rfl)
theorem dJ32_makeInt_2_48 : decode cJ32_makeInt_2 48 = .ok (.ishl, 1) := dk_120 (dk_at dksJ32_makeInt_2_2 0 rfl rfl)
theorem dJ32_makeInt_2_49 : decode cJ32_makeInt_2 49 = .ok (.ior, 1) := dk_128 (dk_at dksJ32_makeInt_2_2 1 rfl rfl)
theorem dJ32_makeInt_2_50 : decode cJ32_makeInt_2 50 = .ok (.ireturn, 1) := dk_172 (dk_at dksJ32_makeInt_2_2 2 rfl rfl)
abbrev cJ32_toUnsignedInt_2 : ByteArray := prog_90_method_366_code
def yJ32_toUnsignedInt_2 : MethodName := ⟨RJ32, "toUnsignedInt", "(B)I"⟩
def dkwJ32_toUnsignedInt_2_0 : List UInt8 := [26, 17, 0, 255, 126, 172]
abbrev dktJ32_toUnsignedInt_2_0 : List UInt8 := dkwJ32_toUnsignedInt_2_0 ++ []
theorem dksJ32_toUnsignedInt_2_0 : cJ32_toUnsignedInt_2.data.toList.drop 0 = dktJ32_toUnsignedInt_2_0 := by decide +kernel
theorem dJ32_toUnsignedInt_2_0 : decode cJ32_toUnsignedInt_2 0 = .ok (.iload_n 0, 1) := dk_26 (dk_at dksJ32_toUnsignedInt_2_0 0 rfl rfl)
theorem dJ32_toUnsignedInt_2_1 : decode cJ32_toUnsignedInt_2 1 = .ok (.sipush 255, 3) := dk_17 0 255 (dk_at dksJ32_toUnsignedInt_2_0 1 rfl rfl)
theorem dJ32_toUnsignedInt_2_4 : decode cJ32_toUnsignedInt_2 4 = .ok (.iand, 1) := dk_126 (dk_at dksJ32_toUnsignedInt_2_0 4 rfl rfl)
theorem dJ32_toUnsignedInt_2_5 : decode cJ32_toUnsignedInt_2 5 = .ok (.ireturn, 1) := dk_172 (dk_at dksJ32_toUnsignedInt_2_0 5 rfl rfl)
theorem q163 : (Jvm.Cond.initialized "jdk/internal/misc/Unsafe") ∈ lw_all := lw_g (lw_at lw_m1 41 rfl) rfl
theorem q1014 : (Jvm.Cond.selects "jdk/internal/misc/Unsafe" ({ cls := "java/lang/Object", name := "getClass", desc := "()Ljava/lang/Class;" } : Jvm.MethodName) ({ cls := "java/lang/Object", name := "getClass", desc := "()Ljava/lang/Class;" } : Jvm.MethodName)) ∈ lw_all := lw_g (lw_at lw_m4 172 rfl) rfl
theorem q1580 : (Jvm.Cond.laysStatic "jdk/internal/misc/Unsafe" "ARRAY_BYTE_BASE_OFFSET" "I") ∈ lw_tbl := lw_at lw_m7 18 rfl
theorem q1591 : (Jvm.Cond.instanceMethod ({ cls := "jdk/internal/misc/Unsafe", name := "getLongUnaligned", desc := "(Ljava/lang/Object;J)J" } : Jvm.MethodName)) ∈ lw_all := lw_g (lw_at lw_m7 29 rfl) rfl
theorem q1592 : (Jvm.Cond.selects "jdk/internal/misc/Unsafe" ({ cls := "jdk/internal/misc/Unsafe", name := "getLongUnaligned", desc := "(Ljava/lang/Object;J)J" } : Jvm.MethodName) ({ cls := "jdk/internal/misc/Unsafe", name := "getLongUnaligned", desc := "(Ljava/lang/Object;J)J" } : Jvm.MethodName)) ∈ lw_all := lw_g (lw_at lw_m7 30 rfl) rfl
theorem q1593 : (Jvm.Cond.code ({ cls := "jdk/internal/misc/Unsafe", name := "getLongUnaligned", desc := "(Ljava/lang/Object;J)J" } : Jvm.MethodName) prog_90_method_334_code (4 : Nat) (Option.some Jvm.ClassFile.FieldType.long)) ∈ lw_all := lw_g (lw_at lw_m7 31 rfl) rfl
theorem q1594 : (Jvm.Cond.constantLong "jdk/internal/misc/Unsafe" (696 : Nat) (7 : Int64)) ∈ lw_all := lw_g (lw_at lw_m7 32 rfl) rfl
theorem q1595 : (Jvm.Cond.methodLink "jdk/internal/misc/Unsafe" (27 : Nat) ({ cls := "jdk/internal/misc/Unsafe", name := "getLong", desc := "(Ljava/lang/Object;J)J" } : Jvm.MethodName)) ∈ lw_all := lw_g (lw_at lw_m7 33 rfl) rfl
theorem q1596 : (Jvm.Cond.instanceMethod ({ cls := "jdk/internal/misc/Unsafe", name := "getLong", desc := "(Ljava/lang/Object;J)J" } : Jvm.MethodName)) ∈ lw_all := lw_g (lw_at lw_m7 34 rfl) rfl
theorem q1597 : (Jvm.Cond.selects "jdk/internal/misc/Unsafe" ({ cls := "jdk/internal/misc/Unsafe", name := "getLong", desc := "(Ljava/lang/Object;J)J" } : Jvm.MethodName) ({ cls := "jdk/internal/misc/Unsafe", name := "getLong", desc := "(Ljava/lang/Object;J)J" } : Jvm.MethodName)) ∈ lw_all := lw_g (lw_at lw_m7 35 rfl) rfl
theorem q1598 : (Jvm.Cond.native ({ cls := "jdk/internal/misc/Unsafe", name := "getLong", desc := "(Ljava/lang/Object;J)J" } : Jvm.MethodName)) ∈ lw_all := lw_g (lw_at lw_m7 36 rfl) rfl
theorem q1599 : (Jvm.Cond.constantLong "jdk/internal/misc/Unsafe" (349 : Nat) (3 : Int64)) ∈ lw_all := lw_g (lw_at lw_m7 37 rfl) rfl
theorem q1600 : (Jvm.Cond.methodLink "jdk/internal/misc/Unsafe" (17 : Nat) ({ cls := "jdk/internal/misc/Unsafe", name := "getInt", desc := "(Ljava/lang/Object;J)I" } : Jvm.MethodName)) ∈ lw_all := lw_g (lw_at lw_m7 38 rfl) rfl
theorem q1601 : (Jvm.Cond.instanceMethod ({ cls := "jdk/internal/misc/Unsafe", name := "getInt", desc := "(Ljava/lang/Object;J)I" } : Jvm.MethodName)) ∈ lw_all := lw_g (lw_at lw_m7 39 rfl) rfl
theorem q1602 : (Jvm.Cond.selects "jdk/internal/misc/Unsafe" ({ cls := "jdk/internal/misc/Unsafe", name := "getInt", desc := "(Ljava/lang/Object;J)I" } : Jvm.MethodName) ({ cls := "jdk/internal/misc/Unsafe", name := "getInt", desc := "(Ljava/lang/Object;J)I" } : Jvm.MethodName)) ∈ lw_all := lw_g (lw_at lw_m7 40 rfl) rfl
theorem q1603 : (Jvm.Cond.native ({ cls := "jdk/internal/misc/Unsafe", name := "getInt", desc := "(Ljava/lang/Object;J)I" } : Jvm.MethodName)) ∈ lw_all := lw_g (lw_at lw_m7 41 rfl) rfl
theorem q1604 : (Jvm.Cond.constantLong "jdk/internal/misc/Unsafe" (205 : Nat) (4 : Int64)) ∈ lw_all := lw_g (lw_at lw_m7 42 rfl) rfl
theorem q1605 : (Jvm.Cond.methodLink "jdk/internal/misc/Unsafe" (698 : Nat) ({ cls := "jdk/internal/misc/Unsafe", name := "makeLong", desc := "(II)J" } : Jvm.MethodName)) ∈ lw_all := lw_g (lw_at lw_m7 43 rfl) rfl
theorem q1606 : (Jvm.Cond.static ({ cls := "jdk/internal/misc/Unsafe", name := "makeLong", desc := "(II)J" } : Jvm.MethodName)) ∈ lw_all := lw_g (lw_at lw_m7 44 rfl) rfl
theorem q1607 : (Jvm.Cond.code ({ cls := "jdk/internal/misc/Unsafe", name := "makeLong", desc := "(II)J" } : Jvm.MethodName) prog_90_method_353_code (2 : Nat) (Option.some Jvm.ClassFile.FieldType.long)) ∈ lw_all := lw_g (lw_at lw_m7 45 rfl) rfl
theorem q1608 : (Jvm.Cond.methodLink "jdk/internal/misc/Unsafe" (791 : Nat) ({ cls := "jdk/internal/misc/Unsafe", name := "toUnsignedLong", desc := "(I)J" } : Jvm.MethodName)) ∈ lw_all := lw_g (lw_at lw_m7 46 rfl) rfl
theorem q1609 : (Jvm.Cond.static ({ cls := "jdk/internal/misc/Unsafe", name := "toUnsignedLong", desc := "(I)J" } : Jvm.MethodName)) ∈ lw_all := lw_g (lw_at lw_m7 47 rfl) rfl
theorem q1610 : (Jvm.Cond.code ({ cls := "jdk/internal/misc/Unsafe", name := "toUnsignedLong", desc := "(I)J" } : Jvm.MethodName) prog_90_method_370_code (1 : Nat) (Option.some Jvm.ClassFile.FieldType.long)) ∈ lw_all := lw_g (lw_at lw_m7 48 rfl) rfl
theorem q1611 : (Jvm.Cond.constantLong "jdk/internal/misc/Unsafe" (812 : Nat) (4294967295 : Int64)) ∈ lw_all := lw_g (lw_at lw_m7 49 rfl) rfl
theorem q1612 : (Jvm.Cond.methodLink "jdk/internal/misc/Unsafe" (784 : Nat) ({ cls := "jdk/internal/misc/Unsafe", name := "pickPos", desc := "(II)I" } : Jvm.MethodName)) ∈ lw_all := lw_g (lw_at lw_m7 50 rfl) rfl
theorem q1613 : (Jvm.Cond.static ({ cls := "jdk/internal/misc/Unsafe", name := "pickPos", desc := "(II)I" } : Jvm.MethodName)) ∈ lw_all := lw_g (lw_at lw_m7 51 rfl) rfl
theorem q1614 : (Jvm.Cond.code ({ cls := "jdk/internal/misc/Unsafe", name := "pickPos", desc := "(II)I" } : Jvm.MethodName) prog_90_method_350_code (2 : Nat) (Option.some Jvm.ClassFile.FieldType.int)) ∈ lw_all := lw_g (lw_at lw_m7 52 rfl) rfl
theorem q1615 : (Jvm.Cond.fieldLink "jdk/internal/misc/Unsafe" (351 : Nat) "jdk/internal/misc/UnsafeConstants" "BIG_ENDIAN" "Z") ∈ lw_all := lw_g (lw_at lw_m7 53 rfl) rfl
theorem q1617 : (Jvm.Cond.methodLink "jdk/internal/misc/Unsafe" (47 : Nat) ({ cls := "jdk/internal/misc/Unsafe", name := "getShort", desc := "(Ljava/lang/Object;J)S" } : Jvm.MethodName)) ∈ lw_all := lw_g (lw_at lw_m7 55 rfl) rfl
theorem q1618 : (Jvm.Cond.instanceMethod ({ cls := "jdk/internal/misc/Unsafe", name := "getShort", desc := "(Ljava/lang/Object;J)S" } : Jvm.MethodName)) ∈ lw_all := lw_g (lw_at lw_m7 56 rfl) rfl
theorem q1619 : (Jvm.Cond.selects "jdk/internal/misc/Unsafe" ({ cls := "jdk/internal/misc/Unsafe", name := "getShort", desc := "(Ljava/lang/Object;J)S" } : Jvm.MethodName) ({ cls := "jdk/internal/misc/Unsafe", name := "getShort", desc := "(Ljava/lang/Object;J)S" } : Jvm.MethodName)) ∈ lw_all := lw_g (lw_at lw_m7 57 rfl) rfl
theorem q1620 : (Jvm.Cond.native ({ cls := "jdk/internal/misc/Unsafe", name := "getShort", desc := "(Ljava/lang/Object;J)S" } : Jvm.MethodName)) ∈ lw_all := lw_g (lw_at lw_m7 58 rfl) rfl
theorem q1621 : (Jvm.Cond.constantLong "jdk/internal/misc/Unsafe" (203 : Nat) (2 : Int64)) ∈ lw_all := lw_g (lw_at lw_m7 59 rfl) rfl
theorem q1622 : (Jvm.Cond.constantLong "jdk/internal/misc/Unsafe" (702 : Nat) (6 : Int64)) ∈ lw_all := lw_g (lw_at lw_m7 60 rfl) rfl
theorem q1623 : (Jvm.Cond.methodLink "jdk/internal/misc/Unsafe" (704 : Nat) ({ cls := "jdk/internal/misc/Unsafe", name := "makeLong", desc := "(SSSS)J" } : Jvm.MethodName)) ∈ lw_all := lw_g (lw_at lw_m7 61 rfl) rfl
theorem q1624 : (Jvm.Cond.static ({ cls := "jdk/internal/misc/Unsafe", name := "makeLong", desc := "(SSSS)J" } : Jvm.MethodName)) ∈ lw_all := lw_g (lw_at lw_m7 62 rfl) rfl
theorem q1625 : (Jvm.Cond.code ({ cls := "jdk/internal/misc/Unsafe", name := "makeLong", desc := "(SSSS)J" } : Jvm.MethodName) prog_90_method_352_code (4 : Nat) (Option.some Jvm.ClassFile.FieldType.long)) ∈ lw_all := lw_g (lw_at lw_m7 63 rfl) rfl
theorem q1626 : (Jvm.Cond.methodLink "jdk/internal/misc/Unsafe" (788 : Nat) ({ cls := "jdk/internal/misc/Unsafe", name := "toUnsignedLong", desc := "(S)J" } : Jvm.MethodName)) ∈ lw_all := lw_g (lw_at lw_m7 64 rfl) rfl
theorem q1627 : (Jvm.Cond.static ({ cls := "jdk/internal/misc/Unsafe", name := "toUnsignedLong", desc := "(S)J" } : Jvm.MethodName)) ∈ lw_all := lw_g (lw_at lw_m7 65 rfl) rfl
theorem q1628 : (Jvm.Cond.code ({ cls := "jdk/internal/misc/Unsafe", name := "toUnsignedLong", desc := "(S)J" } : Jvm.MethodName) prog_90_method_369_code (1 : Nat) (Option.some Jvm.ClassFile.FieldType.long)) ∈ lw_all := lw_g (lw_at lw_m7 66 rfl) rfl
theorem q1629 : (Jvm.Cond.constantLong "jdk/internal/misc/Unsafe" (810 : Nat) (65535 : Int64)) ∈ lw_all := lw_g (lw_at lw_m7 67 rfl) rfl
theorem q1630 : (Jvm.Cond.methodLink "jdk/internal/misc/Unsafe" (39 : Nat) ({ cls := "jdk/internal/misc/Unsafe", name := "getByte", desc := "(Ljava/lang/Object;J)B" } : Jvm.MethodName)) ∈ lw_all := lw_g (lw_at lw_m7 68 rfl) rfl
theorem q1631 : (Jvm.Cond.instanceMethod ({ cls := "jdk/internal/misc/Unsafe", name := "getByte", desc := "(Ljava/lang/Object;J)B" } : Jvm.MethodName)) ∈ lw_all := lw_g (lw_at lw_m7 69 rfl) rfl
theorem q1632 : (Jvm.Cond.selects "jdk/internal/misc/Unsafe" ({ cls := "jdk/internal/misc/Unsafe", name := "getByte", desc := "(Ljava/lang/Object;J)B" } : Jvm.MethodName) ({ cls := "jdk/internal/misc/Unsafe", name := "getByte", desc := "(Ljava/lang/Object;J)B" } : Jvm.MethodName)) ∈ lw_all := lw_g (lw_at lw_m7 70 rfl) rfl
theorem q1633 : (Jvm.Cond.native ({ cls := "jdk/internal/misc/Unsafe", name := "getByte", desc := "(Ljava/lang/Object;J)B" } : Jvm.MethodName)) ∈ lw_all := lw_g (lw_at lw_m7 71 rfl) rfl
theorem q1634 : (Jvm.Cond.constantLong "jdk/internal/misc/Unsafe" (707 : Nat) (5 : Int64)) ∈ lw_all := lw_g (lw_at lw_m7 72 rfl) rfl
theorem q1635 : (Jvm.Cond.methodLink "jdk/internal/misc/Unsafe" (709 : Nat) ({ cls := "jdk/internal/misc/Unsafe", name := "makeLong", desc := "(BBBBBBBB)J" } : Jvm.MethodName)) ∈ lw_all := lw_g (lw_at lw_m7 73 rfl) rfl
theorem q1636 : (Jvm.Cond.static ({ cls := "jdk/internal/misc/Unsafe", name := "makeLong", desc := "(BBBBBBBB)J" } : Jvm.MethodName)) ∈ lw_all := lw_g (lw_at lw_m7 74 rfl) rfl
theorem q1637 : (Jvm.Cond.code ({ cls := "jdk/internal/misc/Unsafe", name := "makeLong", desc := "(BBBBBBBB)J" } : Jvm.MethodName) prog_90_method_351_code (8 : Nat) (Option.some Jvm.ClassFile.FieldType.long)) ∈ lw_all := lw_g (lw_at lw_m7 75 rfl) rfl
theorem q1638 : (Jvm.Cond.methodLink "jdk/internal/misc/Unsafe" (781 : Nat) ({ cls := "jdk/internal/misc/Unsafe", name := "toUnsignedLong", desc := "(B)J" } : Jvm.MethodName)) ∈ lw_all := lw_g (lw_at lw_m7 76 rfl) rfl
theorem q1639 : (Jvm.Cond.static ({ cls := "jdk/internal/misc/Unsafe", name := "toUnsignedLong", desc := "(B)J" } : Jvm.MethodName)) ∈ lw_all := lw_g (lw_at lw_m7 77 rfl) rfl
theorem q1640 : (Jvm.Cond.code ({ cls := "jdk/internal/misc/Unsafe", name := "toUnsignedLong", desc := "(B)J" } : Jvm.MethodName) prog_90_method_368_code (1 : Nat) (Option.some Jvm.ClassFile.FieldType.long)) ∈ lw_all := lw_g (lw_at lw_m7 78 rfl) rfl
theorem q1641 : (Jvm.Cond.constantLong "jdk/internal/misc/Unsafe" (808 : Nat) (255 : Int64)) ∈ lw_all := lw_g (lw_at lw_m7 79 rfl) rfl
theorem q1656 : (Jvm.Cond.instanceMethod ({ cls := "jdk/internal/misc/Unsafe", name := "getIntUnaligned", desc := "(Ljava/lang/Object;J)I" } : Jvm.MethodName)) ∈ lw_all := lw_g (lw_at lw_m7 94 rfl) rfl
theorem q1657 : (Jvm.Cond.selects "jdk/internal/misc/Unsafe" ({ cls := "jdk/internal/misc/Unsafe", name := "getIntUnaligned", desc := "(Ljava/lang/Object;J)I" } : Jvm.MethodName) ({ cls := "jdk/internal/misc/Unsafe", name := "getIntUnaligned", desc := "(Ljava/lang/Object;J)I" } : Jvm.MethodName)) ∈ lw_all := lw_g (lw_at lw_m7 95 rfl) rfl
theorem q1658 : (Jvm.Cond.code ({ cls := "jdk/internal/misc/Unsafe", name := "getIntUnaligned", desc := "(Ljava/lang/Object;J)I" } : Jvm.MethodName) prog_90_method_336_code (4 : Nat) (Option.some Jvm.ClassFile.FieldType.int)) ∈ lw_all := lw_g (lw_at lw_m7 96 rfl) rfl
theorem q1659 : (Jvm.Cond.methodLink "jdk/internal/misc/Unsafe" (719 : Nat) ({ cls := "jdk/internal/misc/Unsafe", name := "makeInt", desc := "(SS)I" } : Jvm.MethodName)) ∈ lw_all := lw_g (lw_at lw_m7 97 rfl) rfl
theorem q1660 : (Jvm.Cond.static ({ cls := "jdk/internal/misc/Unsafe", name := "makeInt", desc := "(SS)I" } : Jvm.MethodName)) ∈ lw_all := lw_g (lw_at lw_m7 98 rfl) rfl
theorem q1661 : (Jvm.Cond.code ({ cls := "jdk/internal/misc/Unsafe", name := "makeInt", desc := "(SS)I" } : Jvm.MethodName) prog_90_method_354_code (2 : Nat) (Option.some Jvm.ClassFile.FieldType.int)) ∈ lw_all := lw_g (lw_at lw_m7 99 rfl) rfl
theorem q1662 : (Jvm.Cond.methodLink "jdk/internal/misc/Unsafe" (792 : Nat) ({ cls := "jdk/internal/misc/Unsafe", name := "toUnsignedInt", desc := "(S)I" } : Jvm.MethodName)) ∈ lw_all := lw_g (lw_at lw_m7 100 rfl) rfl
theorem q1663 : (Jvm.Cond.static ({ cls := "jdk/internal/misc/Unsafe", name := "toUnsignedInt", desc := "(S)I" } : Jvm.MethodName)) ∈ lw_all := lw_g (lw_at lw_m7 101 rfl) rfl
theorem q1664 : (Jvm.Cond.code ({ cls := "jdk/internal/misc/Unsafe", name := "toUnsignedInt", desc := "(S)I" } : Jvm.MethodName) prog_90_method_367_code (1 : Nat) (Option.some Jvm.ClassFile.FieldType.int)) ∈ lw_all := lw_g (lw_at lw_m7 102 rfl) rfl
theorem q1665 : (Jvm.Cond.constant "jdk/internal/misc/Unsafe" (374 : Nat) (65535 : Int32)) ∈ lw_all := lw_g (lw_at lw_m7 103 rfl) rfl
theorem q1666 : (Jvm.Cond.methodLink "jdk/internal/misc/Unsafe" (723 : Nat) ({ cls := "jdk/internal/misc/Unsafe", name := "makeInt", desc := "(BBBB)I" } : Jvm.MethodName)) ∈ lw_all := lw_g (lw_at lw_m7 104 rfl) rfl
theorem q1667 : (Jvm.Cond.static ({ cls := "jdk/internal/misc/Unsafe", name := "makeInt", desc := "(BBBB)I" } : Jvm.MethodName)) ∈ lw_all := lw_g (lw_at lw_m7 105 rfl) rfl
theorem q1668 : (Jvm.Cond.code ({ cls := "jdk/internal/misc/Unsafe", name := "makeInt", desc := "(BBBB)I" } : Jvm.MethodName) prog_90_method_355_code (4 : Nat) (Option.some Jvm.ClassFile.FieldType.int)) ∈ lw_all := lw_g (lw_at lw_m7 106 rfl) rfl
theorem q1669 : (Jvm.Cond.methodLink "jdk/internal/misc/Unsafe" (796 : Nat) ({ cls := "jdk/internal/misc/Unsafe", name := "toUnsignedInt", desc := "(B)I" } : Jvm.MethodName)) ∈ lw_all := lw_g (lw_at lw_m7 107 rfl) rfl
theorem q1670 : (Jvm.Cond.static ({ cls := "jdk/internal/misc/Unsafe", name := "toUnsignedInt", desc := "(B)I" } : Jvm.MethodName)) ∈ lw_all := lw_g (lw_at lw_m7 108 rfl) rfl
theorem q1671 : (Jvm.Cond.code ({ cls := "jdk/internal/misc/Unsafe", name := "toUnsignedInt", desc := "(B)I" } : Jvm.MethodName) prog_90_method_366_code (1 : Nat) (Option.some Jvm.ClassFile.FieldType.int)) ∈ lw_all := lw_g (lw_at lw_m7 109 rfl) rfl
theorem q3692 : (Jvm.Cond.castable "jdk/internal/misc/Unsafe" "java/lang/Object") ∈ lw_tbl := lw_at lw_m15 210 rfl
