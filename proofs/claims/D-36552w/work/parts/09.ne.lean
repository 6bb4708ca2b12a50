/-! java/util/DualPivotQuicksort -/
set_option maxRecDepth 100000
def RJ46 : String := "java/util/DualPivotQuicksort"
abbrev cJ46_sort : ByteArray := prog_66_method_3_code
def yJ46_sort : MethodName := ⟨RJ46, "sort", "([IIII)V"⟩
def dkwJ46_sort_3 : List UInt8 := [29, 184, 0, 26, 177]
abbrev dktJ46_sort_3 : List UInt8 := dkwJ46_sort_3 ++ []
def dkwJ46_sort_2 : List UInt8 := [1, 42, 25, 6, 28, 21, 4, 28, 21, 5, 183, 0, 19, 182, 0, 22, 87, 167, 0, 11, 1, 42, 3, 28]
abbrev dktJ46_sort_2 : List UInt8 := dkwJ46_sort_2 ++ dktJ46_sort_3
def dkwJ46_sort_1 : List UInt8 := [184, 0, 13, 54, 5, 21, 5, 154, 0, 7, 1, 167, 0, 7, 21, 4, 188, 10, 58, 6, 187, 0, 17, 89]
abbrev dktJ46_sort_1 : List UInt8 := dkwJ46_sort_1 ++ dktJ46_sort_2
def dkwJ46_sort_0 : List UInt8 := [29, 28, 100, 54, 4, 27, 4, 164, 0, 61, 21, 4, 17, 16, 0, 164, 0, 53, 27, 21, 4, 16, 12, 122]
abbrev dktJ46_sort_0 : List UInt8 := dkwJ46_sort_0 ++ dktJ46_sort_1
theorem dksJ46_sort_0 : cJ46_sort.data.toList.drop 0 = dktJ46_sort_0 := by decide +kernel
theorem dksJ46_sort_1 : cJ46_sort.data.toList.drop 24 = dktJ46_sort_1 := dk_seg dksJ46_sort_0 24 rfl rfl
theorem dksJ46_sort_2 : cJ46_sort.data.toList.drop 48 = dktJ46_sort_2 := dk_seg dksJ46_sort_1 24 rfl rfl
theorem dksJ46_sort_3 : cJ46_sort.data.toList.drop 72 = dktJ46_sort_3 := dk_seg dksJ46_sort_2 24 rfl rfl
theorem dJ46_sort_0 : decode cJ46_sort 0 = .ok (.iload_n 3, 1) := dk_29 (dk_at dksJ46_sort_0 0 rfl rfl)
theorem dJ46_sort_1 : decode cJ46_sort 1 = .ok (.iload_n 2, 1) := dk_28 (dk_at dksJ46_sort_0 1 rfl rfl)
theorem dJ46_sort_2 : decode cJ46_sort 2 = .ok (.isub, 1) := dk_100 (dk_at dksJ46_sort_0 2 rfl rfl)
theorem dJ46_sort_3 : decode cJ46_sort 3 = .ok (.istore 4, 2) := dk_54 4 (dk_at dksJ46_sort_0 3 rfl rfl)
theorem dJ46_sort_5 : decode cJ46_sort 5 = .ok (.iload_n 1, 1) := dk_27 (dk_at dksJ46_sort_0 5 rfl rfl)
theorem dJ46_sort_6 : decode cJ46_sort 6 = .ok (.iconst 1, 1) := dk_4 (dk_at dksJ46_sort_0 6 rfl rfl)
theorem dJ46_sort_7 : decode cJ46_sort 7 = .ok (.if_icmp .le 61, 3) := dk_164 0 61 (dk_at dksJ46_sort_0 7 rfl rfl)
theorem dJ46_sort_10 : decode cJ46_sort 10 = .ok (.iload 4, 2) := dk_21 4 (dk_at dksJ46_sort_0 10 rfl rfl)
theorem dJ46_sort_12 : decode cJ46_sort 12 = .ok (.sipush 4096, 3) := dk_17 16 0 (dk_at dksJ46_sort_0 12 rfl rfl)
theorem dJ46_sort_15 : decode cJ46_sort 15 = .ok (.if_icmp .le 53, 3) := dk_164 0 53 (dk_at dksJ46_sort_0 15 rfl rfl)
theorem dJ46_sort_18 : decode cJ46_sort 18 = .ok (.iload_n 1, 1) := dk_27 (dk_at dksJ46_sort_0 18 rfl rfl)
theorem dJ46_sort_19 : decode cJ46_sort 19 = .ok (.iload 4, 2) := dk_21 4 (dk_at dksJ46_sort_0 19 rfl rfl)
theorem dJ46_sort_21 : decode cJ46_sort 21 = .ok (.bipush 12, 2) := dk_16 12 (dk_at dksJ46_sort_0 21 rfl rfl)
theorem dJ46_sort_23 : decode cJ46_sort 23 = .ok (.ishr, 1) := dk_122 (dk_at dksJ46_sort_0 23 rfl rfl)
theorem dJ46_sort_24 : decode cJ46_sort 24 = .ok (.invokestatic 13, 3) := dk_184 0 13 (dk_at dksJ46_sort_1 0 rfl rfl)
theorem dJ46_sort_27 : decode cJ46_sort 27 = .ok (.istore 5, 2) := dk_54 5 (dk_at dksJ46_sort_1 3 rfl rfl)
theorem dJ46_sort_29 : decode cJ46_sort 29 = .ok (.iload 5, 2) := dk_21 5 (dk_at dksJ46_sort_1 5 rfl rfl)
theorem dJ46_sort_31 : decode cJ46_sort 31 = .ok (.ifCond .ne 7, 3) := dk_154 0 7 (dk_at dksJ46_sort_1 7 rfl rfl)
theorem dJ46_sort_34 : decode cJ46_sort 34 = .ok (.aconst_null, 1) := dk_1 (dk_at dksJ46_sort_1 10 rfl rfl)
theorem dJ46_sort_35 : decode cJ46_sort 35 = .ok (.goto 7, 3) := dk_167 0 7 (dk_at dksJ46_sort_1 11 rfl rfl)
theorem dJ46_sort_38 : decode cJ46_sort 38 = .ok (.iload 4, 2) := dk_21 4 (dk_at dksJ46_sort_1 14 rfl rfl)
theorem dJ46_sort_40 : decode cJ46_sort 40 = .ok (.newarray .int, 2) := dk_188_10 (dk_at dksJ46_sort_1 16 rfl rfl)
theorem dJ46_sort_42 : decode cJ46_sort 42 = .ok (.astore 6, 2) := dk_58 6 (dk_at dksJ46_sort_1 18 rfl rfl)
theorem dJ46_sort_44 : decode cJ46_sort 44 = .ok (.new 17, 3) := dk_187 0 17 (dk_at dksJ46_sort_1 20 rfl rfl)
theorem dJ46_sort_47 : decode cJ46_sort 47 = .ok (.dup, 1) := dk_89 (dk_at dksJ46_sort_1 23 rfl rfl)
theorem dJ46_sort_48 : decode cJ46_sort 48 = .ok (.aconst_null, 1) := dk_1 (dk_at dksJ46_sort_2 0 rfl rfl)
theorem dJ46_sort_49 : decode cJ46_sort 49 = .ok (.aload_n 0, 1) := dk_42 (dk_at dksJ46_sort_2 1 rfl rfl)
theorem dJ46_sort_50 : decode cJ46_sort 50 = .ok (.aload 6, 2) := dk_25 6 (dk_at dksJ46_sort_2 2 rfl rfl)
theorem dJ46_sort_52 : decode cJ46_sort 52 = .ok (.iload_n 2, 1) := dk_28 (dk_at dksJ46_sort_2 4 rfl rfl)
theorem dJ46_sort_53 : decode cJ46_sort 53 = .ok (.iload 4, 2) := dk_21 4 (dk_at dksJ46_sort_2 5 rfl rfl)
theorem dJ46_sort_55 : decode cJ46_sort 55 = .ok (.iload_n 2, 1) := dk_28 (dk_at dksJ46_sort_2 7 rfl rfl)
theorem dJ46_sort_56 : decode cJ46_sort 56 = .ok (.iload 5, 2) := dk_21 5 (dk_at dksJ46_sort_2 8 rfl rfl)
theorem dJ46_sort_58 : decode cJ46_sort 58 = .ok (.invokespecial 19, 3) := dk_183 0 19 (dk_at dksJ46_sort_2 10 rfl rfl)
theorem dJ46_sort_61 : decode cJ46_sort 61 = .ok (.invokevirtual 22, 3) := dk_182 0 22 (dk_at dksJ46_sort_2 13 rfl rfl)
theorem dJ46_sort_64 : decode cJ46_sort 64 = .ok (.pop, 1) := dk_87 (dk_at dksJ46_sort_2 16 rfl rfl)
theorem dJ46_sort_65 : decode cJ46_sort 65 = .ok (.goto 11, 3) := dk_167 0 11 (dk_at dksJ46_sort_2 17 rfl rfl)
theorem dJ46_sort_68 : decode cJ46_sort 68 = .ok (.aconst_null, 1) := dk_1 (dk_at dksJ46_sort_2 20 rfl rfl)
theorem dJ46_sort_69 : decode cJ46_sort 69 = .ok (.aload_n 0, 1) := dk_42 (dk_at dksJ46_sort_2 21 rfl rfl)
theorem dJ46_sort_70 : decode cJ46_sort 70 = .ok (.iconst 0, 1) := dk_3 (dk_at dksJ46_sort_2 22 rfl rfl)
theorem dJ46_sort_71 : decode cJ46_sort 71 = .ok (.iload_n 2, 1) := dk_28 (dk_at dksJ46_sort_2 23 rfl rfl)
theorem dJ46_sort_72 : decode cJ46_sort 72 = .ok (.iload_n 3, 1) := dk_29 (dk_at dksJ46_sort_3 0 rfl rfl)
theorem dJ46_sort_73 : decode cJ46_sort 73 = .ok (.invokestatic 26, 3) := dk_184 0 26 (dk_at dksJ46_sort_3 1 rfl rfl)
theorem dJ46_sort_76 : decode cJ46_sort 76 = .ok (.return_, 1) := dk_177 (dk_at dksJ46_sort_3 4 rfl rfl)
abbrev cJ46_sort_2 : ByteArray := prog_66_method_4_code
def yJ46_sort_2 : MethodName := ⟨RJ46, "sort", "(Ljava/util/DualPivotQuicksort$Sorter;[IIII)V"⟩
def dkwJ46_sort_2_40 : List UInt8 := [21, 14, 54, 4, 167, 252, 80]
abbrev dktJ46_sort_2_40 : List UInt8 := dkwJ46_sort_2_40 ++ []
def dkwJ46_sort_2_39 : List UInt8 := [4, 128, 21, 15, 21, 4, 182, 0, 45, 167, 0, 15, 42, 43, 28, 4, 128, 21, 15, 21, 4, 184, 0, 26]
abbrev dktJ46_sort_2_39 : List UInt8 := dkwJ46_sort_2_39 ++ dktJ46_sort_2_40
def dkwJ46_sort_2_38 : List UInt8 := [21, 14, 46, 79, 43, 21, 14, 21, 16, 79, 21, 6, 17, 16, 0, 164, 0, 21, 42, 198, 0, 17, 42, 28]
abbrev dktJ46_sort_2_38 : List UInt8 := dkwJ46_sort_2_38 ++ dktJ46_sort_2_39
def dkwJ46_sort_2_37 : List UInt8 := [21, 14, 21, 18, 79, 167, 0, 12, 43, 132, 15, 255, 21, 15, 21, 18, 79, 167, 255, 167, 43, 29, 43]
abbrev dktJ46_sort_2_37 : List UInt8 := dkwJ46_sort_2_37 ++ dktJ46_sort_2_38
def dkwJ46_sort_2_36 : List UInt8 := [167, 255, 244, 43, 21, 14, 46, 21, 16, 164, 0, 14, 43, 132, 15, 255, 21, 15, 43, 21, 14, 46, 79, 43]
abbrev dktJ46_sort_2_36 : List UInt8 := dkwJ46_sort_2_36 ++ dktJ46_sort_2_37
def dkwJ46_sort_2_35 : List UInt8 := [21, 16, 79, 21, 18, 21, 16, 162, 0, 47, 43, 132, 14, 1, 21, 14, 46, 21, 16, 162, 0, 6]
abbrev dktJ46_sort_2_35 : List UInt8 := dkwJ46_sort_2_35 ++ dktJ46_sort_2_36
def dkwJ46_sort_2_34 : List UInt8 := [21, 17, 21, 14, 164, 0, 85, 43, 21, 17, 46, 54, 18, 21, 18, 21, 16, 159, 0, 69, 43, 21, 17]
abbrev dktJ46_sort_2_34 : List UInt8 := dkwJ46_sort_2_34 ++ dktJ46_sort_2_35
def dkwJ46_sort_2_33 : List UInt8 := [21, 10, 46, 54, 16, 43, 21, 10, 43, 21, 14, 46, 79, 132, 15, 1, 21, 15, 54, 17, 132, 17, 255]
abbrev dktJ46_sort_2_33 : List UInt8 := dkwJ46_sort_2_33 ++ dktJ46_sort_2_34
def dkwJ46_sort_2_32 : List UInt8 := [21, 15, 184, 0, 26, 42, 43, 28, 4, 128, 21, 15, 4, 96, 21, 4, 184, 0, 26, 167, 0, 167, 43]
abbrev dktJ46_sort_2_32 : List UInt8 := dkwJ46_sort_2_32 ++ dktJ46_sort_2_33
def dkwJ46_sort_2_31 : List UInt8 := [28, 4, 128, 21, 15, 4, 96, 21, 4, 182, 0, 45, 167, 0, 31, 42, 43, 28, 4, 128, 21, 14, 4, 96]
abbrev dktJ46_sort_2_31 : List UInt8 := dkwJ46_sort_2_31 ++ dktJ46_sort_2_32
def dkwJ46_sort_2_30 : List UInt8 := [17, 16, 0, 164, 0, 36, 42, 198, 0, 32, 42, 28, 4, 128, 21, 14, 4, 96, 21, 15, 182, 0, 45, 42]
abbrev dktJ46_sort_2_30 : List UInt8 := dkwJ46_sort_2_30 ++ dktJ46_sort_2_31
def dkwJ46_sort_2_29 : List UInt8 := [46, 79, 43, 21, 14, 21, 16, 79, 43, 21, 5, 43, 21, 15, 46, 79, 43, 21, 15, 21, 17, 79, 21, 6]
abbrev dktJ46_sort_2_29 : List UInt8 := dkwJ46_sort_2_29 ++ dktJ46_sort_2_30
def dkwJ46_sort_2_28 : List UInt8 := [21, 19, 43, 132, 15, 255, 21, 15, 46, 79, 43, 21, 15, 21, 20, 79, 167, 255, 142, 43, 29, 43, 21, 14]
abbrev dktJ46_sort_2_28 : List UInt8 := dkwJ46_sort_2_28 ++ dktJ46_sort_2_29
def dkwJ46_sort_2_27 : List UInt8 := [21, 19, 43, 21, 14, 46, 79, 43, 21, 14, 21, 20, 79, 167, 0, 27, 21, 20, 21, 17, 164, 0, 20, 43]
abbrev dktJ46_sort_2_27 : List UInt8 := dkwJ46_sort_2_27 ++ dktJ46_sort_2_28
def dkwJ46_sort_2_26 : List UInt8 := [43, 21, 19, 43, 132, 15, 255, 21, 15, 46, 79, 43, 21, 15, 43, 21, 14, 46, 79, 167, 0, 11, 43]
abbrev dktJ46_sort_2_26 : List UInt8 := dkwJ46_sort_2_26 ++ dktJ46_sort_2_27
def dkwJ46_sort_2_25 : List UInt8 := [162, 0, 87, 43, 132, 14, 1, 21, 14, 46, 21, 16, 161, 255, 240, 43, 21, 14, 46, 21, 17, 164, 0, 25]
abbrev dktJ46_sort_2_25 : List UInt8 := dkwJ46_sort_2_25 ++ dktJ46_sort_2_26
def dkwJ46_sort_2_24 : List UInt8 := [21, 19, 21, 14, 164, 0, 110, 43, 21, 19, 46, 54, 20, 21, 20, 21, 16, 162, 0, 70, 21, 14, 21, 19]
abbrev dktJ46_sort_2_24 : List UInt8 := dkwJ46_sort_2_24 ++ dktJ46_sort_2_25
def dkwJ46_sort_2_23 : List UInt8 := [164, 0, 6, 167, 255, 244, 132, 14, 255, 21, 14, 54, 18, 132, 15, 1, 21, 15, 54, 19, 132, 19, 255]
abbrev dktJ46_sort_2_23 : List UInt8 := dkwJ46_sort_2_23 ++ dktJ46_sort_2_24
def dkwJ46_sort_2_22 : List UInt8 := [132, 14, 1, 21, 14, 46, 21, 16, 162, 0, 6, 167, 255, 244, 43, 132, 15, 255, 21, 15, 46, 21, 17]
abbrev dktJ46_sort_2_22 : List UInt8 := dkwJ46_sort_2_22 ++ dktJ46_sort_2_23
def dkwJ46_sort_2_21 : List UInt8 := [21, 9, 46, 54, 17, 43, 21, 8, 43, 21, 14, 46, 79, 43, 21, 9, 43, 21, 15, 46, 79, 43]
abbrev dktJ46_sort_2_21 : List UInt8 := dkwJ46_sort_2_21 ++ dktJ46_sort_2_22
def dkwJ46_sort_2_20 : List UInt8 := [21, 12, 46, 162, 1, 46, 43, 21, 12, 46, 43, 21, 9, 46, 162, 1, 35, 43, 21, 8, 46, 54, 16, 43]
abbrev dktJ46_sort_2_20 : List UInt8 := dkwJ46_sort_2_20 ++ dktJ46_sort_2_21
def dkwJ46_sort_2_19 : List UInt8 := [43, 21, 11, 46, 162, 1, 68, 43, 21, 11, 46, 43, 21, 10, 46, 162, 1, 57, 43, 21, 10, 46, 43]
abbrev dktJ46_sort_2_19 : List UInt8 := dkwJ46_sort_2_19 ++ dktJ46_sort_2_20
def dkwJ46_sort_2_18 : List UInt8 := [21, 10, 43, 21, 12, 46, 79, 43, 21, 12, 21, 13, 79, 29, 54, 14, 21, 5, 54, 15, 43, 21, 8, 46]
abbrev dktJ46_sort_2_18 : List UInt8 := dkwJ46_sort_2_18 ++ dktJ46_sort_2_19
def dkwJ46_sort_2_17 : List UInt8 := [43, 21, 12, 46, 79, 43, 21, 12, 43, 21, 9, 46, 79, 43, 21, 9, 21, 13, 79, 167, 0, 17, 43]
abbrev dktJ46_sort_2_17 : List UInt8 := dkwJ46_sort_2_17 ++ dktJ46_sort_2_18
def dkwJ46_sort_2_16 : List UInt8 := [167, 0, 60, 21, 13, 43, 21, 12, 46, 164, 0, 51, 21, 13, 43, 21, 9, 46, 164, 0, 28, 43, 21, 10]
abbrev dktJ46_sort_2_16 : List UInt8 := dkwJ46_sort_2_16 ++ dktJ46_sort_2_17
def dkwJ46_sort_2_15 : List UInt8 := [21, 8, 21, 13, 79, 167, 0, 77, 43, 21, 10, 43, 21, 11, 46, 79, 43, 21, 11, 21, 13, 79]
abbrev dktJ46_sort_2_15 : List UInt8 := dkwJ46_sort_2_15 ++ dktJ46_sort_2_16
def dkwJ46_sort_2_14 : List UInt8 := [43, 21, 8, 46, 162, 0, 28, 43, 21, 10, 43, 21, 11, 46, 79, 43, 21, 11, 43, 21, 8, 46, 79, 43]
abbrev dktJ46_sort_2_14 : List UInt8 := dkwJ46_sort_2_14 ++ dktJ46_sort_2_15
def dkwJ46_sort_2_13 : List UInt8 := [21, 12, 43, 21, 11, 46, 79, 43, 21, 11, 21, 14, 79, 21, 13, 43, 21, 11, 46, 162, 0, 54, 21, 13]
abbrev dktJ46_sort_2_13 : List UInt8 := dkwJ46_sort_2_13 ++ dktJ46_sort_2_14
def dkwJ46_sort_2_12 : List UInt8 := [43, 21, 8, 21, 14, 79, 43, 21, 12, 46, 43, 21, 11, 46, 162, 0, 23, 43, 21, 12, 46, 54, 14, 43]
abbrev dktJ46_sort_2_12 : List UInt8 := dkwJ46_sort_2_12 ++ dktJ46_sort_2_13
def dkwJ46_sort_2_11 : List UInt8 := [21, 11, 46, 43, 21, 8, 46, 162, 0, 23, 43, 21, 11, 46, 54, 14, 43, 21, 11, 43, 21, 8, 46, 79]
abbrev dktJ46_sort_2_11 : List UInt8 := dkwJ46_sort_2_11 ++ dktJ46_sort_2_12
def dkwJ46_sort_2_10 : List UInt8 := [162, 0, 23, 43, 21, 9, 46, 54, 14, 43, 21, 9, 43, 21, 12, 46, 79, 43, 21, 12, 21, 14, 79, 43]
abbrev dktJ46_sort_2_10 : List UInt8 := dkwJ46_sort_2_10 ++ dktJ46_sort_2_11
def dkwJ46_sort_2_9 : List UInt8 := [43, 21, 12, 43, 21, 8, 46, 79, 43, 21, 8, 21, 14, 79, 43, 21, 9, 46, 43, 21, 12, 46]
abbrev dktJ46_sort_2_9 : List UInt8 := dkwJ46_sort_2_9 ++ dktJ46_sort_2_10
def dkwJ46_sort_2_8 : List UInt8 := [79, 43, 21, 11, 21, 14, 79, 43, 21, 12, 46, 43, 21, 8, 46, 162, 0, 23, 43, 21, 12, 46, 54, 14]
abbrev dktJ46_sort_2_8 : List UInt8 := dkwJ46_sort_2_8 ++ dktJ46_sort_2_9
def dkwJ46_sort_2_7 : List UInt8 := [43, 21, 9, 46, 43, 21, 11, 46, 162, 0, 23, 43, 21, 9, 46, 54, 14, 43, 21, 9, 43, 21, 11, 46]
abbrev dktJ46_sort_2_7 : List UInt8 := dkwJ46_sort_2_7 ++ dktJ46_sort_2_8
def dkwJ46_sort_2_6 : List UInt8 := [21, 8, 21, 10, 96, 4, 124, 54, 11, 21, 10, 21, 9, 96, 4, 124, 54, 12, 43, 21, 10, 46, 54, 13]
abbrev dktJ46_sort_2_6 : List UInt8 := dkwJ46_sort_2_6 ++ dktJ46_sort_2_7
def dkwJ46_sort_2_5 : List UInt8 := [54, 7, 29, 21, 7, 96, 54, 8, 21, 5, 21, 7, 100, 54, 9, 21, 8, 21, 9, 96, 4, 124, 54, 10]
abbrev dktJ46_sort_2_5 : List UInt8 := dkwJ46_sort_2_5 ++ dktJ46_sort_2_6
def dkwJ46_sort_2_4 : List UInt8 := [28, 17, 1, 128, 164, 0, 11, 43, 29, 21, 4, 184, 0, 42, 177, 21, 6, 6, 122, 6, 104, 6, 96]
abbrev dktJ46_sort_2_4 : List UInt8 := dkwJ46_sort_2_4 ++ dktJ46_sort_2_5
def dkwJ46_sort_2_3 : List UInt8 := [164, 0, 21, 28, 4, 126, 158, 0, 15, 42, 43, 29, 21, 6, 184, 0, 38, 153, 0, 4, 177, 132, 2, 6]
abbrev dktJ46_sort_2_3 : List UInt8 := dkwJ46_sort_2_3 ++ dktJ46_sort_2_4
def dkwJ46_sort_2_2 : List UInt8 := [16, 44, 162, 0, 11, 43, 29, 21, 4, 184, 0, 34, 177, 28, 153, 0, 17, 21, 6, 17, 16, 0]
abbrev dktJ46_sort_2_2 : List UInt8 := dkwJ46_sort_2_2 ++ dktJ46_sort_2_3
def dkwJ46_sort_2_1 : List UInt8 := [158, 0, 22, 43, 29, 21, 4, 6, 21, 6, 8, 122, 6, 120, 104, 100, 21, 4, 184, 0, 30, 177, 21, 6]
abbrev dktJ46_sort_2_1 : List UInt8 := dkwJ46_sort_2_1 ++ dktJ46_sort_2_2
def dkwJ46_sort_2_0 : List UInt8 := [21, 4, 4, 100, 54, 5, 21, 4, 29, 100, 54, 6, 21, 6, 16, 65, 28, 96, 162, 0, 28, 28, 4, 126]
abbrev dktJ46_sort_2_0 : List UInt8 := dkwJ46_sort_2_0 ++ dktJ46_sort_2_1
theorem dksJ46_sort_2_0 : cJ46_sort_2.data.toList.drop 0 = dktJ46_sort_2_0 := by decide +kernel
theorem dksJ46_sort_2_1 : cJ46_sort_2.data.toList.drop 24 = dktJ46_sort_2_1 := dk_seg dksJ46_sort_2_0 24 rfl rfl
theorem dksJ46_sort_2_2 : cJ46_sort_2.data.toList.drop 48 = dktJ46_sort_2_2 := dk_seg dksJ46_sort_2_1 24 rfl rfl
theorem dksJ46_sort_2_3 : cJ46_sort_2.data.toList.drop 70 = dktJ46_sort_2_3 := dk_seg dksJ46_sort_2_2 22 rfl rfl
theorem dksJ46_sort_2_4 : cJ46_sort_2.data.toList.drop 94 = dktJ46_sort_2_4 := dk_seg dksJ46_sort_2_3 24 rfl rfl
theorem dksJ46_sort_2_5 : cJ46_sort_2.data.toList.drop 117 = dktJ46_sort_2_5 := dk_seg dksJ46_sort_2_4 23 rfl rfl
theorem dksJ46_sort_2_6 : cJ46_sort_2.data.toList.drop 141 = dktJ46_sort_2_6 := dk_seg dksJ46_sort_2_5 24 rfl rfl
theorem dksJ46_sort_2_7 : cJ46_sort_2.data.toList.drop 165 = dktJ46_sort_2_7 := dk_seg dksJ46_sort_2_6 24 rfl rfl
theorem dksJ46_sort_2_8 : cJ46_sort_2.data.toList.drop 189 = dktJ46_sort_2_8 := dk_seg dksJ46_sort_2_7 24 rfl rfl
theorem dksJ46_sort_2_9 : cJ46_sort_2.data.toList.drop 213 = dktJ46_sort_2_9 := dk_seg dksJ46_sort_2_8 24 rfl rfl
theorem dksJ46_sort_2_10 : cJ46_sort_2.data.toList.drop 235 = dktJ46_sort_2_10 := dk_seg dksJ46_sort_2_9 22 rfl rfl
theorem dksJ46_sort_2_11 : cJ46_sort_2.data.toList.drop 259 = dktJ46_sort_2_11 := dk_seg dksJ46_sort_2_10 24 rfl rfl
theorem dksJ46_sort_2_12 : cJ46_sort_2.data.toList.drop 283 = dktJ46_sort_2_12 := dk_seg dksJ46_sort_2_11 24 rfl rfl
theorem dksJ46_sort_2_13 : cJ46_sort_2.data.toList.drop 307 = dktJ46_sort_2_13 := dk_seg dksJ46_sort_2_12 24 rfl rfl
theorem dksJ46_sort_2_14 : cJ46_sort_2.data.toList.drop 331 = dktJ46_sort_2_14 := dk_seg dksJ46_sort_2_13 24 rfl rfl
theorem dksJ46_sort_2_15 : cJ46_sort_2.data.toList.drop 355 = dktJ46_sort_2_15 := dk_seg dksJ46_sort_2_14 24 rfl rfl
theorem dksJ46_sort_2_16 : cJ46_sort_2.data.toList.drop 377 = dktJ46_sort_2_16 := dk_seg dksJ46_sort_2_15 22 rfl rfl
theorem dksJ46_sort_2_17 : cJ46_sort_2.data.toList.drop 401 = dktJ46_sort_2_17 := dk_seg dksJ46_sort_2_16 24 rfl rfl
theorem dksJ46_sort_2_18 : cJ46_sort_2.data.toList.drop 424 = dktJ46_sort_2_18 := dk_seg dksJ46_sort_2_17 23 rfl rfl
theorem dksJ46_sort_2_19 : cJ46_sort_2.data.toList.drop 448 = dktJ46_sort_2_19 := dk_seg dksJ46_sort_2_18 24 rfl rfl
theorem dksJ46_sort_2_20 : cJ46_sort_2.data.toList.drop 471 = dktJ46_sort_2_20 := dk_seg dksJ46_sort_2_19 23 rfl rfl
theorem dksJ46_sort_2_21 : cJ46_sort_2.data.toList.drop 495 = dktJ46_sort_2_21 := dk_seg dksJ46_sort_2_20 24 rfl rfl
theorem dksJ46_sort_2_22 : cJ46_sort_2.data.toList.drop 517 = dktJ46_sort_2_22 := dk_seg dksJ46_sort_2_21 22 rfl rfl
theorem dksJ46_sort_2_23 : cJ46_sort_2.data.toList.drop 540 = dktJ46_sort_2_23 := dk_seg dksJ46_sort_2_22 23 rfl rfl
theorem dksJ46_sort_2_24 : cJ46_sort_2.data.toList.drop 563 = dktJ46_sort_2_24 := dk_seg dksJ46_sort_2_23 23 rfl rfl
theorem dksJ46_sort_2_25 : cJ46_sort_2.data.toList.drop 587 = dktJ46_sort_2_25 := dk_seg dksJ46_sort_2_24 24 rfl rfl
theorem dksJ46_sort_2_26 : cJ46_sort_2.data.toList.drop 611 = dktJ46_sort_2_26 := dk_seg dksJ46_sort_2_25 24 rfl rfl
theorem dksJ46_sort_2_27 : cJ46_sort_2.data.toList.drop 634 = dktJ46_sort_2_27 := dk_seg dksJ46_sort_2_26 23 rfl rfl
theorem dksJ46_sort_2_28 : cJ46_sort_2.data.toList.drop 658 = dktJ46_sort_2_28 := dk_seg dksJ46_sort_2_27 24 rfl rfl
theorem dksJ46_sort_2_29 : cJ46_sort_2.data.toList.drop 682 = dktJ46_sort_2_29 := dk_seg dksJ46_sort_2_28 24 rfl rfl
theorem dksJ46_sort_2_30 : cJ46_sort_2.data.toList.drop 706 = dktJ46_sort_2_30 := dk_seg dksJ46_sort_2_29 24 rfl rfl
theorem dksJ46_sort_2_31 : cJ46_sort_2.data.toList.drop 730 = dktJ46_sort_2_31 := dk_seg dksJ46_sort_2_30 24 rfl rfl
theorem dksJ46_sort_2_32 : cJ46_sort_2.data.toList.drop 754 = dktJ46_sort_2_32 := dk_seg dksJ46_sort_2_31 24 rfl rfl
theorem dksJ46_sort_2_33 : cJ46_sort_2.data.toList.drop 777 = dktJ46_sort_2_33 := dk_seg dksJ46_sort_2_32 23 rfl rfl
theorem dksJ46_sort_2_34 : cJ46_sort_2.data.toList.drop 800 = dktJ46_sort_2_34 := dk_seg dksJ46_sort_2_33 23 rfl rfl
theorem dksJ46_sort_2_35 : cJ46_sort_2.data.toList.drop 823 = dktJ46_sort_2_35 := dk_seg dksJ46_sort_2_34 23 rfl rfl
theorem dksJ46_sort_2_36 : cJ46_sort_2.data.toList.drop 845 = dktJ46_sort_2_36 := dk_seg dksJ46_sort_2_35 22 rfl rfl
theorem dksJ46_sort_2_37 : cJ46_sort_2.data.toList.drop 869 = dktJ46_sort_2_37 := dk_seg dksJ46_sort_2_36 24 rfl rfl
theorem dksJ46_sort_2_38 : cJ46_sort_2.data.toList.drop 892 = dktJ46_sort_2_38 := dk_seg dksJ46_sort_2_37 23 rfl rfl
theorem dksJ46_sort_2_39 : cJ46_sort_2.data.toList.drop 916 = dktJ46_sort_2_39 := dk_seg dksJ46_sort_2_38 24 rfl rfl
theorem dksJ46_sort_2_40 : cJ46_sort_2.data.toList.drop 940 = dktJ46_sort_2_40 := dk_seg dksJ46_sort_2_39 24 rfl rfl
theorem dJ46_sort_2_0 : decode cJ46_sort_2 0 = .ok (.iload 4, 2) := dk_21 4 (dk_at dksJ46_sort_2_0 0 rfl rfl)
theorem dJ46_sort_2_2 : decode cJ46_sort_2 2 = .ok (.iconst 1, 1) := dk_4 (dk_at dksJ46_sort_2_0 2 rfl rfl)
theorem dJ46_sort_2_3 : decode cJ46_sort_2 3 = .ok (.isub, 1) := dk_100 (dk_at dksJ46_sort_2_0 3 rfl rfl)
theorem dJ46_sort_2_4 : decode cJ46_sort_2 4 = .ok (.istore 5, 2) := dk_54 5 (dk_at dksJ46_sort_2_0 4 rfl rfl)
theorem dJ46_sort_2_6 : decode cJ46_sort_2 6 = .ok (.iload 4, 2) := dk_21 4 (dk_at dksJ46_sort_2_0 6 rfl rfl)
theorem dJ46_sort_2_8 : decode cJ46_sort_2 8 = .ok (.iload_n 3, 1) := dk_29 (dk_at dksJ46_sort_2_0 8 rfl rfl)
theorem dJ46_sort_2_9 : decode cJ46_sort_2 9 = .ok (.isub, 1) := dk_100 (dk_at dksJ46_sort_2_0 9 rfl rfl)
theorem dJ46_sort_2_10 : decode cJ46_sort_2 10 = .ok (.istore 6, 2) := dk_54 6 (dk_at dksJ46_sort_2_0 10 rfl rfl)
theorem dJ46_sort_2_12 : decode cJ46_sort_2 12 = .ok (.iload 6, 2) := dk_21 6 (dk_at dksJ46_sort_2_0 12 rfl rfl)
theorem dJ46_sort_2_14 : decode cJ46_sort_2 14 = .ok (.bipush 65, 2) := dk_16 65 (dk_at dksJ46_sort_2_0 14 rfl rfl)
theorem dJ46_sort_2_16 : decode cJ46_sort_2 16 = .ok (.iload_n 2, 1) := dk_28 (dk_at dksJ46_sort_2_0 16 rfl rfl)
theorem dJ46_sort_2_17 : decode cJ46_sort_2 17 = .ok (.iadd, 1) := dk_96 (dk_at dksJ46_sort_2_0 17 rfl rfl)
theorem dJ46_sort_2_18 : decode cJ46_sort_2 18 = .ok (.if_icmp .ge 28, 3) := dk_162 0 28 (dk_at dksJ46_sort_2_0 18 rfl rfl)
theorem dJ46_sort_2_21 : decode cJ46_sort_2 21 = .ok (.iload_n 2, 1) := dk_28 (dk_at dksJ46_sort_2_0 21 rfl rfl)
theorem dJ46_sort_2_22 : decode cJ46_sort_2 22 = .ok (.iconst 1, 1) := dk_4 (dk_at dksJ46_sort_2_0 22 rfl rfl)
theorem dJ46_sort_2_23 : decode cJ46_sort_2 23 = .ok (.iand, 1) := dk_126 (dk_at dksJ46_sort_2_0 23 rfl rfl)
theorem dJ46_sort_2_24 : decode cJ46_sort_2 24 = .ok (.ifCond .le 22, 3) := dk_158 0 22 (dk_at dksJ46_sort_2_1 0 rfl rfl)
theorem dJ46_sort_2_27 : decode cJ46_sort_2 27 = .ok (.aload_n 1, 1) := dk_43 (dk_at dksJ46_sort_2_1 3 rfl rfl)
theorem dJ46_sort_2_28 : decode cJ46_sort_2 28 = .ok (.iload_n 3, 1) := dk_29 (dk_at dksJ46_sort_2_1 4 rfl rfl)
theorem dJ46_sort_2_29 : decode cJ46_sort_2 29 = .ok (.iload 4, 2) := dk_21 4 (dk_at dksJ46_sort_2_1 5 rfl rfl)
theorem dJ46_sort_2_31 : decode cJ46_sort_2 31 = .ok (.iconst 3, 1) := dk_6 (dk_at dksJ46_sort_2_1 7 rfl rfl)
theorem dJ46_sort_2_32 : decode cJ46_sort_2 32 = .ok (.iload 6, 2) := dk_21 6 (dk_at dksJ46_sort_2_1 8 rfl rfl)
theorem dJ46_sort_2_34 : decode cJ46_sort_2 34 = .ok (.iconst 5, 1) := dk_8 (dk_at dksJ46_sort_2_1 10 rfl rfl)
theorem dJ46_sort_2_35 : decode cJ46_sort_2 35 = .ok (.ishr, 1) := dk_122 (dk_at dksJ46_sort_2_1 11 rfl rfl)
theorem dJ46_sort_2_36 : decode cJ46_sort_2 36 = .ok (.iconst 3, 1) := dk_6 (dk_at dksJ46_sort_2_1 12 rfl rfl)
theorem dJ46_sort_2_37 : decode cJ46_sort_2 37 = .ok (.ishl, 1) := dk_120 (dk_at dksJ46_sort_2_1 13 rfl rfl)
theorem dJ46_sort_2_38 : decode cJ46_sort_2 38 = .ok (.imul, 1) := dk_104 (dk_at dksJ46_sort_2_1 14 rfl rfl)
theorem dJ46_sort_2_39 : decode cJ46_sort_2 39 = .ok (.isub, 1) := dk_100 (dk_at dksJ46_sort_2_1 15 rfl rfl)
theorem dJ46_sort_2_40 : decode cJ46_sort_2 40 = .ok (.iload 4, 2) := dk_21 4 (dk_at dksJ46_sort_2_1 16 rfl rfl)
theorem dJ46_sort_2_42 : decode cJ46_sort_2 42 = .ok (.invokestatic 30, 3) := dk_184 0 30 (dk_at dksJ46_sort_2_1 18 rfl rfl)
theorem dJ46_sort_2_45 : decode cJ46_sort_2 45 = .ok (.return_, 1) := dk_177 (dk_at dksJ46_sort_2_1 21 rfl rfl)
theorem dJ46_sort_2_46 : decode cJ46_sort_2 46 = .ok (.iload 6, 2) := dk_21 6 (dk_at dksJ46_sort_2_1 22 rfl rfl)
theorem dJ46_sort_2_48 : decode cJ46_sort_2 48 = .ok (.bipush 44, 2) := dk_16 44 (dk_at dksJ46_sort_2_2 0 rfl rfl)
theorem dJ46_sort_2_50 : decode cJ46_sort_2 50 = .ok (.if_icmp .ge 11, 3) := dk_162 0 11 (dk_at dksJ46_sort_2_2 2 rfl rfl)
theorem dJ46_sort_2_53 : decode cJ46_sort_2 53 = .ok (.aload_n 1, 1) := dk_43 (dk_at dksJ46_sort_2_2 5 rfl rfl)
theorem dJ46_sort_2_54 : decode cJ46_sort_2 54 = .ok (.iload_n 3, 1) := dk_29 (dk_at dksJ46_sort_2_2 6 rfl rfl)
theorem dJ46_sort_2_55 : decode cJ46_sort_2 55 = .ok (.iload 4, 2) := dk_21 4 (dk_at dksJ46_sort_2_2 7 rfl rfl)
theorem dJ46_sort_2_57 : decode cJ46_sort_2 57 = .ok (.invokestatic 34, 3) := dk_184 0 34 (dk_at dksJ46_sort_2_2 9 rfl rfl)
theorem dJ46_sort_2_60 : decode cJ46_sort_2 60 = .ok (.return_, 1) := dk_177 (dk_at dksJ46_sort_2_2 12 rfl rfl)
theorem dJ46_sort_2_61 : decode cJ46_sort_2 61 = .ok (.iload_n 2, 1) := dk_28 (dk_at dksJ46_sort_2_2 13 rfl rfl)
theorem dJ46_sort_2_62 : decode cJ46_sort_2 62 = .ok (.ifCond .eq 17, 3) := dk_153 0 17 (dk_at dksJ46_sort_2_2 14 rfl rfl)
theorem dJ46_sort_2_65 : decode cJ46_sort_2 65 = .ok (.iload 6, 2) := dk_21 6 (dk_at dksJ46_sort_2_2 17 rfl rfl)
theorem dJ46_sort_2_67 : decode cJ46_sort_2 67 = .ok (.sipush 4096, 3) := dk_17 16 0 (dk_at dksJ46_sort_2_2 19 rfl rfl)
theorem dJ46_sort_2_70 : decode cJ46_sort_2 70 = .ok (.if_icmp .le 21, 3) := dk_164 0 21 (dk_at dksJ46_sort_2_3 0 rfl rfl)
theorem dJ46_sort_2_73 : decode cJ46_sort_2 73 = .ok (.iload_n 2, 1) := dk_28 (dk_at dksJ46_sort_2_3 3 rfl rfl)
theorem dJ46_sort_2_74 : decode cJ46_sort_2 74 = .ok (.iconst 1, 1) := dk_4 (dk_at dksJ46_sort_2_3 4 rfl rfl)
theorem dJ46_sort_2_75 : decode cJ46_sort_2 75 = .ok (.iand, 1) := dk_126 (dk_at dksJ46_sort_2_3 5 rfl rfl)
theorem dJ46_sort_2_76 : decode cJ46_sort_2 76 = .ok (.ifCond .le 15, 3) := dk_158 0 15 (dk_at dksJ46_sort_2_3 6 rfl rfl)
theorem dJ46_sort_2_79 : decode cJ46_sort_2 79 = .ok (.aload_n 0, 1) := dk_42 (dk_at dksJ46_sort_2_3 9 rfl rfl)
theorem dJ46_sort_2_80 : decode cJ46_sort_2 80 = .ok (.aload_n 1, 1) := dk_43 (dk_at dksJ46_sort_2_3 10 rfl rfl)
theorem dJ46_sort_2_81 : decode cJ46_sort_2 81 = .ok (.iload_n 3, 1) := dk_29 (dk_at dksJ46_sort_2_3 11 rfl rfl)
theorem dJ46_sort_2_82 : decode cJ46_sort_2 82 = .ok (.iload 6, 2) := dk_21 6 (dk_at dksJ46_sort_2_3 12 rfl rfl)
theorem dJ46_sort_2_84 : decode cJ46_sort_2 84 = .ok (.invokestatic 38, 3) := dk_184 0 38 (dk_at dksJ46_sort_2_3 14 rfl rfl)
theorem dJ46_sort_2_87 : decode cJ46_sort_2 87 = .ok (.ifCond .eq 4, 3) := dk_153 0 4 (dk_at dksJ46_sort_2_3 17 rfl rfl)
theorem dJ46_sort_2_90 : decode cJ46_sort_2 90 = .ok (.return_, 1) := dk_177 (dk_at dksJ46_sort_2_3 20 rfl rfl)
theorem dJ46_sort_2_91 : decode cJ46_sort_2 91 = .ok (.iinc 2 6, 3) := dk_132 2 6 (dk_at dksJ46_sort_2_3 21 rfl rfl)
theorem dJ46_sort_2_94 : decode cJ46_sort_2 94 = .ok (.iload_n 2, 1) := dk_28 (dk_at dksJ46_sort_2_4 0 rfl rfl)
theorem dJ46_sort_2_95 : decode cJ46_sort_2 95 = .ok (.sipush 384, 3) := dk_17 1 128 (dk_at dksJ46_sort_2_4 1 rfl rfl)
theorem dJ46_sort_2_98 : decode cJ46_sort_2 98 = .ok (.if_icmp .le 11, 3) := dk_164 0 11 (dk_at dksJ46_sort_2_4 4 rfl rfl)
theorem dJ46_sort_2_101 : decode cJ46_sort_2 101 = .ok (.aload_n 1, 1) := dk_43 (dk_at dksJ46_sort_2_4 7 rfl rfl)
theorem dJ46_sort_2_102 : decode cJ46_sort_2 102 = .ok (.iload_n 3, 1) := dk_29 (dk_at dksJ46_sort_2_4 8 rfl rfl)
theorem dJ46_sort_2_103 : decode cJ46_sort_2 103 = .ok (.iload 4, 2) := dk_21 4 (dk_at dksJ46_sort_2_4 9 rfl rfl)
theorem dJ46_sort_2_105 : decode cJ46_sort_2 105 = .ok (.invokestatic 42, 3) := dk_184 0 42 (dk_at dksJ46_sort_2_4 11 rfl rfl)
theorem dJ46_sort_2_108 : decode cJ46_sort_2 108 = .ok (.return_, 1) := dk_177 (dk_at dksJ46_sort_2_4 14 rfl rfl)
theorem dJ46_sort_2_109 : decode cJ46_sort_2 109 = .ok (.iload 6, 2) := dk_21 6 (dk_at dksJ46_sort_2_4 15 rfl rfl)
theorem dJ46_sort_2_111 : decode cJ46_sort_2 111 = .ok (.iconst 3, 1) := dk_6 (dk_at dksJ46_sort_2_4 17 rfl rfl)
theorem dJ46_sort_2_112 : decode cJ46_sort_2 112 = .ok (.ishr, 1) := dk_122 (dk_at dksJ46_sort_2_4 18 rfl rfl)
theorem dJ46_sort_2_113 : decode cJ46_sort_2 113 = .ok (.iconst 3, 1) := dk_6 (dk_at dksJ46_sort_2_4 19 rfl rfl)
theorem dJ46_sort_2_114 : decode cJ46_sort_2 114 = .ok (.imul, 1) := dk_104 (dk_at dksJ46_sort_2_4 20 rfl rfl)
theorem dJ46_sort_2_115 : decode cJ46_sort_2 115 = .ok (.iconst 3, 1) := dk_6 (dk_at dksJ46_sort_2_4 21 rfl rfl)
theorem dJ46_sort_2_116 : decode cJ46_sort_2 116 = .ok (.iadd, 1) := dk_96 (dk_at dksJ46_sort_2_4 22 rfl rfl)
theorem dJ46_sort_2_117 : decode cJ46_sort_2 117 = .ok (.istore 7, 2) := dk_54 7 (dk_at dksJ46_sort_2_5 0 rfl rfl)
theorem dJ46_sort_2_119 : decode cJ46_sort_2 119 = .ok (.iload_n 3, 1) := dk_29 (dk_at dksJ46_sort_2_5 2 rfl rfl)
theorem dJ46_sort_2_120 : decode cJ46_sort_2 120 = .ok (.iload 7, 2) := dk_21 7 (dk_at dksJ46_sort_2_5 3 rfl rfl)
theorem dJ46_sort_2_122 : decode cJ46_sort_2 122 = .ok (.iadd, 1) := dk_96 (dk_at dksJ46_sort_2_5 5 rfl rfl)
theorem dJ46_sort_2_123 : decode cJ46_sort_2 123 = .ok (.istore 8, 2) := dk_54 8 (dk_at dksJ46_sort_2_5 6 rfl rfl)
theorem dJ46_sort_2_125 : decode cJ46_sort_2 125 = .ok (.iload 5, 2) := dk_21 5 (dk_at dksJ46_sort_2_5 8 rfl rfl)
theorem dJ46_sort_2_127 : decode cJ46_sort_2 127 = .ok (.iload 7, 2) := dk_21 7 (dk_at dksJ46_sort_2_5 10 rfl rfl)
theorem dJ46_sort_2_129 : decode cJ46_sort_2 129 = .ok (.isub, 1) := dk_100 (dk_at dksJ46_sort_2_5 12 rfl rfl)
theorem dJ46_sort_2_130 : decode cJ46_sort_2 130 = .ok (.istore 9, 2) := dk_54 9 (dk_at dksJ46_sort_2_5 13 rfl rfl)
theorem dJ46_sort_2_132 : decode cJ46_sort_2 132 = .ok (.iload 8, 2) := dk_21 8 (dk_at dksJ46_sort_2_5 15 rfl rfl)
theorem dJ46_sort_2_134 : decode cJ46_sort_2 134 = .ok (.iload 9, 2) := dk_21 9 (dk_at dksJ46_sort_2_5 17 rfl rfl)
theorem dJ46_sort_2_136 : decode cJ46_sort_2 136 = .ok (.iadd, 1) := dk_96 (dk_at dksJ46_sort_2_5 19 rfl rfl)
theorem dJ46_sort_2_137 : decode cJ46_sort_2 137 = .ok (.iconst 1, 1) := dk_4 (dk_at dksJ46_sort_2_5 20 rfl rfl)
theorem dJ46_sort_2_138 : decode cJ46_sort_2 138 = .ok (.iushr, 1) := dk_124 (dk_at dksJ46_sort_2_5 21 rfl rfl)
theorem dJ46_sort_2_139 : decode cJ46_sort_2 139 = .ok (.istore 10, 2) := dk_54 10 (dk_at dksJ46_sort_2_5 22 rfl rfl)
theorem dJ46_sort_2_141 : decode cJ46_sort_2 141 = .ok (.iload 8, 2) := dk_21 8 (dk_at dksJ46_sort_2_6 0 rfl rfl)
theorem dJ46_sort_2_143 : decode cJ46_sort_2 143 = .ok (.iload 10, 2) := dk_21 10 (dk_at dksJ46_sort_2_6 2 rfl rfl)
theorem dJ46_sort_2_145 : decode cJ46_sort_2 145 = .ok (.iadd, 1) := dk_96 (dk_at dksJ46_sort_2_6 4 rfl rfl)
theorem dJ46_sort_2_146 : decode cJ46_sort_2 146 = .ok (.iconst 1, 1) := dk_4 (dk_at dksJ46_sort_2_6 5 rfl rfl)
theorem dJ46_sort_2_147 : decode cJ46_sort_2 147 = .ok (.iushr, 1) := dk_124 (dk_at dksJ46_sort_2_6 6 rfl rfl)
theorem dJ46_sort_2_148 : decode cJ46_sort_2 148 = .ok (.istore 11, 2) := dk_54 11 (dk_at dksJ46_sort_2_6 7 rfl rfl)
theorem dJ46_sort_2_150 : decode cJ46_sort_2 150 = .ok (.iload 10, 2) := dk_21 10 (dk_at dksJ46_sort_2_6 9 rfl rfl)
theorem dJ46_sort_2_152 : decode cJ46_sort_2 152 = .ok (.iload 9, 2) := dk_21 9 (dk_at dksJ46_sort_2_6 11 rfl rfl)
theorem dJ46_sort_2_154 : decode cJ46_sort_2 154 = .ok (.iadd, 1) := dk_96 (dk_at dksJ46_sort_2_6 13 rfl rfl)
theorem dJ46_sort_2_155 : decode cJ46_sort_2 155 = .ok (.iconst 1, 1) := dk_4 (dk_at dksJ46_sort_2_6 14 rfl rfl)
theorem dJ46_sort_2_156 : decode cJ46_sort_2 156 = .ok (.iushr, 1) := dk_124 (dk_at dksJ46_sort_2_6 15 rfl rfl)
theorem dJ46_sort_2_157 : decode cJ46_sort_2 157 = .ok (.istore 12, 2) := dk_54 12 (dk_at dksJ46_sort_2_6 16 rfl rfl)
theorem dJ46_sort_2_159 : decode cJ46_sort_2 159 = .ok (.aload_n 1, 1) := dk_43 (dk_at dksJ46_sort_2_6 18 rfl rfl)
theorem dJ46_sort_2_160 : decode cJ46_sort_2 160 = .ok (.iload 10, 2) := dk_21 10 (dk_at dksJ46_sort_2_6 19 rfl rfl)
theorem dJ46_sort_2_162 : decode cJ46_sort_2 162 = .ok (.iaload, 1) := dk_46 (dk_at dksJ46_sort_2_6 21 rfl rfl)
theorem dJ46_sort_2_163 : decode cJ46_sort_2 163 = .ok (.istore 13, 2) := dk_54 13 (dk_at dksJ46_sort_2_6 22 rfl rfl)
theorem dJ46_sort_2_165 : decode cJ46_sort_2 165 = .ok (.aload_n 1, 1) := dk_43 (dk_at dksJ46_sort_2_7 0 rfl rfl)
theorem dJ46_sort_2_166 : decode cJ46_sort_2 166 = .ok (.iload 9, 2) := dk_21 9 (dk_at dksJ46_sort_2_7 1 rfl rfl)
theorem dJ46_sort_2_168 : decode cJ46_sort_2 168 = .ok (.iaload, 1) := dk_46 (dk_at dksJ46_sort_2_7 3 rfl rfl)
theorem dJ46_sort_2_169 : decode cJ46_sort_2 169 = .ok (.aload_n 1, 1) := dk_43 (dk_at dksJ46_sort_2_7 4 rfl rfl)
theorem dJ46_sort_2_170 : decode cJ46_sort_2 170 = .ok (.iload 11, 2) := dk_21 11 (dk_at dksJ46_sort_2_7 5 rfl rfl)
theorem dJ46_sort_2_172 : decode cJ46_sort_2 172 = .ok (.iaload, 1) := dk_46 (dk_at dksJ46_sort_2_7 7 rfl rfl)
theorem dJ46_sort_2_173 : decode cJ46_sort_2 173 = .ok (.if_icmp .ge 23, 3) := dk_162 0 23 (dk_at dksJ46_sort_2_7 8 rfl rfl)
theorem dJ46_sort_2_176 : decode cJ46_sort_2 176 = .ok (.aload_n 1, 1) := dk_43 (dk_at dksJ46_sort_2_7 11 rfl rfl)
theorem dJ46_sort_2_177 : decode cJ46_sort_2 177 = .ok (.iload 9, 2) := dk_21 9 (dk_at dksJ46_sort_2_7 12 rfl rfl)
theorem dJ46_sort_2_179 : decode cJ46_sort_2 179 = .ok (.iaload, 1) := dk_46 (dk_at dksJ46_sort_2_7 14 rfl rfl)
theorem dJ46_sort_2_180 : decode cJ46_sort_2 180 = .ok (.istore 14, 2) := dk_54 14 (dk_at dksJ46_sort_2_7 15 rfl rfl)
theorem dJ46_sort_2_182 : decode cJ46_sort_2 182 = .ok (.aload_n 1, 1) := dk_43 (dk_at dksJ46_sort_2_7 17 rfl rfl)
theorem dJ46_sort_2_183 : decode cJ46_sort_2 183 = .ok (.iload 9, 2) := dk_21 9 (dk_at dksJ46_sort_2_7 18 rfl rfl)
theorem dJ46_sort_2_185 : decode cJ46_sort_2 185 = .ok (.aload_n 1, 1) := dk_43 (dk_at dksJ46_sort_2_7 20 rfl rfl)
theorem dJ46_sort_2_186 : decode cJ46_sort_2 186 = .ok (.iload 11, 2) := dk_21 11 (dk_at dksJ46_sort_2_7 21 rfl rfl)
theorem dJ46_sort_2_188 : decode cJ46_sort_2 188 = .ok (.iaload, 1) := dk_46 (dk_at dksJ46_sort_2_7 23 rfl rfl)
theorem dJ46_sort_2_189 : decode cJ46_sort_2 189 = .ok (.iastore, 1) := dk_79 (dk_at dksJ46_sort_2_8 0 rfl rfl)
theorem dJ46_sort_2_190 : decode cJ46_sort_2 190 = .ok (.aload_n 1, 1) := dk_43 (dk_at dksJ46_sort_2_8 1 rfl rfl)
theorem dJ46_sort_2_191 : decode cJ46_sort_2 191 = .ok (.iload 11, 2) := dk_21 11 (dk_at dksJ46_sort_2_8 2 rfl rfl)
theorem dJ46_sort_2_193 : decode cJ46_sort_2 193 = .ok (.iload 14, 2) := dk_21 14 (dk_at dksJ46_sort_2_8 4 rfl rfl)
theorem dJ46_sort_2_195 : decode cJ46_sort_2 195 = .ok (.iastore, 1) := dk_79 (dk_at dksJ46_sort_2_8 6 rfl rfl)
theorem dJ46_sort_2_196 : decode cJ46_sort_2 196 = .ok (.aload_n 1, 1) := dk_43 (dk_at dksJ46_sort_2_8 7 rfl rfl)
theorem dJ46_sort_2_197 : decode cJ46_sort_2 197 = .ok (.iload 12, 2) := dk_21 12 (dk_at dksJ46_sort_2_8 8 rfl rfl)
theorem dJ46_sort_2_199 : decode cJ46_sort_2 199 = .ok (.iaload, 1) := dk_46 (dk_at dksJ46_sort_2_8 10 rfl rfl)
theorem dJ46_sort_2_200 : decode cJ46_sort_2 200 = .ok (.aload_n 1, 1) := dk_43 (dk_at dksJ46_sort_2_8 11 rfl rfl)
theorem dJ46_sort_2_201 : decode cJ46_sort_2 201 = .ok (.iload 8, 2) := dk_21 8 (dk_at dksJ46_sort_2_8 12 rfl rfl)
theorem dJ46_sort_2_203 : decode cJ46_sort_2 203 = .ok (.iaload, 1) := dk_46 (dk_at dksJ46_sort_2_8 14 rfl rfl)
theorem dJ46_sort_2_204 : decode cJ46_sort_2 204 = .ok (.if_icmp .ge 23, 3) := dk_162 0 23 (dk_at dksJ46_sort_2_8 15 rfl rfl)
theorem dJ46_sort_2_207 : decode cJ46_sort_2 207 = .ok (.aload_n 1, 1) := dk_43 (dk_at dksJ46_sort_2_8 18 rfl rfl)
theorem dJ46_sort_2_208 : decode cJ46_sort_2 208 = .ok (.iload 12, 2) := dk_21 12 (dk_at dksJ46_sort_2_8 19 rfl rfl)
theorem dJ46_sort_2_210 : decode cJ46_sort_2 210 = .ok (.iaload, 1) := dk_46 (dk_at dksJ46_sort_2_8 21 rfl rfl)
theorem dJ46_sort_2_211 : decode cJ46_sort_2 211 = .ok (.istore 14, 2) := dk_54 14 (dk_at dksJ46_sort_2_8 22 rfl rfl)
theorem dJ46_sort_2_213 : decode cJ46_sort_2 213 = .ok (.aload_n 1, 1) := dk_43 (dk_at dksJ46_sort_2_9 0 rfl rfl)
theorem dJ46_sort_2_214 : decode cJ46_sort_2 214 = .ok (.iload 12, 2) := dk_21 12 (dk_at dksJ46_sort_2_9 1 rfl rfl)
theorem dJ46_sort_2_216 : decode cJ46_sort_2 216 = .ok (.aload_n 1, 1) := dk_43 (dk_at dksJ46_sort_2_9 3 rfl rfl)
theorem dJ46_sort_2_217 : decode cJ46_sort_2 217 = .ok (.iload 8, 2) := dk_21 8 (dk_at dksJ46_sort_2_9 4 rfl rfl)
theorem dJ46_sort_2_219 : decode cJ46_sort_2 219 = .ok (.iaload, 1) := dk_46 (dk_at dksJ46_sort_2_9 6 rfl rfl)
theorem dJ46_sort_2_220 : decode cJ46_sort_2 220 = .ok (.iastore, 1) := dk_79 (dk_at dksJ46_sort_2_9 7 rfl rfl)
theorem dJ46_sort_2_221 : decode cJ46_sort_2 221 = .ok (.aload_n 1, 1) := dk_43 (dk_at dksJ46_sort_2_9 8 rfl rfl)
theorem dJ46_sort_2_222 : decode cJ46_sort_2 222 = .ok (.iload 8, 2) := dk_21 8 (dk_at dksJ46_sort_2_9 9 rfl rfl)
theorem dJ46_sort_2_224 : decode cJ46_sort_2 224 = .ok (.iload 14, 2) := dk_21 14 (dk_at dksJ46_sort_2_9 11 rfl rfl)
theorem dJ46_sort_2_226 : decode cJ46_sort_2 226 = .ok (.iastore, 1) := dk_79 (dk_at dksJ46_sort_2_9 13 rfl rfl)
theorem dJ46_sort_2_227 : decode cJ46_sort_2 227 = .ok (.aload_n 1, 1) := dk_43 (dk_at dksJ46_sort_2_9 14 rfl rfl)
theorem dJ46_sort_2_228 : decode cJ46_sort_2 228 = .ok (.iload 9, 2) := dk_21 9 (dk_at dksJ46_sort_2_9 15 rfl rfl)
theorem dJ46_sort_2_230 : decode cJ46_sort_2 230 = .ok (.iaload, 1) := dk_46 (dk_at dksJ46_sort_2_9 17 rfl rfl)
theorem dJ46_sort_2_231 : decode cJ46_sort_2 231 = .ok (.aload_n 1, 1) := dk_43 (dk_at dksJ46_sort_2_9 18 rfl rfl)
theorem dJ46_sort_2_232 : decode cJ46_sort_2 232 = .ok (.iload 12, 2) := dk_21 12 (dk_at dksJ46_sort_2_9 19 rfl rfl)
theorem dJ46_sort_2_234 : decode cJ46_sort_2 234 = .ok (.iaload, 1) := dk_46 (dk_at dksJ46_sort_2_9 21 rfl rfl)
theorem dJ46_sort_2_235 : decode cJ46_sort_2 235 = .ok (.if_icmp .ge 23, 3) := dk_162 0 23 (dk_at dksJ46_sort_2_10 0 rfl rfl)
theorem dJ46_sort_2_238 : decode cJ46_sort_2 238 = .ok (.aload_n 1, 1) := dk_43 (dk_at dksJ46_sort_2_10 3 rfl rfl)
theorem dJ46_sort_2_239 : decode cJ46_sort_2 239 = .ok (.iload 9, 2) := dk_21 9 (dk_at dksJ46_sort_2_10 4 rfl rfl)
theorem dJ46_sort_2_241 : decode cJ46_sort_2 241 = .ok (.iaload, 1) := dk_46 (dk_at dksJ46_sort_2_10 6 rfl rfl)
theorem dJ46_sort_2_242 : decode cJ46_sort_2 242 = .ok (.istore 14, 2) := dk_54 14 (dk_at dksJ46_sort_2_10 7 rfl rfl)
theorem dJ46_sort_2_244 : decode cJ46_sort_2 244 = .ok (.aload_n 1, 1) := dk_43 (dk_at dksJ46_sort_2_10 9 rfl rfl)
theorem dJ46_sort_2_245 : decode cJ46_sort_2 245 = .ok (.iload 9, 2) := dk_21 9 (dk_at dksJ46_sort_2_10 10 rfl rfl)
theorem dJ46_sort_2_247 : decode cJ46_sort_2 247 = .ok (.aload_n 1, 1) := dk_43 (dk_at dksJ46_sort_2_10 12 rfl rfl)
theorem dJ46_sort_2_248 : decode cJ46_sort_2 248 = .ok (.iload 12, 2) := dk_21 12 (dk_at dksJ46_sort_2_10 13 rfl rfl)
theorem dJ46_sort_2_250 : decode cJ46_sort_2 250 = .ok (.iaload, 1) := dk_46 (dk_at dksJ46_sort_2_10 15 rfl rfl)
theorem dJ46_sort_2_251 : decode cJ46_sort_2 251 = .ok (.iastore, 1) := dk_79 (dk_at dksJ46_sort_2_10 16 rfl rfl)
theorem dJ46_sort_2_252 : decode cJ46_sort_2 252 = .ok (.aload_n 1, 1) := dk_43 (dk_at dksJ46_sort_2_10 17 rfl rfl)
theorem dJ46_sort_2_253 : decode cJ46_sort_2 253 = .ok (.iload 12, 2) := dk_21 12 (dk_at dksJ46_sort_2_10 18 rfl rfl)
theorem dJ46_sort_2_255 : decode cJ46_sort_2 255 = .ok (.iload 14, 2) := dk_21 14 (dk_at dksJ46_sort_2_10 20 rfl rfl)
theorem dJ46_sort_2_257 : decode cJ46_sort_2 257 = .ok (.iastore, 1) := dk_79 (dk_at dksJ46_sort_2_10 22 rfl rfl)
theorem dJ46_sort_2_258 : decode cJ46_sort_2 258 = .ok (.aload_n 1, 1) := dk_43 (dk_at dksJ46_sort_2_10 23 rfl rfl)
theorem dJ46_sort_2_259 : decode cJ46_sort_2 259 = .ok (.iload 11, 2) := dk_21 11 (dk_at dksJ46_sort_2_11 0 rfl rfl)
theorem dJ46_sort_2_261 : decode cJ46_sort_2 261 = .ok (.iaload, 1) := dk_46 (dk_at dksJ46_sort_2_11 2 rfl rfl)
theorem dJ46_sort_2_262 : decode cJ46_sort_2 262 = .ok (.aload_n 1, 1) := dk_43 (dk_at dksJ46_sort_2_11 3 rfl rfl)
theorem dJ46_sort_2_263 : decode cJ46_sort_2 263 = .ok (.iload 8, 2) := dk_21 8 (dk_at dksJ46_sort_2_11 4 rfl rfl)
theorem dJ46_sort_2_265 : decode cJ46_sort_2 265 = .ok (.iaload, 1) := dk_46 (dk_at dksJ46_sort_2_11 6 rfl rfl)
theorem dJ46_sort_2_266 : decode cJ46_sort_2 266 = .ok (.if_icmp .ge 23, 3) := dk_162 0 23 (dk_at dksJ46_sort_2_11 7 rfl rfl)
theorem dJ46_sort_2_269 : decode cJ46_sort_2 269 = .ok (.aload_n 1, 1) := dk_43 (dk_at dksJ46_sort_2_11 10 rfl rfl)
theorem dJ46_sort_2_270 : decode cJ46_sort_2 270 = .ok (.iload 11, 2) := dk_21 11 (dk_at dksJ46_sort_2_11 11 rfl rfl)
theorem dJ46_sort_2_272 : decode cJ46_sort_2 272 = .ok (.iaload, 1) := dk_46 (dk_at dksJ46_sort_2_11 13 rfl rfl)
theorem dJ46_sort_2_273 : decode cJ46_sort_2 273 = .ok (.istore 14, 2) := dk_54 14 (dk_at dksJ46_sort_2_11 14 rfl rfl)
theorem dJ46_sort_2_275 : decode cJ46_sort_2 275 = .ok (.aload_n 1, 1) := dk_43 (dk_at dksJ46_sort_2_11 16 rfl rfl)
theorem dJ46_sort_2_276 : decode cJ46_sort_2 276 = .ok (.iload 11, 2) := dk_21 11 (dk_at dksJ46_sort_2_11 17 rfl rfl)
theorem dJ46_sort_2_278 : decode cJ46_sort_2 278 = .ok (.aload_n 1, 1) := dk_43 (dk_at dksJ46_sort_2_11 19 rfl rfl)
theorem dJ46_sort_2_279 : decode cJ46_sort_2 279 = .ok (.iload 8, 2) := dk_21 8 (dk_at dksJ46_sort_2_11 20 rfl rfl)
theorem dJ46_sort_2_281 : decode cJ46_sort_2 281 = .ok (.iaload, 1) := dk_46 (dk_at dksJ46_sort_2_11 22 rfl rfl)
theorem dJ46_sort_2_282 : decode cJ46_sort_2 282 = .ok (.iastore, 1) := dk_79 (dk_at dksJ46_sort_2_11 23 rfl rfl)
theorem dJ46_sort_2_283 : decode cJ46_sort_2 283 = .ok (.aload_n 1, 1) := dk_43 (dk_at dksJ46_sort_2_12 0 rfl rfl)
theorem dJ46_sort_2_284 : decode cJ46_sort_2 284 = .ok (.iload 8, 2) := dk_21 8 (dk_at dksJ46_sort_2_12 1 rfl rfl)
theorem dJ46_sort_2_286 : decode cJ46_sort_2 286 = .ok (.iload 14, 2) := dk_21 14 (dk_at dksJ46_sort_2_12 3 rfl rfl)
theorem dJ46_sort_2_288 : decode cJ46_sort_2 288 = .ok (.iastore, 1) := dk_79 (dk_at dksJ46_sort_2_12 5 rfl rfl)
theorem dJ46_sort_2_289 : decode cJ46_sort_2 289 = .ok (.aload_n 1, 1) := dk_43 (dk_at dksJ46_sort_2_12 6 rfl rfl)
theorem dJ46_sort_2_290 : decode cJ46_sort_2 290 = .ok (.iload 12, 2) := dk_21 12 (dk_at dksJ46_sort_2_12 7 rfl rfl)
theorem dJ46_sort_2_292 : decode cJ46_sort_2 292 = .ok (.iaload, 1) := dk_46 (dk_at dksJ46_sort_2_12 9 rfl rfl)
theorem dJ46_sort_2_293 : decode cJ46_sort_2 293 = .ok (.aload_n 1, 1) := dk_43 (dk_at dksJ46_sort_2_12 10 rfl rfl)
theorem dJ46_sort_2_294 : decode cJ46_sort_2 294 = .ok (.iload 11, 2) := dk_21 11 (dk_at dksJ46_sort_2_12 11 rfl rfl)
theorem dJ46_sort_2_296 : decode cJ46_sort_2 296 = .ok (.iaload, 1) := dk_46 (dk_at dksJ46_sort_2_12 13 rfl rfl)
theorem dJ46_sort_2_297 : decode cJ46_sort_2 297 = .ok (.if_icmp .ge 23, 3) := dk_162 0 23 (dk_at dksJ46_sort_2_12 14 rfl rfl)
theorem dJ46_sort_2_300 : decode cJ46_sort_2 300 = .ok (.aload_n 1, 1) := dk_43 (dk_at dksJ46_sort_2_12 17 rfl rfl)
theorem dJ46_sort_2_301 : decode cJ46_sort_2 301 = .ok (.iload 12, 2) := dk_21 12 (dk_at dksJ46_sort_2_12 18 rfl rfl)
theorem dJ46_sort_2_303 : decode cJ46_sort_2 303 = .ok (.iaload, 1) := dk_46 (dk_at dksJ46_sort_2_12 20 rfl rfl)
theorem dJ46_sort_2_304 : decode cJ46_sort_2 304 = .ok (.istore 14, 2) := dk_54 14 (dk_at dksJ46_sort_2_12 21 rfl rfl)
theorem dJ46_sort_2_306 : decode cJ46_sort_2 306 = .ok (.aload_n 1, 1) := dk_43 (dk_at dksJ46_sort_2_12 23 rfl rfl)
theorem dJ46_sort_2_307 : decode cJ46_sort_2 307 = .ok (.iload 12, 2) := dk_21 12 (dk_at dksJ46_sort_2_13 0 rfl rfl)
theorem dJ46_sort_2_309 : decode cJ46_sort_2 309 = .ok (.aload_n 1, 1) := dk_43 (dk_at dksJ46_sort_2_13 2 rfl rfl)
theorem dJ46_sort_2_310 : decode cJ46_sort_2 310 = .ok (.iload 11, 2) := dk_21 11 (dk_at dksJ46_sort_2_13 3 rfl rfl)
theorem dJ46_sort_2_312 : decode cJ46_sort_2 312 = .ok (.iaload, 1) := dk_46 (dk_at dksJ46_sort_2_13 5 rfl rfl)
theorem dJ46_sort_2_313 : decode cJ46_sort_2 313 = .ok (.iastore, 1) := dk_79 (dk_at dksJ46_sort_2_13 6 rfl rfl)
theorem dJ46_sort_2_314 : decode cJ46_sort_2 314 = .ok (.aload_n 1, 1) := dk_43 (dk_at dksJ46_sort_2_13 7 rfl rfl)
theorem dJ46_sort_2_315 : decode cJ46_sort_2 315 = .ok (.iload 11, 2) := dk_21 11 (dk_at dksJ46_sort_2_13 8 rfl rfl)
theorem dJ46_sort_2_317 : decode cJ46_sort_2 317 = .ok (.iload 14, 2) := dk_21 14 (dk_at dksJ46_sort_2_13 10 rfl rfl)
theorem dJ46_sort_2_319 : decode cJ46_sort_2 319 = .ok (.iastore, 1) := dk_79 (dk_at dksJ46_sort_2_13 12 rfl rfl)
theorem dJ46_sort_2_320 : decode cJ46_sort_2 320 = .ok (.iload 13, 2) := dk_21 13 (dk_at dksJ46_sort_2_13 13 rfl rfl)
theorem dJ46_sort_2_322 : decode cJ46_sort_2 322 = .ok (.aload_n 1, 1) := dk_43 (dk_at dksJ46_sort_2_13 15 rfl rfl)
theorem dJ46_sort_2_323 : decode cJ46_sort_2 323 = .ok (.iload 11, 2) := dk_21 11 (dk_at dksJ46_sort_2_13 16 rfl rfl)
theorem dJ46_sort_2_325 : decode cJ46_sort_2 325 = .ok (.iaload, 1) := dk_46 (dk_at dksJ46_sort_2_13 18 rfl rfl)
theorem dJ46_sort_2_326 : decode cJ46_sort_2 326 = .ok (.if_icmp .ge 54, 3) := dk_162 0 54 (dk_at dksJ46_sort_2_13 19 rfl rfl)
theorem dJ46_sort_2_329 : decode cJ46_sort_2 329 = .ok (.iload 13, 2) := dk_21 13 (dk_at dksJ46_sort_2_13 22 rfl rfl)
theorem dJ46_sort_2_331 : decode cJ46_sort_2 331 = .ok (.aload_n 1, 1) := dk_43 (dk_at dksJ46_sort_2_14 0 rfl rfl)
theorem dJ46_sort_2_332 : decode cJ46_sort_2 332 = .ok (.iload 8, 2) := dk_21 8 (dk_at dksJ46_sort_2_14 1 rfl rfl)
theorem dJ46_sort_2_334 : decode cJ46_sort_2 334 = .ok (.iaload, 1) := dk_46 (dk_at dksJ46_sort_2_14 3 rfl rfl)
theorem dJ46_sort_2_335 : decode cJ46_sort_2 335 = .ok (.if_icmp .ge 28, 3) := dk_162 0 28 (dk_at dksJ46_sort_2_14 4 rfl rfl)
theorem dJ46_sort_2_338 : decode cJ46_sort_2 338 = .ok (.aload_n 1, 1) := dk_43 (dk_at dksJ46_sort_2_14 7 rfl rfl)
theorem dJ46_sort_2_339 : decode cJ46_sort_2 339 = .ok (.iload 10, 2) := dk_21 10 (dk_at dksJ46_sort_2_14 8 rfl rfl)
theorem dJ46_sort_2_341 : decode cJ46_sort_2 341 = .ok (.aload_n 1, 1) := dk_43 (dk_at dksJ46_sort_2_14 10 rfl rfl)
theorem dJ46_sort_2_342 : decode cJ46_sort_2 342 = .ok (.iload 11, 2) := dk_21 11 (dk_at dksJ46_sort_2_14 11 rfl rfl)
theorem dJ46_sort_2_344 : decode cJ46_sort_2 344 = .ok (.iaload, 1) := dk_46 (dk_at dksJ46_sort_2_14 13 rfl rfl)
theorem dJ46_sort_2_345 : decode cJ46_sort_2 345 = .ok (.iastore, 1) := dk_79 (dk_at dksJ46_sort_2_14 14 rfl rfl)
theorem dJ46_sort_2_346 : decode cJ46_sort_2 346 = .ok (.aload_n 1, 1) := dk_43 (dk_at dksJ46_sort_2_14 15 rfl rfl)
theorem dJ46_sort_2_347 : decode cJ46_sort_2 347 = .ok (.iload 11, 2) := dk_21 11 (dk_at dksJ46_sort_2_14 16 rfl rfl)
theorem dJ46_sort_2_349 : decode cJ46_sort_2 349 = .ok (.aload_n 1, 1) := dk_43 (dk_at dksJ46_sort_2_14 18 rfl rfl)
theorem dJ46_sort_2_350 : decode cJ46_sort_2 350 = .ok (.iload 8, 2) := dk_21 8 (dk_at dksJ46_sort_2_14 19 rfl rfl)
theorem dJ46_sort_2_352 : decode cJ46_sort_2 352 = .ok (.iaload, 1) := dk_46 (dk_at dksJ46_sort_2_14 21 rfl rfl)
theorem dJ46_sort_2_353 : decode cJ46_sort_2 353 = .ok (.iastore, 1) := dk_79 (dk_at dksJ46_sort_2_14 22 rfl rfl)
theorem dJ46_sort_2_354 : decode cJ46_sort_2 354 = .ok (.aload_n 1, 1) := dk_43 (dk_at dksJ46_sort_2_14 23 rfl rfl)
theorem dJ46_sort_2_355 : decode cJ46_sort_2 355 = .ok (.iload 8, 2) := dk_21 8 (dk_at dksJ46_sort_2_15 0 rfl rfl)
theorem dJ46_sort_2_357 : decode cJ46_sort_2 357 = .ok (.iload 13, 2) := dk_21 13 (dk_at dksJ46_sort_2_15 2 rfl rfl)
theorem dJ46_sort_2_359 : decode cJ46_sort_2 359 = .ok (.iastore, 1) := dk_79 (dk_at dksJ46_sort_2_15 4 rfl rfl)
theorem dJ46_sort_2_360 : decode cJ46_sort_2 360 = .ok (.goto 77, 3) := dk_167 0 77 (dk_at dksJ46_sort_2_15 5 rfl rfl)
theorem dJ46_sort_2_363 : decode cJ46_sort_2 363 = .ok (.aload_n 1, 1) := dk_43 (dk_at dksJ46_sort_2_15 8 rfl rfl)
theorem dJ46_sort_2_364 : decode cJ46_sort_2 364 = .ok (.iload 10, 2) := dk_21 10 (dk_at dksJ46_sort_2_15 9 rfl rfl)
theorem dJ46_sort_2_366 : decode cJ46_sort_2 366 = .ok (.aload_n 1, 1) := dk_43 (dk_at dksJ46_sort_2_15 11 rfl rfl)
theorem dJ46_sort_2_367 : decode cJ46_sort_2 367 = .ok (.iload 11, 2) := dk_21 11 (dk_at dksJ46_sort_2_15 12 rfl rfl)
theorem dJ46_sort_2_369 : decode cJ46_sort_2 369 = .ok (.iaload, 1) := dk_46 (dk_at dksJ46_sort_2_15 14 rfl rfl)
theorem dJ46_sort_2_370 : decode cJ46_sort_2 370 = .ok (.iastore, 1) := dk_79 (dk_at dksJ46_sort_2_15 15 rfl rfl)
theorem dJ46_sort_2_371 : decode cJ46_sort_2 371 = .ok (.aload_n 1, 1) := dk_43 (dk_at dksJ46_sort_2_15 16 rfl rfl)
theorem dJ46_sort_2_372 : decode cJ46_sort_2 372 = .ok (.iload 11, 2) := dk_21 11 (dk_at dksJ46_sort_2_15 17 rfl rfl)
theorem dJ46_sort_2_374 : decode cJ46_sort_2 374 = .ok (.iload 13, 2) := dk_21 13 (dk_at dksJ46_sort_2_15 19 rfl rfl)
theorem dJ46_sort_2_376 : decode cJ46_sort_2 376 = .ok (.iastore, 1) := dk_79 (dk_at dksJ46_sort_2_15 21 rfl rfl)
theorem dJ46_sort_2_377 : decode cJ46_sort_2 377 = .ok (.goto 60, 3) := dk_167 0 60 (dk_at dksJ46_sort_2_16 0 rfl rfl)
theorem dJ46_sort_2_380 : decode cJ46_sort_2 380 = .ok (.iload 13, 2) := dk_21 13 (dk_at dksJ46_sort_2_16 3 rfl rfl)
theorem dJ46_sort_2_382 : decode cJ46_sort_2 382 = .ok (.aload_n 1, 1) := dk_43 (dk_at dksJ46_sort_2_16 5 rfl rfl)
theorem dJ46_sort_2_383 : decode cJ46_sort_2 383 = .ok (.iload 12, 2) := dk_21 12 (dk_at dksJ46_sort_2_16 6 rfl rfl)
theorem dJ46_sort_2_385 : decode cJ46_sort_2 385 = .ok (.iaload, 1) := dk_46 (dk_at dksJ46_sort_2_16 8 rfl rfl)
theorem dJ46_sort_2_386 : decode cJ46_sort_2 386 = .ok (.if_icmp .le 51, 3) := dk_164 0 51 (dk_at dksJ46_sort_2_16 9 rfl rfl)
theorem dJ46_sort_2_389 : decode cJ46_sort_2 389 = .ok (.iload 13, 2) := dk_21 13 (dk_at dksJ46_sort_2_16 12 rfl rfl)
theorem dJ46_sort_2_391 : decode cJ46_sort_2 391 = .ok (.aload_n 1, 1) := dk_43 (dk_at dksJ46_sort_2_16 14 rfl rfl)
theorem dJ46_sort_2_392 : decode cJ46_sort_2 392 = .ok (.iload 9, 2) := dk_21 9 (dk_at dksJ46_sort_2_16 15 rfl rfl)
theorem dJ46_sort_2_394 : decode cJ46_sort_2 394 = .ok (.iaload, 1) := dk_46 (dk_at dksJ46_sort_2_16 17 rfl rfl)
theorem dJ46_sort_2_395 : decode cJ46_sort_2 395 = .ok (.if_icmp .le 28, 3) := dk_164 0 28 (dk_at dksJ46_sort_2_16 18 rfl rfl)
theorem dJ46_sort_2_398 : decode cJ46_sort_2 398 = .ok (.aload_n 1, 1) := dk_43 (dk_at dksJ46_sort_2_16 21 rfl rfl)
theorem dJ46_sort_2_399 : decode cJ46_sort_2 399 = .ok (.iload 10, 2) := dk_21 10 (dk_at dksJ46_sort_2_16 22 rfl rfl)
theorem dJ46_sort_2_401 : decode cJ46_sort_2 401 = .ok (.aload_n 1, 1) := dk_43 (dk_at dksJ46_sort_2_17 0 rfl rfl)
theorem dJ46_sort_2_402 : decode cJ46_sort_2 402 = .ok (.iload 12, 2) := dk_21 12 (dk_at dksJ46_sort_2_17 1 rfl rfl)
theorem dJ46_sort_2_404 : decode cJ46_sort_2 404 = .ok (.iaload, 1) := dk_46 (dk_at dksJ46_sort_2_17 3 rfl rfl)
theorem dJ46_sort_2_405 : decode cJ46_sort_2 405 = .ok (.iastore, 1) := dk_79 (dk_at dksJ46_sort_2_17 4 rfl rfl)
theorem dJ46_sort_2_406 : decode cJ46_sort_2 406 = .ok (.aload_n 1, 1) := dk_43 (dk_at dksJ46_sort_2_17 5 rfl rfl)
theorem dJ46_sort_2_407 : decode cJ46_sort_2 407 = .ok (.iload 12, 2) := dk_21 12 (dk_at dksJ46_sort_2_17 6 rfl rfl)
theorem dJ46_sort_2_409 : decode cJ46_sort_2 409 = .ok (.aload_n 1, 1) := dk_43 (dk_at dksJ46_sort_2_17 8 rfl rfl)
theorem dJ46_sort_2_410 : decode cJ46_sort_2 410 = .ok (.iload 9, 2) := dk_21 9 (dk_at dksJ46_sort_2_17 9 rfl rfl)
theorem dJ46_sort_2_412 : decode cJ46_sort_2 412 = .ok (.iaload, 1) := dk_46 (dk_at dksJ46_sort_2_17 11 rfl rfl)
theorem dJ46_sort_2_413 : decode cJ46_sort_2 413 = .ok (.iastore, 1) := dk_79 (dk_at dksJ46_sort_2_17 12 rfl rfl)
theorem dJ46_sort_2_414 : decode cJ46_sort_2 414 = .ok (.aload_n 1, 1) := dk_43 (dk_at dksJ46_sort_2_17 13 rfl rfl)
theorem dJ46_sort_2_415 : decode cJ46_sort_2 415 = .ok (.iload 9, 2) := dk_21 9 (dk_at dksJ46_sort_2_17 14 rfl rfl)
theorem dJ46_sort_2_417 : decode cJ46_sort_2 417 = .ok (.iload 13, 2) := dk_21 13 (dk_at dksJ46_sort_2_17 16 rfl rfl)
theorem dJ46_sort_2_419 : decode cJ46_sort_2 419 = .ok (.iastore, 1) := dk_79 (dk_at dksJ46_sort_2_17 18 rfl rfl)
theorem dJ46_sort_2_420 : decode cJ46_sort_2 420 = .ok (.goto 17, 3) := dk_167 0 17 (dk_at dksJ46_sort_2_17 19 rfl rfl)
theorem dJ46_sort_2_423 : decode cJ46_sort_2 423 = .ok (.aload_n 1, 1) := dk_43 (dk_at dksJ46_sort_2_17 22 rfl rfl)
theorem dJ46_sort_2_424 : decode cJ46_sort_2 424 = .ok (.iload 10, 2) := dk_21 10 (dk_at dksJ46_sort_2_18 0 rfl rfl)
theorem dJ46_sort_2_426 : decode cJ46_sort_2 426 = .ok (.aload_n 1, 1) := dk_43 (dk_at dksJ46_sort_2_18 2 rfl rfl)
theorem dJ46_sort_2_427 : decode cJ46_sort_2 427 = .ok (.iload 12, 2) := dk_21 12 (dk_at dksJ46_sort_2_18 3 rfl rfl)
theorem dJ46_sort_2_429 : decode cJ46_sort_2 429 = .ok (.iaload, 1) := dk_46 (dk_at dksJ46_sort_2_18 5 rfl rfl)
theorem dJ46_sort_2_430 : decode cJ46_sort_2 430 = .ok (.iastore, 1) := dk_79 (dk_at dksJ46_sort_2_18 6 rfl rfl)
theorem dJ46_sort_2_431 : decode cJ46_sort_2 431 = .ok (.aload_n 1, 1) := dk_43 (dk_at dksJ46_sort_2_18 7 rfl rfl)
theorem dJ46_sort_2_432 : decode cJ46_sort_2 432 = .ok (.iload 12, 2) := dk_21 12 (dk_at dksJ46_sort_2_18 8 rfl rfl)
theorem dJ46_sort_2_434 : decode cJ46_sort_2 434 = .ok (.iload 13, 2) := dk_21 13 (dk_at dksJ46_sort_2_18 10 rfl rfl)
theorem dJ46_sort_2_436 : decode cJ46_sort_2 436 = .ok (.iastore, 1) := dk_79 (dk_at dksJ46_sort_2_18 12 rfl rfl)
theorem dJ46_sort_2_437 : decode cJ46_sort_2 437 = .ok (.iload_n 3, 1) := dk_29 (dk_at dksJ46_sort_2_18 13 rfl rfl)
theorem dJ46_sort_2_438 : decode cJ46_sort_2 438 = .ok (.istore 14, 2) := dk_54 14 (dk_at dksJ46_sort_2_18 14 rfl rfl)
theorem dJ46_sort_2_440 : decode cJ46_sort_2 440 = .ok (.iload 5, 2) := dk_21 5 (dk_at dksJ46_sort_2_18 16 rfl rfl)
theorem dJ46_sort_2_442 : decode cJ46_sort_2 442 = .ok (.istore 15, 2) := dk_54 15 (dk_at dksJ46_sort_2_18 18 rfl rfl)
theorem dJ46_sort_2_444 : decode cJ46_sort_2 444 = .ok (.aload_n 1, 1) := dk_43 (dk_at dksJ46_sort_2_18 20 rfl rfl)
theorem dJ46_sort_2_445 : decode cJ46_sort_2 445 = .ok (.iload 8, 2) := dk_21 8 (dk_at dksJ46_sort_2_18 21 rfl rfl)
theorem dJ46_sort_2_447 : decode cJ46_sort_2 447 = .ok (.iaload, 1) := dk_46 (dk_at dksJ46_sort_2_18 23 rfl rfl)
theorem dJ46_sort_2_448 : decode cJ46_sort_2 448 = .ok (.aload_n 1, 1) := dk_43 (dk_at dksJ46_sort_2_19 0 rfl rfl)
theorem dJ46_sort_2_449 : decode cJ46_sort_2 449 = .ok (.iload 11, 2) := dk_21 11 (dk_at dksJ46_sort_2_19 1 rfl rfl)
theorem dJ46_sort_2_451 : decode cJ46_sort_2 451 = .ok (.iaload, 1) := dk_46 (dk_at dksJ46_sort_2_19 3 rfl rfl)
theorem dJ46_sort_2_452 : decode cJ46_sort_2 452 = .ok (.if_icmp .ge 324, 3) := dk_162 1 68 (dk_at dksJ46_sort_2_19 4 rfl rfl)
theorem dJ46_sort_2_455 : decode cJ46_sort_2 455 = .ok (.aload_n 1, 1) := dk_43 (dk_at dksJ46_sort_2_19 7 rfl rfl)
theorem dJ46_sort_2_456 : decode cJ46_sort_2 456 = .ok (.iload 11, 2) := dk_21 11 (dk_at dksJ46_sort_2_19 8 rfl rfl)
theorem dJ46_sort_2_458 : decode cJ46_sort_2 458 = .ok (.iaload, 1) := dk_46 (dk_at dksJ46_sort_2_19 10 rfl rfl)
theorem dJ46_sort_2_459 : decode cJ46_sort_2 459 = .ok (.aload_n 1, 1) := dk_43 (dk_at dksJ46_sort_2_19 11 rfl rfl)
theorem dJ46_sort_2_460 : decode cJ46_sort_2 460 = .ok (.iload 10, 2) := dk_21 10 (dk_at dksJ46_sort_2_19 12 rfl rfl)
theorem dJ46_sort_2_462 : decode cJ46_sort_2 462 = .ok (.iaload, 1) := dk_46 (dk_at dksJ46_sort_2_19 14 rfl rfl)
theorem dJ46_sort_2_463 : decode cJ46_sort_2 463 = .ok (.if_icmp .ge 313, 3) := dk_162 1 57 (dk_at dksJ46_sort_2_19 15 rfl rfl)
theorem dJ46_sort_2_466 : decode cJ46_sort_2 466 = .ok (.aload_n 1, 1) := dk_43 (dk_at dksJ46_sort_2_19 18 rfl rfl)
theorem dJ46_sort_2_467 : decode cJ46_sort_2 467 = .ok (.iload 10, 2) := dk_21 10 (dk_at dksJ46_sort_2_19 19 rfl rfl)
theorem dJ46_sort_2_469 : decode cJ46_sort_2 469 = .ok (.iaload, 1) := dk_46 (dk_at dksJ46_sort_2_19 21 rfl rfl)
theorem dJ46_sort_2_470 : decode cJ46_sort_2 470 = .ok (.aload_n 1, 1) := dk_43 (dk_at dksJ46_sort_2_19 22 rfl rfl)
theorem dJ46_sort_2_471 : decode cJ46_sort_2 471 = .ok (.iload 12, 2) := dk_21 12 (dk_at dksJ46_sort_2_20 0 rfl rfl)
theorem dJ46_sort_2_473 : decode cJ46_sort_2 473 = .ok (.iaload, 1) := dk_46 (dk_at dksJ46_sort_2_20 2 rfl rfl)
theorem dJ46_sort_2_474 : decode cJ46_sort_2 474 = .ok (.if_icmp .ge 302, 3) := dk_162 1 46 (dk_at dksJ46_sort_2_20 3 rfl rfl)
theorem dJ46_sort_2_477 : decode cJ46_sort_2 477 = .ok (.aload_n 1, 1) := dk_43 (dk_at dksJ46_sort_2_20 6 rfl rfl)
theorem dJ46_sort_2_478 : decode cJ46_sort_2 478 = .ok (.iload 12, 2) := dk_21 12 (dk_at dksJ46_sort_2_20 7 rfl rfl)
theorem dJ46_sort_2_480 : decode cJ46_sort_2 480 = .ok (.iaload, 1) := dk_46 (dk_at dksJ46_sort_2_20 9 rfl rfl)
theorem dJ46_sort_2_481 : decode cJ46_sort_2 481 = .ok (.aload_n 1, 1) := dk_43 (dk_at dksJ46_sort_2_20 10 rfl rfl)
theorem dJ46_sort_2_482 : decode cJ46_sort_2 482 = .ok (.iload 9, 2) := dk_21 9 (dk_at dksJ46_sort_2_20 11 rfl rfl)
theorem dJ46_sort_2_484 : decode cJ46_sort_2 484 = .ok (.iaload, 1) := dk_46 (dk_at dksJ46_sort_2_20 13 rfl rfl)
theorem dJ46_sort_2_485 : decode cJ46_sort_2 485 = .ok (.if_icmp .ge 291, 3) := dk_162 1 35 (dk_at dksJ46_sort_2_20 14 rfl rfl)
theorem dJ46_sort_2_488 : decode cJ46_sort_2 488 = .ok (.aload_n 1, 1) := dk_43 (dk_at dksJ46_sort_2_20 17 rfl rfl)
theorem dJ46_sort_2_489 : decode cJ46_sort_2 489 = .ok (.iload 8, 2) := dk_21 8 (dk_at dksJ46_sort_2_20 18 rfl rfl)
theorem dJ46_sort_2_491 : decode cJ46_sort_2 491 = .ok (.iaload, 1) := dk_46 (dk_at dksJ46_sort_2_20 20 rfl rfl)
theorem dJ46_sort_2_492 : decode cJ46_sort_2 492 = .ok (.istore 16, 2) := dk_54 16 (dk_at dksJ46_sort_2_20 21 rfl rfl)
theorem dJ46_sort_2_494 : decode cJ46_sort_2 494 = .ok (.aload_n 1, 1) := dk_43 (dk_at dksJ46_sort_2_20 23 rfl rfl)
theorem dJ46_sort_2_495 : decode cJ46_sort_2 495 = .ok (.iload 9, 2) := dk_21 9 (dk_at dksJ46_sort_2_21 0 rfl rfl)
theorem dJ46_sort_2_497 : decode cJ46_sort_2 497 = .ok (.iaload, 1) := dk_46 (dk_at dksJ46_sort_2_21 2 rfl rfl)
theorem dJ46_sort_2_498 : decode cJ46_sort_2 498 = .ok (.istore 17, 2) := dk_54 17 (dk_at dksJ46_sort_2_21 3 rfl rfl)
theorem dJ46_sort_2_500 : decode cJ46_sort_2 500 = .ok (.aload_n 1, 1) := dk_43 (dk_at dksJ46_sort_2_21 5 rfl rfl)
theorem dJ46_sort_2_501 : decode cJ46_sort_2 501 = .ok (.iload 8, 2) := dk_21 8 (dk_at dksJ46_sort_2_21 6 rfl rfl)
theorem dJ46_sort_2_503 : decode cJ46_sort_2 503 = .ok (.aload_n 1, 1) := dk_43 (dk_at dksJ46_sort_2_21 8 rfl rfl)
theorem dJ46_sort_2_504 : decode cJ46_sort_2 504 = .ok (.iload 14, 2) := dk_21 14 (dk_at dksJ46_sort_2_21 9 rfl rfl)
theorem dJ46_sort_2_506 : decode cJ46_sort_2 506 = .ok (.iaload, 1) := dk_46 (dk_at dksJ46_sort_2_21 11 rfl rfl)
theorem dJ46_sort_2_507 : decode cJ46_sort_2 507 = .ok (.iastore, 1) := dk_79 (dk_at dksJ46_sort_2_21 12 rfl rfl)
theorem dJ46_sort_2_508 : decode cJ46_sort_2 508 = .ok (.aload_n 1, 1) := dk_43 (dk_at dksJ46_sort_2_21 13 rfl rfl)
theorem dJ46_sort_2_509 : decode cJ46_sort_2 509 = .ok (.iload 9, 2) := dk_21 9 (dk_at dksJ46_sort_2_21 14 rfl rfl)
theorem dJ46_sort_2_511 : decode cJ46_sort_2 511 = .ok (.aload_n 1, 1) := dk_43 (dk_at dksJ46_sort_2_21 16 rfl rfl)
theorem dJ46_sort_2_512 : decode cJ46_sort_2 512 = .ok (.iload 15, 2) := dk_21 15 (dk_at dksJ46_sort_2_21 17 rfl rfl)
theorem dJ46_sort_2_514 : decode cJ46_sort_2 514 = .ok (.iaload, 1) := dk_46 (dk_at dksJ46_sort_2_21 19 rfl rfl)
theorem dJ46_sort_2_515 : decode cJ46_sort_2 515 = .ok (.iastore, 1) := dk_79 (dk_at dksJ46_sort_2_21 20 rfl rfl)
theorem dJ46_sort_2_516 : decode cJ46_sort_2 516 = .ok (.aload_n 1, 1) := dk_43 (dk_at dksJ46_sort_2_21 21 rfl rfl)
theorem dJ46_sort_2_517 : decode cJ46_sort_2 517 = .ok (.iinc 14 1, 3) := dk_132 14 1 (dk_at dksJ46_sort_2_22 0 rfl rfl)
theorem dJ46_sort_2_520 : decode cJ46_sort_2 520 = .ok (.iload 14, 2) := dk_21 14 (dk_at dksJ46_sort_2_22 3 rfl rfl)
theorem dJ46_sort_2_522 : decode cJ46_sort_2 522 = .ok (.iaload, 1) := dk_46 (dk_at dksJ46_sort_2_22 5 rfl rfl)
theorem dJ46_sort_2_523 : decode cJ46_sort_2 523 = .ok (.iload 16, 2) := dk_21 16 (dk_at dksJ46_sort_2_22 6 rfl rfl)
theorem dJ46_sort_2_525 : decode cJ46_sort_2 525 = .ok (.if_icmp .ge 6, 3) := dk_162 0 6 (dk_at dksJ46_sort_2_22 8 rfl rfl)
theorem dJ46_sort_2_528 : decode cJ46_sort_2 528 = .ok (.goto (-12), 3) := dk_167 255 244 (dk_at dksJ46_sort_2_22 11 rfl rfl)
theorem dJ46_sort_2_531 : decode cJ46_sort_2 531 = .ok (.aload_n 1, 1) := dk_43 (dk_at dksJ46_sort_2_22 14 rfl rfl)
theorem dJ46_sort_2_532 : decode cJ46_sort_2 532 = .ok (.iinc 15 (-1), 3) := dk_132 15 255 (dk_at dksJ46_sort_2_22 15 rfl rfl)
theorem dJ46_sort_2_535 : decode cJ46_sort_2 535 = .ok (.iload 15, 2) := dk_21 15 (dk_at dksJ46_sort_2_22 18 rfl rfl)
theorem dJ46_sort_2_537 : decode cJ46_sort_2 537 = .ok (.iaload, 1) := dk_46 (dk_at dksJ46_sort_2_22 20 rfl rfl)
theorem dJ46_sort_2_538 : decode cJ46_sort_2 538 = .ok (.iload 17, 2) := dk_21 17 (dk_at dksJ46_sort_2_22 21 rfl rfl)
theorem dJ46_sort_2_540 : decode cJ46_sort_2 540 = .ok (.if_icmp .le 6, 3) := dk_164 0 6 (dk_at dksJ46_sort_2_23 0 rfl rfl)
theorem dJ46_sort_2_543 : decode cJ46_sort_2 543 = .ok (.goto (-12), 3) := dk_167 255 244 (dk_at dksJ46_sort_2_23 3 rfl rfl)
theorem dJ46_sort_2_546 : decode cJ46_sort_2 546 = .ok (.iinc 14 (-1), 3) := dk_132 14 255 (dk_at dksJ46_sort_2_23 6 rfl rfl)
theorem dJ46_sort_2_549 : decode cJ46_sort_2 549 = .ok (.iload 14, 2) := dk_21 14 (dk_at dksJ46_sort_2_23 9 rfl rfl)
theorem dJ46_sort_2_551 : decode cJ46_sort_2 551 = .ok (.istore 18, 2) := dk_54 18 (dk_at dksJ46_sort_2_23 11 rfl rfl)
theorem dJ46_sort_2_553 : decode cJ46_sort_2 553 = .ok (.iinc 15 1, 3) := dk_132 15 1 (dk_at dksJ46_sort_2_23 13 rfl rfl)
theorem dJ46_sort_2_556 : decode cJ46_sort_2 556 = .ok (.iload 15, 2) := dk_21 15 (dk_at dksJ46_sort_2_23 16 rfl rfl)
theorem dJ46_sort_2_558 : decode cJ46_sort_2 558 = .ok (.istore 19, 2) := dk_54 19 (dk_at dksJ46_sort_2_23 18 rfl rfl)
theorem dJ46_sort_2_560 : decode cJ46_sort_2 560 = .ok (.iinc 19 (-1), 3) := dk_132 19 255 (dk_at dksJ46_sort_2_23 20 rfl rfl)
theorem dJ46_sort_2_563 : decode cJ46_sort_2 563 = .ok (.iload 19, 2) := dk_21 19 (dk_at dksJ46_sort_2_24 0 rfl rfl)
theorem dJ46_sort_2_565 : decode cJ46_sort_2 565 = .ok (.iload 14, 2) := dk_21 14 (dk_at dksJ46_sort_2_24 2 rfl rfl)
theorem dJ46_sort_2_567 : decode cJ46_sort_2 567 = .ok (.if_icmp .le 110, 3) := dk_164 0 110 (dk_at dksJ46_sort_2_24 4 rfl rfl)
theorem dJ46_sort_2_570 : decode cJ46_sort_2 570 = .ok (.aload_n 1, 1) := dk_43 (dk_at dksJ46_sort_2_24 7 rfl rfl)
theorem dJ46_sort_2_571 : decode cJ46_sort_2 571 = .ok (.iload 19, 2) := dk_21 19 (dk_at dksJ46_sort_2_24 8 rfl rfl)
theorem dJ46_sort_2_573 : decode cJ46_sort_2 573 = .ok (.iaload, 1) := dk_46 (dk_at dksJ46_sort_2_24 10 rfl rfl)
theorem dJ46_sort_2_574 : decode cJ46_sort_2 574 = .ok (.istore 20, 2) := dk_54 20 (dk_at dksJ46_sort_2_24 11 rfl rfl)
theorem dJ46_sort_2_576 : decode cJ46_sort_2 576 = .ok (.iload 20, 2) := dk_21 20 (dk_at dksJ46_sort_2_24 13 rfl rfl)
theorem dJ46_sort_2_578 : decode cJ46_sort_2 578 = .ok (.iload 16, 2) := dk_21 16 (dk_at dksJ46_sort_2_24 15 rfl rfl)
theorem dJ46_sort_2_580 : decode cJ46_sort_2 580 = .ok (.if_icmp .ge 70, 3) := dk_162 0 70 (dk_at dksJ46_sort_2_24 17 rfl rfl)
theorem dJ46_sort_2_583 : decode cJ46_sort_2 583 = .ok (.iload 14, 2) := dk_21 14 (dk_at dksJ46_sort_2_24 20 rfl rfl)
theorem dJ46_sort_2_585 : decode cJ46_sort_2 585 = .ok (.iload 19, 2) := dk_21 19 (dk_at dksJ46_sort_2_24 22 rfl rfl)
theorem dJ46_sort_2_587 : decode cJ46_sort_2 587 = .ok (.if_icmp .ge 87, 3) := dk_162 0 87 (dk_at dksJ46_sort_2_25 0 rfl rfl)
theorem dJ46_sort_2_590 : decode cJ46_sort_2 590 = .ok (.aload_n 1, 1) := dk_43 (dk_at dksJ46_sort_2_25 3 rfl rfl)
theorem dJ46_sort_2_591 : decode cJ46_sort_2 591 = .ok (.iinc 14 1, 3) := dk_132 14 1 (dk_at dksJ46_sort_2_25 4 rfl rfl)
theorem dJ46_sort_2_594 : decode cJ46_sort_2 594 = .ok (.iload 14, 2) := dk_21 14 (dk_at dksJ46_sort_2_25 7 rfl rfl)
theorem dJ46_sort_2_596 : decode cJ46_sort_2 596 = .ok (.iaload, 1) := dk_46 (dk_at dksJ46_sort_2_25 9 rfl rfl)
theorem dJ46_sort_2_597 : decode cJ46_sort_2 597 = .ok (.iload 16, 2) := dk_21 16 (dk_at dksJ46_sort_2_25 10 rfl rfl)
theorem dJ46_sort_2_599 : decode cJ46_sort_2 599 = .ok (.if_icmp .lt (-16), 3) := dk_161 255 240 (dk_at dksJ46_sort_2_25 12 rfl rfl)
theorem dJ46_sort_2_602 : decode cJ46_sort_2 602 = .ok (.aload_n 1, 1) := dk_43 (dk_at dksJ46_sort_2_25 15 rfl rfl)
theorem dJ46_sort_2_603 : decode cJ46_sort_2 603 = .ok (.iload 14, 2) := dk_21 14 (dk_at dksJ46_sort_2_25 16 rfl rfl)
theorem dJ46_sort_2_605 : decode cJ46_sort_2 605 = .ok (.iaload, 1) := dk_46 (dk_at dksJ46_sort_2_25 18 rfl rfl)
theorem dJ46_sort_2_606 : decode cJ46_sort_2 606 = .ok (.iload 17, 2) := dk_21 17 (dk_at dksJ46_sort_2_25 19 rfl rfl)
theorem dJ46_sort_2_608 : decode cJ46_sort_2 608 = .ok (.if_icmp .le 25, 3) := dk_164 0 25 (dk_at dksJ46_sort_2_25 21 rfl rfl)
theorem dJ46_sort_2_611 : decode cJ46_sort_2 611 = .ok (.aload_n 1, 1) := dk_43 (dk_at dksJ46_sort_2_26 0 rfl rfl)
theorem dJ46_sort_2_612 : decode cJ46_sort_2 612 = .ok (.iload 19, 2) := dk_21 19 (dk_at dksJ46_sort_2_26 1 rfl rfl)
theorem dJ46_sort_2_614 : decode cJ46_sort_2 614 = .ok (.aload_n 1, 1) := dk_43 (dk_at dksJ46_sort_2_26 3 rfl rfl)
theorem dJ46_sort_2_615 : decode cJ46_sort_2 615 = .ok (.iinc 15 (-1), 3) := dk_132 15 255 (dk_at dksJ46_sort_2_26 4 rfl rfl)
theorem dJ46_sort_2_618 : decode cJ46_sort_2 618 = .ok (.iload 15, 2) := dk_21 15 (dk_at dksJ46_sort_2_26 7 rfl rfl)
theorem dJ46_sort_2_620 : decode cJ46_sort_2 620 = .ok (.iaload, 1) := dk_46 (dk_at dksJ46_sort_2_26 9 rfl rfl)
theorem dJ46_sort_2_621 : decode cJ46_sort_2 621 = .ok (.iastore, 1) := dk_79 (dk_at dksJ46_sort_2_26 10 rfl rfl)
theorem dJ46_sort_2_622 : decode cJ46_sort_2 622 = .ok (.aload_n 1, 1) := dk_43 (dk_at dksJ46_sort_2_26 11 rfl rfl)
theorem dJ46_sort_2_623 : decode cJ46_sort_2 623 = .ok (.iload 15, 2) := dk_21 15 (dk_at dksJ46_sort_2_26 12 rfl rfl)
theorem dJ46_sort_2_625 : decode cJ46_sort_2 625 = .ok (.aload_n 1, 1) := dk_43 (dk_at dksJ46_sort_2_26 14 rfl rfl)
theorem dJ46_sort_2_626 : decode cJ46_sort_2 626 = .ok (.iload 14, 2) := dk_21 14 (dk_at dksJ46_sort_2_26 15 rfl rfl)
theorem dJ46_sort_2_628 : decode cJ46_sort_2 628 = .ok (.iaload, 1) := dk_46 (dk_at dksJ46_sort_2_26 17 rfl rfl)
theorem dJ46_sort_2_629 : decode cJ46_sort_2 629 = .ok (.iastore, 1) := dk_79 (dk_at dksJ46_sort_2_26 18 rfl rfl)
theorem dJ46_sort_2_630 : decode cJ46_sort_2 630 = .ok (.goto 11, 3) := dk_167 0 11 (dk_at dksJ46_sort_2_26 19 rfl rfl)
theorem dJ46_sort_2_633 : decode cJ46_sort_2 633 = .ok (.aload_n 1, 1) := dk_43 (dk_at dksJ46_sort_2_26 22 rfl rfl)
theorem dJ46_sort_2_634 : decode cJ46_sort_2 634 = .ok (.iload 19, 2) := dk_21 19 (dk_at dksJ46_sort_2_27 0 rfl rfl)
theorem dJ46_sort_2_636 : decode cJ46_sort_2 636 = .ok (.aload_n 1, 1) := dk_43 (dk_at dksJ46_sort_2_27 2 rfl rfl)
theorem dJ46_sort_2_637 : decode cJ46_sort_2 637 = .ok (.iload 14, 2) := dk_21 14 (dk_at dksJ46_sort_2_27 3 rfl rfl)
theorem dJ46_sort_2_639 : decode cJ46_sort_2 639 = .ok (.iaload, 1) := dk_46 (dk_at dksJ46_sort_2_27 5 rfl rfl)
theorem dJ46_sort_2_640 : decode cJ46_sort_2 640 = .ok (.iastore, 1) := dk_79 (dk_at dksJ46_sort_2_27 6 rfl rfl)
theorem dJ46_sort_2_641 : decode cJ46_sort_2 641 = .ok (.aload_n 1, 1) := dk_43 (dk_at dksJ46_sort_2_27 7 rfl rfl)
theorem dJ46_sort_2_642 : decode cJ46_sort_2 642 = .ok (.iload 14, 2) := dk_21 14 (dk_at dksJ46_sort_2_27 8 rfl rfl)
theorem dJ46_sort_2_644 : decode cJ46_sort_2 644 = .ok (.iload 20, 2) := dk_21 20 (dk_at dksJ46_sort_2_27 10 rfl rfl)
theorem dJ46_sort_2_646 : decode cJ46_sort_2 646 = .ok (.iastore, 1) := dk_79 (dk_at dksJ46_sort_2_27 12 rfl rfl)
theorem dJ46_sort_2_647 : decode cJ46_sort_2 647 = .ok (.goto 27, 3) := dk_167 0 27 (dk_at dksJ46_sort_2_27 13 rfl rfl)
theorem dJ46_sort_2_650 : decode cJ46_sort_2 650 = .ok (.iload 20, 2) := dk_21 20 (dk_at dksJ46_sort_2_27 16 rfl rfl)
theorem dJ46_sort_2_652 : decode cJ46_sort_2 652 = .ok (.iload 17, 2) := dk_21 17 (dk_at dksJ46_sort_2_27 18 rfl rfl)
theorem dJ46_sort_2_654 : decode cJ46_sort_2 654 = .ok (.if_icmp .le 20, 3) := dk_164 0 20 (dk_at dksJ46_sort_2_27 20 rfl rfl)
theorem dJ46_sort_2_657 : decode cJ46_sort_2 657 = .ok (.aload_n 1, 1) := dk_43 (dk_at dksJ46_sort_2_27 23 rfl rfl)
theorem dJ46_sort_2_658 : decode cJ46_sort_2 658 = .ok (.iload 19, 2) := dk_21 19 (dk_at dksJ46_sort_2_28 0 rfl rfl)
theorem dJ46_sort_2_660 : decode cJ46_sort_2 660 = .ok (.aload_n 1, 1) := dk_43 (dk_at dksJ46_sort_2_28 2 rfl rfl)
theorem dJ46_sort_2_661 : decode cJ46_sort_2 661 = .ok (.iinc 15 (-1), 3) := dk_132 15 255 (dk_at dksJ46_sort_2_28 3 rfl rfl)
theorem dJ46_sort_2_664 : decode cJ46_sort_2 664 = .ok (.iload 15, 2) := dk_21 15 (dk_at dksJ46_sort_2_28 6 rfl rfl)
theorem dJ46_sort_2_666 : decode cJ46_sort_2 666 = .ok (.iaload, 1) := dk_46 (dk_at dksJ46_sort_2_28 8 rfl rfl)
theorem dJ46_sort_2_667 : decode cJ46_sort_2 667 = .ok (.iastore, 1) := dk_79 (dk_at dksJ46_sort_2_28 9 rfl rfl)
theorem dJ46_sort_2_668 : decode cJ46_sort_2 668 = .ok (.aload_n 1, 1) := dk_43 (dk_at dksJ46_sort_2_28 10 rfl rfl)
theorem dJ46_sort_2_669 : decode cJ46_sort_2 669 = .ok (.iload 15, 2) := dk_21 15 (dk_at dksJ46_sort_2_28 11 rfl rfl)
theorem dJ46_sort_2_671 : decode cJ46_sort_2 671 = .ok (.iload 20, 2) := dk_21 20 (dk_at dksJ46_sort_2_28 13 rfl rfl)
theorem dJ46_sort_2_673 : decode cJ46_sort_2 673 = .ok (.iastore, 1) := dk_79 (dk_at dksJ46_sort_2_28 15 rfl rfl)
theorem dJ46_sort_2_674 : decode cJ46_sort_2 674 = .ok (.goto (-114), 3) := dk_167 255 142 (dk_at dksJ46_sort_2_28 16 rfl rfl)
theorem dJ46_sort_2_677 : decode cJ46_sort_2 677 = .ok (.aload_n 1, 1) := dk_43 (dk_at dksJ46_sort_2_28 19 rfl rfl)
theorem dJ46_sort_2_678 : decode cJ46_sort_2 678 = .ok (.iload_n 3, 1) := dk_29 (dk_at dksJ46_sort_2_28 20 rfl rfl)
theorem dJ46_sort_2_679 : decode cJ46_sort_2 679 = .ok (.aload_n 1, 1) := dk_43 (dk_at dksJ46_sort_2_28 21 rfl rfl)
theorem dJ46_sort_2_680 : decode cJ46_sort_2 680 = .ok (.iload 14, 2) := dk_21 14 (dk_at dksJ46_sort_2_28 22 rfl rfl)
theorem dJ46_sort_2_682 : decode cJ46_sort_2 682 = .ok (.iaload, 1) := dk_46 (dk_at dksJ46_sort_2_29 0 rfl rfl)
theorem dJ46_sort_2_683 : decode cJ46_sort_2 683 = .ok (.iastore, 1) := dk_79 (dk_at dksJ46_sort_2_29 1 rfl rfl)
theorem dJ46_sort_2_684 : decode cJ46_sort_2 684 = .ok (.aload_n 1, 1) := dk_43 (dk_at dksJ46_sort_2_29 2 rfl rfl)
theorem dJ46_sort_2_685 : decode cJ46_sort_2 685 = .ok (.iload 14, 2) := dk_21 14 (dk_at dksJ46_sort_2_29 3 rfl rfl)
theorem dJ46_sort_2_687 : decode cJ46_sort_2 687 = .ok (.iload 16, 2) := dk_21 16 (dk_at dksJ46_sort_2_29 5 rfl rfl)
theorem dJ46_sort_2_689 : decode cJ46_sort_2 689 = .ok (.iastore, 1) := dk_79 (dk_at dksJ46_sort_2_29 7 rfl rfl)
theorem dJ46_sort_2_690 : decode cJ46_sort_2 690 = .ok (.aload_n 1, 1) := dk_43 (dk_at dksJ46_sort_2_29 8 rfl rfl)
theorem dJ46_sort_2_691 : decode cJ46_sort_2 691 = .ok (.iload 5, 2) := dk_21 5 (dk_at dksJ46_sort_2_29 9 rfl rfl)
theorem dJ46_sort_2_693 : decode cJ46_sort_2 693 = .ok (.aload_n 1, 1) := dk_43 (dk_at dksJ46_sort_2_29 11 rfl rfl)
theorem dJ46_sort_2_694 : decode cJ46_sort_2 694 = .ok (.iload 15, 2) := dk_21 15 (dk_at dksJ46_sort_2_29 12 rfl rfl)
theorem dJ46_sort_2_696 : decode cJ46_sort_2 696 = .ok (.iaload, 1) := dk_46 (dk_at dksJ46_sort_2_29 14 rfl rfl)
theorem dJ46_sort_2_697 : decode cJ46_sort_2 697 = .ok (.iastore, 1) := dk_79 (dk_at dksJ46_sort_2_29 15 rfl rfl)
theorem dJ46_sort_2_698 : decode cJ46_sort_2 698 = .ok (.aload_n 1, 1) := dk_43 (dk_at dksJ46_sort_2_29 16 rfl rfl)
theorem dJ46_sort_2_699 : decode cJ46_sort_2 699 = .ok (.iload 15, 2) := dk_21 15 (dk_at dksJ46_sort_2_29 17 rfl rfl)
theorem dJ46_sort_2_701 : decode cJ46_sort_2 701 = .ok (.iload 17, 2) := dk_21 17 (dk_at dksJ46_sort_2_29 19 rfl rfl)
theorem dJ46_sort_2_703 : decode cJ46_sort_2 703 = .ok (.iastore, 1) := dk_79 (dk_at dksJ46_sort_2_29 21 rfl rfl)
theorem dJ46_sort_2_704 : decode cJ46_sort_2 704 = .ok (.iload 6, 2) := dk_21 6 (dk_at dksJ46_sort_2_29 22 rfl rfl)
theorem dJ46_sort_2_706 : decode cJ46_sort_2 706 = .ok (.sipush 4096, 3) := dk_17 16 0 (dk_at dksJ46_sort_2_30 0 rfl rfl)
theorem dJ46_sort_2_709 : decode cJ46_sort_2 709 = .ok (.if_icmp .le 36, 3) := dk_164 0 36 (dk_at dksJ46_sort_2_30 3 rfl rfl)
theorem dJ46_sort_2_712 : decode cJ46_sort_2 712 = .ok (.aload_n 0, 1) := dk_42 (dk_at dksJ46_sort_2_30 6 rfl rfl)
theorem dJ46_sort_2_713 : decode cJ46_sort_2 713 = .ok (.ifnull 32, 3) := dk_198 0 32 (dk_at dksJ46_sort_2_30 7 rfl rfl)
theorem dJ46_sort_2_716 : decode cJ46_sort_2 716 = .ok (.aload_n 0, 1) := dk_42 (dk_at dksJ46_sort_2_30 10 rfl rfl)
theorem dJ46_sort_2_717 : decode cJ46_sort_2 717 = .ok (.iload_n 2, 1) := dk_28 (dk_at dksJ46_sort_2_30 11 rfl rfl)
theorem dJ46_sort_2_718 : decode cJ46_sort_2 718 = .ok (.iconst 1, 1) := dk_4 (dk_at dksJ46_sort_2_30 12 rfl rfl)
theorem dJ46_sort_2_719 : decode cJ46_sort_2 719 = .ok (.ior, 1) := dk_128 (dk_at dksJ46_sort_2_30 13 rfl rfl)
theorem dJ46_sort_2_720 : decode cJ46_sort_2 720 = .ok (.iload 14, 2) := dk_21 14 (dk_at dksJ46_sort_2_30 14 rfl rfl)
theorem dJ46_sort_2_722 : decode cJ46_sort_2 722 = .ok (.iconst 1, 1) := dk_4 (dk_at dksJ46_sort_2_30 16 rfl rfl)
theorem dJ46_sort_2_723 : decode cJ46_sort_2 723 = .ok (.iadd, 1) := dk_96 (dk_at dksJ46_sort_2_30 17 rfl rfl)
theorem dJ46_sort_2_724 : decode cJ46_sort_2 724 = .ok (.iload 15, 2) := dk_21 15 (dk_at dksJ46_sort_2_30 18 rfl rfl)
theorem dJ46_sort_2_726 : decode cJ46_sort_2 726 = .ok (.invokevirtual 45, 3) := dk_182 0 45 (dk_at dksJ46_sort_2_30 20 rfl rfl)
theorem dJ46_sort_2_729 : decode cJ46_sort_2 729 = .ok (.aload_n 0, 1) := dk_42 (dk_at dksJ46_sort_2_30 23 rfl rfl)
theorem dJ46_sort_2_730 : decode cJ46_sort_2 730 = .ok (.iload_n 2, 1) := dk_28 (dk_at dksJ46_sort_2_31 0 rfl rfl)
theorem dJ46_sort_2_731 : decode cJ46_sort_2 731 = .ok (.iconst 1, 1) := dk_4 (dk_at dksJ46_sort_2_31 1 rfl rfl)
theorem dJ46_sort_2_732 : decode cJ46_sort_2 732 = .ok (.ior, 1) := dk_128 (dk_at dksJ46_sort_2_31 2 rfl rfl)
theorem dJ46_sort_2_733 : decode cJ46_sort_2 733 = .ok (.iload 15, 2) := dk_21 15 (dk_at dksJ46_sort_2_31 3 rfl rfl)
theorem dJ46_sort_2_735 : decode cJ46_sort_2 735 = .ok (.iconst 1, 1) := dk_4 (dk_at dksJ46_sort_2_31 5 rfl rfl)
theorem dJ46_sort_2_736 : decode cJ46_sort_2 736 = .ok (.iadd, 1) := dk_96 (dk_at dksJ46_sort_2_31 6 rfl rfl)
theorem dJ46_sort_2_737 : decode cJ46_sort_2 737 = .ok (.iload 4, 2) := dk_21 4 (dk_at dksJ46_sort_2_31 7 rfl rfl)
theorem dJ46_sort_2_739 : decode cJ46_sort_2 739 = .ok (.invokevirtual 45, 3) := dk_182 0 45 (dk_at dksJ46_sort_2_31 9 rfl rfl)
theorem dJ46_sort_2_742 : decode cJ46_sort_2 742 = .ok (.goto 31, 3) := dk_167 0 31 (dk_at dksJ46_sort_2_31 12 rfl rfl)
theorem dJ46_sort_2_745 : decode cJ46_sort_2 745 = .ok (.aload_n 0, 1) := dk_42 (dk_at dksJ46_sort_2_31 15 rfl rfl)
theorem dJ46_sort_2_746 : decode cJ46_sort_2 746 = .ok (.aload_n 1, 1) := dk_43 (dk_at dksJ46_sort_2_31 16 rfl rfl)
theorem dJ46_sort_2_747 : decode cJ46_sort_2 747 = .ok (.iload_n 2, 1) := dk_28 (dk_at dksJ46_sort_2_31 17 rfl rfl)
theorem dJ46_sort_2_748 : decode cJ46_sort_2 748 = .ok (.iconst 1, 1) := dk_4 (dk_at dksJ46_sort_2_31 18 rfl rfl)
theorem dJ46_sort_2_749 : decode cJ46_sort_2 749 = .ok (.ior, 1) := dk_128 (dk_at dksJ46_sort_2_31 19 rfl rfl)
theorem dJ46_sort_2_750 : decode cJ46_sort_2 750 = .ok (.iload 14, 2) := dk_21 14 (dk_at dksJ46_sort_2_31 20 rfl rfl)
theorem dJ46_sort_2_752 : decode cJ46_sort_2 752 = .ok (.iconst 1, 1) := dk_4 (dk_at dksJ46_sort_2_31 22 rfl rfl)
theorem dJ46_sort_2_753 : decode cJ46_sort_2 753 = .ok (.iadd, 1) := dk_96 (dk_at dksJ46_sort_2_31 23 rfl rfl)
theorem dJ46_sort_2_754 : decode cJ46_sort_2 754 = .ok (.iload 15, 2) := dk_21 15 (dk_at dksJ46_sort_2_32 0 rfl rfl)
theorem dJ46_sort_2_756 : decode cJ46_sort_2 756 = .ok (.invokestatic 26, 3) := dk_184 0 26 (dk_at dksJ46_sort_2_32 2 rfl rfl)
theorem dJ46_sort_2_759 : decode cJ46_sort_2 759 = .ok (.aload_n 0, 1) := dk_42 (dk_at dksJ46_sort_2_32 5 rfl rfl)
theorem dJ46_sort_2_760 : decode cJ46_sort_2 760 = .ok (.aload_n 1, 1) := dk_43 (dk_at dksJ46_sort_2_32 6 rfl rfl)
theorem dJ46_sort_2_761 : decode cJ46_sort_2 761 = .ok (.iload_n 2, 1) := dk_28 (dk_at dksJ46_sort_2_32 7 rfl rfl)
theorem dJ46_sort_2_762 : decode cJ46_sort_2 762 = .ok (.iconst 1, 1) := dk_4 (dk_at dksJ46_sort_2_32 8 rfl rfl)
theorem dJ46_sort_2_763 : decode cJ46_sort_2 763 = .ok (.ior, 1) := dk_128 (dk_at dksJ46_sort_2_32 9 rfl rfl)
theorem dJ46_sort_2_764 : decode cJ46_sort_2 764 = .ok (.iload 15, 2) := dk_21 15 (dk_at dksJ46_sort_2_32 10 rfl rfl)
theorem dJ46_sort_2_766 : decode cJ46_sort_2 766 = .ok (.iconst 1, 1) := dk_4 (dk_at dksJ46_sort_2_32 12 rfl rfl)
theorem dJ46_sort_2_767 : decode cJ46_sort_2 767 = .ok (.iadd, 1) := dk_96 (dk_at dksJ46_sort_2_32 13 rfl rfl)
theorem dJ46_sort_2_768 : decode cJ46_sort_2 768 = .ok (.iload 4, 2) := dk_21 4 (dk_at dksJ46_sort_2_32 14 rfl rfl)
theorem dJ46_sort_2_770 : decode cJ46_sort_2 770 = .ok (.invokestatic 26, 3) := dk_184 0 26 (dk_at dksJ46_sort_2_32 16 rfl rfl)
theorem dJ46_sort_2_773 : decode cJ46_sort_2 773 = .ok (.goto 167, 3) := dk_167 0 167 (dk_at dksJ46_sort_2_32 19 rfl rfl)
theorem dJ46_sort_2_776 : decode cJ46_sort_2 776 = .ok (.aload_n 1, 1) := dk_43 (dk_at dksJ46_sort_2_32 22 rfl rfl)
theorem dJ46_sort_2_777 : decode cJ46_sort_2 777 = .ok (.iload 10, 2) := dk_21 10 (dk_at dksJ46_sort_2_33 0 rfl rfl)
theorem dJ46_sort_2_779 : decode cJ46_sort_2 779 = .ok (.iaload, 1) := dk_46 (dk_at dksJ46_sort_2_33 2 rfl rfl)
theorem dJ46_sort_2_780 : decode cJ46_sort_2 780 = .ok (.istore 16, 2) := dk_54 16 (dk_at dksJ46_sort_2_33 3 rfl rfl)
theorem dJ46_sort_2_782 : decode cJ46_sort_2 782 = .ok (.aload_n 1, 1) := dk_43 (dk_at dksJ46_sort_2_33 5 rfl rfl)
theorem dJ46_sort_2_783 : decode cJ46_sort_2 783 = .ok (.iload 10, 2) := dk_21 10 (dk_at dksJ46_sort_2_33 6 rfl rfl)
theorem dJ46_sort_2_785 : decode cJ46_sort_2 785 = .ok (.aload_n 1, 1) := dk_43 (dk_at dksJ46_sort_2_33 8 rfl rfl)
theorem dJ46_sort_2_786 : decode cJ46_sort_2 786 = .ok (.iload 14, 2) := dk_21 14 (dk_at dksJ46_sort_2_33 9 rfl rfl)
theorem dJ46_sort_2_788 : decode cJ46_sort_2 788 = .ok (.iaload, 1) := dk_46 (dk_at dksJ46_sort_2_33 11 rfl rfl)
theorem dJ46_sort_2_789 : decode cJ46_sort_2 789 = .ok (.iastore, 1) := dk_79 (dk_at dksJ46_sort_2_33 12 rfl rfl)
theorem dJ46_sort_2_790 : decode cJ46_sort_2 790 = .ok (.iinc 15 1, 3) := dk_132 15 1 (dk_at dksJ46_sort_2_33 13 rfl rfl)
theorem dJ46_sort_2_793 : decode cJ46_sort_2 793 = .ok (.iload 15, 2) := dk_21 15 (dk_at dksJ46_sort_2_33 16 rfl rfl)
theorem dJ46_sort_2_795 : decode cJ46_sort_2 795 = .ok (.istore 17, 2) := dk_54 17 (dk_at dksJ46_sort_2_33 18 rfl rfl)
theorem dJ46_sort_2_797 : decode cJ46_sort_2 797 = .ok (.iinc 17 (-1), 3) := dk_132 17 255 (dk_at dksJ46_sort_2_33 20 rfl rfl)
theorem dJ46_sort_2_800 : decode cJ46_sort_2 800 = .ok (.iload 17, 2) := dk_21 17 (dk_at dksJ46_sort_2_34 0 rfl rfl)
theorem dJ46_sort_2_802 : decode cJ46_sort_2 802 = .ok (.iload 14, 2) := dk_21 14 (dk_at dksJ46_sort_2_34 2 rfl rfl)
theorem dJ46_sort_2_804 : decode cJ46_sort_2 804 = .ok (.if_icmp .le 85, 3) := dk_164 0 85 (dk_at dksJ46_sort_2_34 4 rfl rfl)
theorem dJ46_sort_2_807 : decode cJ46_sort_2 807 = .ok (.aload_n 1, 1) := dk_43 (dk_at dksJ46_sort_2_34 7 rfl rfl)
theorem dJ46_sort_2_808 : decode cJ46_sort_2 808 = .ok (.iload 17, 2) := dk_21 17 (dk_at dksJ46_sort_2_34 8 rfl rfl)
theorem dJ46_sort_2_810 : decode cJ46_sort_2 810 = .ok (.iaload, 1) := dk_46 (dk_at dksJ46_sort_2_34 10 rfl rfl)
theorem dJ46_sort_2_811 : decode cJ46_sort_2 811 = .ok (.istore 18, 2) := dk_54 18 (dk_at dksJ46_sort_2_34 11 rfl rfl)
theorem dJ46_sort_2_813 : decode cJ46_sort_2 813 = .ok (.iload 18, 2) := dk_21 18 (dk_at dksJ46_sort_2_34 13 rfl rfl)
theorem dJ46_sort_2_815 : decode cJ46_sort_2 815 = .ok (.iload 16, 2) := dk_21 16 (dk_at dksJ46_sort_2_34 15 rfl rfl)
theorem dJ46_sort_2_817 : decode cJ46_sort_2 817 = .ok (.if_icmp .eq 69, 3) := dk_159 0 69 (dk_at dksJ46_sort_2_34 17 rfl rfl)
theorem dJ46_sort_2_820 : decode cJ46_sort_2 820 = .ok (.aload_n 1, 1) := dk_43 (dk_at dksJ46_sort_2_34 20 rfl rfl)
theorem dJ46_sort_2_821 : decode cJ46_sort_2 821 = .ok (.iload 17, 2) := dk_21 17 (dk_at dksJ46_sort_2_34 21 rfl rfl)
theorem dJ46_sort_2_823 : decode cJ46_sort_2 823 = .ok (.iload 16, 2) := dk_21 16 (dk_at dksJ46_sort_2_35 0 rfl rfl)
theorem dJ46_sort_2_825 : decode cJ46_sort_2 825 = .ok (.iastore, 1) := dk_79 (dk_at dksJ46_sort_2_35 2 rfl rfl)
theorem dJ46_sort_2_826 : decode cJ46_sort_2 826 = .ok (.iload 18, 2) := dk_21 18 (dk_at dksJ46_sort_2_35 3 rfl rfl)
theorem dJ46_sort_2_828 : decode cJ46_sort_2 828 = .ok (.iload 16, 2) := dk_21 16 (dk_at dksJ46_sort_2_35 5 rfl rfl)
theorem dJ46_sort_2_830 : decode cJ46_sort_2 830 = .ok (.if_icmp .ge 47, 3) := dk_162 0 47 (dk_at dksJ46_sort_2_35 7 rfl rfl)
theorem dJ46_sort_2_833 : decode cJ46_sort_2 833 = .ok (.aload_n 1, 1) := dk_43 (dk_at dksJ46_sort_2_35 10 rfl rfl)
theorem dJ46_sort_2_834 : decode cJ46_sort_2 834 = .ok (.iinc 14 1, 3) := dk_132 14 1 (dk_at dksJ46_sort_2_35 11 rfl rfl)
theorem dJ46_sort_2_837 : decode cJ46_sort_2 837 = .ok (.iload 14, 2) := dk_21 14 (dk_at dksJ46_sort_2_35 14 rfl rfl)
theorem dJ46_sort_2_839 : decode cJ46_sort_2 839 = .ok (.iaload, 1) := dk_46 (dk_at dksJ46_sort_2_35 16 rfl rfl)
theorem dJ46_sort_2_840 : decode cJ46_sort_2 840 = .ok (.iload 16, 2) := dk_21 16 (dk_at dksJ46_sort_2_35 17 rfl rfl)
theorem dJ46_sort_2_842 : decode cJ46_sort_2 842 = .ok (.if_icmp .ge 6, 3) := dk_162 0 6 (dk_at dksJ46_sort_2_35 19 rfl rfl)
theorem dJ46_sort_2_845 : decode cJ46_sort_2 845 = .ok (.goto (-12), 3) := dk_167 255 244 (dk_at dksJ46_sort_2_36 0 rfl rfl)
theorem dJ46_sort_2_848 : decode cJ46_sort_2 848 = .ok (.aload_n 1, 1) := dk_43 (dk_at dksJ46_sort_2_36 3 rfl rfl)
theorem dJ46_sort_2_849 : decode cJ46_sort_2 849 = .ok (.iload 14, 2) := dk_21 14 (dk_at dksJ46_sort_2_36 4 rfl rfl)
theorem dJ46_sort_2_851 : decode cJ46_sort_2 851 = .ok (.iaload, 1) := dk_46 (dk_at dksJ46_sort_2_36 6 rfl rfl)
theorem dJ46_sort_2_852 : decode cJ46_sort_2 852 = .ok (.iload 16, 2) := dk_21 16 (dk_at dksJ46_sort_2_36 7 rfl rfl)
theorem dJ46_sort_2_854 : decode cJ46_sort_2 854 = .ok (.if_icmp .le 14, 3) := dk_164 0 14 (dk_at dksJ46_sort_2_36 9 rfl rfl)
theorem dJ46_sort_2_857 : decode cJ46_sort_2 857 = .ok (.aload_n 1, 1) := dk_43 (dk_at dksJ46_sort_2_36 12 rfl rfl)
theorem dJ46_sort_2_858 : decode cJ46_sort_2 858 = .ok (.iinc 15 (-1), 3) := dk_132 15 255 (dk_at dksJ46_sort_2_36 13 rfl rfl)
theorem dJ46_sort_2_861 : decode cJ46_sort_2 861 = .ok (.iload 15, 2) := dk_21 15 (dk_at dksJ46_sort_2_36 16 rfl rfl)
theorem dJ46_sort_2_863 : decode cJ46_sort_2 863 = .ok (.aload_n 1, 1) := dk_43 (dk_at dksJ46_sort_2_36 18 rfl rfl)
theorem dJ46_sort_2_864 : decode cJ46_sort_2 864 = .ok (.iload 14, 2) := dk_21 14 (dk_at dksJ46_sort_2_36 19 rfl rfl)
theorem dJ46_sort_2_866 : decode cJ46_sort_2 866 = .ok (.iaload, 1) := dk_46 (dk_at dksJ46_sort_2_36 21 rfl rfl)
theorem dJ46_sort_2_867 : decode cJ46_sort_2 867 = .ok (.iastore, 1) := dk_79 (dk_at dksJ46_sort_2_36 22 rfl rfl)
theorem dJ46_sort_2_868 : decode cJ46_sort_2 868 = .ok (.aload_n 1, 1) := dk_43 (dk_at dksJ46_sort_2_36 23 rfl rfl)
theorem dJ46_sort_2_869 : decode cJ46_sort_2 869 = .ok (.iload 14, 2) := dk_21 14 (dk_at dksJ46_sort_2_37 0 rfl rfl)
theorem dJ46_sort_2_871 : decode cJ46_sort_2 871 = .ok (.iload 18, 2) := dk_21 18 (dk_at dksJ46_sort_2_37 2 rfl rfl)
theorem dJ46_sort_2_873 : decode cJ46_sort_2 873 = .ok (.iastore, 1) := dk_79 (dk_at dksJ46_sort_2_37 4 rfl rfl)
theorem dJ46_sort_2_874 : decode cJ46_sort_2 874 = .ok (.goto 12, 3) := dk_167 0 12 (dk_at dksJ46_sort_2_37 5 rfl rfl)
theorem dJ46_sort_2_877 : decode cJ46_sort_2 877 = .ok (.aload_n 1, 1) := dk_43 (dk_at dksJ46_sort_2_37 8 rfl rfl)
theorem dJ46_sort_2_878 : decode cJ46_sort_2 878 = .ok (.iinc 15 (-1), 3) := dk_132 15 255 (dk_at dksJ46_sort_2_37 9 rfl rfl)
theorem dJ46_sort_2_881 : decode cJ46_sort_2 881 = .ok (.iload 15, 2) := dk_21 15 (dk_at dksJ46_sort_2_37 12 rfl rfl)
theorem dJ46_sort_2_883 : decode cJ46_sort_2 883 = .ok (.iload 18, 2) := dk_21 18 (dk_at dksJ46_sort_2_37 14 rfl rfl)
theorem dJ46_sort_2_885 : decode cJ46_sort_2 885 = .ok (.iastore, 1) := dk_79 (dk_at dksJ46_sort_2_37 16 rfl rfl)
theorem dJ46_sort_2_886 : decode cJ46_sort_2 886 = .ok (.goto (-89), 3) := dk_167 255 167 (dk_at dksJ46_sort_2_37 17 rfl rfl)
theorem dJ46_sort_2_889 : decode cJ46_sort_2 889 = .ok (.aload_n 1, 1) := dk_43 (dk_at dksJ46_sort_2_37 20 rfl rfl)
theorem dJ46_sort_2_890 : decode cJ46_sort_2 890 = .ok (.iload_n 3, 1) := dk_29 (dk_at dksJ46_sort_2_37 21 rfl rfl)
theorem dJ46_sort_2_891 : decode cJ46_sort_2 891 = .ok (.aload_n 1, 1) := dk_43 (dk_at dksJ46_sort_2_37 22 rfl rfl)
theorem dJ46_sort_2_892 : decode cJ46_sort_2 892 = .ok (.iload 14, 2) := dk_21 14 (dk_at dksJ46_sort_2_38 0 rfl rfl)
theorem dJ46_sort_2_894 : decode cJ46_sort_2 894 = .ok (.iaload, 1) := dk_46 (dk_at dksJ46_sort_2_38 2 rfl rfl)
theorem dJ46_sort_2_895 : decode cJ46_sort_2 895 = .ok (.iastore, 1) := dk_79 (dk_at dksJ46_sort_2_38 3 rfl rfl)
theorem dJ46_sort_2_896 : decode cJ46_sort_2 896 = .ok (.aload_n 1, 1) := dk_43 (dk_at dksJ46_sort_2_38 4 rfl rfl)
theorem dJ46_sort_2_897 : decode cJ46_sort_2 897 = .ok (.iload 14, 2) := dk_21 14 (dk_at dksJ46_sort_2_38 5 rfl rfl)
theorem dJ46_sort_2_899 : decode cJ46_sort_2 899 = .ok (.iload 16, 2) := dk_21 16 (dk_at dksJ46_sort_2_38 7 rfl rfl)
theorem dJ46_sort_2_901 : decode cJ46_sort_2 901 = .ok (.iastore, 1) := dk_79 (dk_at dksJ46_sort_2_38 9 rfl rfl)
theorem dJ46_sort_2_902 : decode cJ46_sort_2 902 = .ok (.iload 6, 2) := dk_21 6 (dk_at dksJ46_sort_2_38 10 rfl rfl)
theorem dJ46_sort_2_904 : decode cJ46_sort_2 904 = .ok (.sipush 4096, 3) := dk_17 16 0 (dk_at dksJ46_sort_2_38 12 rfl rfl)
theorem dJ46_sort_2_907 : decode cJ46_sort_2 907 = .ok (.if_icmp .le 21, 3) := dk_164 0 21 (dk_at dksJ46_sort_2_38 15 rfl rfl)
theorem dJ46_sort_2_910 : decode cJ46_sort_2 910 = .ok (.aload_n 0, 1) := dk_42 (dk_at dksJ46_sort_2_38 18 rfl rfl)
theorem dJ46_sort_2_911 : decode cJ46_sort_2 911 = .ok (.ifnull 17, 3) := dk_198 0 17 (dk_at dksJ46_sort_2_38 19 rfl rfl)
theorem dJ46_sort_2_914 : decode cJ46_sort_2 914 = .ok (.aload_n 0, 1) := dk_42 (dk_at dksJ46_sort_2_38 22 rfl rfl)
theorem dJ46_sort_2_915 : decode cJ46_sort_2 915 = .ok (.iload_n 2, 1) := dk_28 (dk_at dksJ46_sort_2_38 23 rfl rfl)
theorem dJ46_sort_2_916 : decode cJ46_sort_2 916 = .ok (.iconst 1, 1) := dk_4 (dk_at dksJ46_sort_2_39 0 rfl rfl)
theorem dJ46_sort_2_917 : decode cJ46_sort_2 917 = .ok (.ior, 1) := dk_128 (dk_at dksJ46_sort_2_39 1 rfl rfl)
theorem dJ46_sort_2_918 : decode cJ46_sort_2 918 = .ok (.iload 15, 2) := dk_21 15 (dk_at dksJ46_sort_2_39 2 rfl rfl)
theorem dJ46_sort_2_920 : decode cJ46_sort_2 920 = .ok (.iload 4, 2) := dk_21 4 (dk_at dksJ46_sort_2_39 4 rfl rfl)
theorem dJ46_sort_2_922 : decode cJ46_sort_2 922 = .ok (.invokevirtual 45, 3) := dk_182 0 45 (dk_at dksJ46_sort_2_39 6 rfl rfl)
theorem dJ46_sort_2_925 : decode cJ46_sort_2 925 = .ok (.goto 15, 3) := dk_167 0 15 (dk_at dksJ46_sort_2_39 9 rfl rfl)
theorem dJ46_sort_2_928 : decode cJ46_sort_2 928 = .ok (.aload_n 0, 1) := dk_42 (dk_at dksJ46_sort_2_39 12 rfl rfl)
theorem dJ46_sort_2_929 : decode cJ46_sort_2 929 = .ok (.aload_n 1, 1) := dk_43 (dk_at dksJ46_sort_2_39 13 rfl rfl)
theorem dJ46_sort_2_930 : decode cJ46_sort_2 930 = .ok (.iload_n 2, 1) := dk_28 (dk_at dksJ46_sort_2_39 14 rfl rfl)
theorem dJ46_sort_2_931 : decode cJ46_sort_2 931 = .ok (.iconst 1, 1) := dk_4 (dk_at dksJ46_sort_2_39 15 rfl rfl)
theorem dJ46_sort_2_932 : decode cJ46_sort_2 932 = .ok (.ior, 1) := dk_128 (dk_at dksJ46_sort_2_39 16 rfl rfl)
theorem dJ46_sort_2_933 : decode cJ46_sort_2 933 = .ok (.iload 15, 2) := dk_21 15 (dk_at dksJ46_sort_2_39 17 rfl rfl)
theorem dJ46_sort_2_935 : decode cJ46_sort_2 935 = .ok (.iload 4, 2) := dk_21 4 (dk_at dksJ46_sort_2_39 19 rfl rfl)
theorem dJ46_sort_2_937 : decode cJ46_sort_2 937 = .ok (.invokestatic 26, 3) := dk_184 0 26 (dk_at dksJ46_sort_2_39 21 rfl rfl)
theorem dJ46_sort_2_940 : decode cJ46_sort_2 940 = .ok (.iload 14, 2) := dk_21 14 (dk_at dksJ46_sort_2_40 0 rfl rfl)
theorem dJ46_sort_2_942 : decode cJ46_sort_2 942 = .ok (.istore 4, 2) := dk_54 4 (dk_at dksJ46_sort_2_40 2 rfl rfl)
theorem dJ46_sort_2_944 : decode cJ46_sort_2 944 = .ok (.goto (-944), 3) := dk_167 252 80 (dk_at dksJ46_sort_2_40 4 rfl rfl)
abbrev cJ46_mixedInsertionSort : ByteArray := prog_66_method_5_code
def yJ46_mixedInsertionSort : MethodName := ⟨RJ46, "mixedInsertionSort", "([IIII)V"⟩
def dkwJ46_mixedInsertionSort_17 : List UInt8 := [167, 255, 234, 42, 21, 5, 4, 96, 21, 6, 79, 132, 1, 1, 167, 255, 73, 177]
abbrev dktJ46_mixedInsertionSort_17 : List UInt8 := dkwJ46_mixedInsertionSort_17 ++ []
def dkwJ46_mixedInsertionSort_16 : List UInt8 := [21, 6, 42, 132, 5, 255, 21, 5, 46, 162, 0, 16, 42, 21, 5, 4, 96, 42, 21, 5, 46, 79]
abbrev dktJ46_mixedInsertionSort_16 : List UInt8 := dkwJ46_mixedInsertionSort_16 ++ dktJ46_mixedInsertionSort_17
def dkwJ46_mixedInsertionSort_15 : List UInt8 := [21, 5, 5, 96, 42, 21, 5, 46, 79, 167, 255, 234, 42, 132, 5, 1, 21, 5, 4, 96, 21, 7, 79]
abbrev dktJ46_mixedInsertionSort_15 : List UInt8 := dkwJ46_mixedInsertionSort_15 ++ dktJ46_mixedInsertionSort_16
def dkwJ46_mixedInsertionSort_14 : List UInt8 := [21, 6, 42, 21, 5, 4, 100, 46, 162, 0, 72, 21, 7, 42, 132, 5, 255, 21, 5, 46, 162, 0, 16, 42]
abbrev dktJ46_mixedInsertionSort_14 : List UInt8 := dkwJ46_mixedInsertionSort_14 ++ dktJ46_mixedInsertionSort_15
def dkwJ46_mixedInsertionSort_13 : List UInt8 := [21, 5, 4, 96, 42, 21, 5, 46, 79, 167, 255, 234, 42, 21, 5, 4, 96, 21, 7, 79, 167, 0, 83]
abbrev dktJ46_mixedInsertionSort_13 : List UInt8 := dkwJ46_mixedInsertionSort_13 ++ dktJ46_mixedInsertionSort_14
def dkwJ46_mixedInsertionSort_12 : List UInt8 := [132, 5, 1, 21, 5, 4, 96, 21, 6, 79, 21, 7, 42, 132, 5, 255, 21, 5, 46, 162, 0, 16, 42]
abbrev dktJ46_mixedInsertionSort_12 : List UInt8 := dkwJ46_mixedInsertionSort_12 ++ dktJ46_mixedInsertionSort_13
def dkwJ46_mixedInsertionSort_11 : List UInt8 := [132, 5, 255, 21, 5, 46, 162, 0, 16, 42, 21, 5, 5, 96, 42, 21, 5, 46, 79, 167, 255, 234, 42]
abbrev dktJ46_mixedInsertionSort_11 : List UInt8 := dkwJ46_mixedInsertionSort_11 ++ dktJ46_mixedInsertionSort_12
def dkwJ46_mixedInsertionSort_10 : List UInt8 := [54, 5, 46, 54, 6, 42, 132, 1, 1, 27, 46, 54, 7, 21, 6, 21, 7, 164, 0, 75, 21, 6, 42]
abbrev dktJ46_mixedInsertionSort_10 : List UInt8 := dkwJ46_mixedInsertionSort_10 ++ dktJ46_mixedInsertionSort_11
def dkwJ46_mixedInsertionSort_9 : List UInt8 := [46, 79, 167, 255, 234, 42, 21, 5, 4, 96, 21, 7, 79, 167, 255, 99, 27, 29, 162, 0, 184, 42, 27, 89]
abbrev dktJ46_mixedInsertionSort_9 : List UInt8 := dkwJ46_mixedInsertionSort_9 ++ dktJ46_mixedInsertionSort_10
def dkwJ46_mixedInsertionSort_8 : List UInt8 := [21, 5, 46, 79, 21, 7, 42, 132, 5, 255, 21, 5, 46, 162, 0, 16, 42, 21, 5, 4, 96, 42, 21, 5]
abbrev dktJ46_mixedInsertionSort_8 : List UInt8 := dkwJ46_mixedInsertionSort_8 ++ dktJ46_mixedInsertionSort_9
def dkwJ46_mixedInsertionSort_7 : List UInt8 := [164, 0, 6, 167, 255, 244, 21, 6, 21, 5, 164, 0, 17, 42, 21, 6, 46, 54, 7, 42, 21, 6, 42]
abbrev dktJ46_mixedInsertionSort_7 : List UInt8 := dkwJ46_mixedInsertionSort_7 ++ dktJ46_mixedInsertionSort_8
def dkwJ46_mixedInsertionSort_6 : List UInt8 := [21, 6, 21, 5, 164, 0, 79, 21, 7, 21, 4, 164, 0, 72, 42, 132, 6, 255, 21, 6, 46, 21, 4]
abbrev dktJ46_mixedInsertionSort_6 : List UInt8 := dkwJ46_mixedInsertionSort_6 ++ dktJ46_mixedInsertionSort_7
def dkwJ46_mixedInsertionSort_5 : List UInt8 := [21, 5, 4, 96, 42, 21, 5, 46, 79, 167, 255, 234, 42, 21, 5, 4, 96, 21, 7, 79, 167, 0, 86]
abbrev dktJ46_mixedInsertionSort_5 : List UInt8 := dkwJ46_mixedInsertionSort_5 ++ dktJ46_mixedInsertionSort_6
def dkwJ46_mixedInsertionSort_4 : List UInt8 := [42, 21, 5, 42, 132, 5, 255, 21, 5, 46, 79, 21, 7, 42, 132, 5, 255, 21, 5, 46, 162, 0, 16, 42]
abbrev dktJ46_mixedInsertionSort_4 : List UInt8 := dkwJ46_mixedInsertionSort_4 ++ dktJ46_mixedInsertionSort_5
def dkwJ46_mixedInsertionSort_3 : List UInt8 := [27, 28, 162, 0, 155, 42, 27, 89, 54, 5, 46, 54, 7, 21, 7, 42, 21, 5, 4, 100, 46, 162, 0, 50]
abbrev dktJ46_mixedInsertionSort_3 : List UInt8 := dkwJ46_mixedInsertionSort_3 ++ dktJ46_mixedInsertionSort_4
def dkwJ46_mixedInsertionSort_2 : List UInt8 := [21, 4, 4, 96, 21, 5, 79, 167, 255, 207, 167, 1, 101, 42, 28, 46, 54, 4, 29, 54, 6, 132, 1, 1]
abbrev dktJ46_mixedInsertionSort_2 : List UInt8 := dkwJ46_mixedInsertionSort_2 ++ dktJ46_mixedInsertionSort_3
def dkwJ46_mixedInsertionSort_1 : List UInt8 := [132, 4, 255, 21, 4, 46, 162, 0, 16, 42, 21, 4, 4, 96, 42, 21, 4, 46, 79, 167, 255, 234, 42]
abbrev dktJ46_mixedInsertionSort_1 : List UInt8 := dkwJ46_mixedInsertionSort_1 ++ dktJ46_mixedInsertionSort_2
def dkwJ46_mixedInsertionSort_0 : List UInt8 := [28, 29, 160, 0, 58, 132, 1, 1, 27, 28, 162, 0, 47, 42, 27, 89, 54, 4, 46, 54, 5, 21, 5, 42]
abbrev dktJ46_mixedInsertionSort_0 : List UInt8 := dkwJ46_mixedInsertionSort_0 ++ dktJ46_mixedInsertionSort_1
theorem dksJ46_mixedInsertionSort_0 : cJ46_mixedInsertionSort.data.toList.drop 0 = dktJ46_mixedInsertionSort_0 := by decide +kernel
theorem dksJ46_mixedInsertionSort_1 : cJ46_mixedInsertionSort.data.toList.drop 24 = dktJ46_mixedInsertionSort_1 := dk_seg dksJ46_mixedInsertionSort_0 24 rfl rfl
theorem dksJ46_mixedInsertionSort_2 : cJ46_mixedInsertionSort.data.toList.drop 47 = dktJ46_mixedInsertionSort_2 := dk_seg dksJ46_mixedInsertionSort_1 23 rfl rfl
theorem dksJ46_mixedInsertionSort_3 : cJ46_mixedInsertionSort.data.toList.drop 71 = dktJ46_mixedInsertionSort_3 := dk_seg dksJ46_mixedInsertionSort_2 24 rfl rfl
theorem dksJ46_mixedInsertionSort_4 : cJ46_mixedInsertionSort.data.toList.drop 95 = dktJ46_mixedInsertionSort_4 := dk_seg dksJ46_mixedInsertionSort_3 24 rfl rfl
theorem dksJ46_mixedInsertionSort_5 : cJ46_mixedInsertionSort.data.toList.drop 119 = dktJ46_mixedInsertionSort_5 := dk_seg dksJ46_mixedInsertionSort_4 24 rfl rfl
theorem dksJ46_mixedInsertionSort_6 : cJ46_mixedInsertionSort.data.toList.drop 142 = dktJ46_mixedInsertionSort_6 := dk_seg dksJ46_mixedInsertionSort_5 23 rfl rfl
theorem dksJ46_mixedInsertionSort_7 : cJ46_mixedInsertionSort.data.toList.drop 165 = dktJ46_mixedInsertionSort_7 := dk_seg dksJ46_mixedInsertionSort_6 23 rfl rfl
theorem dksJ46_mixedInsertionSort_8 : cJ46_mixedInsertionSort.data.toList.drop 188 = dktJ46_mixedInsertionSort_8 := dk_seg dksJ46_mixedInsertionSort_7 23 rfl rfl
theorem dksJ46_mixedInsertionSort_9 : cJ46_mixedInsertionSort.data.toList.drop 212 = dktJ46_mixedInsertionSort_9 := dk_seg dksJ46_mixedInsertionSort_8 24 rfl rfl
theorem dksJ46_mixedInsertionSort_10 : cJ46_mixedInsertionSort.data.toList.drop 236 = dktJ46_mixedInsertionSort_10 := dk_seg dksJ46_mixedInsertionSort_9 24 rfl rfl
theorem dksJ46_mixedInsertionSort_11 : cJ46_mixedInsertionSort.data.toList.drop 259 = dktJ46_mixedInsertionSort_11 := dk_seg dksJ46_mixedInsertionSort_10 23 rfl rfl
theorem dksJ46_mixedInsertionSort_12 : cJ46_mixedInsertionSort.data.toList.drop 282 = dktJ46_mixedInsertionSort_12 := dk_seg dksJ46_mixedInsertionSort_11 23 rfl rfl
theorem dksJ46_mixedInsertionSort_13 : cJ46_mixedInsertionSort.data.toList.drop 305 = dktJ46_mixedInsertionSort_13 := dk_seg dksJ46_mixedInsertionSort_12 23 rfl rfl
theorem dksJ46_mixedInsertionSort_14 : cJ46_mixedInsertionSort.data.toList.drop 328 = dktJ46_mixedInsertionSort_14 := dk_seg dksJ46_mixedInsertionSort_13 23 rfl rfl
theorem dksJ46_mixedInsertionSort_15 : cJ46_mixedInsertionSort.data.toList.drop 352 = dktJ46_mixedInsertionSort_15 := dk_seg dksJ46_mixedInsertionSort_14 24 rfl rfl
theorem dksJ46_mixedInsertionSort_16 : cJ46_mixedInsertionSort.data.toList.drop 375 = dktJ46_mixedInsertionSort_16 := dk_seg dksJ46_mixedInsertionSort_15 23 rfl rfl
theorem dksJ46_mixedInsertionSort_17 : cJ46_mixedInsertionSort.data.toList.drop 397 = dktJ46_mixedInsertionSort_17 := dk_seg dksJ46_mixedInsertionSort_16 22 rfl rfl
theorem dJ46_mixedInsertionSort_0 : decode cJ46_mixedInsertionSort 0 = .ok (.iload_n 2, 1) := dk_28 (dk_at dksJ46_mixedInsertionSort_0 0 rfl rfl)
theorem dJ46_mixedInsertionSort_1 : decode cJ46_mixedInsertionSort 1 = .ok (.iload_n 3, 1) := dk_29 (dk_at dksJ46_mixedInsertionSort_0 1 rfl rfl)
theorem dJ46_mixedInsertionSort_2 : decode cJ46_mixedInsertionSort 2 = .ok (.if_icmp .ne 58, 3) := dk_160 0 58 (dk_at dksJ46_mixedInsertionSort_0 2 rfl rfl)
theorem dJ46_mixedInsertionSort_5 : decode cJ46_mixedInsertionSort 5 = .ok (.iinc 1 1, 3) := dk_132 1 1 (dk_at dksJ46_mixedInsertionSort_0 5 rfl rfl)
theorem dJ46_mixedInsertionSort_8 : decode cJ46_mixedInsertionSort 8 = .ok (.iload_n 1, 1) := dk_27 (dk_at dksJ46_mixedInsertionSort_0 8 rfl rfl)
theorem dJ46_mixedInsertionSort_9 : decode cJ46_mixedInsertionSort 9 = .ok (.iload_n 2, 1) := dk_28 (dk_at dksJ46_mixedInsertionSort_0 9 rfl rfl)
theorem dJ46_mixedInsertionSort_10 : decode cJ46_mixedInsertionSort 10 = .ok (.if_icmp .ge 47, 3) := dk_162 0 47 (dk_at dksJ46_mixedInsertionSort_0 10 rfl rfl)
theorem dJ46_mixedInsertionSort_13 : decode cJ46_mixedInsertionSort 13 = .ok (.aload_n 0, 1) := dk_42 (dk_at dksJ46_mixedInsertionSort_0 13 rfl rfl)
theorem dJ46_mixedInsertionSort_14 : decode cJ46_mixedInsertionSort 14 = .ok (.iload_n 1, 1) := dk_27 (dk_at dksJ46_mixedInsertionSort_0 14 rfl rfl)
theorem dJ46_mixedInsertionSort_15 : decode cJ46_mixedInsertionSort 15 = .ok (.dup, 1) := dk_89 (dk_at dksJ46_mixedInsertionSort_0 15 rfl rfl)
theorem dJ46_mixedInsertionSort_16 : decode cJ46_mixedInsertionSort 16 = .ok (.istore 4, 2) := dk_54 4 (dk_at dksJ46_mixedInsertionSort_0 16 rfl rfl)
theorem dJ46_mixedInsertionSort_18 : decode cJ46_mixedInsertionSort 18 = .ok (.iaload, 1) := dk_46 (dk_at dksJ46_mixedInsertionSort_0 18 rfl rfl)
theorem dJ46_mixedInsertionSort_19 : decode cJ46_mixedInsertionSort 19 = .ok (.istore 5, 2) := dk_54 5 (dk_at dksJ46_mixedInsertionSort_0 19 rfl rfl)
theorem dJ46_mixedInsertionSort_21 : decode cJ46_mixedInsertionSort 21 = .ok (.iload 5, 2) := dk_21 5 (dk_at dksJ46_mixedInsertionSort_0 21 rfl rfl)
theorem dJ46_mixedInsertionSort_23 : decode cJ46_mixedInsertionSort 23 = .ok (.aload_n 0, 1) := dk_42 (dk_at dksJ46_mixedInsertionSort_0 23 rfl rfl)
theorem dJ46_mixedInsertionSort_24 : decode cJ46_mixedInsertionSort 24 = .ok (.iinc 4 (-1), 3) := dk_132 4 255 (dk_at dksJ46_mixedInsertionSort_1 0 rfl rfl)
theorem dJ46_mixedInsertionSort_27 : decode cJ46_mixedInsertionSort 27 = .ok (.iload 4, 2) := dk_21 4 (dk_at dksJ46_mixedInsertionSort_1 3 rfl rfl)
theorem dJ46_mixedInsertionSort_29 : decode cJ46_mixedInsertionSort 29 = .ok (.iaload, 1) := dk_46 (dk_at dksJ46_mixedInsertionSort_1 5 rfl rfl)
theorem dJ46_mixedInsertionSort_30 : decode cJ46_mixedInsertionSort 30 = .ok (.if_icmp .ge 16, 3) := dk_162 0 16 (dk_at dksJ46_mixedInsertionSort_1 6 rfl rfl)
theorem dJ46_mixedInsertionSort_33 : decode cJ46_mixedInsertionSort 33 = .ok (.aload_n 0, 1) := dk_42 (dk_at dksJ46_mixedInsertionSort_1 9 rfl rfl)
theorem dJ46_mixedInsertionSort_34 : decode cJ46_mixedInsertionSort 34 = .ok (.iload 4, 2) := dk_21 4 (dk_at dksJ46_mixedInsertionSort_1 10 rfl rfl)
theorem dJ46_mixedInsertionSort_36 : decode cJ46_mixedInsertionSort 36 = .ok (.iconst 1, 1) := dk_4 (dk_at dksJ46_mixedInsertionSort_1 12 rfl rfl)
theorem dJ46_mixedInsertionSort_37 : decode cJ46_mixedInsertionSort 37 = .ok (.iadd, 1) := dk_96 (dk_at dksJ46_mixedInsertionSort_1 13 rfl rfl)
theorem dJ46_mixedInsertionSort_38 : decode cJ46_mixedInsertionSort 38 = .ok (.aload_n 0, 1) := dk_42 (dk_at dksJ46_mixedInsertionSort_1 14 rfl rfl)
theorem dJ46_mixedInsertionSort_39 : decode cJ46_mixedInsertionSort 39 = .ok (.iload 4, 2) := dk_21 4 (dk_at dksJ46_mixedInsertionSort_1 15 rfl rfl)
theorem dJ46_mixedInsertionSort_41 : decode cJ46_mixedInsertionSort 41 = .ok (.iaload, 1) := dk_46 (dk_at dksJ46_mixedInsertionSort_1 17 rfl rfl)
theorem dJ46_mixedInsertionSort_42 : decode cJ46_mixedInsertionSort 42 = .ok (.iastore, 1) := dk_79 (dk_at dksJ46_mixedInsertionSort_1 18 rfl rfl)
theorem dJ46_mixedInsertionSort_43 : decode cJ46_mixedInsertionSort 43 = .ok (.goto (-22), 3) := dk_167 255 234 (dk_at dksJ46_mixedInsertionSort_1 19 rfl rfl)
theorem dJ46_mixedInsertionSort_46 : decode cJ46_mixedInsertionSort 46 = .ok (.aload_n 0, 1) := dk_42 (dk_at dksJ46_mixedInsertionSort_1 22 rfl rfl)
theorem dJ46_mixedInsertionSort_47 : decode cJ46_mixedInsertionSort 47 = .ok (.iload 4, 2) := dk_21 4 (dk_at dksJ46_mixedInsertionSort_2 0 rfl rfl)
theorem dJ46_mixedInsertionSort_49 : decode cJ46_mixedInsertionSort 49 = .ok (.iconst 1, 1) := dk_4 (dk_at dksJ46_mixedInsertionSort_2 2 rfl rfl)
theorem dJ46_mixedInsertionSort_50 : decode cJ46_mixedInsertionSort 50 = .ok (.iadd, 1) := dk_96 (dk_at dksJ46_mixedInsertionSort_2 3 rfl rfl)
theorem dJ46_mixedInsertionSort_51 : decode cJ46_mixedInsertionSort 51 = .ok (.iload 5, 2) := dk_21 5 (dk_at dksJ46_mixedInsertionSort_2 4 rfl rfl)
theorem dJ46_mixedInsertionSort_53 : decode cJ46_mixedInsertionSort 53 = .ok (.iastore, 1) := dk_79 (dk_at dksJ46_mixedInsertionSort_2 6 rfl rfl)
theorem dJ46_mixedInsertionSort_54 : decode cJ46_mixedInsertionSort 54 = .ok (.goto (-49), 3) := dk_167 255 207 (dk_at dksJ46_mixedInsertionSort_2 7 rfl rfl)
theorem dJ46_mixedInsertionSort_57 : decode cJ46_mixedInsertionSort 57 = .ok (.goto 357, 3) := dk_167 1 101 (dk_at dksJ46_mixedInsertionSort_2 10 rfl rfl)
theorem dJ46_mixedInsertionSort_60 : decode cJ46_mixedInsertionSort 60 = .ok (.aload_n 0, 1) := dk_42 (dk_at dksJ46_mixedInsertionSort_2 13 rfl rfl)
theorem dJ46_mixedInsertionSort_61 : decode cJ46_mixedInsertionSort 61 = .ok (.iload_n 2, 1) := dk_28 (dk_at dksJ46_mixedInsertionSort_2 14 rfl rfl)
theorem dJ46_mixedInsertionSort_62 : decode cJ46_mixedInsertionSort 62 = .ok (.iaload, 1) := dk_46 (dk_at dksJ46_mixedInsertionSort_2 15 rfl rfl)
theorem dJ46_mixedInsertionSort_63 : decode cJ46_mixedInsertionSort 63 = .ok (.istore 4, 2) := dk_54 4 (dk_at dksJ46_mixedInsertionSort_2 16 rfl rfl)
theorem dJ46_mixedInsertionSort_65 : decode cJ46_mixedInsertionSort 65 = .ok (.iload_n 3, 1) := dk_29 (dk_at dksJ46_mixedInsertionSort_2 18 rfl rfl)
theorem dJ46_mixedInsertionSort_66 : decode cJ46_mixedInsertionSort 66 = .ok (.istore 6, 2) := dk_54 6 (dk_at dksJ46_mixedInsertionSort_2 19 rfl rfl)
theorem dJ46_mixedInsertionSort_68 : decode cJ46_mixedInsertionSort 68 = .ok (.iinc 1 1, 3) := dk_132 1 1 (dk_at dksJ46_mixedInsertionSort_2 21 rfl rfl)
theorem dJ46_mixedInsertionSort_71 : decode cJ46_mixedInsertionSort 71 = .ok (.iload_n 1, 1) := dk_27 (dk_at dksJ46_mixedInsertionSort_3 0 rfl rfl)
theorem dJ46_mixedInsertionSort_72 : decode cJ46_mixedInsertionSort 72 = .ok (.iload_n 2, 1) := dk_28 (dk_at dksJ46_mixedInsertionSort_3 1 rfl rfl)
theorem dJ46_mixedInsertionSort_73 : decode cJ46_mixedInsertionSort 73 = .ok (.if_icmp .ge 155, 3) := dk_162 0 155 (dk_at dksJ46_mixedInsertionSort_3 2 rfl rfl)
theorem dJ46_mixedInsertionSort_76 : decode cJ46_mixedInsertionSort 76 = .ok (.aload_n 0, 1) := dk_42 (dk_at dksJ46_mixedInsertionSort_3 5 rfl rfl)
theorem dJ46_mixedInsertionSort_77 : decode cJ46_mixedInsertionSort 77 = .ok (.iload_n 1, 1) := dk_27 (dk_at dksJ46_mixedInsertionSort_3 6 rfl rfl)
theorem dJ46_mixedInsertionSort_78 : decode cJ46_mixedInsertionSort 78 = .ok (.dup, 1) := dk_89 (dk_at dksJ46_mixedInsertionSort_3 7 rfl rfl)
theorem dJ46_mixedInsertionSort_79 : decode cJ46_mixedInsertionSort 79 = .ok (.istore 5, 2) := dk_54 5 (dk_at dksJ46_mixedInsertionSort_3 8 rfl rfl)
theorem dJ46_mixedInsertionSort_81 : decode cJ46_mixedInsertionSort 81 = .ok (.iaload, 1) := dk_46 (dk_at dksJ46_mixedInsertionSort_3 10 rfl rfl)
theorem dJ46_mixedInsertionSort_82 : decode cJ46_mixedInsertionSort 82 = .ok (.istore 7, 2) := dk_54 7 (dk_at dksJ46_mixedInsertionSort_3 11 rfl rfl)
theorem dJ46_mixedInsertionSort_84 : decode cJ46_mixedInsertionSort 84 = .ok (.iload 7, 2) := dk_21 7 (dk_at dksJ46_mixedInsertionSort_3 13 rfl rfl)
theorem dJ46_mixedInsertionSort_86 : decode cJ46_mixedInsertionSort 86 = .ok (.aload_n 0, 1) := dk_42 (dk_at dksJ46_mixedInsertionSort_3 15 rfl rfl)
theorem dJ46_mixedInsertionSort_87 : decode cJ46_mixedInsertionSort 87 = .ok (.iload 5, 2) := dk_21 5 (dk_at dksJ46_mixedInsertionSort_3 16 rfl rfl)
theorem dJ46_mixedInsertionSort_89 : decode cJ46_mixedInsertionSort 89 = .ok (.iconst 1, 1) := dk_4 (dk_at dksJ46_mixedInsertionSort_3 18 rfl rfl)
theorem dJ46_mixedInsertionSort_90 : decode cJ46_mixedInsertionSort 90 = .ok (.isub, 1) := dk_100 (dk_at dksJ46_mixedInsertionSort_3 19 rfl rfl)
theorem dJ46_mixedInsertionSort_91 : decode cJ46_mixedInsertionSort 91 = .ok (.iaload, 1) := dk_46 (dk_at dksJ46_mixedInsertionSort_3 20 rfl rfl)
theorem dJ46_mixedInsertionSort_92 : decode cJ46_mixedInsertionSort 92 = .ok (.if_icmp .ge 50, 3) := dk_162 0 50 (dk_at dksJ46_mixedInsertionSort_3 21 rfl rfl)
theorem dJ46_mixedInsertionSort_95 : decode cJ46_mixedInsertionSort 95 = .ok (.aload_n 0, 1) := dk_42 (dk_at dksJ46_mixedInsertionSort_4 0 rfl rfl)
theorem dJ46_mixedInsertionSort_96 : decode cJ46_mixedInsertionSort 96 = .ok (.iload 5, 2) := dk_21 5 (dk_at dksJ46_mixedInsertionSort_4 1 rfl rfl)
theorem dJ46_mixedInsertionSort_98 : decode cJ46_mixedInsertionSort 98 = .ok (.aload_n 0, 1) := dk_42 (dk_at dksJ46_mixedInsertionSort_4 3 rfl rfl)
theorem dJ46_mixedInsertionSort_99 : decode cJ46_mixedInsertionSort 99 = .ok (.iinc 5 (-1), 3) := dk_132 5 255 (dk_at dksJ46_mixedInsertionSort_4 4 rfl rfl)
theorem dJ46_mixedInsertionSort_102 : decode cJ46_mixedInsertionSort 102 = .ok (.iload 5, 2) := dk_21 5 (dk_at dksJ46_mixedInsertionSort_4 7 rfl rfl)
theorem dJ46_mixedInsertionSort_104 : decode cJ46_mixedInsertionSort 104 = .ok (.iaload, 1) := dk_46 (dk_at dksJ46_mixedInsertionSort_4 9 rfl rfl)
theorem dJ46_mixedInsertionSort_105 : decode cJ46_mixedInsertionSort 105 = .ok (.iastore, 1) := dk_79 (dk_at dksJ46_mixedInsertionSort_4 10 rfl rfl)
theorem dJ46_mixedInsertionSort_106 : decode cJ46_mixedInsertionSort 106 = .ok (.iload 7, 2) := dk_21 7 (dk_at dksJ46_mixedInsertionSort_4 11 rfl rfl)
theorem dJ46_mixedInsertionSort_108 : decode cJ46_mixedInsertionSort 108 = .ok (.aload_n 0, 1) := dk_42 (dk_at dksJ46_mixedInsertionSort_4 13 rfl rfl)
theorem dJ46_mixedInsertionSort_109 : decode cJ46_mixedInsertionSort 109 = .ok (.iinc 5 (-1), 3) := dk_132 5 255 (dk_at dksJ46_mixedInsertionSort_4 14 rfl rfl)
theorem dJ46_mixedInsertionSort_112 : decode cJ46_mixedInsertionSort 112 = .ok (.iload 5, 2) := dk_21 5 (dk_at dksJ46_mixedInsertionSort_4 17 rfl rfl)
theorem dJ46_mixedInsertionSort_114 : decode cJ46_mixedInsertionSort 114 = .ok (.iaload, 1) := dk_46 (dk_at dksJ46_mixedInsertionSort_4 19 rfl rfl)
theorem dJ46_mixedInsertionSort_115 : decode cJ46_mixedInsertionSort 115 = .ok (.if_icmp .ge 16, 3) := dk_162 0 16 (dk_at dksJ46_mixedInsertionSort_4 20 rfl rfl)
theorem dJ46_mixedInsertionSort_118 : decode cJ46_mixedInsertionSort 118 = .ok (.aload_n 0, 1) := dk_42 (dk_at dksJ46_mixedInsertionSort_4 23 rfl rfl)
theorem dJ46_mixedInsertionSort_119 : decode cJ46_mixedInsertionSort 119 = .ok (.iload 5, 2) := dk_21 5 (dk_at dksJ46_mixedInsertionSort_5 0 rfl rfl)
theorem dJ46_mixedInsertionSort_121 : decode cJ46_mixedInsertionSort 121 = .ok (.iconst 1, 1) := dk_4 (dk_at dksJ46_mixedInsertionSort_5 2 rfl rfl)
theorem dJ46_mixedInsertionSort_122 : decode cJ46_mixedInsertionSort 122 = .ok (.iadd, 1) := dk_96 (dk_at dksJ46_mixedInsertionSort_5 3 rfl rfl)
theorem dJ46_mixedInsertionSort_123 : decode cJ46_mixedInsertionSort 123 = .ok (.aload_n 0, 1) := dk_42 (dk_at dksJ46_mixedInsertionSort_5 4 rfl rfl)
theorem dJ46_mixedInsertionSort_124 : decode cJ46_mixedInsertionSort 124 = .ok (.iload 5, 2) := dk_21 5 (dk_at dksJ46_mixedInsertionSort_5 5 rfl rfl)
theorem dJ46_mixedInsertionSort_126 : decode cJ46_mixedInsertionSort 126 = .ok (.iaload, 1) := dk_46 (dk_at dksJ46_mixedInsertionSort_5 7 rfl rfl)
theorem dJ46_mixedInsertionSort_127 : decode cJ46_mixedInsertionSort 127 = .ok (.iastore, 1) := dk_79 (dk_at dksJ46_mixedInsertionSort_5 8 rfl rfl)
theorem dJ46_mixedInsertionSort_128 : decode cJ46_mixedInsertionSort 128 = .ok (.goto (-22), 3) := dk_167 255 234 (dk_at dksJ46_mixedInsertionSort_5 9 rfl rfl)
theorem dJ46_mixedInsertionSort_131 : decode cJ46_mixedInsertionSort 131 = .ok (.aload_n 0, 1) := dk_42 (dk_at dksJ46_mixedInsertionSort_5 12 rfl rfl)
theorem dJ46_mixedInsertionSort_132 : decode cJ46_mixedInsertionSort 132 = .ok (.iload 5, 2) := dk_21 5 (dk_at dksJ46_mixedInsertionSort_5 13 rfl rfl)
theorem dJ46_mixedInsertionSort_134 : decode cJ46_mixedInsertionSort 134 = .ok (.iconst 1, 1) := dk_4 (dk_at dksJ46_mixedInsertionSort_5 15 rfl rfl)
theorem dJ46_mixedInsertionSort_135 : decode cJ46_mixedInsertionSort 135 = .ok (.iadd, 1) := dk_96 (dk_at dksJ46_mixedInsertionSort_5 16 rfl rfl)
theorem dJ46_mixedInsertionSort_136 : decode cJ46_mixedInsertionSort 136 = .ok (.iload 7, 2) := dk_21 7 (dk_at dksJ46_mixedInsertionSort_5 17 rfl rfl)
theorem dJ46_mixedInsertionSort_138 : decode cJ46_mixedInsertionSort 138 = .ok (.iastore, 1) := dk_79 (dk_at dksJ46_mixedInsertionSort_5 19 rfl rfl)
theorem dJ46_mixedInsertionSort_139 : decode cJ46_mixedInsertionSort 139 = .ok (.goto 86, 3) := dk_167 0 86 (dk_at dksJ46_mixedInsertionSort_5 20 rfl rfl)
theorem dJ46_mixedInsertionSort_142 : decode cJ46_mixedInsertionSort 142 = .ok (.iload 6, 2) := dk_21 6 (dk_at dksJ46_mixedInsertionSort_6 0 rfl rfl)
theorem dJ46_mixedInsertionSort_144 : decode cJ46_mixedInsertionSort 144 = .ok (.iload 5, 2) := dk_21 5 (dk_at dksJ46_mixedInsertionSort_6 2 rfl rfl)
theorem dJ46_mixedInsertionSort_146 : decode cJ46_mixedInsertionSort 146 = .ok (.if_icmp .le 79, 3) := dk_164 0 79 (dk_at dksJ46_mixedInsertionSort_6 4 rfl rfl)
theorem dJ46_mixedInsertionSort_149 : decode cJ46_mixedInsertionSort 149 = .ok (.iload 7, 2) := dk_21 7 (dk_at dksJ46_mixedInsertionSort_6 7 rfl rfl)
theorem dJ46_mixedInsertionSort_151 : decode cJ46_mixedInsertionSort 151 = .ok (.iload 4, 2) := dk_21 4 (dk_at dksJ46_mixedInsertionSort_6 9 rfl rfl)
theorem dJ46_mixedInsertionSort_153 : decode cJ46_mixedInsertionSort 153 = .ok (.if_icmp .le 72, 3) := dk_164 0 72 (dk_at dksJ46_mixedInsertionSort_6 11 rfl rfl)
theorem dJ46_mixedInsertionSort_156 : decode cJ46_mixedInsertionSort 156 = .ok (.aload_n 0, 1) := dk_42 (dk_at dksJ46_mixedInsertionSort_6 14 rfl rfl)
theorem dJ46_mixedInsertionSort_157 : decode cJ46_mixedInsertionSort 157 = .ok (.iinc 6 (-1), 3) := dk_132 6 255 (dk_at dksJ46_mixedInsertionSort_6 15 rfl rfl)
theorem dJ46_mixedInsertionSort_160 : decode cJ46_mixedInsertionSort 160 = .ok (.iload 6, 2) := dk_21 6 (dk_at dksJ46_mixedInsertionSort_6 18 rfl rfl)
theorem dJ46_mixedInsertionSort_162 : decode cJ46_mixedInsertionSort 162 = .ok (.iaload, 1) := dk_46 (dk_at dksJ46_mixedInsertionSort_6 20 rfl rfl)
theorem dJ46_mixedInsertionSort_163 : decode cJ46_mixedInsertionSort 163 = .ok (.iload 4, 2) := dk_21 4 (dk_at dksJ46_mixedInsertionSort_6 21 rfl rfl)
theorem dJ46_mixedInsertionSort_165 : decode cJ46_mixedInsertionSort 165 = .ok (.if_icmp .le 6, 3) := dk_164 0 6 (dk_at dksJ46_mixedInsertionSort_7 0 rfl rfl)
theorem dJ46_mixedInsertionSort_168 : decode cJ46_mixedInsertionSort 168 = .ok (.goto (-12), 3) := dk_167 255 244 (dk_at dksJ46_mixedInsertionSort_7 3 rfl rfl)
theorem dJ46_mixedInsertionSort_171 : decode cJ46_mixedInsertionSort 171 = .ok (.iload 6, 2) := dk_21 6 (dk_at dksJ46_mixedInsertionSort_7 6 rfl rfl)
theorem dJ46_mixedInsertionSort_173 : decode cJ46_mixedInsertionSort 173 = .ok (.iload 5, 2) := dk_21 5 (dk_at dksJ46_mixedInsertionSort_7 8 rfl rfl)
theorem dJ46_mixedInsertionSort_175 : decode cJ46_mixedInsertionSort 175 = .ok (.if_icmp .le 17, 3) := dk_164 0 17 (dk_at dksJ46_mixedInsertionSort_7 10 rfl rfl)
theorem dJ46_mixedInsertionSort_178 : decode cJ46_mixedInsertionSort 178 = .ok (.aload_n 0, 1) := dk_42 (dk_at dksJ46_mixedInsertionSort_7 13 rfl rfl)
theorem dJ46_mixedInsertionSort_179 : decode cJ46_mixedInsertionSort 179 = .ok (.iload 6, 2) := dk_21 6 (dk_at dksJ46_mixedInsertionSort_7 14 rfl rfl)
theorem dJ46_mixedInsertionSort_181 : decode cJ46_mixedInsertionSort 181 = .ok (.iaload, 1) := dk_46 (dk_at dksJ46_mixedInsertionSort_7 16 rfl rfl)
theorem dJ46_mixedInsertionSort_182 : decode cJ46_mixedInsertionSort 182 = .ok (.istore 7, 2) := dk_54 7 (dk_at dksJ46_mixedInsertionSort_7 17 rfl rfl)
theorem dJ46_mixedInsertionSort_184 : decode cJ46_mixedInsertionSort 184 = .ok (.aload_n 0, 1) := dk_42 (dk_at dksJ46_mixedInsertionSort_7 19 rfl rfl)
theorem dJ46_mixedInsertionSort_185 : decode cJ46_mixedInsertionSort 185 = .ok (.iload 6, 2) := dk_21 6 (dk_at dksJ46_mixedInsertionSort_7 20 rfl rfl)
theorem dJ46_mixedInsertionSort_187 : decode cJ46_mixedInsertionSort 187 = .ok (.aload_n 0, 1) := dk_42 (dk_at dksJ46_mixedInsertionSort_7 22 rfl rfl)
theorem dJ46_mixedInsertionSort_188 : decode cJ46_mixedInsertionSort 188 = .ok (.iload 5, 2) := dk_21 5 (dk_at dksJ46_mixedInsertionSort_8 0 rfl rfl)
theorem dJ46_mixedInsertionSort_190 : decode cJ46_mixedInsertionSort 190 = .ok (.iaload, 1) := dk_46 (dk_at dksJ46_mixedInsertionSort_8 2 rfl rfl)
theorem dJ46_mixedInsertionSort_191 : decode cJ46_mixedInsertionSort 191 = .ok (.iastore, 1) := dk_79 (dk_at dksJ46_mixedInsertionSort_8 3 rfl rfl)
theorem dJ46_mixedInsertionSort_192 : decode cJ46_mixedInsertionSort 192 = .ok (.iload 7, 2) := dk_21 7 (dk_at dksJ46_mixedInsertionSort_8 4 rfl rfl)
theorem dJ46_mixedInsertionSort_194 : decode cJ46_mixedInsertionSort 194 = .ok (.aload_n 0, 1) := dk_42 (dk_at dksJ46_mixedInsertionSort_8 6 rfl rfl)
theorem dJ46_mixedInsertionSort_195 : decode cJ46_mixedInsertionSort 195 = .ok (.iinc 5 (-1), 3) := dk_132 5 255 (dk_at dksJ46_mixedInsertionSort_8 7 rfl rfl)
theorem dJ46_mixedInsertionSort_198 : decode cJ46_mixedInsertionSort 198 = .ok (.iload 5, 2) := dk_21 5 (dk_at dksJ46_mixedInsertionSort_8 10 rfl rfl)
theorem dJ46_mixedInsertionSort_200 : decode cJ46_mixedInsertionSort 200 = .ok (.iaload, 1) := dk_46 (dk_at dksJ46_mixedInsertionSort_8 12 rfl rfl)
theorem dJ46_mixedInsertionSort_201 : decode cJ46_mixedInsertionSort 201 = .ok (.if_icmp .ge 16, 3) := dk_162 0 16 (dk_at dksJ46_mixedInsertionSort_8 13 rfl rfl)
theorem dJ46_mixedInsertionSort_204 : decode cJ46_mixedInsertionSort 204 = .ok (.aload_n 0, 1) := dk_42 (dk_at dksJ46_mixedInsertionSort_8 16 rfl rfl)
theorem dJ46_mixedInsertionSort_205 : decode cJ46_mixedInsertionSort 205 = .ok (.iload 5, 2) := dk_21 5 (dk_at dksJ46_mixedInsertionSort_8 17 rfl rfl)
theorem dJ46_mixedInsertionSort_207 : decode cJ46_mixedInsertionSort 207 = .ok (.iconst 1, 1) := dk_4 (dk_at dksJ46_mixedInsertionSort_8 19 rfl rfl)
theorem dJ46_mixedInsertionSort_208 : decode cJ46_mixedInsertionSort 208 = .ok (.iadd, 1) := dk_96 (dk_at dksJ46_mixedInsertionSort_8 20 rfl rfl)
theorem dJ46_mixedInsertionSort_209 : decode cJ46_mixedInsertionSort 209 = .ok (.aload_n 0, 1) := dk_42 (dk_at dksJ46_mixedInsertionSort_8 21 rfl rfl)
theorem dJ46_mixedInsertionSort_210 : decode cJ46_mixedInsertionSort 210 = .ok (.iload 5, 2) := dk_21 5 (dk_at dksJ46_mixedInsertionSort_8 22 rfl rfl)
theorem dJ46_mixedInsertionSort_212 : decode cJ46_mixedInsertionSort 212 = .ok (.iaload, 1) := dk_46 (dk_at dksJ46_mixedInsertionSort_9 0 rfl rfl)
theorem dJ46_mixedInsertionSort_213 : decode cJ46_mixedInsertionSort 213 = .ok (.iastore, 1) := dk_79 (dk_at dksJ46_mixedInsertionSort_9 1 rfl rfl)
theorem dJ46_mixedInsertionSort_214 : decode cJ46_mixedInsertionSort 214 = .ok (.goto (-22), 3) := dk_167 255 234 (dk_at dksJ46_mixedInsertionSort_9 2 rfl rfl)
theorem dJ46_mixedInsertionSort_217 : decode cJ46_mixedInsertionSort 217 = .ok (.aload_n 0, 1) := dk_42 (dk_at dksJ46_mixedInsertionSort_9 5 rfl rfl)
theorem dJ46_mixedInsertionSort_218 : decode cJ46_mixedInsertionSort 218 = .ok (.iload 5, 2) := dk_21 5 (dk_at dksJ46_mixedInsertionSort_9 6 rfl rfl)
theorem dJ46_mixedInsertionSort_220 : decode cJ46_mixedInsertionSort 220 = .ok (.iconst 1, 1) := dk_4 (dk_at dksJ46_mixedInsertionSort_9 8 rfl rfl)
theorem dJ46_mixedInsertionSort_221 : decode cJ46_mixedInsertionSort 221 = .ok (.iadd, 1) := dk_96 (dk_at dksJ46_mixedInsertionSort_9 9 rfl rfl)
theorem dJ46_mixedInsertionSort_222 : decode cJ46_mixedInsertionSort 222 = .ok (.iload 7, 2) := dk_21 7 (dk_at dksJ46_mixedInsertionSort_9 10 rfl rfl)
theorem dJ46_mixedInsertionSort_224 : decode cJ46_mixedInsertionSort 224 = .ok (.iastore, 1) := dk_79 (dk_at dksJ46_mixedInsertionSort_9 12 rfl rfl)
theorem dJ46_mixedInsertionSort_225 : decode cJ46_mixedInsertionSort 225 = .ok (.goto (-157), 3) := dk_167 255 99 (dk_at dksJ46_mixedInsertionSort_9 13 rfl rfl)
theorem dJ46_mixedInsertionSort_228 : decode cJ46_mixedInsertionSort 228 = .ok (.iload_n 1, 1) := dk_27 (dk_at dksJ46_mixedInsertionSort_9 16 rfl rfl)
theorem dJ46_mixedInsertionSort_229 : decode cJ46_mixedInsertionSort 229 = .ok (.iload_n 3, 1) := dk_29 (dk_at dksJ46_mixedInsertionSort_9 17 rfl rfl)
theorem dJ46_mixedInsertionSort_230 : decode cJ46_mixedInsertionSort 230 = .ok (.if_icmp .ge 184, 3) := dk_162 0 184 (dk_at dksJ46_mixedInsertionSort_9 18 rfl rfl)
theorem dJ46_mixedInsertionSort_233 : decode cJ46_mixedInsertionSort 233 = .ok (.aload_n 0, 1) := dk_42 (dk_at dksJ46_mixedInsertionSort_9 21 rfl rfl)
theorem dJ46_mixedInsertionSort_234 : decode cJ46_mixedInsertionSort 234 = .ok (.iload_n 1, 1) := dk_27 (dk_at dksJ46_mixedInsertionSort_9 22 rfl rfl)
theorem dJ46_mixedInsertionSort_235 : decode cJ46_mixedInsertionSort 235 = .ok (.dup, 1) := dk_89 (dk_at dksJ46_mixedInsertionSort_9 23 rfl rfl)
theorem dJ46_mixedInsertionSort_236 : decode cJ46_mixedInsertionSort 236 = .ok (.istore 5, 2) := dk_54 5 (dk_at dksJ46_mixedInsertionSort_10 0 rfl rfl)
theorem dJ46_mixedInsertionSort_238 : decode cJ46_mixedInsertionSort 238 = .ok (.iaload, 1) := dk_46 (dk_at dksJ46_mixedInsertionSort_10 2 rfl rfl)
theorem dJ46_mixedInsertionSort_239 : decode cJ46_mixedInsertionSort 239 = .ok (.istore 6, 2) := dk_54 6 (dk_at dksJ46_mixedInsertionSort_10 3 rfl rfl)
theorem dJ46_mixedInsertionSort_241 : decode cJ46_mixedInsertionSort 241 = .ok (.aload_n 0, 1) := dk_42 (dk_at dksJ46_mixedInsertionSort_10 5 rfl rfl)
theorem dJ46_mixedInsertionSort_242 : decode cJ46_mixedInsertionSort 242 = .ok (.iinc 1 1, 3) := dk_132 1 1 (dk_at dksJ46_mixedInsertionSort_10 6 rfl rfl)
theorem dJ46_mixedInsertionSort_245 : decode cJ46_mixedInsertionSort 245 = .ok (.iload_n 1, 1) := dk_27 (dk_at dksJ46_mixedInsertionSort_10 9 rfl rfl)
theorem dJ46_mixedInsertionSort_246 : decode cJ46_mixedInsertionSort 246 = .ok (.iaload, 1) := dk_46 (dk_at dksJ46_mixedInsertionSort_10 10 rfl rfl)
theorem dJ46_mixedInsertionSort_247 : decode cJ46_mixedInsertionSort 247 = .ok (.istore 7, 2) := dk_54 7 (dk_at dksJ46_mixedInsertionSort_10 11 rfl rfl)
theorem dJ46_mixedInsertionSort_249 : decode cJ46_mixedInsertionSort 249 = .ok (.iload 6, 2) := dk_21 6 (dk_at dksJ46_mixedInsertionSort_10 13 rfl rfl)
theorem dJ46_mixedInsertionSort_251 : decode cJ46_mixedInsertionSort 251 = .ok (.iload 7, 2) := dk_21 7 (dk_at dksJ46_mixedInsertionSort_10 15 rfl rfl)
theorem dJ46_mixedInsertionSort_253 : decode cJ46_mixedInsertionSort 253 = .ok (.if_icmp .le 75, 3) := dk_164 0 75 (dk_at dksJ46_mixedInsertionSort_10 17 rfl rfl)
theorem dJ46_mixedInsertionSort_256 : decode cJ46_mixedInsertionSort 256 = .ok (.iload 6, 2) := dk_21 6 (dk_at dksJ46_mixedInsertionSort_10 20 rfl rfl)
theorem dJ46_mixedInsertionSort_258 : decode cJ46_mixedInsertionSort 258 = .ok (.aload_n 0, 1) := dk_42 (dk_at dksJ46_mixedInsertionSort_10 22 rfl rfl)
theorem dJ46_mixedInsertionSort_259 : decode cJ46_mixedInsertionSort 259 = .ok (.iinc 5 (-1), 3) := dk_132 5 255 (dk_at dksJ46_mixedInsertionSort_11 0 rfl rfl)
theorem dJ46_mixedInsertionSort_262 : decode cJ46_mixedInsertionSort 262 = .ok (.iload 5, 2) := dk_21 5 (dk_at dksJ46_mixedInsertionSort_11 3 rfl rfl)
theorem dJ46_mixedInsertionSort_264 : decode cJ46_mixedInsertionSort 264 = .ok (.iaload, 1) := dk_46 (dk_at dksJ46_mixedInsertionSort_11 5 rfl rfl)
theorem dJ46_mixedInsertionSort_265 : decode cJ46_mixedInsertionSort 265 = .ok (.if_icmp .ge 16, 3) := dk_162 0 16 (dk_at dksJ46_mixedInsertionSort_11 6 rfl rfl)
theorem dJ46_mixedInsertionSort_268 : decode cJ46_mixedInsertionSort 268 = .ok (.aload_n 0, 1) := dk_42 (dk_at dksJ46_mixedInsertionSort_11 9 rfl rfl)
theorem dJ46_mixedInsertionSort_269 : decode cJ46_mixedInsertionSort 269 = .ok (.iload 5, 2) := dk_21 5 (dk_at dksJ46_mixedInsertionSort_11 10 rfl rfl)
theorem dJ46_mixedInsertionSort_271 : decode cJ46_mixedInsertionSort 271 = .ok (.iconst 2, 1) := dk_5 (dk_at dksJ46_mixedInsertionSort_11 12 rfl rfl)
theorem dJ46_mixedInsertionSort_272 : decode cJ46_mixedInsertionSort 272 = .ok (.iadd, 1) := dk_96 (dk_at dksJ46_mixedInsertionSort_11 13 rfl rfl)
theorem dJ46_mixedInsertionSort_273 : decode cJ46_mixedInsertionSort 273 = .ok (.aload_n 0, 1) := dk_42 (dk_at dksJ46_mixedInsertionSort_11 14 rfl rfl)
theorem dJ46_mixedInsertionSort_274 : decode cJ46_mixedInsertionSort 274 = .ok (.iload 5, 2) := dk_21 5 (dk_at dksJ46_mixedInsertionSort_11 15 rfl rfl)
theorem dJ46_mixedInsertionSort_276 : decode cJ46_mixedInsertionSort 276 = .ok (.iaload, 1) := dk_46 (dk_at dksJ46_mixedInsertionSort_11 17 rfl rfl)
theorem dJ46_mixedInsertionSort_277 : decode cJ46_mixedInsertionSort 277 = .ok (.iastore, 1) := dk_79 (dk_at dksJ46_mixedInsertionSort_11 18 rfl rfl)
theorem dJ46_mixedInsertionSort_278 : decode cJ46_mixedInsertionSort 278 = .ok (.goto (-22), 3) := dk_167 255 234 (dk_at dksJ46_mixedInsertionSort_11 19 rfl rfl)
theorem dJ46_mixedInsertionSort_281 : decode cJ46_mixedInsertionSort 281 = .ok (.aload_n 0, 1) := dk_42 (dk_at dksJ46_mixedInsertionSort_11 22 rfl rfl)
theorem dJ46_mixedInsertionSort_282 : decode cJ46_mixedInsertionSort 282 = .ok (.iinc 5 1, 3) := dk_132 5 1 (dk_at dksJ46_mixedInsertionSort_12 0 rfl rfl)
theorem dJ46_mixedInsertionSort_285 : decode cJ46_mixedInsertionSort 285 = .ok (.iload 5, 2) := dk_21 5 (dk_at dksJ46_mixedInsertionSort_12 3 rfl rfl)
theorem dJ46_mixedInsertionSort_287 : decode cJ46_mixedInsertionSort 287 = .ok (.iconst 1, 1) := dk_4 (dk_at dksJ46_mixedInsertionSort_12 5 rfl rfl)
theorem dJ46_mixedInsertionSort_288 : decode cJ46_mixedInsertionSort 288 = .ok (.iadd, 1) := dk_96 (dk_at dksJ46_mixedInsertionSort_12 6 rfl rfl)
theorem dJ46_mixedInsertionSort_289 : decode cJ46_mixedInsertionSort 289 = .ok (.iload 6, 2) := dk_21 6 (dk_at dksJ46_mixedInsertionSort_12 7 rfl rfl)
theorem dJ46_mixedInsertionSort_291 : decode cJ46_mixedInsertionSort 291 = .ok (.iastore, 1) := dk_79 (dk_at dksJ46_mixedInsertionSort_12 9 rfl rfl)
theorem dJ46_mixedInsertionSort_292 : decode cJ46_mixedInsertionSort 292 = .ok (.iload 7, 2) := dk_21 7 (dk_at dksJ46_mixedInsertionSort_12 10 rfl rfl)
theorem dJ46_mixedInsertionSort_294 : decode cJ46_mixedInsertionSort 294 = .ok (.aload_n 0, 1) := dk_42 (dk_at dksJ46_mixedInsertionSort_12 12 rfl rfl)
theorem dJ46_mixedInsertionSort_295 : decode cJ46_mixedInsertionSort 295 = .ok (.iinc 5 (-1), 3) := dk_132 5 255 (dk_at dksJ46_mixedInsertionSort_12 13 rfl rfl)
theorem dJ46_mixedInsertionSort_298 : decode cJ46_mixedInsertionSort 298 = .ok (.iload 5, 2) := dk_21 5 (dk_at dksJ46_mixedInsertionSort_12 16 rfl rfl)
theorem dJ46_mixedInsertionSort_300 : decode cJ46_mixedInsertionSort 300 = .ok (.iaload, 1) := dk_46 (dk_at dksJ46_mixedInsertionSort_12 18 rfl rfl)
theorem dJ46_mixedInsertionSort_301 : decode cJ46_mixedInsertionSort 301 = .ok (.if_icmp .ge 16, 3) := dk_162 0 16 (dk_at dksJ46_mixedInsertionSort_12 19 rfl rfl)
theorem dJ46_mixedInsertionSort_304 : decode cJ46_mixedInsertionSort 304 = .ok (.aload_n 0, 1) := dk_42 (dk_at dksJ46_mixedInsertionSort_12 22 rfl rfl)
theorem dJ46_mixedInsertionSort_305 : decode cJ46_mixedInsertionSort 305 = .ok (.iload 5, 2) := dk_21 5 (dk_at dksJ46_mixedInsertionSort_13 0 rfl rfl)
theorem dJ46_mixedInsertionSort_307 : decode cJ46_mixedInsertionSort 307 = .ok (.iconst 1, 1) := dk_4 (dk_at dksJ46_mixedInsertionSort_13 2 rfl rfl)
theorem dJ46_mixedInsertionSort_308 : decode cJ46_mixedInsertionSort 308 = .ok (.iadd, 1) := dk_96 (dk_at dksJ46_mixedInsertionSort_13 3 rfl rfl)
theorem dJ46_mixedInsertionSort_309 : decode cJ46_mixedInsertionSort 309 = .ok (.aload_n 0, 1) := dk_42 (dk_at dksJ46_mixedInsertionSort_13 4 rfl rfl)
theorem dJ46_mixedInsertionSort_310 : decode cJ46_mixedInsertionSort 310 = .ok (.iload 5, 2) := dk_21 5 (dk_at dksJ46_mixedInsertionSort_13 5 rfl rfl)
theorem dJ46_mixedInsertionSort_312 : decode cJ46_mixedInsertionSort 312 = .ok (.iaload, 1) := dk_46 (dk_at dksJ46_mixedInsertionSort_13 7 rfl rfl)
theorem dJ46_mixedInsertionSort_313 : decode cJ46_mixedInsertionSort 313 = .ok (.iastore, 1) := dk_79 (dk_at dksJ46_mixedInsertionSort_13 8 rfl rfl)
theorem dJ46_mixedInsertionSort_314 : decode cJ46_mixedInsertionSort 314 = .ok (.goto (-22), 3) := dk_167 255 234 (dk_at dksJ46_mixedInsertionSort_13 9 rfl rfl)
theorem dJ46_mixedInsertionSort_317 : decode cJ46_mixedInsertionSort 317 = .ok (.aload_n 0, 1) := dk_42 (dk_at dksJ46_mixedInsertionSort_13 12 rfl rfl)
theorem dJ46_mixedInsertionSort_318 : decode cJ46_mixedInsertionSort 318 = .ok (.iload 5, 2) := dk_21 5 (dk_at dksJ46_mixedInsertionSort_13 13 rfl rfl)
theorem dJ46_mixedInsertionSort_320 : decode cJ46_mixedInsertionSort 320 = .ok (.iconst 1, 1) := dk_4 (dk_at dksJ46_mixedInsertionSort_13 15 rfl rfl)
theorem dJ46_mixedInsertionSort_321 : decode cJ46_mixedInsertionSort 321 = .ok (.iadd, 1) := dk_96 (dk_at dksJ46_mixedInsertionSort_13 16 rfl rfl)
theorem dJ46_mixedInsertionSort_322 : decode cJ46_mixedInsertionSort 322 = .ok (.iload 7, 2) := dk_21 7 (dk_at dksJ46_mixedInsertionSort_13 17 rfl rfl)
theorem dJ46_mixedInsertionSort_324 : decode cJ46_mixedInsertionSort 324 = .ok (.iastore, 1) := dk_79 (dk_at dksJ46_mixedInsertionSort_13 19 rfl rfl)
theorem dJ46_mixedInsertionSort_325 : decode cJ46_mixedInsertionSort 325 = .ok (.goto 83, 3) := dk_167 0 83 (dk_at dksJ46_mixedInsertionSort_13 20 rfl rfl)
theorem dJ46_mixedInsertionSort_328 : decode cJ46_mixedInsertionSort 328 = .ok (.iload 6, 2) := dk_21 6 (dk_at dksJ46_mixedInsertionSort_14 0 rfl rfl)
theorem dJ46_mixedInsertionSort_330 : decode cJ46_mixedInsertionSort 330 = .ok (.aload_n 0, 1) := dk_42 (dk_at dksJ46_mixedInsertionSort_14 2 rfl rfl)
theorem dJ46_mixedInsertionSort_331 : decode cJ46_mixedInsertionSort 331 = .ok (.iload 5, 2) := dk_21 5 (dk_at dksJ46_mixedInsertionSort_14 3 rfl rfl)
theorem dJ46_mixedInsertionSort_333 : decode cJ46_mixedInsertionSort 333 = .ok (.iconst 1, 1) := dk_4 (dk_at dksJ46_mixedInsertionSort_14 5 rfl rfl)
theorem dJ46_mixedInsertionSort_334 : decode cJ46_mixedInsertionSort 334 = .ok (.isub, 1) := dk_100 (dk_at dksJ46_mixedInsertionSort_14 6 rfl rfl)
theorem dJ46_mixedInsertionSort_335 : decode cJ46_mixedInsertionSort 335 = .ok (.iaload, 1) := dk_46 (dk_at dksJ46_mixedInsertionSort_14 7 rfl rfl)
theorem dJ46_mixedInsertionSort_336 : decode cJ46_mixedInsertionSort 336 = .ok (.if_icmp .ge 72, 3) := dk_162 0 72 (dk_at dksJ46_mixedInsertionSort_14 8 rfl rfl)
theorem dJ46_mixedInsertionSort_339 : decode cJ46_mixedInsertionSort 339 = .ok (.iload 7, 2) := dk_21 7 (dk_at dksJ46_mixedInsertionSort_14 11 rfl rfl)
theorem dJ46_mixedInsertionSort_341 : decode cJ46_mixedInsertionSort 341 = .ok (.aload_n 0, 1) := dk_42 (dk_at dksJ46_mixedInsertionSort_14 13 rfl rfl)
theorem dJ46_mixedInsertionSort_342 : decode cJ46_mixedInsertionSort 342 = .ok (.iinc 5 (-1), 3) := dk_132 5 255 (dk_at dksJ46_mixedInsertionSort_14 14 rfl rfl)
theorem dJ46_mixedInsertionSort_345 : decode cJ46_mixedInsertionSort 345 = .ok (.iload 5, 2) := dk_21 5 (dk_at dksJ46_mixedInsertionSort_14 17 rfl rfl)
theorem dJ46_mixedInsertionSort_347 : decode cJ46_mixedInsertionSort 347 = .ok (.iaload, 1) := dk_46 (dk_at dksJ46_mixedInsertionSort_14 19 rfl rfl)
theorem dJ46_mixedInsertionSort_348 : decode cJ46_mixedInsertionSort 348 = .ok (.if_icmp .ge 16, 3) := dk_162 0 16 (dk_at dksJ46_mixedInsertionSort_14 20 rfl rfl)
theorem dJ46_mixedInsertionSort_351 : decode cJ46_mixedInsertionSort 351 = .ok (.aload_n 0, 1) := dk_42 (dk_at dksJ46_mixedInsertionSort_14 23 rfl rfl)
theorem dJ46_mixedInsertionSort_352 : decode cJ46_mixedInsertionSort 352 = .ok (.iload 5, 2) := dk_21 5 (dk_at dksJ46_mixedInsertionSort_15 0 rfl rfl)
theorem dJ46_mixedInsertionSort_354 : decode cJ46_mixedInsertionSort 354 = .ok (.iconst 2, 1) := dk_5 (dk_at dksJ46_mixedInsertionSort_15 2 rfl rfl)
theorem dJ46_mixedInsertionSort_355 : decode cJ46_mixedInsertionSort 355 = .ok (.iadd, 1) := dk_96 (dk_at dksJ46_mixedInsertionSort_15 3 rfl rfl)
theorem dJ46_mixedInsertionSort_356 : decode cJ46_mixedInsertionSort 356 = .ok (.aload_n 0, 1) := dk_42 (dk_at dksJ46_mixedInsertionSort_15 4 rfl rfl)
theorem dJ46_mixedInsertionSort_357 : decode cJ46_mixedInsertionSort 357 = .ok (.iload 5, 2) := dk_21 5 (dk_at dksJ46_mixedInsertionSort_15 5 rfl rfl)
theorem dJ46_mixedInsertionSort_359 : decode cJ46_mixedInsertionSort 359 = .ok (.iaload, 1) := dk_46 (dk_at dksJ46_mixedInsertionSort_15 7 rfl rfl)
theorem dJ46_mixedInsertionSort_360 : decode cJ46_mixedInsertionSort 360 = .ok (.iastore, 1) := dk_79 (dk_at dksJ46_mixedInsertionSort_15 8 rfl rfl)
theorem dJ46_mixedInsertionSort_361 : decode cJ46_mixedInsertionSort 361 = .ok (.goto (-22), 3) := dk_167 255 234 (dk_at dksJ46_mixedInsertionSort_15 9 rfl rfl)
theorem dJ46_mixedInsertionSort_364 : decode cJ46_mixedInsertionSort 364 = .ok (.aload_n 0, 1) := dk_42 (dk_at dksJ46_mixedInsertionSort_15 12 rfl rfl)
theorem dJ46_mixedInsertionSort_365 : decode cJ46_mixedInsertionSort 365 = .ok (.iinc 5 1, 3) := dk_132 5 1 (dk_at dksJ46_mixedInsertionSort_15 13 rfl rfl)
theorem dJ46_mixedInsertionSort_368 : decode cJ46_mixedInsertionSort 368 = .ok (.iload 5, 2) := dk_21 5 (dk_at dksJ46_mixedInsertionSort_15 16 rfl rfl)
theorem dJ46_mixedInsertionSort_370 : decode cJ46_mixedInsertionSort 370 = .ok (.iconst 1, 1) := dk_4 (dk_at dksJ46_mixedInsertionSort_15 18 rfl rfl)
theorem dJ46_mixedInsertionSort_371 : decode cJ46_mixedInsertionSort 371 = .ok (.iadd, 1) := dk_96 (dk_at dksJ46_mixedInsertionSort_15 19 rfl rfl)
theorem dJ46_mixedInsertionSort_372 : decode cJ46_mixedInsertionSort 372 = .ok (.iload 7, 2) := dk_21 7 (dk_at dksJ46_mixedInsertionSort_15 20 rfl rfl)
theorem dJ46_mixedInsertionSort_374 : decode cJ46_mixedInsertionSort 374 = .ok (.iastore, 1) := dk_79 (dk_at dksJ46_mixedInsertionSort_15 22 rfl rfl)
theorem dJ46_mixedInsertionSort_375 : decode cJ46_mixedInsertionSort 375 = .ok (.iload 6, 2) := dk_21 6 (dk_at dksJ46_mixedInsertionSort_16 0 rfl rfl)
theorem dJ46_mixedInsertionSort_377 : decode cJ46_mixedInsertionSort 377 = .ok (.aload_n 0, 1) := dk_42 (dk_at dksJ46_mixedInsertionSort_16 2 rfl rfl)
theorem dJ46_mixedInsertionSort_378 : decode cJ46_mixedInsertionSort 378 = .ok (.iinc 5 (-1), 3) := dk_132 5 255 (dk_at dksJ46_mixedInsertionSort_16 3 rfl rfl)
theorem dJ46_mixedInsertionSort_381 : decode cJ46_mixedInsertionSort 381 = .ok (.iload 5, 2) := dk_21 5 (dk_at dksJ46_mixedInsertionSort_16 6 rfl rfl)
theorem dJ46_mixedInsertionSort_383 : decode cJ46_mixedInsertionSort 383 = .ok (.iaload, 1) := dk_46 (dk_at dksJ46_mixedInsertionSort_16 8 rfl rfl)
theorem dJ46_mixedInsertionSort_384 : decode cJ46_mixedInsertionSort 384 = .ok (.if_icmp .ge 16, 3) := dk_162 0 16 (dk_at dksJ46_mixedInsertionSort_16 9 rfl rfl)
theorem dJ46_mixedInsertionSort_387 : decode cJ46_mixedInsertionSort 387 = .ok (.aload_n 0, 1) := dk_42 (dk_at dksJ46_mixedInsertionSort_16 12 rfl rfl)
theorem dJ46_mixedInsertionSort_388 : decode cJ46_mixedInsertionSort 388 = .ok (.iload 5, 2) := dk_21 5 (dk_at dksJ46_mixedInsertionSort_16 13 rfl rfl)
theorem dJ46_mixedInsertionSort_390 : decode cJ46_mixedInsertionSort 390 = .ok (.iconst 1, 1) := dk_4 (dk_at dksJ46_mixedInsertionSort_16 15 rfl rfl)
theorem dJ46_mixedInsertionSort_391 : decode cJ46_mixedInsertionSort 391 = .ok (.iadd, 1) := dk_96 (dk_at dksJ46_mixedInsertionSort_16 16 rfl rfl)
theorem dJ46_mixedInsertionSort_392 : decode cJ46_mixedInsertionSort 392 = .ok (.aload_n 0, 1) := dk_42 (dk_at dksJ46_mixedInsertionSort_16 17 rfl rfl)
theorem dJ46_mixedInsertionSort_393 : decode cJ46_mixedInsertionSort 393 = .ok (.iload 5, 2) := dk_21 5 (dk_at dksJ46_mixedInsertionSort_16 18 rfl rfl)
theorem dJ46_mixedInsertionSort_395 : decode cJ46_mixedInsertionSort 395 = .ok (.iaload, 1) := dk_46 (dk_at dksJ46_mixedInsertionSort_16 20 rfl rfl)
theorem dJ46_mixedInsertionSort_396 : decode cJ46_mixedInsertionSort 396 = .ok (.iastore, 1) := dk_79 (dk_at dksJ46_mixedInsertionSort_16 21 rfl rfl)
theorem dJ46_mixedInsertionSort_397 : decode cJ46_mixedInsertionSort 397 = .ok (.goto (-22), 3) := dk_167 255 234 (dk_at dksJ46_mixedInsertionSort_17 0 rfl rfl)
theorem dJ46_mixedInsertionSort_400 : decode cJ46_mixedInsertionSort 400 = .ok (.aload_n 0, 1) := dk_42 (dk_at dksJ46_mixedInsertionSort_17 3 rfl rfl)
theorem dJ46_mixedInsertionSort_401 : decode cJ46_mixedInsertionSort 401 = .ok (.iload 5, 2) := dk_21 5 (dk_at dksJ46_mixedInsertionSort_17 4 rfl rfl)
theorem dJ46_mixedInsertionSort_403 : decode cJ46_mixedInsertionSort 403 = .ok (.iconst 1, 1) := dk_4 (dk_at dksJ46_mixedInsertionSort_17 6 rfl rfl)
theorem dJ46_mixedInsertionSort_404 : decode cJ46_mixedInsertionSort 404 = .ok (.iadd, 1) := dk_96 (dk_at dksJ46_mixedInsertionSort_17 7 rfl rfl)
theorem dJ46_mixedInsertionSort_405 : decode cJ46_mixedInsertionSort 405 = .ok (.iload 6, 2) := dk_21 6 (dk_at dksJ46_mixedInsertionSort_17 8 rfl rfl)
theorem dJ46_mixedInsertionSort_407 : decode cJ46_mixedInsertionSort 407 = .ok (.iastore, 1) := dk_79 (dk_at dksJ46_mixedInsertionSort_17 10 rfl rfl)
theorem dJ46_mixedInsertionSort_408 : decode cJ46_mixedInsertionSort 408 = .ok (.iinc 1 1, 3) := dk_132 1 1 (dk_at dksJ46_mixedInsertionSort_17 11 rfl rfl)
theorem dJ46_mixedInsertionSort_411 : decode cJ46_mixedInsertionSort 411 = .ok (.goto (-183), 3) := dk_167 255 73 (dk_at dksJ46_mixedInsertionSort_17 14 rfl rfl)
theorem dJ46_mixedInsertionSort_414 : decode cJ46_mixedInsertionSort 414 = .ok (.return_, 1) := dk_177 (dk_at dksJ46_mixedInsertionSort_17 17 rfl rfl)
abbrev cJ46_insertionSort : ByteArray := prog_66_method_6_code
def yJ46_insertionSort : MethodName := ⟨RJ46, "insertionSort", "([III)V"⟩
def dkwJ46_insertionSort_2 : List UInt8 := [4, 96, 42, 29, 46, 79, 167, 255, 232, 42, 29, 4, 96, 21, 5, 79, 167, 255, 195, 177]
abbrev dktJ46_insertionSort_2 : List UInt8 := dkwJ46_insertionSort_2 ++ []
def dkwJ46_insertionSort_1 : List UInt8 := [4, 100, 46, 162, 0, 37, 132, 3, 255, 29, 27, 161, 0, 22, 21, 5, 42, 29, 46, 162, 0, 14, 42, 29]
abbrev dktJ46_insertionSort_1 : List UInt8 := dkwJ46_insertionSort_1 ++ dktJ46_insertionSort_2
def dkwJ46_insertionSort_0 : List UInt8 := [27, 54, 4, 132, 4, 1, 21, 4, 28, 162, 0, 58, 42, 21, 4, 89, 62, 46, 54, 5, 21, 5, 42, 29]
abbrev dktJ46_insertionSort_0 : List UInt8 := dkwJ46_insertionSort_0 ++ dktJ46_insertionSort_1
theorem dksJ46_insertionSort_0 : cJ46_insertionSort.data.toList.drop 0 = dktJ46_insertionSort_0 := by decide +kernel
theorem dksJ46_insertionSort_1 : cJ46_insertionSort.data.toList.drop 24 = dktJ46_insertionSort_1 := dk_seg dksJ46_insertionSort_0 24 rfl rfl
theorem dksJ46_insertionSort_2 : cJ46_insertionSort.data.toList.drop 48 = dktJ46_insertionSort_2 := dk_seg dksJ46_insertionSort_1 24 rfl rfl
theorem dJ46_insertionSort_0 : decode cJ46_insertionSort 0 = .ok (.iload_n 1, 1) := dk_27 (dk_at dksJ46_insertionSort_0 0 rfl rfl)
theorem dJ46_insertionSort_1 : decode cJ46_insertionSort 1 = .ok (.istore 4, 2) := dk_54 4 (dk_at dksJ46_insertionSort_0 1 rfl rfl)
theorem dJ46_insertionSort_3 : decode cJ46_insertionSort 3 = .ok (.iinc 4 1, 3) := dk_132 4 1 (dk_at dksJ46_insertionSort_0 3 rfl rfl)
theorem dJ46_insertionSort_6 : decode cJ46_insertionSort 6 = .ok (.iload 4, 2) := dk_21 4 (dk_at dksJ46_insertionSort_0 6 rfl rfl)
theorem dJ46_insertionSort_8 : decode cJ46_insertionSort 8 = .ok (.iload_n 2, 1) := dk_28 (dk_at dksJ46_insertionSort_0 8 rfl rfl)
theorem dJ46_insertionSort_9 : decode cJ46_insertionSort 9 = .ok (.if_icmp .ge 58, 3) := dk_162 0 58 (dk_at dksJ46_insertionSort_0 9 rfl rfl)
theorem dJ46_insertionSort_12 : decode cJ46_insertionSort 12 = .ok (.aload_n 0, 1) := dk_42 (dk_at dksJ46_insertionSort_0 12 rfl rfl)
theorem dJ46_insertionSort_13 : decode cJ46_insertionSort 13 = .ok (.iload 4, 2) := dk_21 4 (dk_at dksJ46_insertionSort_0 13 rfl rfl)
theorem dJ46_insertionSort_15 : decode cJ46_insertionSort 15 = .ok (.dup, 1) := dk_89 (dk_at dksJ46_insertionSort_0 15 rfl rfl)
theorem dJ46_insertionSort_16 : decode cJ46_insertionSort 16 = .ok (.istore_n 3, 1) := dk_62 (dk_at dksJ46_insertionSort_0 16 rfl rfl)
theorem dJ46_insertionSort_17 : decode cJ46_insertionSort 17 = .ok (.iaload, 1) := dk_46 (dk_at dksJ46_insertionSort_0 17 rfl rfl)
theorem dJ46_insertionSort_18 : decode cJ46_insertionSort 18 = .ok (.istore 5, 2) := dk_54 5 (dk_at dksJ46_insertionSort_0 18 rfl rfl)
theorem dJ46_insertionSort_20 : decode cJ46_insertionSort 20 = .ok (.iload 5, 2) := dk_21 5 (dk_at dksJ46_insertionSort_0 20 rfl rfl)
theorem dJ46_insertionSort_22 : decode cJ46_insertionSort 22 = .ok (.aload_n 0, 1) := dk_42 (dk_at dksJ46_insertionSort_0 22 rfl rfl)
theorem dJ46_insertionSort_23 : decode cJ46_insertionSort 23 = .ok (.iload_n 3, 1) := dk_29 (dk_at dksJ46_insertionSort_0 23 rfl rfl)
theorem dJ46_insertionSort_24 : decode cJ46_insertionSort 24 = .ok (.iconst 1, 1) := dk_4 (dk_at dksJ46_insertionSort_1 0 rfl rfl)
theorem dJ46_insertionSort_25 : decode cJ46_insertionSort 25 = .ok (.isub, 1) := dk_100 (dk_at dksJ46_insertionSort_1 1 rfl rfl)
theorem dJ46_insertionSort_26 : decode cJ46_insertionSort 26 = .ok (.iaload, 1) := dk_46 (dk_at dksJ46_insertionSort_1 2 rfl rfl)
theorem dJ46_insertionSort_27 : decode cJ46_insertionSort 27 = .ok (.if_icmp .ge 37, 3) := dk_162 0 37 (dk_at dksJ46_insertionSort_1 3 rfl rfl)
theorem dJ46_insertionSort_30 : decode cJ46_insertionSort 30 = .ok (.iinc 3 (-1), 3) := dk_132 3 255 (dk_at dksJ46_insertionSort_1 6 rfl rfl)
theorem dJ46_insertionSort_33 : decode cJ46_insertionSort 33 = .ok (.iload_n 3, 1) := dk_29 (dk_at dksJ46_insertionSort_1 9 rfl rfl)
theorem dJ46_insertionSort_34 : decode cJ46_insertionSort 34 = .ok (.iload_n 1, 1) := dk_27 (dk_at dksJ46_insertionSort_1 10 rfl rfl)
theorem dJ46_insertionSort_35 : decode cJ46_insertionSort 35 = .ok (.if_icmp .lt 22, 3) := dk_161 0 22 (dk_at dksJ46_insertionSort_1 11 rfl rfl)
theorem dJ46_insertionSort_38 : decode cJ46_insertionSort 38 = .ok (.iload 5, 2) := dk_21 5 (dk_at dksJ46_insertionSort_1 14 rfl rfl)
theorem dJ46_insertionSort_40 : decode cJ46_insertionSort 40 = .ok (.aload_n 0, 1) := dk_42 (dk_at dksJ46_insertionSort_1 16 rfl rfl)
theorem dJ46_insertionSort_41 : decode cJ46_insertionSort 41 = .ok (.iload_n 3, 1) := dk_29 (dk_at dksJ46_insertionSort_1 17 rfl rfl)
theorem dJ46_insertionSort_42 : decode cJ46_insertionSort 42 = .ok (.iaload, 1) := dk_46 (dk_at dksJ46_insertionSort_1 18 rfl rfl)
theorem dJ46_insertionSort_43 : decode cJ46_insertionSort 43 = .ok (.if_icmp .ge 14, 3) := dk_162 0 14 (dk_at dksJ46_insertionSort_1 19 rfl rfl)
theorem dJ46_insertionSort_46 : decode cJ46_insertionSort 46 = .ok (.aload_n 0, 1) := dk_42 (dk_at dksJ46_insertionSort_1 22 rfl rfl)
theorem dJ46_insertionSort_47 : decode cJ46_insertionSort 47 = .ok (.iload_n 3, 1) := dk_29 (dk_at dksJ46_insertionSort_1 23 rfl rfl)
theorem dJ46_insertionSort_48 : decode cJ46_insertionSort 48 = .ok (.iconst 1, 1) := dk_4 (dk_at dksJ46_insertionSort_2 0 rfl rfl)
theorem dJ46_insertionSort_49 : decode cJ46_insertionSort 49 = .ok (.iadd, 1) := dk_96 (dk_at dksJ46_insertionSort_2 1 rfl rfl)
theorem dJ46_insertionSort_50 : decode cJ46_insertionSort 50 = .ok (.aload_n 0, 1) := dk_42 (dk_at dksJ46_insertionSort_2 2 rfl rfl)
theorem dJ46_insertionSort_51 : decode cJ46_insertionSort 51 = .ok (.iload_n 3, 1) := dk_29 (dk_at dksJ46_insertionSort_2 3 rfl rfl)
theorem dJ46_insertionSort_52 : decode cJ46_insertionSort 52 = .ok (.iaload, 1) := dk_46 (dk_at dksJ46_insertionSort_2 4 rfl rfl)
theorem dJ46_insertionSort_53 : decode cJ46_insertionSort 53 = .ok (.iastore, 1) := dk_79 (dk_at dksJ46_insertionSort_2 5 rfl rfl)
theorem dJ46_insertionSort_54 : decode cJ46_insertionSort 54 = .ok (.goto (-24), 3) := dk_167 255 232 (dk_at dksJ46_insertionSort_2 6 rfl rfl)
theorem dJ46_insertionSort_57 : decode cJ46_insertionSort 57 = .ok (.aload_n 0, 1) := dk_42 (dk_at dksJ46_insertionSort_2 9 rfl rfl)
theorem dJ46_insertionSort_58 : decode cJ46_insertionSort 58 = .ok (.iload_n 3, 1) := dk_29 (dk_at dksJ46_insertionSort_2 10 rfl rfl)
theorem dJ46_insertionSort_59 : decode cJ46_insertionSort 59 = .ok (.iconst 1, 1) := dk_4 (dk_at dksJ46_insertionSort_2 11 rfl rfl)
theorem dJ46_insertionSort_60 : decode cJ46_insertionSort 60 = .ok (.iadd, 1) := dk_96 (dk_at dksJ46_insertionSort_2 12 rfl rfl)
theorem dJ46_insertionSort_61 : decode cJ46_insertionSort 61 = .ok (.iload 5, 2) := dk_21 5 (dk_at dksJ46_insertionSort_2 13 rfl rfl)
theorem dJ46_insertionSort_63 : decode cJ46_insertionSort 63 = .ok (.iastore, 1) := dk_79 (dk_at dksJ46_insertionSort_2 15 rfl rfl)
theorem dJ46_insertionSort_64 : decode cJ46_insertionSort 64 = .ok (.goto (-61), 3) := dk_167 255 195 (dk_at dksJ46_insertionSort_2 16 rfl rfl)
theorem dJ46_insertionSort_67 : decode cJ46_insertionSort 67 = .ok (.return_, 1) := dk_177 (dk_at dksJ46_insertionSort_2 19 rfl rfl)
abbrev cJ46_tryMergeRuns : ByteArray := prog_66_method_9_code
def yJ46_tryMergeRuns : MethodName := ⟨RJ46, "tryMergeRuns", "(Ljava/util/DualPivotQuicksort$Sorter;[III)Z"⟩
def dkwJ46_tryMergeRuns_16 : List UInt8 := [167, 0, 4, 3, 25, 4, 3, 21, 6, 184, 0, 69, 87, 4, 172]
abbrev dktJ46_tryMergeRuns_16 : List UInt8 := dkwJ46_tryMergeRuns_16 ++ []
def dkwJ46_tryMergeRuns_15 : List UInt8 := [58, 8, 167, 0, 9, 42, 180, 0, 65, 54, 9, 43, 25, 8, 21, 9, 4, 42, 198, 0, 7, 4]
abbrev dktJ46_tryMergeRuns_15 : List UInt8 := dkwJ46_tryMergeRuns_15 ++ dktJ46_tryMergeRuns_16
def dkwJ46_tryMergeRuns_14 : List UInt8 := [28, 54, 9, 42, 198, 0, 16, 42, 180, 0, 59, 192, 0, 63, 89, 58, 8, 199, 0, 11, 29, 188, 10]
abbrev dktJ46_tryMergeRuns_14 : List UInt8 := dkwJ46_tryMergeRuns_14 ++ dktJ46_tryMergeRuns_15
def dkwJ46_tryMergeRuns_13 : List UInt8 := [184, 0, 53, 58, 4, 25, 4, 21, 6, 21, 8, 89, 54, 7, 79, 167, 254, 212, 21, 6, 4, 164, 0, 61]
abbrev dktJ46_tryMergeRuns_13 : List UInt8 := dkwJ46_tryMergeRuns_13 ++ dktJ46_tryMergeRuns_14
def dkwJ46_tryMergeRuns_12 : List UInt8 := [21, 6, 17, 20, 0, 160, 0, 5, 3, 172, 21, 6, 25, 4, 190, 160, 0, 14, 25, 4, 21, 6, 4, 120]
abbrev dktJ46_tryMergeRuns_12 : List UInt8 := dkwJ46_tryMergeRuns_12 ++ dktJ46_tryMergeRuns_13
def dkwJ46_tryMergeRuns_11 : List UInt8 := [21, 7, 46, 164, 0, 49, 21, 6, 21, 8, 28, 100, 16, 7, 122, 164, 0, 5, 3, 172, 132, 6, 1]
abbrev dktJ46_tryMergeRuns_11 : List UInt8 := dkwJ46_tryMergeRuns_11 ++ dktJ46_tryMergeRuns_12
def dkwJ46_tryMergeRuns_10 : List UInt8 := [17, 3, 255, 126, 188, 10, 58, 4, 25, 4, 3, 28, 79, 167, 0, 62, 43, 21, 7, 4, 100, 46, 43]
abbrev dktJ46_tryMergeRuns_10 : List UInt8 := dkwJ46_tryMergeRuns_10 ++ dktJ46_tryMergeRuns_11
def dkwJ46_tryMergeRuns_9 : List UInt8 := [160, 0, 5, 4, 172, 21, 8, 28, 100, 16, 16, 162, 0, 5, 3, 172, 29, 16, 10, 122, 16, 127, 128]
abbrev dktJ46_tryMergeRuns_9 : List UInt8 := dkwJ46_tryMergeRuns_9 ++ dktJ46_tryMergeRuns_10
def dkwJ46_tryMergeRuns_8 : List UInt8 := [167, 255, 237, 21, 8, 21, 5, 162, 0, 6, 167, 255, 76, 25, 4, 199, 0, 46, 21, 8, 21, 5]
abbrev dktJ46_tryMergeRuns_8 : List UInt8 := dkwJ46_tryMergeRuns_8 ++ dktJ46_tryMergeRuns_9
def dkwJ46_tryMergeRuns_7 : List UInt8 := [21, 8, 46, 54, 9, 132, 8, 1, 21, 8, 21, 5, 162, 0, 15, 21, 9, 43, 21, 8, 46, 160, 0, 6]
abbrev dktJ46_tryMergeRuns_7 : List UInt8 := dkwJ46_tryMergeRuns_7 ++ dktJ46_tryMergeRuns_8
def dkwJ46_tryMergeRuns_6 : List UInt8 := [46, 54, 11, 43, 21, 9, 43, 21, 10, 46, 79, 43, 21, 10, 21, 11, 79, 167, 255, 212, 167, 0, 41, 43]
abbrev dktJ46_tryMergeRuns_6 : List UInt8 := dkwJ46_tryMergeRuns_6 ++ dktJ46_tryMergeRuns_7
def dkwJ46_tryMergeRuns_5 : List UInt8 := [21, 9, 132, 10, 255, 21, 10, 162, 0, 37, 43, 21, 9, 46, 43, 21, 10, 46, 164, 0, 26, 43, 21, 9]
abbrev dktJ46_tryMergeRuns_5 : List UInt8 := dkwJ46_tryMergeRuns_5 ++ dktJ46_tryMergeRuns_6
def dkwJ46_tryMergeRuns_4 : List UInt8 := [43, 21, 8, 46, 161, 0, 6, 167, 255, 233, 21, 7, 4, 100, 54, 9, 21, 8, 54, 10, 132, 9, 1]
abbrev dktJ46_tryMergeRuns_4 : List UInt8 := dkwJ46_tryMergeRuns_4 ++ dktJ46_tryMergeRuns_5
def dkwJ46_tryMergeRuns_3 : List UInt8 := [46, 43, 21, 8, 46, 164, 0, 89, 132, 8, 1, 21, 8, 21, 5, 162, 0, 19, 43, 21, 8, 4, 100, 46]
abbrev dktJ46_tryMergeRuns_3 : List UInt8 := dkwJ46_tryMergeRuns_3 ++ dktJ46_tryMergeRuns_4
def dkwJ46_tryMergeRuns_2 : List UInt8 := [162, 0, 156, 43, 21, 8, 4, 100, 46, 43, 21, 8, 46, 163, 0, 143, 167, 255, 233, 43, 21, 8, 4, 100]
abbrev dktJ46_tryMergeRuns_2 : List UInt8 := dkwJ46_tryMergeRuns_2 ++ dktJ46_tryMergeRuns_3
def dkwJ46_tryMergeRuns_1 : List UInt8 := [162, 1, 43, 43, 21, 8, 4, 100, 46, 43, 21, 8, 46, 162, 0, 29, 132, 8, 1, 21, 8, 21, 5]
abbrev dktJ46_tryMergeRuns_1 : List UInt8 := dkwJ46_tryMergeRuns_1 ++ dktJ46_tryMergeRuns_2
def dkwJ46_tryMergeRuns_0 : List UInt8 := [1, 58, 4, 28, 29, 96, 54, 5, 4, 54, 6, 28, 54, 7, 28, 4, 96, 54, 8, 21, 8, 21, 5]
abbrev dktJ46_tryMergeRuns_0 : List UInt8 := dkwJ46_tryMergeRuns_0 ++ dktJ46_tryMergeRuns_1
theorem dksJ46_tryMergeRuns_0 : cJ46_tryMergeRuns.data.toList.drop 0 = dktJ46_tryMergeRuns_0 := by decide +kernel
theorem dksJ46_tryMergeRuns_1 : cJ46_tryMergeRuns.data.toList.drop 23 = dktJ46_tryMergeRuns_1 := dk_seg dksJ46_tryMergeRuns_0 23 rfl rfl
theorem dksJ46_tryMergeRuns_2 : cJ46_tryMergeRuns.data.toList.drop 46 = dktJ46_tryMergeRuns_2 := dk_seg dksJ46_tryMergeRuns_1 23 rfl rfl
theorem dksJ46_tryMergeRuns_3 : cJ46_tryMergeRuns.data.toList.drop 70 = dktJ46_tryMergeRuns_3 := dk_seg dksJ46_tryMergeRuns_2 24 rfl rfl
theorem dksJ46_tryMergeRuns_4 : cJ46_tryMergeRuns.data.toList.drop 94 = dktJ46_tryMergeRuns_4 := dk_seg dksJ46_tryMergeRuns_3 24 rfl rfl
theorem dksJ46_tryMergeRuns_5 : cJ46_tryMergeRuns.data.toList.drop 117 = dktJ46_tryMergeRuns_5 := dk_seg dksJ46_tryMergeRuns_4 23 rfl rfl
theorem dksJ46_tryMergeRuns_6 : cJ46_tryMergeRuns.data.toList.drop 141 = dktJ46_tryMergeRuns_6 := dk_seg dksJ46_tryMergeRuns_5 24 rfl rfl
theorem dksJ46_tryMergeRuns_7 : cJ46_tryMergeRuns.data.toList.drop 165 = dktJ46_tryMergeRuns_7 := dk_seg dksJ46_tryMergeRuns_6 24 rfl rfl
theorem dksJ46_tryMergeRuns_8 : cJ46_tryMergeRuns.data.toList.drop 189 = dktJ46_tryMergeRuns_8 := dk_seg dksJ46_tryMergeRuns_7 24 rfl rfl
theorem dksJ46_tryMergeRuns_9 : cJ46_tryMergeRuns.data.toList.drop 211 = dktJ46_tryMergeRuns_9 := dk_seg dksJ46_tryMergeRuns_8 22 rfl rfl
theorem dksJ46_tryMergeRuns_10 : cJ46_tryMergeRuns.data.toList.drop 234 = dktJ46_tryMergeRuns_10 := dk_seg dksJ46_tryMergeRuns_9 23 rfl rfl
theorem dksJ46_tryMergeRuns_11 : cJ46_tryMergeRuns.data.toList.drop 257 = dktJ46_tryMergeRuns_11 := dk_seg dksJ46_tryMergeRuns_10 23 rfl rfl
theorem dksJ46_tryMergeRuns_12 : cJ46_tryMergeRuns.data.toList.drop 280 = dktJ46_tryMergeRuns_12 := dk_seg dksJ46_tryMergeRuns_11 23 rfl rfl
theorem dksJ46_tryMergeRuns_13 : cJ46_tryMergeRuns.data.toList.drop 304 = dktJ46_tryMergeRuns_13 := dk_seg dksJ46_tryMergeRuns_12 24 rfl rfl
theorem dksJ46_tryMergeRuns_14 : cJ46_tryMergeRuns.data.toList.drop 328 = dktJ46_tryMergeRuns_14 := dk_seg dksJ46_tryMergeRuns_13 24 rfl rfl
theorem dksJ46_tryMergeRuns_15 : cJ46_tryMergeRuns.data.toList.drop 351 = dktJ46_tryMergeRuns_15 := dk_seg dksJ46_tryMergeRuns_14 23 rfl rfl
theorem dksJ46_tryMergeRuns_16 : cJ46_tryMergeRuns.data.toList.drop 373 = dktJ46_tryMergeRuns_16 := dk_seg dksJ46_tryMergeRuns_15 22 rfl rfl
theorem dJ46_tryMergeRuns_0 : decode cJ46_tryMergeRuns 0 = .ok (.aconst_null, 1) := dk_1 (dk_at dksJ46_tryMergeRuns_0 0 rfl rfl)
theorem dJ46_tryMergeRuns_1 : decode cJ46_tryMergeRuns 1 = .ok (.astore 4, 2) := dk_58 4 (dk_at dksJ46_tryMergeRuns_0 1 rfl rfl)
theorem dJ46_tryMergeRuns_3 : decode cJ46_tryMergeRuns 3 = .ok (.iload_n 2, 1) := dk_28 (dk_at dksJ46_tryMergeRuns_0 3 rfl rfl)
theorem dJ46_tryMergeRuns_4 : decode cJ46_tryMergeRuns 4 = .ok (.iload_n 3, 1) := dk_29 (dk_at dksJ46_tryMergeRuns_0 4 rfl rfl)
theorem dJ46_tryMergeRuns_5 : decode cJ46_tryMergeRuns 5 = .ok (.iadd, 1) := dk_96 (dk_at dksJ46_tryMergeRuns_0 5 rfl rfl)
theorem dJ46_tryMergeRuns_6 : decode cJ46_tryMergeRuns 6 = .ok (.istore 5, 2) := dk_54 5 (dk_at dksJ46_tryMergeRuns_0 6 rfl rfl)
theorem dJ46_tryMergeRuns_8 : decode cJ46_tryMergeRuns 8 = .ok (.iconst 1, 1) := dk_4 (dk_at dksJ46_tryMergeRuns_0 8 rfl rfl)
theorem dJ46_tryMergeRuns_9 : decode cJ46_tryMergeRuns 9 = .ok (.istore 6, 2) := dk_54 6 (dk_at dksJ46_tryMergeRuns_0 9 rfl rfl)
theorem dJ46_tryMergeRuns_11 : decode cJ46_tryMergeRuns 11 = .ok (.iload_n 2, 1) := dk_28 (dk_at dksJ46_tryMergeRuns_0 11 rfl rfl)
theorem dJ46_tryMergeRuns_12 : decode cJ46_tryMergeRuns 12 = .ok (.istore 7, 2) := dk_54 7 (dk_at dksJ46_tryMergeRuns_0 12 rfl rfl)
theorem dJ46_tryMergeRuns_14 : decode cJ46_tryMergeRuns 14 = .ok (.iload_n 2, 1) := dk_28 (dk_at dksJ46_tryMergeRuns_0 14 rfl rfl)
theorem dJ46_tryMergeRuns_15 : decode cJ46_tryMergeRuns 15 = .ok (.iconst 1, 1) := dk_4 (dk_at dksJ46_tryMergeRuns_0 15 rfl rfl)
theorem dJ46_tryMergeRuns_16 : decode cJ46_tryMergeRuns 16 = .ok (.iadd, 1) := dk_96 (dk_at dksJ46_tryMergeRuns_0 16 rfl rfl)
theorem dJ46_tryMergeRuns_17 : decode cJ46_tryMergeRuns 17 = .ok (.istore 8, 2) := dk_54 8 (dk_at dksJ46_tryMergeRuns_0 17 rfl rfl)
theorem dJ46_tryMergeRuns_19 : decode cJ46_tryMergeRuns 19 = .ok (.iload 8, 2) := dk_21 8 (dk_at dksJ46_tryMergeRuns_0 19 rfl rfl)
theorem dJ46_tryMergeRuns_21 : decode cJ46_tryMergeRuns 21 = .ok (.iload 5, 2) := dk_21 5 (dk_at dksJ46_tryMergeRuns_0 21 rfl rfl)
theorem dJ46_tryMergeRuns_23 : decode cJ46_tryMergeRuns 23 = .ok (.if_icmp .ge 299, 3) := dk_162 1 43 (dk_at dksJ46_tryMergeRuns_1 0 rfl rfl)
theorem dJ46_tryMergeRuns_26 : decode cJ46_tryMergeRuns 26 = .ok (.aload_n 1, 1) := dk_43 (dk_at dksJ46_tryMergeRuns_1 3 rfl rfl)
theorem dJ46_tryMergeRuns_27 : decode cJ46_tryMergeRuns 27 = .ok (.iload 8, 2) := dk_21 8 (dk_at dksJ46_tryMergeRuns_1 4 rfl rfl)
theorem dJ46_tryMergeRuns_29 : decode cJ46_tryMergeRuns 29 = .ok (.iconst 1, 1) := dk_4 (dk_at dksJ46_tryMergeRuns_1 6 rfl rfl)
theorem dJ46_tryMergeRuns_30 : decode cJ46_tryMergeRuns 30 = .ok (.isub, 1) := dk_100 (dk_at dksJ46_tryMergeRuns_1 7 rfl rfl)
theorem dJ46_tryMergeRuns_31 : decode cJ46_tryMergeRuns 31 = .ok (.iaload, 1) := dk_46 (dk_at dksJ46_tryMergeRuns_1 8 rfl rfl)
theorem dJ46_tryMergeRuns_32 : decode cJ46_tryMergeRuns 32 = .ok (.aload_n 1, 1) := dk_43 (dk_at dksJ46_tryMergeRuns_1 9 rfl rfl)
theorem dJ46_tryMergeRuns_33 : decode cJ46_tryMergeRuns 33 = .ok (.iload 8, 2) := dk_21 8 (dk_at dksJ46_tryMergeRuns_1 10 rfl rfl)
theorem dJ46_tryMergeRuns_35 : decode cJ46_tryMergeRuns 35 = .ok (.iaload, 1) := dk_46 (dk_at dksJ46_tryMergeRuns_1 12 rfl rfl)
theorem dJ46_tryMergeRuns_36 : decode cJ46_tryMergeRuns 36 = .ok (.if_icmp .ge 29, 3) := dk_162 0 29 (dk_at dksJ46_tryMergeRuns_1 13 rfl rfl)
theorem dJ46_tryMergeRuns_39 : decode cJ46_tryMergeRuns 39 = .ok (.iinc 8 1, 3) := dk_132 8 1 (dk_at dksJ46_tryMergeRuns_1 16 rfl rfl)
theorem dJ46_tryMergeRuns_42 : decode cJ46_tryMergeRuns 42 = .ok (.iload 8, 2) := dk_21 8 (dk_at dksJ46_tryMergeRuns_1 19 rfl rfl)
theorem dJ46_tryMergeRuns_44 : decode cJ46_tryMergeRuns 44 = .ok (.iload 5, 2) := dk_21 5 (dk_at dksJ46_tryMergeRuns_1 21 rfl rfl)
theorem dJ46_tryMergeRuns_46 : decode cJ46_tryMergeRuns 46 = .ok (.if_icmp .ge 156, 3) := dk_162 0 156 (dk_at dksJ46_tryMergeRuns_2 0 rfl rfl)
theorem dJ46_tryMergeRuns_49 : decode cJ46_tryMergeRuns 49 = .ok (.aload_n 1, 1) := dk_43 (dk_at dksJ46_tryMergeRuns_2 3 rfl rfl)
theorem dJ46_tryMergeRuns_50 : decode cJ46_tryMergeRuns 50 = .ok (.iload 8, 2) := dk_21 8 (dk_at dksJ46_tryMergeRuns_2 4 rfl rfl)
theorem dJ46_tryMergeRuns_52 : decode cJ46_tryMergeRuns 52 = .ok (.iconst 1, 1) := dk_4 (dk_at dksJ46_tryMergeRuns_2 6 rfl rfl)
theorem dJ46_tryMergeRuns_53 : decode cJ46_tryMergeRuns 53 = .ok (.isub, 1) := dk_100 (dk_at dksJ46_tryMergeRuns_2 7 rfl rfl)
theorem dJ46_tryMergeRuns_54 : decode cJ46_tryMergeRuns 54 = .ok (.iaload, 1) := dk_46 (dk_at dksJ46_tryMergeRuns_2 8 rfl rfl)
theorem dJ46_tryMergeRuns_55 : decode cJ46_tryMergeRuns 55 = .ok (.aload_n 1, 1) := dk_43 (dk_at dksJ46_tryMergeRuns_2 9 rfl rfl)
theorem dJ46_tryMergeRuns_56 : decode cJ46_tryMergeRuns 56 = .ok (.iload 8, 2) := dk_21 8 (dk_at dksJ46_tryMergeRuns_2 10 rfl rfl)
theorem dJ46_tryMergeRuns_58 : decode cJ46_tryMergeRuns 58 = .ok (.iaload, 1) := dk_46 (dk_at dksJ46_tryMergeRuns_2 12 rfl rfl)
theorem dJ46_tryMergeRuns_59 : decode cJ46_tryMergeRuns 59 = .ok (.if_icmp .gt 143, 3) := dk_163 0 143 (dk_at dksJ46_tryMergeRuns_2 13 rfl rfl)
theorem dJ46_tryMergeRuns_62 : decode cJ46_tryMergeRuns 62 = .ok (.goto (-23), 3) := dk_167 255 233 (dk_at dksJ46_tryMergeRuns_2 16 rfl rfl)
theorem dJ46_tryMergeRuns_65 : decode cJ46_tryMergeRuns 65 = .ok (.aload_n 1, 1) := dk_43 (dk_at dksJ46_tryMergeRuns_2 19 rfl rfl)
theorem dJ46_tryMergeRuns_66 : decode cJ46_tryMergeRuns 66 = .ok (.iload 8, 2) := dk_21 8 (dk_at dksJ46_tryMergeRuns_2 20 rfl rfl)
theorem dJ46_tryMergeRuns_68 : decode cJ46_tryMergeRuns 68 = .ok (.iconst 1, 1) := dk_4 (dk_at dksJ46_tryMergeRuns_2 22 rfl rfl)
theorem dJ46_tryMergeRuns_69 : decode cJ46_tryMergeRuns 69 = .ok (.isub, 1) := dk_100 (dk_at dksJ46_tryMergeRuns_2 23 rfl rfl)
theorem dJ46_tryMergeRuns_70 : decode cJ46_tryMergeRuns 70 = .ok (.iaload, 1) := dk_46 (dk_at dksJ46_tryMergeRuns_3 0 rfl rfl)
theorem dJ46_tryMergeRuns_71 : decode cJ46_tryMergeRuns 71 = .ok (.aload_n 1, 1) := dk_43 (dk_at dksJ46_tryMergeRuns_3 1 rfl rfl)
theorem dJ46_tryMergeRuns_72 : decode cJ46_tryMergeRuns 72 = .ok (.iload 8, 2) := dk_21 8 (dk_at dksJ46_tryMergeRuns_3 2 rfl rfl)
theorem dJ46_tryMergeRuns_74 : decode cJ46_tryMergeRuns 74 = .ok (.iaload, 1) := dk_46 (dk_at dksJ46_tryMergeRuns_3 4 rfl rfl)
theorem dJ46_tryMergeRuns_75 : decode cJ46_tryMergeRuns 75 = .ok (.if_icmp .le 89, 3) := dk_164 0 89 (dk_at dksJ46_tryMergeRuns_3 5 rfl rfl)
theorem dJ46_tryMergeRuns_78 : decode cJ46_tryMergeRuns 78 = .ok (.iinc 8 1, 3) := dk_132 8 1 (dk_at dksJ46_tryMergeRuns_3 8 rfl rfl)
theorem dJ46_tryMergeRuns_81 : decode cJ46_tryMergeRuns 81 = .ok (.iload 8, 2) := dk_21 8 (dk_at dksJ46_tryMergeRuns_3 11 rfl rfl)
theorem dJ46_tryMergeRuns_83 : decode cJ46_tryMergeRuns 83 = .ok (.iload 5, 2) := dk_21 5 (dk_at dksJ46_tryMergeRuns_3 13 rfl rfl)
theorem dJ46_tryMergeRuns_85 : decode cJ46_tryMergeRuns 85 = .ok (.if_icmp .ge 19, 3) := dk_162 0 19 (dk_at dksJ46_tryMergeRuns_3 15 rfl rfl)
theorem dJ46_tryMergeRuns_88 : decode cJ46_tryMergeRuns 88 = .ok (.aload_n 1, 1) := dk_43 (dk_at dksJ46_tryMergeRuns_3 18 rfl rfl)
theorem dJ46_tryMergeRuns_89 : decode cJ46_tryMergeRuns 89 = .ok (.iload 8, 2) := dk_21 8 (dk_at dksJ46_tryMergeRuns_3 19 rfl rfl)
theorem dJ46_tryMergeRuns_91 : decode cJ46_tryMergeRuns 91 = .ok (.iconst 1, 1) := dk_4 (dk_at dksJ46_tryMergeRuns_3 21 rfl rfl)
theorem dJ46_tryMergeRuns_92 : decode cJ46_tryMergeRuns 92 = .ok (.isub, 1) := dk_100 (dk_at dksJ46_tryMergeRuns_3 22 rfl rfl)
theorem dJ46_tryMergeRuns_93 : decode cJ46_tryMergeRuns 93 = .ok (.iaload, 1) := dk_46 (dk_at dksJ46_tryMergeRuns_3 23 rfl rfl)
theorem dJ46_tryMergeRuns_94 : decode cJ46_tryMergeRuns 94 = .ok (.aload_n 1, 1) := dk_43 (dk_at dksJ46_tryMergeRuns_4 0 rfl rfl)
theorem dJ46_tryMergeRuns_95 : decode cJ46_tryMergeRuns 95 = .ok (.iload 8, 2) := dk_21 8 (dk_at dksJ46_tryMergeRuns_4 1 rfl rfl)
theorem dJ46_tryMergeRuns_97 : decode cJ46_tryMergeRuns 97 = .ok (.iaload, 1) := dk_46 (dk_at dksJ46_tryMergeRuns_4 3 rfl rfl)
theorem dJ46_tryMergeRuns_98 : decode cJ46_tryMergeRuns 98 = .ok (.if_icmp .lt 6, 3) := dk_161 0 6 (dk_at dksJ46_tryMergeRuns_4 4 rfl rfl)
theorem dJ46_tryMergeRuns_101 : decode cJ46_tryMergeRuns 101 = .ok (.goto (-23), 3) := dk_167 255 233 (dk_at dksJ46_tryMergeRuns_4 7 rfl rfl)
theorem dJ46_tryMergeRuns_104 : decode cJ46_tryMergeRuns 104 = .ok (.iload 7, 2) := dk_21 7 (dk_at dksJ46_tryMergeRuns_4 10 rfl rfl)
theorem dJ46_tryMergeRuns_106 : decode cJ46_tryMergeRuns 106 = .ok (.iconst 1, 1) := dk_4 (dk_at dksJ46_tryMergeRuns_4 12 rfl rfl)
theorem dJ46_tryMergeRuns_107 : decode cJ46_tryMergeRuns 107 = .ok (.isub, 1) := dk_100 (dk_at dksJ46_tryMergeRuns_4 13 rfl rfl)
theorem dJ46_tryMergeRuns_108 : decode cJ46_tryMergeRuns 108 = .ok (.istore 9, 2) := dk_54 9 (dk_at dksJ46_tryMergeRuns_4 14 rfl rfl)
theorem dJ46_tryMergeRuns_110 : decode cJ46_tryMergeRuns 110 = .ok (.iload 8, 2) := dk_21 8 (dk_at dksJ46_tryMergeRuns_4 16 rfl rfl)
theorem dJ46_tryMergeRuns_112 : decode cJ46_tryMergeRuns 112 = .ok (.istore 10, 2) := dk_54 10 (dk_at dksJ46_tryMergeRuns_4 18 rfl rfl)
theorem dJ46_tryMergeRuns_114 : decode cJ46_tryMergeRuns 114 = .ok (.iinc 9 1, 3) := dk_132 9 1 (dk_at dksJ46_tryMergeRuns_4 20 rfl rfl)
theorem dJ46_tryMergeRuns_117 : decode cJ46_tryMergeRuns 117 = .ok (.iload 9, 2) := dk_21 9 (dk_at dksJ46_tryMergeRuns_5 0 rfl rfl)
theorem dJ46_tryMergeRuns_119 : decode cJ46_tryMergeRuns 119 = .ok (.iinc 10 (-1), 3) := dk_132 10 255 (dk_at dksJ46_tryMergeRuns_5 2 rfl rfl)
theorem dJ46_tryMergeRuns_122 : decode cJ46_tryMergeRuns 122 = .ok (.iload 10, 2) := dk_21 10 (dk_at dksJ46_tryMergeRuns_5 5 rfl rfl)
theorem dJ46_tryMergeRuns_124 : decode cJ46_tryMergeRuns 124 = .ok (.if_icmp .ge 37, 3) := dk_162 0 37 (dk_at dksJ46_tryMergeRuns_5 7 rfl rfl)
theorem dJ46_tryMergeRuns_127 : decode cJ46_tryMergeRuns 127 = .ok (.aload_n 1, 1) := dk_43 (dk_at dksJ46_tryMergeRuns_5 10 rfl rfl)
theorem dJ46_tryMergeRuns_128 : decode cJ46_tryMergeRuns 128 = .ok (.iload 9, 2) := dk_21 9 (dk_at dksJ46_tryMergeRuns_5 11 rfl rfl)
theorem dJ46_tryMergeRuns_130 : decode cJ46_tryMergeRuns 130 = .ok (.iaload, 1) := dk_46 (dk_at dksJ46_tryMergeRuns_5 13 rfl rfl)
theorem dJ46_tryMergeRuns_131 : decode cJ46_tryMergeRuns 131 = .ok (.aload_n 1, 1) := dk_43 (dk_at dksJ46_tryMergeRuns_5 14 rfl rfl)
theorem dJ46_tryMergeRuns_132 : decode cJ46_tryMergeRuns 132 = .ok (.iload 10, 2) := dk_21 10 (dk_at dksJ46_tryMergeRuns_5 15 rfl rfl)
theorem dJ46_tryMergeRuns_134 : decode cJ46_tryMergeRuns 134 = .ok (.iaload, 1) := dk_46 (dk_at dksJ46_tryMergeRuns_5 17 rfl rfl)
theorem dJ46_tryMergeRuns_135 : decode cJ46_tryMergeRuns 135 = .ok (.if_icmp .le 26, 3) := dk_164 0 26 (dk_at dksJ46_tryMergeRuns_5 18 rfl rfl)
theorem dJ46_tryMergeRuns_138 : decode cJ46_tryMergeRuns 138 = .ok (.aload_n 1, 1) := dk_43 (dk_at dksJ46_tryMergeRuns_5 21 rfl rfl)
theorem dJ46_tryMergeRuns_139 : decode cJ46_tryMergeRuns 139 = .ok (.iload 9, 2) := dk_21 9 (dk_at dksJ46_tryMergeRuns_5 22 rfl rfl)
theorem dJ46_tryMergeRuns_141 : decode cJ46_tryMergeRuns 141 = .ok (.iaload, 1) := dk_46 (dk_at dksJ46_tryMergeRuns_6 0 rfl rfl)
theorem dJ46_tryMergeRuns_142 : decode cJ46_tryMergeRuns 142 = .ok (.istore 11, 2) := dk_54 11 (dk_at dksJ46_tryMergeRuns_6 1 rfl rfl)
theorem dJ46_tryMergeRuns_144 : decode cJ46_tryMergeRuns 144 = .ok (.aload_n 1, 1) := dk_43 (dk_at dksJ46_tryMergeRuns_6 3 rfl rfl)
theorem dJ46_tryMergeRuns_145 : decode cJ46_tryMergeRuns 145 = .ok (.iload 9, 2) := dk_21 9 (dk_at dksJ46_tryMergeRuns_6 4 rfl rfl)
theorem dJ46_tryMergeRuns_147 : decode cJ46_tryMergeRuns 147 = .ok (.aload_n 1, 1) := dk_43 (dk_at dksJ46_tryMergeRuns_6 6 rfl rfl)
theorem dJ46_tryMergeRuns_148 : decode cJ46_tryMergeRuns 148 = .ok (.iload 10, 2) := dk_21 10 (dk_at dksJ46_tryMergeRuns_6 7 rfl rfl)
theorem dJ46_tryMergeRuns_150 : decode cJ46_tryMergeRuns 150 = .ok (.iaload, 1) := dk_46 (dk_at dksJ46_tryMergeRuns_6 9 rfl rfl)
theorem dJ46_tryMergeRuns_151 : decode cJ46_tryMergeRuns 151 = .ok (.iastore, 1) := dk_79 (dk_at dksJ46_tryMergeRuns_6 10 rfl rfl)
theorem dJ46_tryMergeRuns_152 : decode cJ46_tryMergeRuns 152 = .ok (.aload_n 1, 1) := dk_43 (dk_at dksJ46_tryMergeRuns_6 11 rfl rfl)
theorem dJ46_tryMergeRuns_153 : decode cJ46_tryMergeRuns 153 = .ok (.iload 10, 2) := dk_21 10 (dk_at dksJ46_tryMergeRuns_6 12 rfl rfl)
theorem dJ46_tryMergeRuns_155 : decode cJ46_tryMergeRuns 155 = .ok (.iload 11, 2) := dk_21 11 (dk_at dksJ46_tryMergeRuns_6 14 rfl rfl)
theorem dJ46_tryMergeRuns_157 : decode cJ46_tryMergeRuns 157 = .ok (.iastore, 1) := dk_79 (dk_at dksJ46_tryMergeRuns_6 16 rfl rfl)
theorem dJ46_tryMergeRuns_158 : decode cJ46_tryMergeRuns 158 = .ok (.goto (-44), 3) := dk_167 255 212 (dk_at dksJ46_tryMergeRuns_6 17 rfl rfl)
theorem dJ46_tryMergeRuns_161 : decode cJ46_tryMergeRuns 161 = .ok (.goto 41, 3) := dk_167 0 41 (dk_at dksJ46_tryMergeRuns_6 20 rfl rfl)
theorem dJ46_tryMergeRuns_164 : decode cJ46_tryMergeRuns 164 = .ok (.aload_n 1, 1) := dk_43 (dk_at dksJ46_tryMergeRuns_6 23 rfl rfl)
theorem dJ46_tryMergeRuns_165 : decode cJ46_tryMergeRuns 165 = .ok (.iload 8, 2) := dk_21 8 (dk_at dksJ46_tryMergeRuns_7 0 rfl rfl)
theorem dJ46_tryMergeRuns_167 : decode cJ46_tryMergeRuns 167 = .ok (.iaload, 1) := dk_46 (dk_at dksJ46_tryMergeRuns_7 2 rfl rfl)
theorem dJ46_tryMergeRuns_168 : decode cJ46_tryMergeRuns 168 = .ok (.istore 9, 2) := dk_54 9 (dk_at dksJ46_tryMergeRuns_7 3 rfl rfl)
theorem dJ46_tryMergeRuns_170 : decode cJ46_tryMergeRuns 170 = .ok (.iinc 8 1, 3) := dk_132 8 1 (dk_at dksJ46_tryMergeRuns_7 5 rfl rfl)
theorem dJ46_tryMergeRuns_173 : decode cJ46_tryMergeRuns 173 = .ok (.iload 8, 2) := dk_21 8 (dk_at dksJ46_tryMergeRuns_7 8 rfl rfl)
theorem dJ46_tryMergeRuns_175 : decode cJ46_tryMergeRuns 175 = .ok (.iload 5, 2) := dk_21 5 (dk_at dksJ46_tryMergeRuns_7 10 rfl rfl)
theorem dJ46_tryMergeRuns_177 : decode cJ46_tryMergeRuns 177 = .ok (.if_icmp .ge 15, 3) := dk_162 0 15 (dk_at dksJ46_tryMergeRuns_7 12 rfl rfl)
theorem dJ46_tryMergeRuns_180 : decode cJ46_tryMergeRuns 180 = .ok (.iload 9, 2) := dk_21 9 (dk_at dksJ46_tryMergeRuns_7 15 rfl rfl)
theorem dJ46_tryMergeRuns_182 : decode cJ46_tryMergeRuns 182 = .ok (.aload_n 1, 1) := dk_43 (dk_at dksJ46_tryMergeRuns_7 17 rfl rfl)
theorem dJ46_tryMergeRuns_183 : decode cJ46_tryMergeRuns 183 = .ok (.iload 8, 2) := dk_21 8 (dk_at dksJ46_tryMergeRuns_7 18 rfl rfl)
theorem dJ46_tryMergeRuns_185 : decode cJ46_tryMergeRuns 185 = .ok (.iaload, 1) := dk_46 (dk_at dksJ46_tryMergeRuns_7 20 rfl rfl)
theorem dJ46_tryMergeRuns_186 : decode cJ46_tryMergeRuns 186 = .ok (.if_icmp .ne 6, 3) := dk_160 0 6 (dk_at dksJ46_tryMergeRuns_7 21 rfl rfl)
theorem dJ46_tryMergeRuns_189 : decode cJ46_tryMergeRuns 189 = .ok (.goto (-19), 3) := dk_167 255 237 (dk_at dksJ46_tryMergeRuns_8 0 rfl rfl)
theorem dJ46_tryMergeRuns_192 : decode cJ46_tryMergeRuns 192 = .ok (.iload 8, 2) := dk_21 8 (dk_at dksJ46_tryMergeRuns_8 3 rfl rfl)
theorem dJ46_tryMergeRuns_194 : decode cJ46_tryMergeRuns 194 = .ok (.iload 5, 2) := dk_21 5 (dk_at dksJ46_tryMergeRuns_8 5 rfl rfl)
theorem dJ46_tryMergeRuns_196 : decode cJ46_tryMergeRuns 196 = .ok (.if_icmp .ge 6, 3) := dk_162 0 6 (dk_at dksJ46_tryMergeRuns_8 7 rfl rfl)
theorem dJ46_tryMergeRuns_199 : decode cJ46_tryMergeRuns 199 = .ok (.goto (-180), 3) := dk_167 255 76 (dk_at dksJ46_tryMergeRuns_8 10 rfl rfl)
theorem dJ46_tryMergeRuns_202 : decode cJ46_tryMergeRuns 202 = .ok (.aload 4, 2) := dk_25 4 (dk_at dksJ46_tryMergeRuns_8 13 rfl rfl)
theorem dJ46_tryMergeRuns_204 : decode cJ46_tryMergeRuns 204 = .ok (.ifnonnull 46, 3) := dk_199 0 46 (dk_at dksJ46_tryMergeRuns_8 15 rfl rfl)
theorem dJ46_tryMergeRuns_207 : decode cJ46_tryMergeRuns 207 = .ok (.iload 8, 2) := dk_21 8 (dk_at dksJ46_tryMergeRuns_8 18 rfl rfl)
theorem dJ46_tryMergeRuns_209 : decode cJ46_tryMergeRuns 209 = .ok (.iload 5, 2) := dk_21 5 (dk_at dksJ46_tryMergeRuns_8 20 rfl rfl)
theorem dJ46_tryMergeRuns_211 : decode cJ46_tryMergeRuns 211 = .ok (.if_icmp .ne 5, 3) := dk_160 0 5 (dk_at dksJ46_tryMergeRuns_9 0 rfl rfl)
theorem dJ46_tryMergeRuns_214 : decode cJ46_tryMergeRuns 214 = .ok (.iconst 1, 1) := dk_4 (dk_at dksJ46_tryMergeRuns_9 3 rfl rfl)
theorem dJ46_tryMergeRuns_215 : decode cJ46_tryMergeRuns 215 = .ok (.ireturn, 1) := dk_172 (dk_at dksJ46_tryMergeRuns_9 4 rfl rfl)
theorem dJ46_tryMergeRuns_216 : decode cJ46_tryMergeRuns 216 = .ok (.iload 8, 2) := dk_21 8 (dk_at dksJ46_tryMergeRuns_9 5 rfl rfl)
theorem dJ46_tryMergeRuns_218 : decode cJ46_tryMergeRuns 218 = .ok (.iload_n 2, 1) := dk_28 (dk_at dksJ46_tryMergeRuns_9 7 rfl rfl)
theorem dJ46_tryMergeRuns_219 : decode cJ46_tryMergeRuns 219 = .ok (.isub, 1) := dk_100 (dk_at dksJ46_tryMergeRuns_9 8 rfl rfl)
theorem dJ46_tryMergeRuns_220 : decode cJ46_tryMergeRuns 220 = .ok (.bipush 16, 2) := dk_16 16 (dk_at dksJ46_tryMergeRuns_9 9 rfl rfl)
theorem dJ46_tryMergeRuns_222 : decode cJ46_tryMergeRuns 222 = .ok (.if_icmp .ge 5, 3) := dk_162 0 5 (dk_at dksJ46_tryMergeRuns_9 11 rfl rfl)
theorem dJ46_tryMergeRuns_225 : decode cJ46_tryMergeRuns 225 = .ok (.iconst 0, 1) := dk_3 (dk_at dksJ46_tryMergeRuns_9 14 rfl rfl)
theorem dJ46_tryMergeRuns_226 : decode cJ46_tryMergeRuns 226 = .ok (.ireturn, 1) := dk_172 (dk_at dksJ46_tryMergeRuns_9 15 rfl rfl)
theorem dJ46_tryMergeRuns_227 : decode cJ46_tryMergeRuns 227 = .ok (.iload_n 3, 1) := dk_29 (dk_at dksJ46_tryMergeRuns_9 16 rfl rfl)
theorem dJ46_tryMergeRuns_228 : decode cJ46_tryMergeRuns 228 = .ok (.bipush 10, 2) := dk_16 10 (dk_at dksJ46_tryMergeRuns_9 17 rfl rfl)
theorem dJ46_tryMergeRuns_230 : decode cJ46_tryMergeRuns 230 = .ok (.ishr, 1) := dk_122 (dk_at dksJ46_tryMergeRuns_9 19 rfl rfl)
theorem dJ46_tryMergeRuns_231 : decode cJ46_tryMergeRuns 231 = .ok (.bipush 127, 2) := dk_16 127 (dk_at dksJ46_tryMergeRuns_9 20 rfl rfl)
theorem dJ46_tryMergeRuns_233 : decode cJ46_tryMergeRuns 233 = .ok (.ior, 1) := dk_128 (dk_at dksJ46_tryMergeRuns_9 22 rfl rfl)
theorem dJ46_tryMergeRuns_234 : decode cJ46_tryMergeRuns 234 = .ok (.sipush 1023, 3) := dk_17 3 255 (dk_at dksJ46_tryMergeRuns_10 0 rfl rfl)
theorem dJ46_tryMergeRuns_237 : decode cJ46_tryMergeRuns 237 = .ok (.iand, 1) := dk_126 (dk_at dksJ46_tryMergeRuns_10 3 rfl rfl)
theorem dJ46_tryMergeRuns_238 : decode cJ46_tryMergeRuns 238 = .ok (.newarray .int, 2) := dk_188_10 (dk_at dksJ46_tryMergeRuns_10 4 rfl rfl)
theorem dJ46_tryMergeRuns_240 : decode cJ46_tryMergeRuns 240 = .ok (.astore 4, 2) := dk_58 4 (dk_at dksJ46_tryMergeRuns_10 6 rfl rfl)
theorem dJ46_tryMergeRuns_242 : decode cJ46_tryMergeRuns 242 = .ok (.aload 4, 2) := dk_25 4 (dk_at dksJ46_tryMergeRuns_10 8 rfl rfl)
theorem dJ46_tryMergeRuns_244 : decode cJ46_tryMergeRuns 244 = .ok (.iconst 0, 1) := dk_3 (dk_at dksJ46_tryMergeRuns_10 10 rfl rfl)
theorem dJ46_tryMergeRuns_245 : decode cJ46_tryMergeRuns 245 = .ok (.iload_n 2, 1) := dk_28 (dk_at dksJ46_tryMergeRuns_10 11 rfl rfl)
theorem dJ46_tryMergeRuns_246 : decode cJ46_tryMergeRuns 246 = .ok (.iastore, 1) := dk_79 (dk_at dksJ46_tryMergeRuns_10 12 rfl rfl)
theorem dJ46_tryMergeRuns_247 : decode cJ46_tryMergeRuns 247 = .ok (.goto 62, 3) := dk_167 0 62 (dk_at dksJ46_tryMergeRuns_10 13 rfl rfl)
theorem dJ46_tryMergeRuns_250 : decode cJ46_tryMergeRuns 250 = .ok (.aload_n 1, 1) := dk_43 (dk_at dksJ46_tryMergeRuns_10 16 rfl rfl)
theorem dJ46_tryMergeRuns_251 : decode cJ46_tryMergeRuns 251 = .ok (.iload 7, 2) := dk_21 7 (dk_at dksJ46_tryMergeRuns_10 17 rfl rfl)
theorem dJ46_tryMergeRuns_253 : decode cJ46_tryMergeRuns 253 = .ok (.iconst 1, 1) := dk_4 (dk_at dksJ46_tryMergeRuns_10 19 rfl rfl)
theorem dJ46_tryMergeRuns_254 : decode cJ46_tryMergeRuns 254 = .ok (.isub, 1) := dk_100 (dk_at dksJ46_tryMergeRuns_10 20 rfl rfl)
theorem dJ46_tryMergeRuns_255 : decode cJ46_tryMergeRuns 255 = .ok (.iaload, 1) := dk_46 (dk_at dksJ46_tryMergeRuns_10 21 rfl rfl)
theorem dJ46_tryMergeRuns_256 : decode cJ46_tryMergeRuns 256 = .ok (.aload_n 1, 1) := dk_43 (dk_at dksJ46_tryMergeRuns_10 22 rfl rfl)
theorem dJ46_tryMergeRuns_257 : decode cJ46_tryMergeRuns 257 = .ok (.iload 7, 2) := dk_21 7 (dk_at dksJ46_tryMergeRuns_11 0 rfl rfl)
theorem dJ46_tryMergeRuns_259 : decode cJ46_tryMergeRuns 259 = .ok (.iaload, 1) := dk_46 (dk_at dksJ46_tryMergeRuns_11 2 rfl rfl)
theorem dJ46_tryMergeRuns_260 : decode cJ46_tryMergeRuns 260 = .ok (.if_icmp .le 49, 3) := dk_164 0 49 (dk_at dksJ46_tryMergeRuns_11 3 rfl rfl)
theorem dJ46_tryMergeRuns_263 : decode cJ46_tryMergeRuns 263 = .ok (.iload 6, 2) := dk_21 6 (dk_at dksJ46_tryMergeRuns_11 6 rfl rfl)
theorem dJ46_tryMergeRuns_265 : decode cJ46_tryMergeRuns 265 = .ok (.iload 8, 2) := dk_21 8 (dk_at dksJ46_tryMergeRuns_11 8 rfl rfl)
theorem dJ46_tryMergeRuns_267 : decode cJ46_tryMergeRuns 267 = .ok (.iload_n 2, 1) := dk_28 (dk_at dksJ46_tryMergeRuns_11 10 rfl rfl)
theorem dJ46_tryMergeRuns_268 : decode cJ46_tryMergeRuns 268 = .ok (.isub, 1) := dk_100 (dk_at dksJ46_tryMergeRuns_11 11 rfl rfl)
theorem dJ46_tryMergeRuns_269 : decode cJ46_tryMergeRuns 269 = .ok (.bipush 7, 2) := dk_16 7 (dk_at dksJ46_tryMergeRuns_11 12 rfl rfl)
theorem dJ46_tryMergeRuns_271 : decode cJ46_tryMergeRuns 271 = .ok (.ishr, 1) := dk_122 (dk_at dksJ46_tryMergeRuns_11 14 rfl rfl)
theorem dJ46_tryMergeRuns_272 : decode cJ46_tryMergeRuns 272 = .ok (.if_icmp .le 5, 3) := dk_164 0 5 (dk_at dksJ46_tryMergeRuns_11 15 rfl rfl)
theorem dJ46_tryMergeRuns_275 : decode cJ46_tryMergeRuns 275 = .ok (.iconst 0, 1) := dk_3 (dk_at dksJ46_tryMergeRuns_11 18 rfl rfl)
theorem dJ46_tryMergeRuns_276 : decode cJ46_tryMergeRuns 276 = .ok (.ireturn, 1) := dk_172 (dk_at dksJ46_tryMergeRuns_11 19 rfl rfl)
theorem dJ46_tryMergeRuns_277 : decode cJ46_tryMergeRuns 277 = .ok (.iinc 6 1, 3) := dk_132 6 1 (dk_at dksJ46_tryMergeRuns_11 20 rfl rfl)
theorem dJ46_tryMergeRuns_280 : decode cJ46_tryMergeRuns 280 = .ok (.iload 6, 2) := dk_21 6 (dk_at dksJ46_tryMergeRuns_12 0 rfl rfl)
theorem dJ46_tryMergeRuns_282 : decode cJ46_tryMergeRuns 282 = .ok (.sipush 5120, 3) := dk_17 20 0 (dk_at dksJ46_tryMergeRuns_12 2 rfl rfl)
theorem dJ46_tryMergeRuns_285 : decode cJ46_tryMergeRuns 285 = .ok (.if_icmp .ne 5, 3) := dk_160 0 5 (dk_at dksJ46_tryMergeRuns_12 5 rfl rfl)
theorem dJ46_tryMergeRuns_288 : decode cJ46_tryMergeRuns 288 = .ok (.iconst 0, 1) := dk_3 (dk_at dksJ46_tryMergeRuns_12 8 rfl rfl)
theorem dJ46_tryMergeRuns_289 : decode cJ46_tryMergeRuns 289 = .ok (.ireturn, 1) := dk_172 (dk_at dksJ46_tryMergeRuns_12 9 rfl rfl)
theorem dJ46_tryMergeRuns_290 : decode cJ46_tryMergeRuns 290 = .ok (.iload 6, 2) := dk_21 6 (dk_at dksJ46_tryMergeRuns_12 10 rfl rfl)
theorem dJ46_tryMergeRuns_292 : decode cJ46_tryMergeRuns 292 = .ok (.aload 4, 2) := dk_25 4 (dk_at dksJ46_tryMergeRuns_12 12 rfl rfl)
theorem dJ46_tryMergeRuns_294 : decode cJ46_tryMergeRuns 294 = .ok (.arraylength, 1) := dk_190 (dk_at dksJ46_tryMergeRuns_12 14 rfl rfl)
theorem dJ46_tryMergeRuns_295 : decode cJ46_tryMergeRuns 295 = .ok (.if_icmp .ne 14, 3) := dk_160 0 14 (dk_at dksJ46_tryMergeRuns_12 15 rfl rfl)
theorem dJ46_tryMergeRuns_298 : decode cJ46_tryMergeRuns 298 = .ok (.aload 4, 2) := dk_25 4 (dk_at dksJ46_tryMergeRuns_12 18 rfl rfl)
theorem dJ46_tryMergeRuns_300 : decode cJ46_tryMergeRuns 300 = .ok (.iload 6, 2) := dk_21 6 (dk_at dksJ46_tryMergeRuns_12 20 rfl rfl)
theorem dJ46_tryMergeRuns_302 : decode cJ46_tryMergeRuns 302 = .ok (.iconst 1, 1) := dk_4 (dk_at dksJ46_tryMergeRuns_12 22 rfl rfl)
theorem dJ46_tryMergeRuns_303 : decode cJ46_tryMergeRuns 303 = .ok (.ishl, 1) := dk_120 (dk_at dksJ46_tryMergeRuns_12 23 rfl rfl)
theorem dJ46_tryMergeRuns_304 : decode cJ46_tryMergeRuns 304 = .ok (.invokestatic 53, 3) := dk_184 0 53 (dk_at dksJ46_tryMergeRuns_13 0 rfl rfl)
theorem dJ46_tryMergeRuns_307 : decode cJ46_tryMergeRuns 307 = .ok (.astore 4, 2) := dk_58 4 (dk_at dksJ46_tryMergeRuns_13 3 rfl rfl)
theorem dJ46_tryMergeRuns_309 : decode cJ46_tryMergeRuns 309 = .ok (.aload 4, 2) := dk_25 4 (dk_at dksJ46_tryMergeRuns_13 5 rfl rfl)
theorem dJ46_tryMergeRuns_311 : decode cJ46_tryMergeRuns 311 = .ok (.iload 6, 2) := dk_21 6 (dk_at dksJ46_tryMergeRuns_13 7 rfl rfl)
theorem dJ46_tryMergeRuns_313 : decode cJ46_tryMergeRuns 313 = .ok (.iload 8, 2) := dk_21 8 (dk_at dksJ46_tryMergeRuns_13 9 rfl rfl)
theorem dJ46_tryMergeRuns_315 : decode cJ46_tryMergeRuns 315 = .ok (.dup, 1) := dk_89 (dk_at dksJ46_tryMergeRuns_13 11 rfl rfl)
theorem dJ46_tryMergeRuns_316 : decode cJ46_tryMergeRuns 316 = .ok (.istore 7, 2) := dk_54 7 (dk_at dksJ46_tryMergeRuns_13 12 rfl rfl)
theorem dJ46_tryMergeRuns_318 : decode cJ46_tryMergeRuns 318 = .ok (.iastore, 1) := dk_79 (dk_at dksJ46_tryMergeRuns_13 14 rfl rfl)
theorem dJ46_tryMergeRuns_319 : decode cJ46_tryMergeRuns 319 = .ok (.goto (-300), 3) := dk_167 254 212 (dk_at dksJ46_tryMergeRuns_13 15 rfl rfl)
theorem dJ46_tryMergeRuns_322 : decode cJ46_tryMergeRuns 322 = .ok (.iload 6, 2) := dk_21 6 (dk_at dksJ46_tryMergeRuns_13 18 rfl rfl)
theorem dJ46_tryMergeRuns_324 : decode cJ46_tryMergeRuns 324 = .ok (.iconst 1, 1) := dk_4 (dk_at dksJ46_tryMergeRuns_13 20 rfl rfl)
theorem dJ46_tryMergeRuns_325 : decode cJ46_tryMergeRuns 325 = .ok (.if_icmp .le 61, 3) := dk_164 0 61 (dk_at dksJ46_tryMergeRuns_13 21 rfl rfl)
theorem dJ46_tryMergeRuns_328 : decode cJ46_tryMergeRuns 328 = .ok (.iload_n 2, 1) := dk_28 (dk_at dksJ46_tryMergeRuns_14 0 rfl rfl)
theorem dJ46_tryMergeRuns_329 : decode cJ46_tryMergeRuns 329 = .ok (.istore 9, 2) := dk_54 9 (dk_at dksJ46_tryMergeRuns_14 1 rfl rfl)
theorem dJ46_tryMergeRuns_331 : decode cJ46_tryMergeRuns 331 = .ok (.aload_n 0, 1) := dk_42 (dk_at dksJ46_tryMergeRuns_14 3 rfl rfl)
theorem dJ46_tryMergeRuns_332 : decode cJ46_tryMergeRuns 332 = .ok (.ifnull 16, 3) := dk_198 0 16 (dk_at dksJ46_tryMergeRuns_14 4 rfl rfl)
theorem dJ46_tryMergeRuns_335 : decode cJ46_tryMergeRuns 335 = .ok (.aload_n 0, 1) := dk_42 (dk_at dksJ46_tryMergeRuns_14 7 rfl rfl)
theorem dJ46_tryMergeRuns_336 : decode cJ46_tryMergeRuns 336 = .ok (.getfield 59, 3) := dk_180 0 59 (dk_at dksJ46_tryMergeRuns_14 8 rfl rfl)
theorem dJ46_tryMergeRuns_339 : decode cJ46_tryMergeRuns 339 = .ok (.checkcast 63, 3) := dk_192 0 63 (dk_at dksJ46_tryMergeRuns_14 11 rfl rfl)
theorem dJ46_tryMergeRuns_342 : decode cJ46_tryMergeRuns 342 = .ok (.dup, 1) := dk_89 (dk_at dksJ46_tryMergeRuns_14 14 rfl rfl)
theorem dJ46_tryMergeRuns_343 : decode cJ46_tryMergeRuns 343 = .ok (.astore 8, 2) := dk_58 8 (dk_at dksJ46_tryMergeRuns_14 15 rfl rfl)
theorem dJ46_tryMergeRuns_345 : decode cJ46_tryMergeRuns 345 = .ok (.ifnonnull 11, 3) := dk_199 0 11 (dk_at dksJ46_tryMergeRuns_14 17 rfl rfl)
theorem dJ46_tryMergeRuns_348 : decode cJ46_tryMergeRuns 348 = .ok (.iload_n 3, 1) := dk_29 (dk_at dksJ46_tryMergeRuns_14 20 rfl rfl)
theorem dJ46_tryMergeRuns_349 : decode cJ46_tryMergeRuns 349 = .ok (.newarray .int, 2) := dk_188_10 (dk_at dksJ46_tryMergeRuns_14 21 rfl rfl)
theorem dJ46_tryMergeRuns_351 : decode cJ46_tryMergeRuns 351 = .ok (.astore 8, 2) := dk_58 8 (dk_at dksJ46_tryMergeRuns_15 0 rfl rfl)
theorem dJ46_tryMergeRuns_353 : decode cJ46_tryMergeRuns 353 = .ok (.goto 9, 3) := dk_167 0 9 (dk_at dksJ46_tryMergeRuns_15 2 rfl rfl)
theorem dJ46_tryMergeRuns_356 : decode cJ46_tryMergeRuns 356 = .ok (.aload_n 0, 1) := dk_42 (dk_at dksJ46_tryMergeRuns_15 5 rfl rfl)
theorem dJ46_tryMergeRuns_357 : decode cJ46_tryMergeRuns 357 = .ok (.getfield 65, 3) := dk_180 0 65 (dk_at dksJ46_tryMergeRuns_15 6 rfl rfl)
theorem dJ46_tryMergeRuns_360 : decode cJ46_tryMergeRuns 360 = .ok (.istore 9, 2) := dk_54 9 (dk_at dksJ46_tryMergeRuns_15 9 rfl rfl)
theorem dJ46_tryMergeRuns_362 : decode cJ46_tryMergeRuns 362 = .ok (.aload_n 1, 1) := dk_43 (dk_at dksJ46_tryMergeRuns_15 11 rfl rfl)
theorem dJ46_tryMergeRuns_363 : decode cJ46_tryMergeRuns 363 = .ok (.aload 8, 2) := dk_25 8 (dk_at dksJ46_tryMergeRuns_15 12 rfl rfl)
theorem dJ46_tryMergeRuns_365 : decode cJ46_tryMergeRuns 365 = .ok (.iload 9, 2) := dk_21 9 (dk_at dksJ46_tryMergeRuns_15 14 rfl rfl)
theorem dJ46_tryMergeRuns_367 : decode cJ46_tryMergeRuns 367 = .ok (.iconst 1, 1) := dk_4 (dk_at dksJ46_tryMergeRuns_15 16 rfl rfl)
theorem dJ46_tryMergeRuns_368 : decode cJ46_tryMergeRuns 368 = .ok (.aload_n 0, 1) := dk_42 (dk_at dksJ46_tryMergeRuns_15 17 rfl rfl)
theorem dJ46_tryMergeRuns_369 : decode cJ46_tryMergeRuns 369 = .ok (.ifnull 7, 3) := dk_198 0 7 (dk_at dksJ46_tryMergeRuns_15 18 rfl rfl)
theorem dJ46_tryMergeRuns_372 : decode cJ46_tryMergeRuns 372 = .ok (.iconst 1, 1) := dk_4 (dk_at dksJ46_tryMergeRuns_15 21 rfl rfl)
theorem dJ46_tryMergeRuns_373 : decode cJ46_tryMergeRuns 373 = .ok (.goto 4, 3) := dk_167 0 4 (dk_at dksJ46_tryMergeRuns_16 0 rfl rfl)
theorem dJ46_tryMergeRuns_376 : decode cJ46_tryMergeRuns 376 = .ok (.iconst 0, 1) := dk_3 (dk_at dksJ46_tryMergeRuns_16 3 rfl rfl)
theorem dJ46_tryMergeRuns_377 : decode cJ46_tryMergeRuns 377 = .ok (.aload 4, 2) := dk_25 4 (dk_at dksJ46_tryMergeRuns_16 4 rfl rfl)
theorem dJ46_tryMergeRuns_379 : decode cJ46_tryMergeRuns 379 = .ok (.iconst 0, 1) := dk_3 (dk_at dksJ46_tryMergeRuns_16 6 rfl rfl)
theorem dJ46_tryMergeRuns_380 : decode cJ46_tryMergeRuns 380 = .ok (.iload 6, 2) := dk_21 6 (dk_at dksJ46_tryMergeRuns_16 7 rfl rfl)
theorem dJ46_tryMergeRuns_382 : decode cJ46_tryMergeRuns 382 = .ok (.invokestatic 69, 3) := dk_184 0 69 (dk_at dksJ46_tryMergeRuns_16 9 rfl rfl)
theorem dJ46_tryMergeRuns_385 : decode cJ46_tryMergeRuns 385 = .ok (.pop, 1) := dk_87 (dk_at dksJ46_tryMergeRuns_16 12 rfl rfl)
theorem dJ46_tryMergeRuns_386 : decode cJ46_tryMergeRuns 386 = .ok (.iconst 1, 1) := dk_4 (dk_at dksJ46_tryMergeRuns_16 13 rfl rfl)
theorem dJ46_tryMergeRuns_387 : decode cJ46_tryMergeRuns 387 = .ok (.ireturn, 1) := dk_172 (dk_at dksJ46_tryMergeRuns_16 14 rfl rfl)
abbrev cJ46_mergeRuns : ByteArray := prog_66_method_10_code
def yJ46_mergeRuns : MethodName := ⟨RJ46, "mergeRuns", "([I[IIIZ[III)[I"⟩
def dkwJ46_mergeRuns_16 : List UInt8 := [21, 16, 21, 17, 184, 0, 91, 25, 12, 176]
abbrev dktJ46_mergeRuns_16 : List UInt8 := dkwJ46_mergeRuns_16 ++ []
def dkwJ46_mergeRuns_15 : List UInt8 := [183, 0, 87, 182, 0, 90, 87, 167, 0, 23, 1, 25, 12, 21, 13, 25, 10, 21, 14, 21, 15, 25, 11]
abbrev dktJ46_mergeRuns_15 : List UInt8 := dkwJ46_mergeRuns_15 ++ dktJ46_mergeRuns_16
def dkwJ46_mergeRuns_14 : List UInt8 := [153, 0, 34, 187, 0, 85, 89, 1, 25, 12, 21, 13, 25, 10, 21, 14, 21, 15, 25, 11, 21, 16, 21, 17]
abbrev dktJ46_mergeRuns_14 : List UInt8 := dkwJ46_mergeRuns_14 ++ dktJ46_mergeRuns_15
def dkwJ46_mergeRuns_13 : List UInt8 := [166, 0, 13, 25, 5, 21, 7, 46, 28, 100, 167, 0, 8, 25, 5, 21, 7, 46, 54, 17, 21, 4]
abbrev dktJ46_mergeRuns_13 : List UInt8 := dkwJ46_mergeRuns_13 ++ dktJ46_mergeRuns_14
def dkwJ46_mergeRuns_12 : List UInt8 := [166, 0, 13, 25, 5, 21, 8, 46, 28, 100, 167, 0, 8, 25, 5, 21, 8, 46, 54, 16, 25, 11, 43]
abbrev dktJ46_mergeRuns_12 : List UInt8 := dkwJ46_mergeRuns_12 ++ dktJ46_mergeRuns_13
def dkwJ46_mergeRuns_11 : List UInt8 := [166, 0, 13, 25, 5, 21, 8, 46, 28, 100, 167, 0, 8, 25, 5, 21, 8, 46, 54, 15, 25, 11, 43]
abbrev dktJ46_mergeRuns_11 : List UInt8 := dkwJ46_mergeRuns_11 ++ dktJ46_mergeRuns_12
def dkwJ46_mergeRuns_10 : List UInt8 := [166, 0, 13, 25, 5, 21, 6, 46, 28, 100, 167, 0, 8, 25, 5, 21, 6, 46, 54, 14, 25, 10, 43]
abbrev dktJ46_mergeRuns_10 : List UInt8 := dkwJ46_mergeRuns_10 ++ dktJ46_mergeRuns_11
def dkwJ46_mergeRuns_9 : List UInt8 := [166, 0, 13, 25, 5, 21, 6, 46, 28, 100, 167, 0, 8, 25, 5, 21, 6, 46, 54, 13, 25, 10, 43]
abbrev dktJ46_mergeRuns_9 : List UInt8 := dkwJ46_mergeRuns_9 ++ dktJ46_mergeRuns_10
def dkwJ46_mergeRuns_8 : List UInt8 := [21, 7, 184, 0, 69, 58, 11, 25, 10, 42, 166, 0, 7, 43, 167, 0, 4, 42, 58, 12, 25, 10, 42]
abbrev dktJ46_mergeRuns_8 : List UInt8 := dkwJ46_mergeRuns_8 ++ dktJ46_mergeRuns_9
def dkwJ46_mergeRuns_7 : List UInt8 := [28, 29, 116, 3, 25, 5, 21, 6, 21, 8, 184, 0, 69, 58, 10, 42, 43, 28, 3, 3, 25, 5, 21, 8]
abbrev dktJ46_mergeRuns_7 : List UInt8 := dkwJ46_mergeRuns_7 ++ dktJ46_mergeRuns_8
def dkwJ46_mergeRuns_6 : List UInt8 := [21, 6, 21, 8, 184, 0, 69, 58, 10, 25, 12, 182, 0, 82, 192, 0, 63, 58, 11, 167, 0, 36, 42, 43]
abbrev dktJ46_mergeRuns_6 : List UInt8 := dkwJ46_mergeRuns_6 ++ dktJ46_mergeRuns_7
def dkwJ46_mergeRuns_5 : List UInt8 := [3, 25, 5, 21, 8, 21, 7, 183, 0, 75, 182, 0, 78, 58, 12, 42, 43, 28, 29, 116, 4, 25, 5]
abbrev dktJ46_mergeRuns_5 : List UInt8 := dkwJ46_mergeRuns_5 ++ dktJ46_mergeRuns_6
def dkwJ46_mergeRuns_4 : List UInt8 := [167, 255, 241, 21, 4, 153, 0, 64, 21, 7, 21, 6, 100, 7, 164, 0, 55, 187, 0, 73, 89, 42, 43, 28]
abbrev dktJ46_mergeRuns_4 : List UInt8 := dkwJ46_mergeRuns_4 ++ dktJ46_mergeRuns_5
def dkwJ46_mergeRuns_3 : List UInt8 := [21, 7, 46, 96, 4, 124, 54, 9, 25, 5, 132, 8, 1, 21, 8, 4, 96, 46, 21, 9, 163, 0, 6]
abbrev dktJ46_mergeRuns_3 : List UInt8 := dkwJ46_mergeRuns_3 ++ dktJ46_mergeRuns_4
def dkwJ46_mergeRuns_2 : List UInt8 := [42, 132, 8, 255, 21, 8, 46, 79, 167, 255, 235, 43, 176, 21, 6, 54, 8, 25, 5, 21, 6, 46, 25, 5]
abbrev dktJ46_mergeRuns_2 : List UInt8 := dkwJ46_mergeRuns_2 ++ dktJ46_mergeRuns_3
def dkwJ46_mergeRuns_1 : List UInt8 := [28, 100, 54, 9, 25, 5, 21, 6, 46, 54, 10, 21, 8, 21, 10, 164, 0, 20, 43, 132, 9, 255, 21, 9]
abbrev dktJ46_mergeRuns_1 : List UInt8 := dkwJ46_mergeRuns_1 ++ dktJ46_mergeRuns_2
def dkwJ46_mergeRuns_0 : List UInt8 := [21, 7, 21, 6, 100, 4, 160, 0, 55, 29, 155, 0, 5, 42, 176, 25, 5, 21, 7, 46, 54, 8, 21, 8]
abbrev dktJ46_mergeRuns_0 : List UInt8 := dkwJ46_mergeRuns_0 ++ dktJ46_mergeRuns_1
theorem dksJ46_mergeRuns_0 : cJ46_mergeRuns.data.toList.drop 0 = dktJ46_mergeRuns_0 := by decide +kernel
theorem dksJ46_mergeRuns_1 : cJ46_mergeRuns.data.toList.drop 24 = dktJ46_mergeRuns_1 := dk_seg dksJ46_mergeRuns_0 24 rfl rfl
theorem dksJ46_mergeRuns_2 : cJ46_mergeRuns.data.toList.drop 48 = dktJ46_mergeRuns_2 := dk_seg dksJ46_mergeRuns_1 24 rfl rfl
theorem dksJ46_mergeRuns_3 : cJ46_mergeRuns.data.toList.drop 72 = dktJ46_mergeRuns_3 := dk_seg dksJ46_mergeRuns_2 24 rfl rfl
theorem dksJ46_mergeRuns_4 : cJ46_mergeRuns.data.toList.drop 95 = dktJ46_mergeRuns_4 := dk_seg dksJ46_mergeRuns_3 23 rfl rfl
theorem dksJ46_mergeRuns_5 : cJ46_mergeRuns.data.toList.drop 119 = dktJ46_mergeRuns_5 := dk_seg dksJ46_mergeRuns_4 24 rfl rfl
theorem dksJ46_mergeRuns_6 : cJ46_mergeRuns.data.toList.drop 142 = dktJ46_mergeRuns_6 := dk_seg dksJ46_mergeRuns_5 23 rfl rfl
theorem dksJ46_mergeRuns_7 : cJ46_mergeRuns.data.toList.drop 166 = dktJ46_mergeRuns_7 := dk_seg dksJ46_mergeRuns_6 24 rfl rfl
theorem dksJ46_mergeRuns_8 : cJ46_mergeRuns.data.toList.drop 190 = dktJ46_mergeRuns_8 := dk_seg dksJ46_mergeRuns_7 24 rfl rfl
theorem dksJ46_mergeRuns_9 : cJ46_mergeRuns.data.toList.drop 213 = dktJ46_mergeRuns_9 := dk_seg dksJ46_mergeRuns_8 23 rfl rfl
theorem dksJ46_mergeRuns_10 : cJ46_mergeRuns.data.toList.drop 236 = dktJ46_mergeRuns_10 := dk_seg dksJ46_mergeRuns_9 23 rfl rfl
theorem dksJ46_mergeRuns_11 : cJ46_mergeRuns.data.toList.drop 259 = dktJ46_mergeRuns_11 := dk_seg dksJ46_mergeRuns_10 23 rfl rfl
theorem dksJ46_mergeRuns_12 : cJ46_mergeRuns.data.toList.drop 282 = dktJ46_mergeRuns_12 := dk_seg dksJ46_mergeRuns_11 23 rfl rfl
theorem dksJ46_mergeRuns_13 : cJ46_mergeRuns.data.toList.drop 305 = dktJ46_mergeRuns_13 := dk_seg dksJ46_mergeRuns_12 23 rfl rfl
theorem dksJ46_mergeRuns_14 : cJ46_mergeRuns.data.toList.drop 327 = dktJ46_mergeRuns_14 := dk_seg dksJ46_mergeRuns_13 22 rfl rfl
theorem dksJ46_mergeRuns_15 : cJ46_mergeRuns.data.toList.drop 351 = dktJ46_mergeRuns_15 := dk_seg dksJ46_mergeRuns_14 24 rfl rfl
theorem dksJ46_mergeRuns_16 : cJ46_mergeRuns.data.toList.drop 374 = dktJ46_mergeRuns_16 := dk_seg dksJ46_mergeRuns_15 23 rfl rfl
theorem dJ46_mergeRuns_0 : decode cJ46_mergeRuns 0 = .ok (.iload 7, 2) := dk_21 7 (dk_at dksJ46_mergeRuns_0 0 rfl rfl)
theorem dJ46_mergeRuns_2 : decode cJ46_mergeRuns 2 = .ok (.iload 6, 2) := dk_21 6 (dk_at dksJ46_mergeRuns_0 2 rfl rfl)
theorem dJ46_mergeRuns_4 : decode cJ46_mergeRuns 4 = .ok (.isub, 1) := dk_100 (dk_at dksJ46_mergeRuns_0 4 rfl rfl)
theorem dJ46_mergeRuns_5 : decode cJ46_mergeRuns 5 = .ok (.iconst 1, 1) := dk_4 (dk_at dksJ46_mergeRuns_0 5 rfl rfl)
theorem dJ46_mergeRuns_6 : decode cJ46_mergeRuns 6 = .ok (.if_icmp .ne 55, 3) := dk_160 0 55 (dk_at dksJ46_mergeRuns_0 6 rfl rfl)
theorem dJ46_mergeRuns_9 : decode cJ46_mergeRuns 9 = .ok (.iload_n 3, 1) := dk_29 (dk_at dksJ46_mergeRuns_0 9 rfl rfl)
theorem dJ46_mergeRuns_10 : decode cJ46_mergeRuns 10 = .ok (.ifCond .lt 5, 3) := dk_155 0 5 (dk_at dksJ46_mergeRuns_0 10 rfl rfl)
theorem dJ46_mergeRuns_13 : decode cJ46_mergeRuns 13 = .ok (.aload_n 0, 1) := dk_42 (dk_at dksJ46_mergeRuns_0 13 rfl rfl)
theorem dJ46_mergeRuns_14 : decode cJ46_mergeRuns 14 = .ok (.areturn, 1) := dk_176 (dk_at dksJ46_mergeRuns_0 14 rfl rfl)
theorem dJ46_mergeRuns_15 : decode cJ46_mergeRuns 15 = .ok (.aload 5, 2) := dk_25 5 (dk_at dksJ46_mergeRuns_0 15 rfl rfl)
theorem dJ46_mergeRuns_17 : decode cJ46_mergeRuns 17 = .ok (.iload 7, 2) := dk_21 7 (dk_at dksJ46_mergeRuns_0 17 rfl rfl)
theorem dJ46_mergeRuns_19 : decode cJ46_mergeRuns 19 = .ok (.iaload, 1) := dk_46 (dk_at dksJ46_mergeRuns_0 19 rfl rfl)
theorem dJ46_mergeRuns_20 : decode cJ46_mergeRuns 20 = .ok (.istore 8, 2) := dk_54 8 (dk_at dksJ46_mergeRuns_0 20 rfl rfl)
theorem dJ46_mergeRuns_22 : decode cJ46_mergeRuns 22 = .ok (.iload 8, 2) := dk_21 8 (dk_at dksJ46_mergeRuns_0 22 rfl rfl)
theorem dJ46_mergeRuns_24 : decode cJ46_mergeRuns 24 = .ok (.iload_n 2, 1) := dk_28 (dk_at dksJ46_mergeRuns_1 0 rfl rfl)
theorem dJ46_mergeRuns_25 : decode cJ46_mergeRuns 25 = .ok (.isub, 1) := dk_100 (dk_at dksJ46_mergeRuns_1 1 rfl rfl)
theorem dJ46_mergeRuns_26 : decode cJ46_mergeRuns 26 = .ok (.istore 9, 2) := dk_54 9 (dk_at dksJ46_mergeRuns_1 2 rfl rfl)
theorem dJ46_mergeRuns_28 : decode cJ46_mergeRuns 28 = .ok (.aload 5, 2) := dk_25 5 (dk_at dksJ46_mergeRuns_1 4 rfl rfl)
theorem dJ46_mergeRuns_30 : decode cJ46_mergeRuns 30 = .ok (.iload 6, 2) := dk_21 6 (dk_at dksJ46_mergeRuns_1 6 rfl rfl)
theorem dJ46_mergeRuns_32 : decode cJ46_mergeRuns 32 = .ok (.iaload, 1) := dk_46 (dk_at dksJ46_mergeRuns_1 8 rfl rfl)
theorem dJ46_mergeRuns_33 : decode cJ46_mergeRuns 33 = .ok (.istore 10, 2) := dk_54 10 (dk_at dksJ46_mergeRuns_1 9 rfl rfl)
theorem dJ46_mergeRuns_35 : decode cJ46_mergeRuns 35 = .ok (.iload 8, 2) := dk_21 8 (dk_at dksJ46_mergeRuns_1 11 rfl rfl)
theorem dJ46_mergeRuns_37 : decode cJ46_mergeRuns 37 = .ok (.iload 10, 2) := dk_21 10 (dk_at dksJ46_mergeRuns_1 13 rfl rfl)
theorem dJ46_mergeRuns_39 : decode cJ46_mergeRuns 39 = .ok (.if_icmp .le 20, 3) := dk_164 0 20 (dk_at dksJ46_mergeRuns_1 15 rfl rfl)
theorem dJ46_mergeRuns_42 : decode cJ46_mergeRuns 42 = .ok (.aload_n 1, 1) := dk_43 (dk_at dksJ46_mergeRuns_1 18 rfl rfl)
theorem dJ46_mergeRuns_43 : decode cJ46_mergeRuns 43 = .ok (.iinc 9 (-1), 3) := dk_132 9 255 (dk_at dksJ46_mergeRuns_1 19 rfl rfl)
theorem dJ46_mergeRuns_46 : decode cJ46_mergeRuns 46 = .ok (.iload 9, 2) := dk_21 9 (dk_at dksJ46_mergeRuns_1 22 rfl rfl)
theorem dJ46_mergeRuns_48 : decode cJ46_mergeRuns 48 = .ok (.aload_n 0, 1) := dk_42 (dk_at dksJ46_mergeRuns_2 0 rfl rfl)
theorem dJ46_mergeRuns_49 : decode cJ46_mergeRuns 49 = .ok (.iinc 8 (-1), 3) := dk_132 8 255 (dk_at dksJ46_mergeRuns_2 1 rfl rfl)
theorem dJ46_mergeRuns_52 : decode cJ46_mergeRuns 52 = .ok (.iload 8, 2) := dk_21 8 (dk_at dksJ46_mergeRuns_2 4 rfl rfl)
theorem dJ46_mergeRuns_54 : decode cJ46_mergeRuns 54 = .ok (.iaload, 1) := dk_46 (dk_at dksJ46_mergeRuns_2 6 rfl rfl)
theorem dJ46_mergeRuns_55 : decode cJ46_mergeRuns 55 = .ok (.iastore, 1) := dk_79 (dk_at dksJ46_mergeRuns_2 7 rfl rfl)
theorem dJ46_mergeRuns_56 : decode cJ46_mergeRuns 56 = .ok (.goto (-21), 3) := dk_167 255 235 (dk_at dksJ46_mergeRuns_2 8 rfl rfl)
theorem dJ46_mergeRuns_59 : decode cJ46_mergeRuns 59 = .ok (.aload_n 1, 1) := dk_43 (dk_at dksJ46_mergeRuns_2 11 rfl rfl)
theorem dJ46_mergeRuns_60 : decode cJ46_mergeRuns 60 = .ok (.areturn, 1) := dk_176 (dk_at dksJ46_mergeRuns_2 12 rfl rfl)
theorem dJ46_mergeRuns_61 : decode cJ46_mergeRuns 61 = .ok (.iload 6, 2) := dk_21 6 (dk_at dksJ46_mergeRuns_2 13 rfl rfl)
theorem dJ46_mergeRuns_63 : decode cJ46_mergeRuns 63 = .ok (.istore 8, 2) := dk_54 8 (dk_at dksJ46_mergeRuns_2 15 rfl rfl)
theorem dJ46_mergeRuns_65 : decode cJ46_mergeRuns 65 = .ok (.aload 5, 2) := dk_25 5 (dk_at dksJ46_mergeRuns_2 17 rfl rfl)
theorem dJ46_mergeRuns_67 : decode cJ46_mergeRuns 67 = .ok (.iload 6, 2) := dk_21 6 (dk_at dksJ46_mergeRuns_2 19 rfl rfl)
theorem dJ46_mergeRuns_69 : decode cJ46_mergeRuns 69 = .ok (.iaload, 1) := dk_46 (dk_at dksJ46_mergeRuns_2 21 rfl rfl)
theorem dJ46_mergeRuns_70 : decode cJ46_mergeRuns 70 = .ok (.aload 5, 2) := dk_25 5 (dk_at dksJ46_mergeRuns_2 22 rfl rfl)
theorem dJ46_mergeRuns_72 : decode cJ46_mergeRuns 72 = .ok (.iload 7, 2) := dk_21 7 (dk_at dksJ46_mergeRuns_3 0 rfl rfl)
theorem dJ46_mergeRuns_74 : decode cJ46_mergeRuns 74 = .ok (.iaload, 1) := dk_46 (dk_at dksJ46_mergeRuns_3 2 rfl rfl)
theorem dJ46_mergeRuns_75 : decode cJ46_mergeRuns 75 = .ok (.iadd, 1) := dk_96 (dk_at dksJ46_mergeRuns_3 3 rfl rfl)
theorem dJ46_mergeRuns_76 : decode cJ46_mergeRuns 76 = .ok (.iconst 1, 1) := dk_4 (dk_at dksJ46_mergeRuns_3 4 rfl rfl)
theorem dJ46_mergeRuns_77 : decode cJ46_mergeRuns 77 = .ok (.iushr, 1) := dk_124 (dk_at dksJ46_mergeRuns_3 5 rfl rfl)
theorem dJ46_mergeRuns_78 : decode cJ46_mergeRuns 78 = .ok (.istore 9, 2) := dk_54 9 (dk_at dksJ46_mergeRuns_3 6 rfl rfl)
theorem dJ46_mergeRuns_80 : decode cJ46_mergeRuns 80 = .ok (.aload 5, 2) := dk_25 5 (dk_at dksJ46_mergeRuns_3 8 rfl rfl)
theorem dJ46_mergeRuns_82 : decode cJ46_mergeRuns 82 = .ok (.iinc 8 1, 3) := dk_132 8 1 (dk_at dksJ46_mergeRuns_3 10 rfl rfl)
theorem dJ46_mergeRuns_85 : decode cJ46_mergeRuns 85 = .ok (.iload 8, 2) := dk_21 8 (dk_at dksJ46_mergeRuns_3 13 rfl rfl)
theorem dJ46_mergeRuns_87 : decode cJ46_mergeRuns 87 = .ok (.iconst 1, 1) := dk_4 (dk_at dksJ46_mergeRuns_3 15 rfl rfl)
theorem dJ46_mergeRuns_88 : decode cJ46_mergeRuns 88 = .ok (.iadd, 1) := dk_96 (dk_at dksJ46_mergeRuns_3 16 rfl rfl)
theorem dJ46_mergeRuns_89 : decode cJ46_mergeRuns 89 = .ok (.iaload, 1) := dk_46 (dk_at dksJ46_mergeRuns_3 17 rfl rfl)
theorem dJ46_mergeRuns_90 : decode cJ46_mergeRuns 90 = .ok (.iload 9, 2) := dk_21 9 (dk_at dksJ46_mergeRuns_3 18 rfl rfl)
theorem dJ46_mergeRuns_92 : decode cJ46_mergeRuns 92 = .ok (.if_icmp .gt 6, 3) := dk_163 0 6 (dk_at dksJ46_mergeRuns_3 20 rfl rfl)
theorem dJ46_mergeRuns_95 : decode cJ46_mergeRuns 95 = .ok (.goto (-15), 3) := dk_167 255 241 (dk_at dksJ46_mergeRuns_4 0 rfl rfl)
theorem dJ46_mergeRuns_98 : decode cJ46_mergeRuns 98 = .ok (.iload 4, 2) := dk_21 4 (dk_at dksJ46_mergeRuns_4 3 rfl rfl)
theorem dJ46_mergeRuns_100 : decode cJ46_mergeRuns 100 = .ok (.ifCond .eq 64, 3) := dk_153 0 64 (dk_at dksJ46_mergeRuns_4 5 rfl rfl)
theorem dJ46_mergeRuns_103 : decode cJ46_mergeRuns 103 = .ok (.iload 7, 2) := dk_21 7 (dk_at dksJ46_mergeRuns_4 8 rfl rfl)
theorem dJ46_mergeRuns_105 : decode cJ46_mergeRuns 105 = .ok (.iload 6, 2) := dk_21 6 (dk_at dksJ46_mergeRuns_4 10 rfl rfl)
theorem dJ46_mergeRuns_107 : decode cJ46_mergeRuns 107 = .ok (.isub, 1) := dk_100 (dk_at dksJ46_mergeRuns_4 12 rfl rfl)
theorem dJ46_mergeRuns_108 : decode cJ46_mergeRuns 108 = .ok (.iconst 4, 1) := dk_7 (dk_at dksJ46_mergeRuns_4 13 rfl rfl)
theorem dJ46_mergeRuns_109 : decode cJ46_mergeRuns 109 = .ok (.if_icmp .le 55, 3) := dk_164 0 55 (dk_at dksJ46_mergeRuns_4 14 rfl rfl)
theorem dJ46_mergeRuns_112 : decode cJ46_mergeRuns 112 = .ok (.new 73, 3) := dk_187 0 73 (dk_at dksJ46_mergeRuns_4 17 rfl rfl)
theorem dJ46_mergeRuns_115 : decode cJ46_mergeRuns 115 = .ok (.dup, 1) := dk_89 (dk_at dksJ46_mergeRuns_4 20 rfl rfl)
theorem dJ46_mergeRuns_116 : decode cJ46_mergeRuns 116 = .ok (.aload_n 0, 1) := dk_42 (dk_at dksJ46_mergeRuns_4 21 rfl rfl)
theorem dJ46_mergeRuns_117 : decode cJ46_mergeRuns 117 = .ok (.aload_n 1, 1) := dk_43 (dk_at dksJ46_mergeRuns_4 22 rfl rfl)
theorem dJ46_mergeRuns_118 : decode cJ46_mergeRuns 118 = .ok (.iload_n 2, 1) := dk_28 (dk_at dksJ46_mergeRuns_4 23 rfl rfl)
theorem dJ46_mergeRuns_119 : decode cJ46_mergeRuns 119 = .ok (.iconst 0, 1) := dk_3 (dk_at dksJ46_mergeRuns_5 0 rfl rfl)
theorem dJ46_mergeRuns_120 : decode cJ46_mergeRuns 120 = .ok (.aload 5, 2) := dk_25 5 (dk_at dksJ46_mergeRuns_5 1 rfl rfl)
theorem dJ46_mergeRuns_122 : decode cJ46_mergeRuns 122 = .ok (.iload 8, 2) := dk_21 8 (dk_at dksJ46_mergeRuns_5 3 rfl rfl)
theorem dJ46_mergeRuns_124 : decode cJ46_mergeRuns 124 = .ok (.iload 7, 2) := dk_21 7 (dk_at dksJ46_mergeRuns_5 5 rfl rfl)
theorem dJ46_mergeRuns_126 : decode cJ46_mergeRuns 126 = .ok (.invokespecial 75, 3) := dk_183 0 75 (dk_at dksJ46_mergeRuns_5 7 rfl rfl)
theorem dJ46_mergeRuns_129 : decode cJ46_mergeRuns 129 = .ok (.invokevirtual 78, 3) := dk_182 0 78 (dk_at dksJ46_mergeRuns_5 10 rfl rfl)
theorem dJ46_mergeRuns_132 : decode cJ46_mergeRuns 132 = .ok (.astore 12, 2) := dk_58 12 (dk_at dksJ46_mergeRuns_5 13 rfl rfl)
theorem dJ46_mergeRuns_134 : decode cJ46_mergeRuns 134 = .ok (.aload_n 0, 1) := dk_42 (dk_at dksJ46_mergeRuns_5 15 rfl rfl)
theorem dJ46_mergeRuns_135 : decode cJ46_mergeRuns 135 = .ok (.aload_n 1, 1) := dk_43 (dk_at dksJ46_mergeRuns_5 16 rfl rfl)
theorem dJ46_mergeRuns_136 : decode cJ46_mergeRuns 136 = .ok (.iload_n 2, 1) := dk_28 (dk_at dksJ46_mergeRuns_5 17 rfl rfl)
theorem dJ46_mergeRuns_137 : decode cJ46_mergeRuns 137 = .ok (.iload_n 3, 1) := dk_29 (dk_at dksJ46_mergeRuns_5 18 rfl rfl)
theorem dJ46_mergeRuns_138 : decode cJ46_mergeRuns 138 = .ok (.ineg, 1) := dk_116 (dk_at dksJ46_mergeRuns_5 19 rfl rfl)
theorem dJ46_mergeRuns_139 : decode cJ46_mergeRuns 139 = .ok (.iconst 1, 1) := dk_4 (dk_at dksJ46_mergeRuns_5 20 rfl rfl)
theorem dJ46_mergeRuns_140 : decode cJ46_mergeRuns 140 = .ok (.aload 5, 2) := dk_25 5 (dk_at dksJ46_mergeRuns_5 21 rfl rfl)
theorem dJ46_mergeRuns_142 : decode cJ46_mergeRuns 142 = .ok (.iload 6, 2) := dk_21 6 (dk_at dksJ46_mergeRuns_6 0 rfl rfl)
theorem dJ46_mergeRuns_144 : decode cJ46_mergeRuns 144 = .ok (.iload 8, 2) := dk_21 8 (dk_at dksJ46_mergeRuns_6 2 rfl rfl)
theorem dJ46_mergeRuns_146 : decode cJ46_mergeRuns 146 = .ok (.invokestatic 69, 3) := dk_184 0 69 (dk_at dksJ46_mergeRuns_6 4 rfl rfl)
theorem dJ46_mergeRuns_149 : decode cJ46_mergeRuns 149 = .ok (.astore 10, 2) := dk_58 10 (dk_at dksJ46_mergeRuns_6 7 rfl rfl)
theorem dJ46_mergeRuns_151 : decode cJ46_mergeRuns 151 = .ok (.aload 12, 2) := dk_25 12 (dk_at dksJ46_mergeRuns_6 9 rfl rfl)
theorem dJ46_mergeRuns_153 : decode cJ46_mergeRuns 153 = .ok (.invokevirtual 82, 3) := dk_182 0 82 (dk_at dksJ46_mergeRuns_6 11 rfl rfl)
theorem dJ46_mergeRuns_156 : decode cJ46_mergeRuns 156 = .ok (.checkcast 63, 3) := dk_192 0 63 (dk_at dksJ46_mergeRuns_6 14 rfl rfl)
theorem dJ46_mergeRuns_159 : decode cJ46_mergeRuns 159 = .ok (.astore 11, 2) := dk_58 11 (dk_at dksJ46_mergeRuns_6 17 rfl rfl)
theorem dJ46_mergeRuns_161 : decode cJ46_mergeRuns 161 = .ok (.goto 36, 3) := dk_167 0 36 (dk_at dksJ46_mergeRuns_6 19 rfl rfl)
theorem dJ46_mergeRuns_164 : decode cJ46_mergeRuns 164 = .ok (.aload_n 0, 1) := dk_42 (dk_at dksJ46_mergeRuns_6 22 rfl rfl)
theorem dJ46_mergeRuns_165 : decode cJ46_mergeRuns 165 = .ok (.aload_n 1, 1) := dk_43 (dk_at dksJ46_mergeRuns_6 23 rfl rfl)
theorem dJ46_mergeRuns_166 : decode cJ46_mergeRuns 166 = .ok (.iload_n 2, 1) := dk_28 (dk_at dksJ46_mergeRuns_7 0 rfl rfl)
theorem dJ46_mergeRuns_167 : decode cJ46_mergeRuns 167 = .ok (.iload_n 3, 1) := dk_29 (dk_at dksJ46_mergeRuns_7 1 rfl rfl)
theorem dJ46_mergeRuns_168 : decode cJ46_mergeRuns 168 = .ok (.ineg, 1) := dk_116 (dk_at dksJ46_mergeRuns_7 2 rfl rfl)
theorem dJ46_mergeRuns_169 : decode cJ46_mergeRuns 169 = .ok (.iconst 0, 1) := dk_3 (dk_at dksJ46_mergeRuns_7 3 rfl rfl)
theorem dJ46_mergeRuns_170 : decode cJ46_mergeRuns 170 = .ok (.aload 5, 2) := dk_25 5 (dk_at dksJ46_mergeRuns_7 4 rfl rfl)
theorem dJ46_mergeRuns_172 : decode cJ46_mergeRuns 172 = .ok (.iload 6, 2) := dk_21 6 (dk_at dksJ46_mergeRuns_7 6 rfl rfl)
theorem dJ46_mergeRuns_174 : decode cJ46_mergeRuns 174 = .ok (.iload 8, 2) := dk_21 8 (dk_at dksJ46_mergeRuns_7 8 rfl rfl)
theorem dJ46_mergeRuns_176 : decode cJ46_mergeRuns 176 = .ok (.invokestatic 69, 3) := dk_184 0 69 (dk_at dksJ46_mergeRuns_7 10 rfl rfl)
theorem dJ46_mergeRuns_179 : decode cJ46_mergeRuns 179 = .ok (.astore 10, 2) := dk_58 10 (dk_at dksJ46_mergeRuns_7 13 rfl rfl)
theorem dJ46_mergeRuns_181 : decode cJ46_mergeRuns 181 = .ok (.aload_n 0, 1) := dk_42 (dk_at dksJ46_mergeRuns_7 15 rfl rfl)
theorem dJ46_mergeRuns_182 : decode cJ46_mergeRuns 182 = .ok (.aload_n 1, 1) := dk_43 (dk_at dksJ46_mergeRuns_7 16 rfl rfl)
theorem dJ46_mergeRuns_183 : decode cJ46_mergeRuns 183 = .ok (.iload_n 2, 1) := dk_28 (dk_at dksJ46_mergeRuns_7 17 rfl rfl)
theorem dJ46_mergeRuns_184 : decode cJ46_mergeRuns 184 = .ok (.iconst 0, 1) := dk_3 (dk_at dksJ46_mergeRuns_7 18 rfl rfl)
theorem dJ46_mergeRuns_185 : decode cJ46_mergeRuns 185 = .ok (.iconst 0, 1) := dk_3 (dk_at dksJ46_mergeRuns_7 19 rfl rfl)
theorem dJ46_mergeRuns_186 : decode cJ46_mergeRuns 186 = .ok (.aload 5, 2) := dk_25 5 (dk_at dksJ46_mergeRuns_7 20 rfl rfl)
theorem dJ46_mergeRuns_188 : decode cJ46_mergeRuns 188 = .ok (.iload 8, 2) := dk_21 8 (dk_at dksJ46_mergeRuns_7 22 rfl rfl)
theorem dJ46_mergeRuns_190 : decode cJ46_mergeRuns 190 = .ok (.iload 7, 2) := dk_21 7 (dk_at dksJ46_mergeRuns_8 0 rfl rfl)
theorem dJ46_mergeRuns_192 : decode cJ46_mergeRuns 192 = .ok (.invokestatic 69, 3) := dk_184 0 69 (dk_at dksJ46_mergeRuns_8 2 rfl rfl)
theorem dJ46_mergeRuns_195 : decode cJ46_mergeRuns 195 = .ok (.astore 11, 2) := dk_58 11 (dk_at dksJ46_mergeRuns_8 5 rfl rfl)
theorem dJ46_mergeRuns_197 : decode cJ46_mergeRuns 197 = .ok (.aload 10, 2) := dk_25 10 (dk_at dksJ46_mergeRuns_8 7 rfl rfl)
theorem dJ46_mergeRuns_199 : decode cJ46_mergeRuns 199 = .ok (.aload_n 0, 1) := dk_42 (dk_at dksJ46_mergeRuns_8 9 rfl rfl)
theorem dJ46_mergeRuns_200 : decode cJ46_mergeRuns 200 = .ok (.if_acmp .ne 7, 3) := dk_166 0 7 (dk_at dksJ46_mergeRuns_8 10 rfl rfl)
theorem dJ46_mergeRuns_203 : decode cJ46_mergeRuns 203 = .ok (.aload_n 1, 1) := dk_43 (dk_at dksJ46_mergeRuns_8 13 rfl rfl)
theorem dJ46_mergeRuns_204 : decode cJ46_mergeRuns 204 = .ok (.goto 4, 3) := dk_167 0 4 (dk_at dksJ46_mergeRuns_8 14 rfl rfl)
theorem dJ46_mergeRuns_207 : decode cJ46_mergeRuns 207 = .ok (.aload_n 0, 1) := dk_42 (dk_at dksJ46_mergeRuns_8 17 rfl rfl)
theorem dJ46_mergeRuns_208 : decode cJ46_mergeRuns 208 = .ok (.astore 12, 2) := dk_58 12 (dk_at dksJ46_mergeRuns_8 18 rfl rfl)
theorem dJ46_mergeRuns_210 : decode cJ46_mergeRuns 210 = .ok (.aload 10, 2) := dk_25 10 (dk_at dksJ46_mergeRuns_8 20 rfl rfl)
theorem dJ46_mergeRuns_212 : decode cJ46_mergeRuns 212 = .ok (.aload_n 0, 1) := dk_42 (dk_at dksJ46_mergeRuns_8 22 rfl rfl)
theorem dJ46_mergeRuns_213 : decode cJ46_mergeRuns 213 = .ok (.if_acmp .ne 13, 3) := dk_166 0 13 (dk_at dksJ46_mergeRuns_9 0 rfl rfl)
theorem dJ46_mergeRuns_216 : decode cJ46_mergeRuns 216 = .ok (.aload 5, 2) := dk_25 5 (dk_at dksJ46_mergeRuns_9 3 rfl rfl)
theorem dJ46_mergeRuns_218 : decode cJ46_mergeRuns 218 = .ok (.iload 6, 2) := dk_21 6 (dk_at dksJ46_mergeRuns_9 5 rfl rfl)
theorem dJ46_mergeRuns_220 : decode cJ46_mergeRuns 220 = .ok (.iaload, 1) := dk_46 (dk_at dksJ46_mergeRuns_9 7 rfl rfl)
theorem dJ46_mergeRuns_221 : decode cJ46_mergeRuns 221 = .ok (.iload_n 2, 1) := dk_28 (dk_at dksJ46_mergeRuns_9 8 rfl rfl)
theorem dJ46_mergeRuns_222 : decode cJ46_mergeRuns 222 = .ok (.isub, 1) := dk_100 (dk_at dksJ46_mergeRuns_9 9 rfl rfl)
theorem dJ46_mergeRuns_223 : decode cJ46_mergeRuns 223 = .ok (.goto 8, 3) := dk_167 0 8 (dk_at dksJ46_mergeRuns_9 10 rfl rfl)
theorem dJ46_mergeRuns_226 : decode cJ46_mergeRuns 226 = .ok (.aload 5, 2) := dk_25 5 (dk_at dksJ46_mergeRuns_9 13 rfl rfl)
theorem dJ46_mergeRuns_228 : decode cJ46_mergeRuns 228 = .ok (.iload 6, 2) := dk_21 6 (dk_at dksJ46_mergeRuns_9 15 rfl rfl)
theorem dJ46_mergeRuns_230 : decode cJ46_mergeRuns 230 = .ok (.iaload, 1) := dk_46 (dk_at dksJ46_mergeRuns_9 17 rfl rfl)
theorem dJ46_mergeRuns_231 : decode cJ46_mergeRuns 231 = .ok (.istore 13, 2) := dk_54 13 (dk_at dksJ46_mergeRuns_9 18 rfl rfl)
theorem dJ46_mergeRuns_233 : decode cJ46_mergeRuns 233 = .ok (.aload 10, 2) := dk_25 10 (dk_at dksJ46_mergeRuns_9 20 rfl rfl)
theorem dJ46_mergeRuns_235 : decode cJ46_mergeRuns 235 = .ok (.aload_n 1, 1) := dk_43 (dk_at dksJ46_mergeRuns_9 22 rfl rfl)
theorem dJ46_mergeRuns_236 : decode cJ46_mergeRuns 236 = .ok (.if_acmp .ne 13, 3) := dk_166 0 13 (dk_at dksJ46_mergeRuns_10 0 rfl rfl)
theorem dJ46_mergeRuns_239 : decode cJ46_mergeRuns 239 = .ok (.aload 5, 2) := dk_25 5 (dk_at dksJ46_mergeRuns_10 3 rfl rfl)
theorem dJ46_mergeRuns_241 : decode cJ46_mergeRuns 241 = .ok (.iload 6, 2) := dk_21 6 (dk_at dksJ46_mergeRuns_10 5 rfl rfl)
theorem dJ46_mergeRuns_243 : decode cJ46_mergeRuns 243 = .ok (.iaload, 1) := dk_46 (dk_at dksJ46_mergeRuns_10 7 rfl rfl)
theorem dJ46_mergeRuns_244 : decode cJ46_mergeRuns 244 = .ok (.iload_n 2, 1) := dk_28 (dk_at dksJ46_mergeRuns_10 8 rfl rfl)
theorem dJ46_mergeRuns_245 : decode cJ46_mergeRuns 245 = .ok (.isub, 1) := dk_100 (dk_at dksJ46_mergeRuns_10 9 rfl rfl)
theorem dJ46_mergeRuns_246 : decode cJ46_mergeRuns 246 = .ok (.goto 8, 3) := dk_167 0 8 (dk_at dksJ46_mergeRuns_10 10 rfl rfl)
theorem dJ46_mergeRuns_249 : decode cJ46_mergeRuns 249 = .ok (.aload 5, 2) := dk_25 5 (dk_at dksJ46_mergeRuns_10 13 rfl rfl)
theorem dJ46_mergeRuns_251 : decode cJ46_mergeRuns 251 = .ok (.iload 6, 2) := dk_21 6 (dk_at dksJ46_mergeRuns_10 15 rfl rfl)
theorem dJ46_mergeRuns_253 : decode cJ46_mergeRuns 253 = .ok (.iaload, 1) := dk_46 (dk_at dksJ46_mergeRuns_10 17 rfl rfl)
theorem dJ46_mergeRuns_254 : decode cJ46_mergeRuns 254 = .ok (.istore 14, 2) := dk_54 14 (dk_at dksJ46_mergeRuns_10 18 rfl rfl)
theorem dJ46_mergeRuns_256 : decode cJ46_mergeRuns 256 = .ok (.aload 10, 2) := dk_25 10 (dk_at dksJ46_mergeRuns_10 20 rfl rfl)
theorem dJ46_mergeRuns_258 : decode cJ46_mergeRuns 258 = .ok (.aload_n 1, 1) := dk_43 (dk_at dksJ46_mergeRuns_10 22 rfl rfl)
theorem dJ46_mergeRuns_259 : decode cJ46_mergeRuns 259 = .ok (.if_acmp .ne 13, 3) := dk_166 0 13 (dk_at dksJ46_mergeRuns_11 0 rfl rfl)
theorem dJ46_mergeRuns_262 : decode cJ46_mergeRuns 262 = .ok (.aload 5, 2) := dk_25 5 (dk_at dksJ46_mergeRuns_11 3 rfl rfl)
theorem dJ46_mergeRuns_264 : decode cJ46_mergeRuns 264 = .ok (.iload 8, 2) := dk_21 8 (dk_at dksJ46_mergeRuns_11 5 rfl rfl)
theorem dJ46_mergeRuns_266 : decode cJ46_mergeRuns 266 = .ok (.iaload, 1) := dk_46 (dk_at dksJ46_mergeRuns_11 7 rfl rfl)
theorem dJ46_mergeRuns_267 : decode cJ46_mergeRuns 267 = .ok (.iload_n 2, 1) := dk_28 (dk_at dksJ46_mergeRuns_11 8 rfl rfl)
theorem dJ46_mergeRuns_268 : decode cJ46_mergeRuns 268 = .ok (.isub, 1) := dk_100 (dk_at dksJ46_mergeRuns_11 9 rfl rfl)
theorem dJ46_mergeRuns_269 : decode cJ46_mergeRuns 269 = .ok (.goto 8, 3) := dk_167 0 8 (dk_at dksJ46_mergeRuns_11 10 rfl rfl)
theorem dJ46_mergeRuns_272 : decode cJ46_mergeRuns 272 = .ok (.aload 5, 2) := dk_25 5 (dk_at dksJ46_mergeRuns_11 13 rfl rfl)
theorem dJ46_mergeRuns_274 : decode cJ46_mergeRuns 274 = .ok (.iload 8, 2) := dk_21 8 (dk_at dksJ46_mergeRuns_11 15 rfl rfl)
theorem dJ46_mergeRuns_276 : decode cJ46_mergeRuns 276 = .ok (.iaload, 1) := dk_46 (dk_at dksJ46_mergeRuns_11 17 rfl rfl)
theorem dJ46_mergeRuns_277 : decode cJ46_mergeRuns 277 = .ok (.istore 15, 2) := dk_54 15 (dk_at dksJ46_mergeRuns_11 18 rfl rfl)
theorem dJ46_mergeRuns_279 : decode cJ46_mergeRuns 279 = .ok (.aload 11, 2) := dk_25 11 (dk_at dksJ46_mergeRuns_11 20 rfl rfl)
theorem dJ46_mergeRuns_281 : decode cJ46_mergeRuns 281 = .ok (.aload_n 1, 1) := dk_43 (dk_at dksJ46_mergeRuns_11 22 rfl rfl)
theorem dJ46_mergeRuns_282 : decode cJ46_mergeRuns 282 = .ok (.if_acmp .ne 13, 3) := dk_166 0 13 (dk_at dksJ46_mergeRuns_12 0 rfl rfl)
theorem dJ46_mergeRuns_285 : decode cJ46_mergeRuns 285 = .ok (.aload 5, 2) := dk_25 5 (dk_at dksJ46_mergeRuns_12 3 rfl rfl)
theorem dJ46_mergeRuns_287 : decode cJ46_mergeRuns 287 = .ok (.iload 8, 2) := dk_21 8 (dk_at dksJ46_mergeRuns_12 5 rfl rfl)
theorem dJ46_mergeRuns_289 : decode cJ46_mergeRuns 289 = .ok (.iaload, 1) := dk_46 (dk_at dksJ46_mergeRuns_12 7 rfl rfl)
theorem dJ46_mergeRuns_290 : decode cJ46_mergeRuns 290 = .ok (.iload_n 2, 1) := dk_28 (dk_at dksJ46_mergeRuns_12 8 rfl rfl)
theorem dJ46_mergeRuns_291 : decode cJ46_mergeRuns 291 = .ok (.isub, 1) := dk_100 (dk_at dksJ46_mergeRuns_12 9 rfl rfl)
theorem dJ46_mergeRuns_292 : decode cJ46_mergeRuns 292 = .ok (.goto 8, 3) := dk_167 0 8 (dk_at dksJ46_mergeRuns_12 10 rfl rfl)
theorem dJ46_mergeRuns_295 : decode cJ46_mergeRuns 295 = .ok (.aload 5, 2) := dk_25 5 (dk_at dksJ46_mergeRuns_12 13 rfl rfl)
theorem dJ46_mergeRuns_297 : decode cJ46_mergeRuns 297 = .ok (.iload 8, 2) := dk_21 8 (dk_at dksJ46_mergeRuns_12 15 rfl rfl)
theorem dJ46_mergeRuns_299 : decode cJ46_mergeRuns 299 = .ok (.iaload, 1) := dk_46 (dk_at dksJ46_mergeRuns_12 17 rfl rfl)
theorem dJ46_mergeRuns_300 : decode cJ46_mergeRuns 300 = .ok (.istore 16, 2) := dk_54 16 (dk_at dksJ46_mergeRuns_12 18 rfl rfl)
theorem dJ46_mergeRuns_302 : decode cJ46_mergeRuns 302 = .ok (.aload 11, 2) := dk_25 11 (dk_at dksJ46_mergeRuns_12 20 rfl rfl)
theorem dJ46_mergeRuns_304 : decode cJ46_mergeRuns 304 = .ok (.aload_n 1, 1) := dk_43 (dk_at dksJ46_mergeRuns_12 22 rfl rfl)
theorem dJ46_mergeRuns_305 : decode cJ46_mergeRuns 305 = .ok (.if_acmp .ne 13, 3) := dk_166 0 13 (dk_at dksJ46_mergeRuns_13 0 rfl rfl)
theorem dJ46_mergeRuns_308 : decode cJ46_mergeRuns 308 = .ok (.aload 5, 2) := dk_25 5 (dk_at dksJ46_mergeRuns_13 3 rfl rfl)
theorem dJ46_mergeRuns_310 : decode cJ46_mergeRuns 310 = .ok (.iload 7, 2) := dk_21 7 (dk_at dksJ46_mergeRuns_13 5 rfl rfl)
theorem dJ46_mergeRuns_312 : decode cJ46_mergeRuns 312 = .ok (.iaload, 1) := dk_46 (dk_at dksJ46_mergeRuns_13 7 rfl rfl)
theorem dJ46_mergeRuns_313 : decode cJ46_mergeRuns 313 = .ok (.iload_n 2, 1) := dk_28 (dk_at dksJ46_mergeRuns_13 8 rfl rfl)
theorem dJ46_mergeRuns_314 : decode cJ46_mergeRuns 314 = .ok (.isub, 1) := dk_100 (dk_at dksJ46_mergeRuns_13 9 rfl rfl)
theorem dJ46_mergeRuns_315 : decode cJ46_mergeRuns 315 = .ok (.goto 8, 3) := dk_167 0 8 (dk_at dksJ46_mergeRuns_13 10 rfl rfl)
theorem dJ46_mergeRuns_318 : decode cJ46_mergeRuns 318 = .ok (.aload 5, 2) := dk_25 5 (dk_at dksJ46_mergeRuns_13 13 rfl rfl)
theorem dJ46_mergeRuns_320 : decode cJ46_mergeRuns 320 = .ok (.iload 7, 2) := dk_21 7 (dk_at dksJ46_mergeRuns_13 15 rfl rfl)
theorem dJ46_mergeRuns_322 : decode cJ46_mergeRuns 322 = .ok (.iaload, 1) := dk_46 (dk_at dksJ46_mergeRuns_13 17 rfl rfl)
theorem dJ46_mergeRuns_323 : decode cJ46_mergeRuns 323 = .ok (.istore 17, 2) := dk_54 17 (dk_at dksJ46_mergeRuns_13 18 rfl rfl)
theorem dJ46_mergeRuns_325 : decode cJ46_mergeRuns 325 = .ok (.iload 4, 2) := dk_21 4 (dk_at dksJ46_mergeRuns_13 20 rfl rfl)
theorem dJ46_mergeRuns_327 : decode cJ46_mergeRuns 327 = .ok (.ifCond .eq 34, 3) := dk_153 0 34 (dk_at dksJ46_mergeRuns_14 0 rfl rfl)
theorem dJ46_mergeRuns_330 : decode cJ46_mergeRuns 330 = .ok (.new 85, 3) := dk_187 0 85 (dk_at dksJ46_mergeRuns_14 3 rfl rfl)
theorem dJ46_mergeRuns_333 : decode cJ46_mergeRuns 333 = .ok (.dup, 1) := dk_89 (dk_at dksJ46_mergeRuns_14 6 rfl rfl)
theorem dJ46_mergeRuns_334 : decode cJ46_mergeRuns 334 = .ok (.aconst_null, 1) := dk_1 (dk_at dksJ46_mergeRuns_14 7 rfl rfl)
theorem dJ46_mergeRuns_335 : decode cJ46_mergeRuns 335 = .ok (.aload 12, 2) := dk_25 12 (dk_at dksJ46_mergeRuns_14 8 rfl rfl)
theorem dJ46_mergeRuns_337 : decode cJ46_mergeRuns 337 = .ok (.iload 13, 2) := dk_21 13 (dk_at dksJ46_mergeRuns_14 10 rfl rfl)
theorem dJ46_mergeRuns_339 : decode cJ46_mergeRuns 339 = .ok (.aload 10, 2) := dk_25 10 (dk_at dksJ46_mergeRuns_14 12 rfl rfl)
theorem dJ46_mergeRuns_341 : decode cJ46_mergeRuns 341 = .ok (.iload 14, 2) := dk_21 14 (dk_at dksJ46_mergeRuns_14 14 rfl rfl)
theorem dJ46_mergeRuns_343 : decode cJ46_mergeRuns 343 = .ok (.iload 15, 2) := dk_21 15 (dk_at dksJ46_mergeRuns_14 16 rfl rfl)
theorem dJ46_mergeRuns_345 : decode cJ46_mergeRuns 345 = .ok (.aload 11, 2) := dk_25 11 (dk_at dksJ46_mergeRuns_14 18 rfl rfl)
theorem dJ46_mergeRuns_347 : decode cJ46_mergeRuns 347 = .ok (.iload 16, 2) := dk_21 16 (dk_at dksJ46_mergeRuns_14 20 rfl rfl)
theorem dJ46_mergeRuns_349 : decode cJ46_mergeRuns 349 = .ok (.iload 17, 2) := dk_21 17 (dk_at dksJ46_mergeRuns_14 22 rfl rfl)
theorem dJ46_mergeRuns_351 : decode cJ46_mergeRuns 351 = .ok (.invokespecial 87, 3) := dk_183 0 87 (dk_at dksJ46_mergeRuns_15 0 rfl rfl)
theorem dJ46_mergeRuns_354 : decode cJ46_mergeRuns 354 = .ok (.invokevirtual 90, 3) := dk_182 0 90 (dk_at dksJ46_mergeRuns_15 3 rfl rfl)
theorem dJ46_mergeRuns_357 : decode cJ46_mergeRuns 357 = .ok (.pop, 1) := dk_87 (dk_at dksJ46_mergeRuns_15 6 rfl rfl)
theorem dJ46_mergeRuns_358 : decode cJ46_mergeRuns 358 = .ok (.goto 23, 3) := dk_167 0 23 (dk_at dksJ46_mergeRuns_15 7 rfl rfl)
theorem dJ46_mergeRuns_361 : decode cJ46_mergeRuns 361 = .ok (.aconst_null, 1) := dk_1 (dk_at dksJ46_mergeRuns_15 10 rfl rfl)
theorem dJ46_mergeRuns_362 : decode cJ46_mergeRuns 362 = .ok (.aload 12, 2) := dk_25 12 (dk_at dksJ46_mergeRuns_15 11 rfl rfl)
theorem dJ46_mergeRuns_364 : decode cJ46_mergeRuns 364 = .ok (.iload 13, 2) := dk_21 13 (dk_at dksJ46_mergeRuns_15 13 rfl rfl)
theorem dJ46_mergeRuns_366 : decode cJ46_mergeRuns 366 = .ok (.aload 10, 2) := dk_25 10 (dk_at dksJ46_mergeRuns_15 15 rfl rfl)
theorem dJ46_mergeRuns_368 : decode cJ46_mergeRuns 368 = .ok (.iload 14, 2) := dk_21 14 (dk_at dksJ46_mergeRuns_15 17 rfl rfl)
theorem dJ46_mergeRuns_370 : decode cJ46_mergeRuns 370 = .ok (.iload 15, 2) := dk_21 15 (dk_at dksJ46_mergeRuns_15 19 rfl rfl)
theorem dJ46_mergeRuns_372 : decode cJ46_mergeRuns 372 = .ok (.aload 11, 2) := dk_25 11 (dk_at dksJ46_mergeRuns_15 21 rfl rfl)
theorem dJ46_mergeRuns_374 : decode cJ46_mergeRuns 374 = .ok (.iload 16, 2) := dk_21 16 (dk_at dksJ46_mergeRuns_16 0 rfl rfl)
theorem dJ46_mergeRuns_376 : decode cJ46_mergeRuns 376 = .ok (.iload 17, 2) := dk_21 17 (dk_at dksJ46_mergeRuns_16 2 rfl rfl)
theorem dJ46_mergeRuns_378 : decode cJ46_mergeRuns 378 = .ok (.invokestatic 91, 3) := dk_184 0 91 (dk_at dksJ46_mergeRuns_16 4 rfl rfl)
theorem dJ46_mergeRuns_381 : decode cJ46_mergeRuns 381 = .ok (.aload 12, 2) := dk_25 12 (dk_at dksJ46_mergeRuns_16 7 rfl rfl)
theorem dJ46_mergeRuns_383 : decode cJ46_mergeRuns 383 = .ok (.areturn, 1) := dk_176 (dk_at dksJ46_mergeRuns_16 9 rfl rfl)
abbrev cJ46_mergeParts : ByteArray := prog_66_method_11_code
def yJ46_mergeParts : MethodName := ⟨RJ46, "mergeParts", "(Ljava/util/DualPivotQuicksort$Merger;[II[III[III)V"⟩
def dkwJ46_mergeParts_12 : List UInt8 := [21, 7, 132, 7, 1, 46, 79, 167, 255, 235, 177]
abbrev dktJ46_mergeParts_12 : List UInt8 := dkwJ46_mergeParts_12 ++ []
def dkwJ46_mergeParts_11 : List UInt8 := [166, 0, 9, 28, 21, 7, 162, 0, 27, 21, 7, 21, 8, 162, 0, 20, 43, 28, 132, 2, 1, 25, 6]
abbrev dktJ46_mergeParts_11 : List UInt8 := dkwJ46_mergeParts_11 ++ dktJ46_mergeParts_12
def dkwJ46_mergeParts_10 : List UInt8 := [21, 5, 162, 0, 19, 43, 28, 132, 2, 1, 45, 21, 4, 132, 4, 1, 46, 79, 167, 255, 236, 43, 25, 6]
abbrev dktJ46_mergeParts_10 : List UInt8 := dkwJ46_mergeParts_10 ++ dktJ46_mergeParts_11
def dkwJ46_mergeParts_9 : List UInt8 := [21, 7, 132, 7, 1, 46, 79, 167, 255, 206, 43, 45, 166, 0, 9, 28, 21, 4, 162, 0, 26, 21, 4]
abbrev dktJ46_mergeParts_9 : List UInt8 := dkwJ46_mergeParts_9 ++ dktJ46_mergeParts_10
def dkwJ46_mergeParts_8 : List UInt8 := [45, 21, 4, 46, 25, 6, 21, 7, 46, 162, 0, 13, 45, 21, 4, 132, 4, 1, 46, 167, 0, 11, 25, 6]
abbrev dktJ46_mergeParts_8 : List UInt8 := dkwJ46_mergeParts_8 ++ dktJ46_mergeParts_9
def dkwJ46_mergeParts_7 : List UInt8 := [54, 8, 167, 255, 99, 21, 4, 21, 5, 162, 0, 49, 21, 7, 21, 8, 162, 0, 42, 43, 28, 132, 2, 1]
abbrev dktJ46_mergeParts_7 : List UInt8 := dkwJ46_mergeParts_7 ++ dktJ46_mergeParts_8
def dkwJ46_mergeParts_6 : List UInt8 := [21, 12, 96, 45, 21, 9, 21, 5, 25, 6, 21, 11, 21, 8, 182, 0, 95, 21, 9, 54, 5, 21, 11]
abbrev dktJ46_mergeParts_6 : List UInt8 := dkwJ46_mergeParts_6 ++ dktJ46_mergeParts_7
def dkwJ46_mergeParts_5 : List UInt8 := [21, 13, 54, 11, 167, 255, 217, 21, 11, 21, 7, 100, 21, 9, 96, 21, 4, 100, 54, 12, 42, 43, 28]
abbrev dktJ46_mergeParts_5 : List UInt8 := dkwJ46_mergeParts_5 ++ dktJ46_mergeParts_6
def dkwJ46_mergeParts_4 : List UInt8 := [96, 4, 124, 54, 13, 21, 10, 25, 6, 21, 13, 46, 164, 0, 12, 21, 13, 4, 96, 54, 12, 167, 0, 7]
abbrev dktJ46_mergeParts_4 : List UInt8 := dkwJ46_mergeParts_4 ++ dktJ46_mergeParts_5
def dkwJ46_mergeParts_3 : List UInt8 := [21, 9, 46, 54, 10, 21, 8, 54, 11, 21, 7, 54, 12, 21, 12, 21, 11, 162, 0, 38, 21, 12, 21, 11]
abbrev dktJ46_mergeParts_3 : List UInt8 := dkwJ46_mergeParts_3 ++ dktJ46_mergeParts_4
def dkwJ46_mergeParts_2 : List UInt8 := [21, 5, 21, 4, 100, 17, 16, 0, 162, 0, 6, 167, 0, 112, 21, 4, 21, 5, 96, 4, 124, 54, 9, 45]
abbrev dktJ46_mergeParts_2 : List UInt8 := dkwJ46_mergeParts_2 ++ dktJ46_mergeParts_3
def dkwJ46_mergeParts_1 : List UInt8 := [21, 4, 54, 9, 21, 7, 54, 4, 21, 9, 54, 7, 21, 5, 54, 10, 21, 8, 54, 5, 21, 10, 54, 8]
abbrev dktJ46_mergeParts_1 : List UInt8 := dkwJ46_mergeParts_1 ++ dktJ46_mergeParts_2
def dkwJ46_mergeParts_0 : List UInt8 := [42, 198, 0, 169, 45, 25, 6, 166, 0, 163, 21, 5, 21, 4, 100, 21, 8, 21, 7, 100, 162, 0, 27]
abbrev dktJ46_mergeParts_0 : List UInt8 := dkwJ46_mergeParts_0 ++ dktJ46_mergeParts_1
theorem dksJ46_mergeParts_0 : cJ46_mergeParts.data.toList.drop 0 = dktJ46_mergeParts_0 := by decide +kernel
theorem dksJ46_mergeParts_1 : cJ46_mergeParts.data.toList.drop 23 = dktJ46_mergeParts_1 := dk_seg dksJ46_mergeParts_0 23 rfl rfl
theorem dksJ46_mergeParts_2 : cJ46_mergeParts.data.toList.drop 47 = dktJ46_mergeParts_2 := dk_seg dksJ46_mergeParts_1 24 rfl rfl
theorem dksJ46_mergeParts_3 : cJ46_mergeParts.data.toList.drop 71 = dktJ46_mergeParts_3 := dk_seg dksJ46_mergeParts_2 24 rfl rfl
theorem dksJ46_mergeParts_4 : cJ46_mergeParts.data.toList.drop 95 = dktJ46_mergeParts_4 := dk_seg dksJ46_mergeParts_3 24 rfl rfl
theorem dksJ46_mergeParts_5 : cJ46_mergeParts.data.toList.drop 119 = dktJ46_mergeParts_5 := dk_seg dksJ46_mergeParts_4 24 rfl rfl
theorem dksJ46_mergeParts_6 : cJ46_mergeParts.data.toList.drop 142 = dktJ46_mergeParts_6 := dk_seg dksJ46_mergeParts_5 23 rfl rfl
theorem dksJ46_mergeParts_7 : cJ46_mergeParts.data.toList.drop 165 = dktJ46_mergeParts_7 := dk_seg dksJ46_mergeParts_6 23 rfl rfl
theorem dksJ46_mergeParts_8 : cJ46_mergeParts.data.toList.drop 189 = dktJ46_mergeParts_8 := dk_seg dksJ46_mergeParts_7 24 rfl rfl
theorem dksJ46_mergeParts_9 : cJ46_mergeParts.data.toList.drop 213 = dktJ46_mergeParts_9 := dk_seg dksJ46_mergeParts_8 24 rfl rfl
theorem dksJ46_mergeParts_10 : cJ46_mergeParts.data.toList.drop 236 = dktJ46_mergeParts_10 := dk_seg dksJ46_mergeParts_9 23 rfl rfl
theorem dksJ46_mergeParts_11 : cJ46_mergeParts.data.toList.drop 260 = dktJ46_mergeParts_11 := dk_seg dksJ46_mergeParts_10 24 rfl rfl
theorem dksJ46_mergeParts_12 : cJ46_mergeParts.data.toList.drop 283 = dktJ46_mergeParts_12 := dk_seg dksJ46_mergeParts_11 23 rfl rfl
theorem dJ46_mergeParts_0 : decode cJ46_mergeParts 0 = .ok (.aload_n 0, 1) := dk_42 (dk_at dksJ46_mergeParts_0 0 rfl rfl)
theorem dJ46_mergeParts_1 : decode cJ46_mergeParts 1 = .ok (.ifnull 169, 3) := dk_198 0 169 (dk_at dksJ46_mergeParts_0 1 rfl rfl)
theorem dJ46_mergeParts_4 : decode cJ46_mergeParts 4 = .ok (.aload_n 3, 1) := dk_45 (dk_at dksJ46_mergeParts_0 4 rfl rfl)
theorem dJ46_mergeParts_5 : decode cJ46_mergeParts 5 = .ok (.aload 6, 2) := dk_25 6 (dk_at dksJ46_mergeParts_0 5 rfl rfl)
theorem dJ46_mergeParts_7 : decode cJ46_mergeParts 7 = .ok (.if_acmp .ne 163, 3) := dk_166 0 163 (dk_at dksJ46_mergeParts_0 7 rfl rfl)
theorem dJ46_mergeParts_10 : decode cJ46_mergeParts 10 = .ok (.iload 5, 2) := dk_21 5 (dk_at dksJ46_mergeParts_0 10 rfl rfl)
theorem dJ46_mergeParts_12 : decode cJ46_mergeParts 12 = .ok (.iload 4, 2) := dk_21 4 (dk_at dksJ46_mergeParts_0 12 rfl rfl)
theorem dJ46_mergeParts_14 : decode cJ46_mergeParts 14 = .ok (.isub, 1) := dk_100 (dk_at dksJ46_mergeParts_0 14 rfl rfl)
theorem dJ46_mergeParts_15 : decode cJ46_mergeParts 15 = .ok (.iload 8, 2) := dk_21 8 (dk_at dksJ46_mergeParts_0 15 rfl rfl)
theorem dJ46_mergeParts_17 : decode cJ46_mergeParts 17 = .ok (.iload 7, 2) := dk_21 7 (dk_at dksJ46_mergeParts_0 17 rfl rfl)
theorem dJ46_mergeParts_19 : decode cJ46_mergeParts 19 = .ok (.isub, 1) := dk_100 (dk_at dksJ46_mergeParts_0 19 rfl rfl)
theorem dJ46_mergeParts_20 : decode cJ46_mergeParts 20 = .ok (.if_icmp .ge 27, 3) := dk_162 0 27 (dk_at dksJ46_mergeParts_0 20 rfl rfl)
theorem dJ46_mergeParts_23 : decode cJ46_mergeParts 23 = .ok (.iload 4, 2) := dk_21 4 (dk_at dksJ46_mergeParts_1 0 rfl rfl)
theorem dJ46_mergeParts_25 : decode cJ46_mergeParts 25 = .ok (.istore 9, 2) := dk_54 9 (dk_at dksJ46_mergeParts_1 2 rfl rfl)
theorem dJ46_mergeParts_27 : decode cJ46_mergeParts 27 = .ok (.iload 7, 2) := dk_21 7 (dk_at dksJ46_mergeParts_1 4 rfl rfl)
theorem dJ46_mergeParts_29 : decode cJ46_mergeParts 29 = .ok (.istore 4, 2) := dk_54 4 (dk_at dksJ46_mergeParts_1 6 rfl rfl)
theorem dJ46_mergeParts_31 : decode cJ46_mergeParts 31 = .ok (.iload 9, 2) := dk_21 9 (dk_at dksJ46_mergeParts_1 8 rfl rfl)
theorem dJ46_mergeParts_33 : decode cJ46_mergeParts 33 = .ok (.istore 7, 2) := dk_54 7 (dk_at dksJ46_mergeParts_1 10 rfl rfl)
theorem dJ46_mergeParts_35 : decode cJ46_mergeParts 35 = .ok (.iload 5, 2) := dk_21 5 (dk_at dksJ46_mergeParts_1 12 rfl rfl)
theorem dJ46_mergeParts_37 : decode cJ46_mergeParts 37 = .ok (.istore 10, 2) := dk_54 10 (dk_at dksJ46_mergeParts_1 14 rfl rfl)
theorem dJ46_mergeParts_39 : decode cJ46_mergeParts 39 = .ok (.iload 8, 2) := dk_21 8 (dk_at dksJ46_mergeParts_1 16 rfl rfl)
theorem dJ46_mergeParts_41 : decode cJ46_mergeParts 41 = .ok (.istore 5, 2) := dk_54 5 (dk_at dksJ46_mergeParts_1 18 rfl rfl)
theorem dJ46_mergeParts_43 : decode cJ46_mergeParts 43 = .ok (.iload 10, 2) := dk_21 10 (dk_at dksJ46_mergeParts_1 20 rfl rfl)
theorem dJ46_mergeParts_45 : decode cJ46_mergeParts 45 = .ok (.istore 8, 2) := dk_54 8 (dk_at dksJ46_mergeParts_1 22 rfl rfl)
theorem dJ46_mergeParts_47 : decode cJ46_mergeParts 47 = .ok (.iload 5, 2) := dk_21 5 (dk_at dksJ46_mergeParts_2 0 rfl rfl)
theorem dJ46_mergeParts_49 : decode cJ46_mergeParts 49 = .ok (.iload 4, 2) := dk_21 4 (dk_at dksJ46_mergeParts_2 2 rfl rfl)
theorem dJ46_mergeParts_51 : decode cJ46_mergeParts 51 = .ok (.isub, 1) := dk_100 (dk_at dksJ46_mergeParts_2 4 rfl rfl)
theorem dJ46_mergeParts_52 : decode cJ46_mergeParts 52 = .ok (.sipush 4096, 3) := dk_17 16 0 (dk_at dksJ46_mergeParts_2 5 rfl rfl)
theorem dJ46_mergeParts_55 : decode cJ46_mergeParts 55 = .ok (.if_icmp .ge 6, 3) := dk_162 0 6 (dk_at dksJ46_mergeParts_2 8 rfl rfl)
theorem dJ46_mergeParts_58 : decode cJ46_mergeParts 58 = .ok (.goto 112, 3) := dk_167 0 112 (dk_at dksJ46_mergeParts_2 11 rfl rfl)
theorem dJ46_mergeParts_61 : decode cJ46_mergeParts 61 = .ok (.iload 4, 2) := dk_21 4 (dk_at dksJ46_mergeParts_2 14 rfl rfl)
theorem dJ46_mergeParts_63 : decode cJ46_mergeParts 63 = .ok (.iload 5, 2) := dk_21 5 (dk_at dksJ46_mergeParts_2 16 rfl rfl)
theorem dJ46_mergeParts_65 : decode cJ46_mergeParts 65 = .ok (.iadd, 1) := dk_96 (dk_at dksJ46_mergeParts_2 18 rfl rfl)
theorem dJ46_mergeParts_66 : decode cJ46_mergeParts 66 = .ok (.iconst 1, 1) := dk_4 (dk_at dksJ46_mergeParts_2 19 rfl rfl)
theorem dJ46_mergeParts_67 : decode cJ46_mergeParts 67 = .ok (.iushr, 1) := dk_124 (dk_at dksJ46_mergeParts_2 20 rfl rfl)
theorem dJ46_mergeParts_68 : decode cJ46_mergeParts 68 = .ok (.istore 9, 2) := dk_54 9 (dk_at dksJ46_mergeParts_2 21 rfl rfl)
theorem dJ46_mergeParts_70 : decode cJ46_mergeParts 70 = .ok (.aload_n 3, 1) := dk_45 (dk_at dksJ46_mergeParts_2 23 rfl rfl)
theorem dJ46_mergeParts_71 : decode cJ46_mergeParts 71 = .ok (.iload 9, 2) := dk_21 9 (dk_at dksJ46_mergeParts_3 0 rfl rfl)
theorem dJ46_mergeParts_73 : decode cJ46_mergeParts 73 = .ok (.iaload, 1) := dk_46 (dk_at dksJ46_mergeParts_3 2 rfl rfl)
theorem dJ46_mergeParts_74 : decode cJ46_mergeParts 74 = .ok (.istore 10, 2) := dk_54 10 (dk_at dksJ46_mergeParts_3 3 rfl rfl)
theorem dJ46_mergeParts_76 : decode cJ46_mergeParts 76 = .ok (.iload 8, 2) := dk_21 8 (dk_at dksJ46_mergeParts_3 5 rfl rfl)
theorem dJ46_mergeParts_78 : decode cJ46_mergeParts 78 = .ok (.istore 11, 2) := dk_54 11 (dk_at dksJ46_mergeParts_3 7 rfl rfl)
theorem dJ46_mergeParts_80 : decode cJ46_mergeParts 80 = .ok (.iload 7, 2) := dk_21 7 (dk_at dksJ46_mergeParts_3 9 rfl rfl)
theorem dJ46_mergeParts_82 : decode cJ46_mergeParts 82 = .ok (.istore 12, 2) := dk_54 12 (dk_at dksJ46_mergeParts_3 11 rfl rfl)
theorem dJ46_mergeParts_84 : decode cJ46_mergeParts 84 = .ok (.iload 12, 2) := dk_21 12 (dk_at dksJ46_mergeParts_3 13 rfl rfl)
theorem dJ46_mergeParts_86 : decode cJ46_mergeParts 86 = .ok (.iload 11, 2) := dk_21 11 (dk_at dksJ46_mergeParts_3 15 rfl rfl)
theorem dJ46_mergeParts_88 : decode cJ46_mergeParts 88 = .ok (.if_icmp .ge 38, 3) := dk_162 0 38 (dk_at dksJ46_mergeParts_3 17 rfl rfl)
theorem dJ46_mergeParts_91 : decode cJ46_mergeParts 91 = .ok (.iload 12, 2) := dk_21 12 (dk_at dksJ46_mergeParts_3 20 rfl rfl)
theorem dJ46_mergeParts_93 : decode cJ46_mergeParts 93 = .ok (.iload 11, 2) := dk_21 11 (dk_at dksJ46_mergeParts_3 22 rfl rfl)
theorem dJ46_mergeParts_95 : decode cJ46_mergeParts 95 = .ok (.iadd, 1) := dk_96 (dk_at dksJ46_mergeParts_4 0 rfl rfl)
theorem dJ46_mergeParts_96 : decode cJ46_mergeParts 96 = .ok (.iconst 1, 1) := dk_4 (dk_at dksJ46_mergeParts_4 1 rfl rfl)
theorem dJ46_mergeParts_97 : decode cJ46_mergeParts 97 = .ok (.iushr, 1) := dk_124 (dk_at dksJ46_mergeParts_4 2 rfl rfl)
theorem dJ46_mergeParts_98 : decode cJ46_mergeParts 98 = .ok (.istore 13, 2) := dk_54 13 (dk_at dksJ46_mergeParts_4 3 rfl rfl)
theorem dJ46_mergeParts_100 : decode cJ46_mergeParts 100 = .ok (.iload 10, 2) := dk_21 10 (dk_at dksJ46_mergeParts_4 5 rfl rfl)
theorem dJ46_mergeParts_102 : decode cJ46_mergeParts 102 = .ok (.aload 6, 2) := dk_25 6 (dk_at dksJ46_mergeParts_4 7 rfl rfl)
theorem dJ46_mergeParts_104 : decode cJ46_mergeParts 104 = .ok (.iload 13, 2) := dk_21 13 (dk_at dksJ46_mergeParts_4 9 rfl rfl)
theorem dJ46_mergeParts_106 : decode cJ46_mergeParts 106 = .ok (.iaload, 1) := dk_46 (dk_at dksJ46_mergeParts_4 11 rfl rfl)
theorem dJ46_mergeParts_107 : decode cJ46_mergeParts 107 = .ok (.if_icmp .le 12, 3) := dk_164 0 12 (dk_at dksJ46_mergeParts_4 12 rfl rfl)
theorem dJ46_mergeParts_110 : decode cJ46_mergeParts 110 = .ok (.iload 13, 2) := dk_21 13 (dk_at dksJ46_mergeParts_4 15 rfl rfl)
theorem dJ46_mergeParts_112 : decode cJ46_mergeParts 112 = .ok (.iconst 1, 1) := dk_4 (dk_at dksJ46_mergeParts_4 17 rfl rfl)
theorem dJ46_mergeParts_113 : decode cJ46_mergeParts 113 = .ok (.iadd, 1) := dk_96 (dk_at dksJ46_mergeParts_4 18 rfl rfl)
theorem dJ46_mergeParts_114 : decode cJ46_mergeParts 114 = .ok (.istore 12, 2) := dk_54 12 (dk_at dksJ46_mergeParts_4 19 rfl rfl)
theorem dJ46_mergeParts_116 : decode cJ46_mergeParts 116 = .ok (.goto 7, 3) := dk_167 0 7 (dk_at dksJ46_mergeParts_4 21 rfl rfl)
theorem dJ46_mergeParts_119 : decode cJ46_mergeParts 119 = .ok (.iload 13, 2) := dk_21 13 (dk_at dksJ46_mergeParts_5 0 rfl rfl)
theorem dJ46_mergeParts_121 : decode cJ46_mergeParts 121 = .ok (.istore 11, 2) := dk_54 11 (dk_at dksJ46_mergeParts_5 2 rfl rfl)
theorem dJ46_mergeParts_123 : decode cJ46_mergeParts 123 = .ok (.goto (-39), 3) := dk_167 255 217 (dk_at dksJ46_mergeParts_5 4 rfl rfl)
theorem dJ46_mergeParts_126 : decode cJ46_mergeParts 126 = .ok (.iload 11, 2) := dk_21 11 (dk_at dksJ46_mergeParts_5 7 rfl rfl)
theorem dJ46_mergeParts_128 : decode cJ46_mergeParts 128 = .ok (.iload 7, 2) := dk_21 7 (dk_at dksJ46_mergeParts_5 9 rfl rfl)
theorem dJ46_mergeParts_130 : decode cJ46_mergeParts 130 = .ok (.isub, 1) := dk_100 (dk_at dksJ46_mergeParts_5 11 rfl rfl)
theorem dJ46_mergeParts_131 : decode cJ46_mergeParts 131 = .ok (.iload 9, 2) := dk_21 9 (dk_at dksJ46_mergeParts_5 12 rfl rfl)
theorem dJ46_mergeParts_133 : decode cJ46_mergeParts 133 = .ok (.iadd, 1) := dk_96 (dk_at dksJ46_mergeParts_5 14 rfl rfl)
theorem dJ46_mergeParts_134 : decode cJ46_mergeParts 134 = .ok (.iload 4, 2) := dk_21 4 (dk_at dksJ46_mergeParts_5 15 rfl rfl)
theorem dJ46_mergeParts_136 : decode cJ46_mergeParts 136 = .ok (.isub, 1) := dk_100 (dk_at dksJ46_mergeParts_5 17 rfl rfl)
theorem dJ46_mergeParts_137 : decode cJ46_mergeParts 137 = .ok (.istore 12, 2) := dk_54 12 (dk_at dksJ46_mergeParts_5 18 rfl rfl)
theorem dJ46_mergeParts_139 : decode cJ46_mergeParts 139 = .ok (.aload_n 0, 1) := dk_42 (dk_at dksJ46_mergeParts_5 20 rfl rfl)
theorem dJ46_mergeParts_140 : decode cJ46_mergeParts 140 = .ok (.aload_n 1, 1) := dk_43 (dk_at dksJ46_mergeParts_5 21 rfl rfl)
theorem dJ46_mergeParts_141 : decode cJ46_mergeParts 141 = .ok (.iload_n 2, 1) := dk_28 (dk_at dksJ46_mergeParts_5 22 rfl rfl)
theorem dJ46_mergeParts_142 : decode cJ46_mergeParts 142 = .ok (.iload 12, 2) := dk_21 12 (dk_at dksJ46_mergeParts_6 0 rfl rfl)
theorem dJ46_mergeParts_144 : decode cJ46_mergeParts 144 = .ok (.iadd, 1) := dk_96 (dk_at dksJ46_mergeParts_6 2 rfl rfl)
theorem dJ46_mergeParts_145 : decode cJ46_mergeParts 145 = .ok (.aload_n 3, 1) := dk_45 (dk_at dksJ46_mergeParts_6 3 rfl rfl)
theorem dJ46_mergeParts_146 : decode cJ46_mergeParts 146 = .ok (.iload 9, 2) := dk_21 9 (dk_at dksJ46_mergeParts_6 4 rfl rfl)
theorem dJ46_mergeParts_148 : decode cJ46_mergeParts 148 = .ok (.iload 5, 2) := dk_21 5 (dk_at dksJ46_mergeParts_6 6 rfl rfl)
theorem dJ46_mergeParts_150 : decode cJ46_mergeParts 150 = .ok (.aload 6, 2) := dk_25 6 (dk_at dksJ46_mergeParts_6 8 rfl rfl)
theorem dJ46_mergeParts_152 : decode cJ46_mergeParts 152 = .ok (.iload 11, 2) := dk_21 11 (dk_at dksJ46_mergeParts_6 10 rfl rfl)
theorem dJ46_mergeParts_154 : decode cJ46_mergeParts 154 = .ok (.iload 8, 2) := dk_21 8 (dk_at dksJ46_mergeParts_6 12 rfl rfl)
theorem dJ46_mergeParts_156 : decode cJ46_mergeParts 156 = .ok (.invokevirtual 95, 3) := dk_182 0 95 (dk_at dksJ46_mergeParts_6 14 rfl rfl)
theorem dJ46_mergeParts_159 : decode cJ46_mergeParts 159 = .ok (.iload 9, 2) := dk_21 9 (dk_at dksJ46_mergeParts_6 17 rfl rfl)
theorem dJ46_mergeParts_161 : decode cJ46_mergeParts 161 = .ok (.istore 5, 2) := dk_54 5 (dk_at dksJ46_mergeParts_6 19 rfl rfl)
theorem dJ46_mergeParts_163 : decode cJ46_mergeParts 163 = .ok (.iload 11, 2) := dk_21 11 (dk_at dksJ46_mergeParts_6 21 rfl rfl)
theorem dJ46_mergeParts_165 : decode cJ46_mergeParts 165 = .ok (.istore 8, 2) := dk_54 8 (dk_at dksJ46_mergeParts_7 0 rfl rfl)
theorem dJ46_mergeParts_167 : decode cJ46_mergeParts 167 = .ok (.goto (-157), 3) := dk_167 255 99 (dk_at dksJ46_mergeParts_7 2 rfl rfl)
theorem dJ46_mergeParts_170 : decode cJ46_mergeParts 170 = .ok (.iload 4, 2) := dk_21 4 (dk_at dksJ46_mergeParts_7 5 rfl rfl)
theorem dJ46_mergeParts_172 : decode cJ46_mergeParts 172 = .ok (.iload 5, 2) := dk_21 5 (dk_at dksJ46_mergeParts_7 7 rfl rfl)
theorem dJ46_mergeParts_174 : decode cJ46_mergeParts 174 = .ok (.if_icmp .ge 49, 3) := dk_162 0 49 (dk_at dksJ46_mergeParts_7 9 rfl rfl)
theorem dJ46_mergeParts_177 : decode cJ46_mergeParts 177 = .ok (.iload 7, 2) := dk_21 7 (dk_at dksJ46_mergeParts_7 12 rfl rfl)
theorem dJ46_mergeParts_179 : decode cJ46_mergeParts 179 = .ok (.iload 8, 2) := dk_21 8 (dk_at dksJ46_mergeParts_7 14 rfl rfl)
theorem dJ46_mergeParts_181 : decode cJ46_mergeParts 181 = .ok (.if_icmp .ge 42, 3) := dk_162 0 42 (dk_at dksJ46_mergeParts_7 16 rfl rfl)
theorem dJ46_mergeParts_184 : decode cJ46_mergeParts 184 = .ok (.aload_n 1, 1) := dk_43 (dk_at dksJ46_mergeParts_7 19 rfl rfl)
theorem dJ46_mergeParts_185 : decode cJ46_mergeParts 185 = .ok (.iload_n 2, 1) := dk_28 (dk_at dksJ46_mergeParts_7 20 rfl rfl)
theorem dJ46_mergeParts_186 : decode cJ46_mergeParts 186 = .ok (.iinc 2 1, 3) := dk_132 2 1 (dk_at dksJ46_mergeParts_7 21 rfl rfl)
theorem dJ46_mergeParts_189 : decode cJ46_mergeParts 189 = .ok (.aload_n 3, 1) := dk_45 (dk_at dksJ46_mergeParts_8 0 rfl rfl)
theorem dJ46_mergeParts_190 : decode cJ46_mergeParts 190 = .ok (.iload 4, 2) := dk_21 4 (dk_at dksJ46_mergeParts_8 1 rfl rfl)
theorem dJ46_mergeParts_192 : decode cJ46_mergeParts 192 = .ok (.iaload, 1) := dk_46 (dk_at dksJ46_mergeParts_8 3 rfl rfl)
theorem dJ46_mergeParts_193 : decode cJ46_mergeParts 193 = .ok (.aload 6, 2) := dk_25 6 (dk_at dksJ46_mergeParts_8 4 rfl rfl)
theorem dJ46_mergeParts_195 : decode cJ46_mergeParts 195 = .ok (.iload 7, 2) := dk_21 7 (dk_at dksJ46_mergeParts_8 6 rfl rfl)
theorem dJ46_mergeParts_197 : decode cJ46_mergeParts 197 = .ok (.iaload, 1) := dk_46 (dk_at dksJ46_mergeParts_8 8 rfl rfl)
theorem dJ46_mergeParts_198 : decode cJ46_mergeParts 198 = .ok (.if_icmp .ge 13, 3) := dk_162 0 13 (dk_at dksJ46_mergeParts_8 9 rfl rfl)
theorem dJ46_mergeParts_201 : decode cJ46_mergeParts 201 = .ok (.aload_n 3, 1) := dk_45 (dk_at dksJ46_mergeParts_8 12 rfl rfl)
theorem dJ46_mergeParts_202 : decode cJ46_mergeParts 202 = .ok (.iload 4, 2) := dk_21 4 (dk_at dksJ46_mergeParts_8 13 rfl rfl)
theorem dJ46_mergeParts_204 : decode cJ46_mergeParts 204 = .ok (.iinc 4 1, 3) := dk_132 4 1 (dk_at dksJ46_mergeParts_8 15 rfl rfl)
theorem dJ46_mergeParts_207 : decode cJ46_mergeParts 207 = .ok (.iaload, 1) := dk_46 (dk_at dksJ46_mergeParts_8 18 rfl rfl)
theorem dJ46_mergeParts_208 : decode cJ46_mergeParts 208 = .ok (.goto 11, 3) := dk_167 0 11 (dk_at dksJ46_mergeParts_8 19 rfl rfl)
theorem dJ46_mergeParts_211 : decode cJ46_mergeParts 211 = .ok (.aload 6, 2) := dk_25 6 (dk_at dksJ46_mergeParts_8 22 rfl rfl)
theorem dJ46_mergeParts_213 : decode cJ46_mergeParts 213 = .ok (.iload 7, 2) := dk_21 7 (dk_at dksJ46_mergeParts_9 0 rfl rfl)
theorem dJ46_mergeParts_215 : decode cJ46_mergeParts 215 = .ok (.iinc 7 1, 3) := dk_132 7 1 (dk_at dksJ46_mergeParts_9 2 rfl rfl)
theorem dJ46_mergeParts_218 : decode cJ46_mergeParts 218 = .ok (.iaload, 1) := dk_46 (dk_at dksJ46_mergeParts_9 5 rfl rfl)
theorem dJ46_mergeParts_219 : decode cJ46_mergeParts 219 = .ok (.iastore, 1) := dk_79 (dk_at dksJ46_mergeParts_9 6 rfl rfl)
theorem dJ46_mergeParts_220 : decode cJ46_mergeParts 220 = .ok (.goto (-50), 3) := dk_167 255 206 (dk_at dksJ46_mergeParts_9 7 rfl rfl)
theorem dJ46_mergeParts_223 : decode cJ46_mergeParts 223 = .ok (.aload_n 1, 1) := dk_43 (dk_at dksJ46_mergeParts_9 10 rfl rfl)
theorem dJ46_mergeParts_224 : decode cJ46_mergeParts 224 = .ok (.aload_n 3, 1) := dk_45 (dk_at dksJ46_mergeParts_9 11 rfl rfl)
theorem dJ46_mergeParts_225 : decode cJ46_mergeParts 225 = .ok (.if_acmp .ne 9, 3) := dk_166 0 9 (dk_at dksJ46_mergeParts_9 12 rfl rfl)
theorem dJ46_mergeParts_228 : decode cJ46_mergeParts 228 = .ok (.iload_n 2, 1) := dk_28 (dk_at dksJ46_mergeParts_9 15 rfl rfl)
theorem dJ46_mergeParts_229 : decode cJ46_mergeParts 229 = .ok (.iload 4, 2) := dk_21 4 (dk_at dksJ46_mergeParts_9 16 rfl rfl)
theorem dJ46_mergeParts_231 : decode cJ46_mergeParts 231 = .ok (.if_icmp .ge 26, 3) := dk_162 0 26 (dk_at dksJ46_mergeParts_9 18 rfl rfl)
theorem dJ46_mergeParts_234 : decode cJ46_mergeParts 234 = .ok (.iload 4, 2) := dk_21 4 (dk_at dksJ46_mergeParts_9 21 rfl rfl)
theorem dJ46_mergeParts_236 : decode cJ46_mergeParts 236 = .ok (.iload 5, 2) := dk_21 5 (dk_at dksJ46_mergeParts_10 0 rfl rfl)
theorem dJ46_mergeParts_238 : decode cJ46_mergeParts 238 = .ok (.if_icmp .ge 19, 3) := dk_162 0 19 (dk_at dksJ46_mergeParts_10 2 rfl rfl)
theorem dJ46_mergeParts_241 : decode cJ46_mergeParts 241 = .ok (.aload_n 1, 1) := dk_43 (dk_at dksJ46_mergeParts_10 5 rfl rfl)
theorem dJ46_mergeParts_242 : decode cJ46_mergeParts 242 = .ok (.iload_n 2, 1) := dk_28 (dk_at dksJ46_mergeParts_10 6 rfl rfl)
theorem dJ46_mergeParts_243 : decode cJ46_mergeParts 243 = .ok (.iinc 2 1, 3) := dk_132 2 1 (dk_at dksJ46_mergeParts_10 7 rfl rfl)
theorem dJ46_mergeParts_246 : decode cJ46_mergeParts 246 = .ok (.aload_n 3, 1) := dk_45 (dk_at dksJ46_mergeParts_10 10 rfl rfl)
theorem dJ46_mergeParts_247 : decode cJ46_mergeParts 247 = .ok (.iload 4, 2) := dk_21 4 (dk_at dksJ46_mergeParts_10 11 rfl rfl)
theorem dJ46_mergeParts_249 : decode cJ46_mergeParts 249 = .ok (.iinc 4 1, 3) := dk_132 4 1 (dk_at dksJ46_mergeParts_10 13 rfl rfl)
theorem dJ46_mergeParts_252 : decode cJ46_mergeParts 252 = .ok (.iaload, 1) := dk_46 (dk_at dksJ46_mergeParts_10 16 rfl rfl)
theorem dJ46_mergeParts_253 : decode cJ46_mergeParts 253 = .ok (.iastore, 1) := dk_79 (dk_at dksJ46_mergeParts_10 17 rfl rfl)
theorem dJ46_mergeParts_254 : decode cJ46_mergeParts 254 = .ok (.goto (-20), 3) := dk_167 255 236 (dk_at dksJ46_mergeParts_10 18 rfl rfl)
theorem dJ46_mergeParts_257 : decode cJ46_mergeParts 257 = .ok (.aload_n 1, 1) := dk_43 (dk_at dksJ46_mergeParts_10 21 rfl rfl)
theorem dJ46_mergeParts_258 : decode cJ46_mergeParts 258 = .ok (.aload 6, 2) := dk_25 6 (dk_at dksJ46_mergeParts_10 22 rfl rfl)
theorem dJ46_mergeParts_260 : decode cJ46_mergeParts 260 = .ok (.if_acmp .ne 9, 3) := dk_166 0 9 (dk_at dksJ46_mergeParts_11 0 rfl rfl)
theorem dJ46_mergeParts_263 : decode cJ46_mergeParts 263 = .ok (.iload_n 2, 1) := dk_28 (dk_at dksJ46_mergeParts_11 3 rfl rfl)
theorem dJ46_mergeParts_264 : decode cJ46_mergeParts 264 = .ok (.iload 7, 2) := dk_21 7 (dk_at dksJ46_mergeParts_11 4 rfl rfl)
theorem dJ46_mergeParts_266 : decode cJ46_mergeParts 266 = .ok (.if_icmp .ge 27, 3) := dk_162 0 27 (dk_at dksJ46_mergeParts_11 6 rfl rfl)
theorem dJ46_mergeParts_269 : decode cJ46_mergeParts 269 = .ok (.iload 7, 2) := dk_21 7 (dk_at dksJ46_mergeParts_11 9 rfl rfl)
theorem dJ46_mergeParts_271 : decode cJ46_mergeParts 271 = .ok (.iload 8, 2) := dk_21 8 (dk_at dksJ46_mergeParts_11 11 rfl rfl)
theorem dJ46_mergeParts_273 : decode cJ46_mergeParts 273 = .ok (.if_icmp .ge 20, 3) := dk_162 0 20 (dk_at dksJ46_mergeParts_11 13 rfl rfl)
theorem dJ46_mergeParts_276 : decode cJ46_mergeParts 276 = .ok (.aload_n 1, 1) := dk_43 (dk_at dksJ46_mergeParts_11 16 rfl rfl)
theorem dJ46_mergeParts_277 : decode cJ46_mergeParts 277 = .ok (.iload_n 2, 1) := dk_28 (dk_at dksJ46_mergeParts_11 17 rfl rfl)
theorem dJ46_mergeParts_278 : decode cJ46_mergeParts 278 = .ok (.iinc 2 1, 3) := dk_132 2 1 (dk_at dksJ46_mergeParts_11 18 rfl rfl)
theorem dJ46_mergeParts_281 : decode cJ46_mergeParts 281 = .ok (.aload 6, 2) := dk_25 6 (dk_at dksJ46_mergeParts_11 21 rfl rfl)
theorem dJ46_mergeParts_283 : decode cJ46_mergeParts 283 = .ok (.iload 7, 2) := dk_21 7 (dk_at dksJ46_mergeParts_12 0 rfl rfl)
theorem dJ46_mergeParts_285 : decode cJ46_mergeParts 285 = .ok (.iinc 7 1, 3) := dk_132 7 1 (dk_at dksJ46_mergeParts_12 2 rfl rfl)
theorem dJ46_mergeParts_288 : decode cJ46_mergeParts 288 = .ok (.iaload, 1) := dk_46 (dk_at dksJ46_mergeParts_12 5 rfl rfl)
theorem dJ46_mergeParts_289 : decode cJ46_mergeParts 289 = .ok (.iastore, 1) := dk_79 (dk_at dksJ46_mergeParts_12 6 rfl rfl)
theorem dJ46_mergeParts_290 : decode cJ46_mergeParts 290 = .ok (.goto (-21), 3) := dk_167 255 235 (dk_at dksJ46_mergeParts_12 7 rfl rfl)
theorem dJ46_mergeParts_293 : decode cJ46_mergeParts 293 = .ok (.return_, 1) := dk_177 (dk_at dksJ46_mergeParts_12 10 rfl rfl)
abbrev cJ46_heapSort : ByteArray := prog_66_method_7_code
def yJ46_heapSort : MethodName := ⟨RJ46, "heapSort", "([III)V"⟩
def dkwJ46_heapSort_2 : List UInt8 := [184, 0, 49, 42, 28, 29, 79, 167, 255, 230, 177]
abbrev dktJ46_heapSort_2 : List UInt8 := dkwJ46_heapSort_2 ++ []
def dkwJ46_heapSort_1 : List UInt8 := [167, 255, 238, 132, 2, 255, 28, 27, 164, 0, 24, 42, 27, 46, 62, 42, 27, 42, 28, 46, 27, 28]
abbrev dktJ46_heapSort_1 : List UInt8 := dkwJ46_heapSort_1 ++ dktJ46_heapSort_2
def dkwJ46_heapSort_0 : List UInt8 := [27, 28, 96, 4, 124, 62, 29, 27, 164, 0, 19, 42, 132, 3, 255, 29, 42, 29, 46, 27, 28, 184, 0, 49]
abbrev dktJ46_heapSort_0 : List UInt8 := dkwJ46_heapSort_0 ++ dktJ46_heapSort_1
theorem dksJ46_heapSort_0 : cJ46_heapSort.data.toList.drop 0 = dktJ46_heapSort_0 := by decide +kernel
theorem dksJ46_heapSort_1 : cJ46_heapSort.data.toList.drop 24 = dktJ46_heapSort_1 := dk_seg dksJ46_heapSort_0 24 rfl rfl
theorem dksJ46_heapSort_2 : cJ46_heapSort.data.toList.drop 46 = dktJ46_heapSort_2 := dk_seg dksJ46_heapSort_1 22 rfl rfl
theorem dJ46_heapSort_0 : decode cJ46_heapSort 0 = .ok (.iload_n 1, 1) := dk_27 (dk_at dksJ46_heapSort_0 0 rfl rfl)
theorem dJ46_heapSort_1 : decode cJ46_heapSort 1 = .ok (.iload_n 2, 1) := dk_28 (dk_at dksJ46_heapSort_0 1 rfl rfl)
theorem dJ46_heapSort_2 : decode cJ46_heapSort 2 = .ok (.iadd, 1) := dk_96 (dk_at dksJ46_heapSort_0 2 rfl rfl)
theorem dJ46_heapSort_3 : decode cJ46_heapSort 3 = .ok (.iconst 1, 1) := dk_4 (dk_at dksJ46_heapSort_0 3 rfl rfl)
theorem dJ46_heapSort_4 : decode cJ46_heapSort 4 = .ok (.iushr, 1) := dk_124 (dk_at dksJ46_heapSort_0 4 rfl rfl)
theorem dJ46_heapSort_5 : decode cJ46_heapSort 5 = .ok (.istore_n 3, 1) := dk_62 (dk_at dksJ46_heapSort_0 5 rfl rfl)
theorem dJ46_heapSort_6 : decode cJ46_heapSort 6 = .ok (.iload_n 3, 1) := dk_29 (dk_at dksJ46_heapSort_0 6 rfl rfl)
theorem dJ46_heapSort_7 : decode cJ46_heapSort 7 = .ok (.iload_n 1, 1) := dk_27 (dk_at dksJ46_heapSort_0 7 rfl rfl)
theorem dJ46_heapSort_8 : decode cJ46_heapSort 8 = .ok (.if_icmp .le 19, 3) := dk_164 0 19 (dk_at dksJ46_heapSort_0 8 rfl rfl)
theorem dJ46_heapSort_11 : decode cJ46_heapSort 11 = .ok (.aload_n 0, 1) := dk_42 (dk_at dksJ46_heapSort_0 11 rfl rfl)
theorem dJ46_heapSort_12 : decode cJ46_heapSort 12 = .ok (.iinc 3 (-1), 3) := dk_132 3 255 (dk_at dksJ46_heapSort_0 12 rfl rfl)
theorem dJ46_heapSort_15 : decode cJ46_heapSort 15 = .ok (.iload_n 3, 1) := dk_29 (dk_at dksJ46_heapSort_0 15 rfl rfl)
theorem dJ46_heapSort_16 : decode cJ46_heapSort 16 = .ok (.aload_n 0, 1) := dk_42 (dk_at dksJ46_heapSort_0 16 rfl rfl)
theorem dJ46_heapSort_17 : decode cJ46_heapSort 17 = .ok (.iload_n 3, 1) := dk_29 (dk_at dksJ46_heapSort_0 17 rfl rfl)
theorem dJ46_heapSort_18 : decode cJ46_heapSort 18 = .ok (.iaload, 1) := dk_46 (dk_at dksJ46_heapSort_0 18 rfl rfl)
theorem dJ46_heapSort_19 : decode cJ46_heapSort 19 = .ok (.iload_n 1, 1) := dk_27 (dk_at dksJ46_heapSort_0 19 rfl rfl)
theorem dJ46_heapSort_20 : decode cJ46_heapSort 20 = .ok (.iload_n 2, 1) := dk_28 (dk_at dksJ46_heapSort_0 20 rfl rfl)
theorem dJ46_heapSort_21 : decode cJ46_heapSort 21 = .ok (.invokestatic 49, 3) := dk_184 0 49 (dk_at dksJ46_heapSort_0 21 rfl rfl)
theorem dJ46_heapSort_24 : decode cJ46_heapSort 24 = .ok (.goto (-18), 3) := dk_167 255 238 (dk_at dksJ46_heapSort_1 0 rfl rfl)
theorem dJ46_heapSort_27 : decode cJ46_heapSort 27 = .ok (.iinc 2 (-1), 3) := dk_132 2 255 (dk_at dksJ46_heapSort_1 3 rfl rfl)
theorem dJ46_heapSort_30 : decode cJ46_heapSort 30 = .ok (.iload_n 2, 1) := dk_28 (dk_at dksJ46_heapSort_1 6 rfl rfl)
theorem dJ46_heapSort_31 : decode cJ46_heapSort 31 = .ok (.iload_n 1, 1) := dk_27 (dk_at dksJ46_heapSort_1 7 rfl rfl)
theorem dJ46_heapSort_32 : decode cJ46_heapSort 32 = .ok (.if_icmp .le 24, 3) := dk_164 0 24 (dk_at dksJ46_heapSort_1 8 rfl rfl)
theorem dJ46_heapSort_35 : decode cJ46_heapSort 35 = .ok (.aload_n 0, 1) := dk_42 (dk_at dksJ46_heapSort_1 11 rfl rfl)
theorem dJ46_heapSort_36 : decode cJ46_heapSort 36 = .ok (.iload_n 1, 1) := dk_27 (dk_at dksJ46_heapSort_1 12 rfl rfl)
theorem dJ46_heapSort_37 : decode cJ46_heapSort 37 = .ok (.iaload, 1) := dk_46 (dk_at dksJ46_heapSort_1 13 rfl rfl)
theorem dJ46_heapSort_38 : decode cJ46_heapSort 38 = .ok (.istore_n 3, 1) := dk_62 (dk_at dksJ46_heapSort_1 14 rfl rfl)
theorem dJ46_heapSort_39 : decode cJ46_heapSort 39 = .ok (.aload_n 0, 1) := dk_42 (dk_at dksJ46_heapSort_1 15 rfl rfl)
theorem dJ46_heapSort_40 : decode cJ46_heapSort 40 = .ok (.iload_n 1, 1) := dk_27 (dk_at dksJ46_heapSort_1 16 rfl rfl)
theorem dJ46_heapSort_41 : decode cJ46_heapSort 41 = .ok (.aload_n 0, 1) := dk_42 (dk_at dksJ46_heapSort_1 17 rfl rfl)
theorem dJ46_heapSort_42 : decode cJ46_heapSort 42 = .ok (.iload_n 2, 1) := dk_28 (dk_at dksJ46_heapSort_1 18 rfl rfl)
theorem dJ46_heapSort_43 : decode cJ46_heapSort 43 = .ok (.iaload, 1) := dk_46 (dk_at dksJ46_heapSort_1 19 rfl rfl)
theorem dJ46_heapSort_44 : decode cJ46_heapSort 44 = .ok (.iload_n 1, 1) := dk_27 (dk_at dksJ46_heapSort_1 20 rfl rfl)
theorem dJ46_heapSort_45 : decode cJ46_heapSort 45 = .ok (.iload_n 2, 1) := dk_28 (dk_at dksJ46_heapSort_1 21 rfl rfl)
theorem dJ46_heapSort_46 : decode cJ46_heapSort 46 = .ok (.invokestatic 49, 3) := dk_184 0 49 (dk_at dksJ46_heapSort_2 0 rfl rfl)
theorem dJ46_heapSort_49 : decode cJ46_heapSort 49 = .ok (.aload_n 0, 1) := dk_42 (dk_at dksJ46_heapSort_2 3 rfl rfl)
theorem dJ46_heapSort_50 : decode cJ46_heapSort 50 = .ok (.iload_n 2, 1) := dk_28 (dk_at dksJ46_heapSort_2 4 rfl rfl)
theorem dJ46_heapSort_51 : decode cJ46_heapSort 51 = .ok (.iload_n 3, 1) := dk_29 (dk_at dksJ46_heapSort_2 5 rfl rfl)
theorem dJ46_heapSort_52 : decode cJ46_heapSort 52 = .ok (.iastore, 1) := dk_79 (dk_at dksJ46_heapSort_2 6 rfl rfl)
theorem dJ46_heapSort_53 : decode cJ46_heapSort 53 = .ok (.goto (-26), 3) := dk_167 255 230 (dk_at dksJ46_heapSort_2 7 rfl rfl)
theorem dJ46_heapSort_56 : decode cJ46_heapSort 56 = .ok (.return_, 1) := dk_177 (dk_at dksJ46_heapSort_2 10 rfl rfl)
abbrev cJ46_pushDown : ByteArray := prog_66_method_8_code
def yJ46_pushDown : MethodName := ⟨RJ46, "pushDown", "([IIIII)V"⟩
def dkwJ46_pushDown_2 : List UInt8 := [163, 0, 6, 167, 0, 15, 42, 27, 42, 21, 5, 89, 60, 46, 79, 167, 255, 194, 42, 27, 28, 79, 177]
abbrev dktJ46_pushDown_2 : List UInt8 := dkwJ46_pushDown_2 ++ []
def dkwJ46_pushDown_1 : List UInt8 := [159, 0, 16, 42, 21, 5, 46, 42, 21, 5, 4, 100, 46, 162, 0, 6, 132, 5, 255, 42, 21, 5, 46, 28]
abbrev dktJ46_pushDown_1 : List UInt8 := dkwJ46_pushDown_1 ++ dktJ46_pushDown_2
def dkwJ46_pushDown_0 : List UInt8 := [27, 4, 120, 29, 100, 5, 96, 54, 5, 21, 5, 21, 4, 164, 0, 6, 167, 0, 49, 21, 5, 21, 4]
abbrev dktJ46_pushDown_0 : List UInt8 := dkwJ46_pushDown_0 ++ dktJ46_pushDown_1
theorem dksJ46_pushDown_0 : cJ46_pushDown.data.toList.drop 0 = dktJ46_pushDown_0 := by decide +kernel
theorem dksJ46_pushDown_1 : cJ46_pushDown.data.toList.drop 23 = dktJ46_pushDown_1 := dk_seg dksJ46_pushDown_0 23 rfl rfl
theorem dksJ46_pushDown_2 : cJ46_pushDown.data.toList.drop 47 = dktJ46_pushDown_2 := dk_seg dksJ46_pushDown_1 24 rfl rfl
theorem dJ46_pushDown_0 : decode cJ46_pushDown 0 = .ok (.iload_n 1, 1) := dk_27 (dk_at dksJ46_pushDown_0 0 rfl rfl)
theorem dJ46_pushDown_1 : decode cJ46_pushDown 1 = .ok (.iconst 1, 1) := dk_4 (dk_at dksJ46_pushDown_0 1 rfl rfl)
theorem dJ46_pushDown_2 : decode cJ46_pushDown 2 = .ok (.ishl, 1) := dk_120 (dk_at dksJ46_pushDown_0 2 rfl rfl)
theorem dJ46_pushDown_3 : decode cJ46_pushDown 3 = .ok (.iload_n 3, 1) := dk_29 (dk_at dksJ46_pushDown_0 3 rfl rfl)
theorem dJ46_pushDown_4 : decode cJ46_pushDown 4 = .ok (.isub, 1) := dk_100 (dk_at dksJ46_pushDown_0 4 rfl rfl)
theorem dJ46_pushDown_5 : decode cJ46_pushDown 5 = .ok (.iconst 2, 1) := dk_5 (dk_at dksJ46_pushDown_0 5 rfl rfl)
theorem dJ46_pushDown_6 : decode cJ46_pushDown 6 = .ok (.iadd, 1) := dk_96 (dk_at dksJ46_pushDown_0 6 rfl rfl)
theorem dJ46_pushDown_7 : decode cJ46_pushDown 7 = .ok (.istore 5, 2) := dk_54 5 (dk_at dksJ46_pushDown_0 7 rfl rfl)
theorem dJ46_pushDown_9 : decode cJ46_pushDown 9 = .ok (.iload 5, 2) := dk_21 5 (dk_at dksJ46_pushDown_0 9 rfl rfl)
theorem dJ46_pushDown_11 : decode cJ46_pushDown 11 = .ok (.iload 4, 2) := dk_21 4 (dk_at dksJ46_pushDown_0 11 rfl rfl)
theorem dJ46_pushDown_13 : decode cJ46_pushDown 13 = .ok (.if_icmp .le 6, 3) := dk_164 0 6 (dk_at dksJ46_pushDown_0 13 rfl rfl)
theorem dJ46_pushDown_16 : decode cJ46_pushDown 16 = .ok (.goto 49, 3) := dk_167 0 49 (dk_at dksJ46_pushDown_0 16 rfl rfl)
theorem dJ46_pushDown_19 : decode cJ46_pushDown 19 = .ok (.iload 5, 2) := dk_21 5 (dk_at dksJ46_pushDown_0 19 rfl rfl)
theorem dJ46_pushDown_21 : decode cJ46_pushDown 21 = .ok (.iload 4, 2) := dk_21 4 (dk_at dksJ46_pushDown_0 21 rfl rfl)
theorem dJ46_pushDown_23 : decode cJ46_pushDown 23 = .ok (.if_icmp .eq 16, 3) := dk_159 0 16 (dk_at dksJ46_pushDown_1 0 rfl rfl)
theorem dJ46_pushDown_26 : decode cJ46_pushDown 26 = .ok (.aload_n 0, 1) := dk_42 (dk_at dksJ46_pushDown_1 3 rfl rfl)
theorem dJ46_pushDown_27 : decode cJ46_pushDown 27 = .ok (.iload 5, 2) := dk_21 5 (dk_at dksJ46_pushDown_1 4 rfl rfl)
theorem dJ46_pushDown_29 : decode cJ46_pushDown 29 = .ok (.iaload, 1) := dk_46 (dk_at dksJ46_pushDown_1 6 rfl rfl)
theorem dJ46_pushDown_30 : decode cJ46_pushDown 30 = .ok (.aload_n 0, 1) := dk_42 (dk_at dksJ46_pushDown_1 7 rfl rfl)
theorem dJ46_pushDown_31 : decode cJ46_pushDown 31 = .ok (.iload 5, 2) := dk_21 5 (dk_at dksJ46_pushDown_1 8 rfl rfl)
theorem dJ46_pushDown_33 : decode cJ46_pushDown 33 = .ok (.iconst 1, 1) := dk_4 (dk_at dksJ46_pushDown_1 10 rfl rfl)
theorem dJ46_pushDown_34 : decode cJ46_pushDown 34 = .ok (.isub, 1) := dk_100 (dk_at dksJ46_pushDown_1 11 rfl rfl)
theorem dJ46_pushDown_35 : decode cJ46_pushDown 35 = .ok (.iaload, 1) := dk_46 (dk_at dksJ46_pushDown_1 12 rfl rfl)
theorem dJ46_pushDown_36 : decode cJ46_pushDown 36 = .ok (.if_icmp .ge 6, 3) := dk_162 0 6 (dk_at dksJ46_pushDown_1 13 rfl rfl)
theorem dJ46_pushDown_39 : decode cJ46_pushDown 39 = .ok (.iinc 5 (-1), 3) := dk_132 5 255 (dk_at dksJ46_pushDown_1 16 rfl rfl)
theorem dJ46_pushDown_42 : decode cJ46_pushDown 42 = .ok (.aload_n 0, 1) := dk_42 (dk_at dksJ46_pushDown_1 19 rfl rfl)
theorem dJ46_pushDown_43 : decode cJ46_pushDown 43 = .ok (.iload 5, 2) := dk_21 5 (dk_at dksJ46_pushDown_1 20 rfl rfl)
theorem dJ46_pushDown_45 : decode cJ46_pushDown 45 = .ok (.iaload, 1) := dk_46 (dk_at dksJ46_pushDown_1 22 rfl rfl)
theorem dJ46_pushDown_46 : decode cJ46_pushDown 46 = .ok (.iload_n 2, 1) := dk_28 (dk_at dksJ46_pushDown_1 23 rfl rfl)
theorem dJ46_pushDown_47 : decode cJ46_pushDown 47 = .ok (.if_icmp .gt 6, 3) := dk_163 0 6 (dk_at dksJ46_pushDown_2 0 rfl rfl)
theorem dJ46_pushDown_50 : decode cJ46_pushDown 50 = .ok (.goto 15, 3) := dk_167 0 15 (dk_at dksJ46_pushDown_2 3 rfl rfl)
theorem dJ46_pushDown_53 : decode cJ46_pushDown 53 = .ok (.aload_n 0, 1) := dk_42 (dk_at dksJ46_pushDown_2 6 rfl rfl)
theorem dJ46_pushDown_54 : decode cJ46_pushDown 54 = .ok (.iload_n 1, 1) := dk_27 (dk_at dksJ46_pushDown_2 7 rfl rfl)
theorem dJ46_pushDown_55 : decode cJ46_pushDown 55 = .ok (.aload_n 0, 1) := dk_42 (dk_at dksJ46_pushDown_2 8 rfl rfl)
theorem dJ46_pushDown_56 : decode cJ46_pushDown 56 = .ok (.iload 5, 2) := dk_21 5 (dk_at dksJ46_pushDown_2 9 rfl rfl)
theorem dJ46_pushDown_58 : decode cJ46_pushDown 58 = .ok (.dup, 1) := dk_89 (dk_at dksJ46_pushDown_2 11 rfl rfl)
theorem dJ46_pushDown_59 : decode cJ46_pushDown 59 = .ok (.istore_n 1, 1) := dk_60 (dk_at dksJ46_pushDown_2 12 rfl rfl)
theorem dJ46_pushDown_60 : decode cJ46_pushDown 60 = .ok (.iaload, 1) := dk_46 (dk_at dksJ46_pushDown_2 13 rfl rfl)
theorem dJ46_pushDown_61 : decode cJ46_pushDown 61 = .ok (.iastore, 1) := dk_79 (dk_at dksJ46_pushDown_2 14 rfl rfl)
theorem dJ46_pushDown_62 : decode cJ46_pushDown 62 = .ok (.goto (-62), 3) := dk_167 255 194 (dk_at dksJ46_pushDown_2 15 rfl rfl)
theorem dJ46_pushDown_65 : decode cJ46_pushDown 65 = .ok (.aload_n 0, 1) := dk_42 (dk_at dksJ46_pushDown_2 18 rfl rfl)
theorem dJ46_pushDown_66 : decode cJ46_pushDown 66 = .ok (.iload_n 1, 1) := dk_27 (dk_at dksJ46_pushDown_2 19 rfl rfl)
theorem dJ46_pushDown_67 : decode cJ46_pushDown 67 = .ok (.iload_n 2, 1) := dk_28 (dk_at dksJ46_pushDown_2 20 rfl rfl)
theorem dJ46_pushDown_68 : decode cJ46_pushDown 68 = .ok (.iastore, 1) := dk_79 (dk_at dksJ46_pushDown_2 21 rfl rfl)
theorem dJ46_pushDown_69 : decode cJ46_pushDown 69 = .ok (.return_, 1) := dk_177 (dk_at dksJ46_pushDown_2 22 rfl rfl)
theorem q187 : (Jvm.Cond.initialized "java/util/DualPivotQuicksort") ∈ lw_all := lw_g (lw_at lw_m1 65 rfl) rfl
theorem q2963 : (Jvm.Cond.static ({ cls := "java/util/DualPivotQuicksort", name := "sort", desc := "([IIII)V" } : Jvm.MethodName)) ∈ lw_all := lw_g (lw_at lw_m12 201 rfl) rfl
theorem q2964 : (Jvm.Cond.code ({ cls := "java/util/DualPivotQuicksort", name := "sort", desc := "([IIII)V" } : Jvm.MethodName) prog_66_method_3_code (7 : Nat) (Option.none : Option Jvm.ClassFile.FieldType)) ∈ lw_all := lw_g (lw_at lw_m12 202 rfl) rfl
theorem q2965 : (Jvm.Cond.methodLink "java/util/DualPivotQuicksort" (26 : Nat) ({ cls := "java/util/DualPivotQuicksort", name := "sort", desc := "(Ljava/util/DualPivotQuicksort$Sorter;[IIII)V" } : Jvm.MethodName)) ∈ lw_all := lw_g (lw_at lw_m12 203 rfl) rfl
theorem q2966 : (Jvm.Cond.static ({ cls := "java/util/DualPivotQuicksort", name := "sort", desc := "(Ljava/util/DualPivotQuicksort$Sorter;[IIII)V" } : Jvm.MethodName)) ∈ lw_all := lw_g (lw_at lw_m12 204 rfl) rfl
theorem q2967 : (Jvm.Cond.code ({ cls := "java/util/DualPivotQuicksort", name := "sort", desc := "(Ljava/util/DualPivotQuicksort$Sorter;[IIII)V" } : Jvm.MethodName) prog_66_method_4_code (21 : Nat) (Option.none : Option Jvm.ClassFile.FieldType)) ∈ lw_all := lw_g (lw_at lw_m12 205 rfl) rfl
theorem q2968 : (Jvm.Cond.methodLink "java/util/DualPivotQuicksort" (30 : Nat) ({ cls := "java/util/DualPivotQuicksort", name := "mixedInsertionSort", desc := "([IIII)V" } : Jvm.MethodName)) ∈ lw_all := lw_g (lw_at lw_m12 206 rfl) rfl
theorem q2969 : (Jvm.Cond.static ({ cls := "java/util/DualPivotQuicksort", name := "mixedInsertionSort", desc := "([IIII)V" } : Jvm.MethodName)) ∈ lw_all := lw_g (lw_at lw_m12 207 rfl) rfl
theorem q2970 : (Jvm.Cond.code ({ cls := "java/util/DualPivotQuicksort", name := "mixedInsertionSort", desc := "([IIII)V" } : Jvm.MethodName) prog_66_method_5_code (8 : Nat) (Option.none : Option Jvm.ClassFile.FieldType)) ∈ lw_all := lw_g (lw_at lw_m12 208 rfl) rfl
theorem q2971 : (Jvm.Cond.methodLink "java/util/DualPivotQuicksort" (34 : Nat) ({ cls := "java/util/DualPivotQuicksort", name := "insertionSort", desc := "([III)V" } : Jvm.MethodName)) ∈ lw_all := lw_g (lw_at lw_m12 209 rfl) rfl
theorem q2972 : (Jvm.Cond.static ({ cls := "java/util/DualPivotQuicksort", name := "insertionSort", desc := "([III)V" } : Jvm.MethodName)) ∈ lw_all := lw_g (lw_at lw_m12 210 rfl) rfl
theorem q2973 : (Jvm.Cond.code ({ cls := "java/util/DualPivotQuicksort", name := "insertionSort", desc := "([III)V" } : Jvm.MethodName) prog_66_method_6_code (6 : Nat) (Option.none : Option Jvm.ClassFile.FieldType)) ∈ lw_all := lw_g (lw_at lw_m12 211 rfl) rfl
theorem q2974 : (Jvm.Cond.methodLink "java/util/DualPivotQuicksort" (38 : Nat) ({ cls := "java/util/DualPivotQuicksort", name := "tryMergeRuns", desc := "(Ljava/util/DualPivotQuicksort$Sorter;[III)Z" } : Jvm.MethodName)) ∈ lw_all := lw_g (lw_at lw_m12 212 rfl) rfl
theorem q2975 : (Jvm.Cond.static ({ cls := "java/util/DualPivotQuicksort", name := "tryMergeRuns", desc := "(Ljava/util/DualPivotQuicksort$Sorter;[III)Z" } : Jvm.MethodName)) ∈ lw_all := lw_g (lw_at lw_m12 213 rfl) rfl
theorem q2976 : (Jvm.Cond.code ({ cls := "java/util/DualPivotQuicksort", name := "tryMergeRuns", desc := "(Ljava/util/DualPivotQuicksort$Sorter;[III)Z" } : Jvm.MethodName) prog_66_method_9_code (12 : Nat) (Option.some Jvm.ClassFile.FieldType.boolean)) ∈ lw_all := lw_g (lw_at lw_m12 214 rfl) rfl
theorem q2977 : (Jvm.Cond.methodLink "java/util/DualPivotQuicksort" (53 : Nat) ({ cls := "java/util/Arrays", name := "copyOf", desc := "([II)[I" } : Jvm.MethodName)) ∈ lw_all := lw_g (lw_at lw_m12 215 rfl) rfl
theorem q2985 : (Jvm.Cond.classLink "java/util/DualPivotQuicksort" (63 : Nat) "[I") ∈ lw_all := lw_g (lw_at lw_m12 223 rfl) rfl
theorem q2986 : (Jvm.Cond.methodLink "java/util/DualPivotQuicksort" (69 : Nat) ({ cls := "java/util/DualPivotQuicksort", name := "mergeRuns", desc := "([I[IIIZ[III)[I" } : Jvm.MethodName)) ∈ lw_all := lw_g (lw_at lw_m12 224 rfl) rfl
theorem q2987 : (Jvm.Cond.static ({ cls := "java/util/DualPivotQuicksort", name := "mergeRuns", desc := "([I[IIIZ[III)[I" } : Jvm.MethodName)) ∈ lw_all := lw_g (lw_at lw_m12 225 rfl) rfl
theorem q2988 : (Jvm.Cond.code ({ cls := "java/util/DualPivotQuicksort", name := "mergeRuns", desc := "([I[IIIZ[III)[I" } : Jvm.MethodName) prog_66_method_10_code (18 : Nat) (Option.some (Jvm.ClassFile.FieldType.array Jvm.ClassFile.FieldType.int))) ∈ lw_all := lw_g (lw_at lw_m12 226 rfl) rfl
theorem q2989 : (Jvm.Cond.methodLink "java/util/DualPivotQuicksort" (91 : Nat) ({ cls := "java/util/DualPivotQuicksort", name := "mergeParts", desc := "(Ljava/util/DualPivotQuicksort$Merger;[II[III[III)V" } : Jvm.MethodName)) ∈ lw_all := lw_g (lw_at lw_m12 227 rfl) rfl
theorem q2990 : (Jvm.Cond.static ({ cls := "java/util/DualPivotQuicksort", name := "mergeParts", desc := "(Ljava/util/DualPivotQuicksort$Merger;[II[III[III)V" } : Jvm.MethodName)) ∈ lw_all := lw_g (lw_at lw_m12 228 rfl) rfl
theorem q2991 : (Jvm.Cond.code ({ cls := "java/util/DualPivotQuicksort", name := "mergeParts", desc := "(Ljava/util/DualPivotQuicksort$Merger;[II[III[III)V" } : Jvm.MethodName) prog_66_method_11_code (14 : Nat) (Option.none : Option Jvm.ClassFile.FieldType)) ∈ lw_all := lw_g (lw_at lw_m12 229 rfl) rfl
theorem q2992 : (Jvm.Cond.methodLink "java/util/DualPivotQuicksort" (42 : Nat) ({ cls := "java/util/DualPivotQuicksort", name := "heapSort", desc := "([III)V" } : Jvm.MethodName)) ∈ lw_all := lw_g (lw_at lw_m12 230 rfl) rfl
theorem q2993 : (Jvm.Cond.static ({ cls := "java/util/DualPivotQuicksort", name := "heapSort", desc := "([III)V" } : Jvm.MethodName)) ∈ lw_all := lw_g (lw_at lw_m12 231 rfl) rfl
theorem q2994 : (Jvm.Cond.code ({ cls := "java/util/DualPivotQuicksort", name := "heapSort", desc := "([III)V" } : Jvm.MethodName) prog_66_method_7_code (4 : Nat) (Option.none : Option Jvm.ClassFile.FieldType)) ∈ lw_all := lw_g (lw_at lw_m12 232 rfl) rfl
theorem q2995 : (Jvm.Cond.methodLink "java/util/DualPivotQuicksort" (49 : Nat) ({ cls := "java/util/DualPivotQuicksort", name := "pushDown", desc := "([IIIII)V" } : Jvm.MethodName)) ∈ lw_all := lw_g (lw_at lw_m12 233 rfl) rfl
theorem q2996 : (Jvm.Cond.static ({ cls := "java/util/DualPivotQuicksort", name := "pushDown", desc := "([IIIII)V" } : Jvm.MethodName)) ∈ lw_all := lw_g (lw_at lw_m12 234 rfl) rfl
theorem q2997 : (Jvm.Cond.code ({ cls := "java/util/DualPivotQuicksort", name := "pushDown", desc := "([IIIII)V" } : Jvm.MethodName) prog_66_method_8_code (6 : Nat) (Option.none : Option Jvm.ClassFile.FieldType)) ∈ lw_all := lw_g (lw_at lw_m12 235 rfl) rfl
