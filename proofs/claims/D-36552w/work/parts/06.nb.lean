/-! java/lang/StringUTF16 -/
set_option maxRecDepth 100000
def RJ8 : String := "java/lang/StringUTF16"
abbrev cJ8_newBytesFor : ByteArray := prog_41_method_2_code
def yJ8_newBytesFor : MethodName := ⟨RJ8, "newBytesFor", "(I)[B"⟩
def dkwJ8_newBytesFor_0 : List UInt8 := [26, 184, 0, 11, 188, 8, 176]
abbrev dktJ8_newBytesFor_0 : List UInt8 := dkwJ8_newBytesFor_0 ++ []
theorem dksJ8_newBytesFor_0 : cJ8_newBytesFor.data.toList.drop 0 = dktJ8_newBytesFor_0 := by decide +kernel
theorem dJ8_newBytesFor_0 : decode cJ8_newBytesFor 0 = .ok (.iload_n 0, 1) := dk_26 (dk_at dksJ8_newBytesFor_0 0 rfl rfl)
theorem dJ8_newBytesFor_1 : decode cJ8_newBytesFor 1 = .ok (.invokestatic 11, 3) := dk_184 0 11 (dk_at dksJ8_newBytesFor_0 1 rfl rfl)
theorem dJ8_newBytesFor_4 : decode cJ8_newBytesFor 4 = .ok (.newarray .byte, 2) := dk_188_8 (dk_at dksJ8_newBytesFor_0 4 rfl rfl)
theorem dJ8_newBytesFor_6 : decode cJ8_newBytesFor 6 = .ok (.areturn, 1) := dk_176 (dk_at dksJ8_newBytesFor_0 6 rfl rfl)
abbrev cJ8_newBytesLength : ByteArray := prog_41_method_3_code
def yJ8_newBytesLength : MethodName := ⟨RJ8, "newBytesLength", "(I)I"⟩
def dkwJ8_newBytesLength_2 : List UInt8 := [182, 0, 32, 182, 0, 37, 183, 0, 41, 191, 26, 4, 120, 172]
abbrev dktJ8_newBytesLength_2 : List UInt8 := dkwJ8_newBytesLength_2 ++ []
def dkwJ8_newBytesLength_1 : List UInt8 := [187, 0, 23, 89, 183, 0, 25, 18, 26, 182, 0, 28, 26, 182, 0, 32, 18, 35, 182, 0, 28, 18, 20]
abbrev dktJ8_newBytesLength_1 : List UInt8 := dkwJ8_newBytesLength_1 ++ dktJ8_newBytesLength_2
def dkwJ8_newBytesLength_0 : List UInt8 := [26, 156, 0, 11, 187, 0, 17, 89, 183, 0, 19, 191, 26, 18, 20, 161, 0, 40, 187, 0, 21, 89]
abbrev dktJ8_newBytesLength_0 : List UInt8 := dkwJ8_newBytesLength_0 ++ dktJ8_newBytesLength_1
theorem dksJ8_newBytesLength_0 : cJ8_newBytesLength.data.toList.drop 0 = dktJ8_newBytesLength_0 := by decide +kernel
theorem dksJ8_newBytesLength_1 : cJ8_newBytesLength.data.toList.drop 22 = dktJ8_newBytesLength_1 := dk_seg dksJ8_newBytesLength_0 22 rfl rfl
theorem dksJ8_newBytesLength_2 : cJ8_newBytesLength.data.toList.drop 45 = dktJ8_newBytesLength_2 := dk_seg dksJ8_newBytesLength_1 23 rfl rfl
theorem dJ8_newBytesLength_0 : decode cJ8_newBytesLength 0 = .ok (.iload_n 0, 1) := dk_26 (dk_at dksJ8_newBytesLength_0 0 rfl rfl)
theorem dJ8_newBytesLength_1 : decode cJ8_newBytesLength 1 = .ok (.ifCond .ge 11, 3) := dk_156 0 11 (dk_at dksJ8_newBytesLength_0 1 rfl rfl)
theorem dJ8_newBytesLength_4 : decode cJ8_newBytesLength 4 = .ok (.new 17, 3) := dk_187 0 17 (dk_at dksJ8_newBytesLength_0 4 rfl rfl)
theorem dJ8_newBytesLength_7 : decode cJ8_newBytesLength 7 = .ok (.dup, 1) := dk_89 (dk_at dksJ8_newBytesLength_0 7 rfl rfl)
theorem dJ8_newBytesLength_8 : decode cJ8_newBytesLength 8 = .ok (.invokespecial 19, 3) := dk_183 0 19 (dk_at dksJ8_newBytesLength_0 8 rfl rfl)
theorem dJ8_newBytesLength_11 : decode cJ8_newBytesLength 11 = .ok (.athrow, 1) := dk_191 (dk_at dksJ8_newBytesLength_0 11 rfl rfl)
theorem dJ8_newBytesLength_12 : decode cJ8_newBytesLength 12 = .ok (.iload_n 0, 1) := dk_26 (dk_at dksJ8_newBytesLength_0 12 rfl rfl)
theorem dJ8_newBytesLength_13 : decode cJ8_newBytesLength 13 = .ok (.ldc 20, 2) := dk_18 20 (dk_at dksJ8_newBytesLength_0 13 rfl rfl)
theorem dJ8_newBytesLength_15 : decode cJ8_newBytesLength 15 = .ok (.if_icmp .lt 40, 3) := dk_161 0 40 (dk_at dksJ8_newBytesLength_0 15 rfl rfl)
theorem dJ8_newBytesLength_18 : decode cJ8_newBytesLength 18 = .ok (.new 21, 3) := dk_187 0 21 (dk_at dksJ8_newBytesLength_0 18 rfl rfl)
theorem dJ8_newBytesLength_21 : decode cJ8_newBytesLength 21 = .ok (.dup, 1) := dk_89 (dk_at dksJ8_newBytesLength_0 21 rfl rfl)
theorem dJ8_newBytesLength_22 : decode cJ8_newBytesLength 22 = .ok (.new 23, 3) := dk_187 0 23 (dk_at dksJ8_newBytesLength_1 0 rfl rfl)
theorem dJ8_newBytesLength_25 : decode cJ8_newBytesLength 25 = .ok (.dup, 1) := dk_89 (dk_at dksJ8_newBytesLength_1 3 rfl rfl)
theorem dJ8_newBytesLength_26 : decode cJ8_newBytesLength 26 = .ok (.invokespecial 25, 3) := dk_183 0 25 (dk_at dksJ8_newBytesLength_1 4 rfl rfl)
theorem dJ8_newBytesLength_29 : decode cJ8_newBytesLength 29 = .ok (.ldc 26, 2) := dk_18 26 (dk_at dksJ8_newBytesLength_1 7 rfl rfl)
theorem dJ8_newBytesLength_31 : decode cJ8_newBytesLength 31 = .ok (.invokevirtual 28, 3) := dk_182 0 28 (dk_at dksJ8_newBytesLength_1 9 rfl rfl)
theorem dJ8_newBytesLength_34 : decode cJ8_newBytesLength 34 = .ok (.iload_n 0, 1) := dk_26 (dk_at dksJ8_newBytesLength_1 12 rfl rfl)
theorem dJ8_newBytesLength_35 : decode cJ8_newBytesLength 35 = .ok (.invokevirtual 32, 3) := dk_182 0 32 (dk_at dksJ8_newBytesLength_1 13 rfl rfl)
theorem dJ8_newBytesLength_38 : decode cJ8_newBytesLength 38 = .ok (.ldc 35, 2) := dk_18 35 (dk_at dksJ8_newBytesLength_1 16 rfl rfl)
theorem dJ8_newBytesLength_40 : decode cJ8_newBytesLength 40 = .ok (.invokevirtual 28, 3) := dk_182 0 28 (dk_at dksJ8_newBytesLength_1 18 rfl rfl)
theorem dJ8_newBytesLength_43 : decode cJ8_newBytesLength 43 = .ok (.ldc 20, 2) := dk_18 20 (dk_at dksJ8_newBytesLength_1 21 rfl rfl)
theorem dJ8_newBytesLength_45 : decode cJ8_newBytesLength 45 = .ok (.invokevirtual 32, 3) := dk_182 0 32 (dk_at dksJ8_newBytesLength_2 0 rfl rfl)
theorem dJ8_newBytesLength_48 : decode cJ8_newBytesLength 48 = .ok (.invokevirtual 37, 3) := dk_182 0 37 (dk_at dksJ8_newBytesLength_2 3 rfl rfl)
theorem dJ8_newBytesLength_51 : decode cJ8_newBytesLength 51 = .ok (.invokespecial 41, 3) := dk_183 0 41 (dk_at dksJ8_newBytesLength_2 6 rfl rfl)
theorem dJ8_newBytesLength_54 : decode cJ8_newBytesLength 54 = .ok (.athrow, 1) := dk_191 (dk_at dksJ8_newBytesLength_2 9 rfl rfl)
theorem dJ8_newBytesLength_55 : decode cJ8_newBytesLength 55 = .ok (.iload_n 0, 1) := dk_26 (dk_at dksJ8_newBytesLength_2 10 rfl rfl)
theorem dJ8_newBytesLength_56 : decode cJ8_newBytesLength 56 = .ok (.iconst 1, 1) := dk_4 (dk_at dksJ8_newBytesLength_2 11 rfl rfl)
theorem dJ8_newBytesLength_57 : decode cJ8_newBytesLength 57 = .ok (.ishl, 1) := dk_120 (dk_at dksJ8_newBytesLength_2 12 rfl rfl)
theorem dJ8_newBytesLength_58 : decode cJ8_newBytesLength 58 = .ok (.ireturn, 1) := dk_172 (dk_at dksJ8_newBytesLength_2 13 rfl rfl)
abbrev cJ8_putCharsAt : ByteArray := prog_41_method_81_code
def yJ8_putCharsAt : MethodName := ⟨RJ8, "putCharsAt", "([BICCCC)I"⟩
def dkwJ8_putCharsAt_3 : List UInt8 := [21, 6, 172]
abbrev dktJ8_putCharsAt_3 : List UInt8 := dkwJ8_putCharsAt_3 ++ []
def dkwJ8_putCharsAt_2 : List UInt8 := [184, 0, 111, 178, 0, 44, 154, 0, 17, 27, 21, 6, 159, 0, 11, 187, 0, 52, 89, 183, 0, 66, 191]
abbrev dktJ8_putCharsAt_2 : List UInt8 := dkwJ8_putCharsAt_2 ++ dktJ8_putCharsAt_3
def dkwJ8_putCharsAt_1 : List UInt8 := [132, 1, 1, 29, 184, 0, 111, 42, 27, 132, 1, 1, 21, 4, 184, 0, 111, 42, 27, 132, 1, 1, 21, 5]
abbrev dktJ8_putCharsAt_1 : List UInt8 := dkwJ8_putCharsAt_1 ++ dktJ8_putCharsAt_2
def dkwJ8_putCharsAt_0 : List UInt8 := [27, 7, 96, 54, 6, 27, 21, 6, 42, 184, 0, 96, 42, 27, 132, 1, 1, 28, 184, 0, 111, 42, 27]
abbrev dktJ8_putCharsAt_0 : List UInt8 := dkwJ8_putCharsAt_0 ++ dktJ8_putCharsAt_1
theorem dksJ8_putCharsAt_0 : cJ8_putCharsAt.data.toList.drop 0 = dktJ8_putCharsAt_0 := by decide +kernel
theorem dksJ8_putCharsAt_1 : cJ8_putCharsAt.data.toList.drop 23 = dktJ8_putCharsAt_1 := dk_seg dksJ8_putCharsAt_0 23 rfl rfl
theorem dksJ8_putCharsAt_2 : cJ8_putCharsAt.data.toList.drop 47 = dktJ8_putCharsAt_2 := dk_seg dksJ8_putCharsAt_1 24 rfl rfl
theorem dksJ8_putCharsAt_3 : cJ8_putCharsAt.data.toList.drop 70 = dktJ8_putCharsAt_3 := dk_seg dksJ8_putCharsAt_2 23 rfl rfl
theorem dJ8_putCharsAt_0 : decode cJ8_putCharsAt 0 = .ok (.iload_n 1, 1) := dk_27 (dk_at dksJ8_putCharsAt_0 0 rfl rfl)
theorem dJ8_putCharsAt_1 : decode cJ8_putCharsAt 1 = .ok (.iconst 4, 1) := dk_7 (dk_at dksJ8_putCharsAt_0 1 rfl rfl)
theorem dJ8_putCharsAt_2 : decode cJ8_putCharsAt 2 = .ok (.iadd, 1) := dk_96 (dk_at dksJ8_putCharsAt_0 2 rfl rfl)
theorem dJ8_putCharsAt_3 : decode cJ8_putCharsAt 3 = .ok (.istore 6, 2) := dk_54 6 (dk_at dksJ8_putCharsAt_0 3 rfl rfl)
theorem dJ8_putCharsAt_5 : decode cJ8_putCharsAt 5 = .ok (.iload_n 1, 1) := dk_27 (dk_at dksJ8_putCharsAt_0 5 rfl rfl)
theorem dJ8_putCharsAt_6 : decode cJ8_putCharsAt 6 = .ok (.iload 6, 2) := dk_21 6 (dk_at dksJ8_putCharsAt_0 6 rfl rfl)
theorem dJ8_putCharsAt_8 : decode cJ8_putCharsAt 8 = .ok (.aload_n 0, 1) := dk_42 (dk_at dksJ8_putCharsAt_0 8 rfl rfl)
theorem dJ8_putCharsAt_9 : decode cJ8_putCharsAt 9 = .ok (.invokestatic 96, 3) := dk_184 0 96 (dk_at dksJ8_putCharsAt_0 9 rfl rfl)
theorem dJ8_putCharsAt_12 : decode cJ8_putCharsAt 12 = .ok (.aload_n 0, 1) := dk_42 (dk_at dksJ8_putCharsAt_0 12 rfl rfl)
theorem dJ8_putCharsAt_13 : decode cJ8_putCharsAt 13 = .ok (.iload_n 1, 1) := dk_27 (dk_at dksJ8_putCharsAt_0 13 rfl rfl)
theorem dJ8_putCharsAt_14 : decode cJ8_putCharsAt 14 = .ok (.iinc 1 1, 3) := dk_132 1 1 (dk_at dksJ8_putCharsAt_0 14 rfl rfl)
theorem dJ8_putCharsAt_17 : decode cJ8_putCharsAt 17 = .ok (.iload_n 2, 1) := dk_28 (dk_at dksJ8_putCharsAt_0 17 rfl rfl)
theorem dJ8_putCharsAt_18 : decode cJ8_putCharsAt 18 = .ok (.invokestatic 111, 3) := dk_184 0 111 (dk_at dksJ8_putCharsAt_0 18 rfl rfl)
theorem dJ8_putCharsAt_21 : decode cJ8_putCharsAt 21 = .ok (.aload_n 0, 1) := dk_42 (dk_at dksJ8_putCharsAt_0 21 rfl rfl)
theorem dJ8_putCharsAt_22 : decode cJ8_putCharsAt 22 = .ok (.iload_n 1, 1) := dk_27 (dk_at dksJ8_putCharsAt_0 22 rfl rfl)
theorem dJ8_putCharsAt_23 : decode cJ8_putCharsAt 23 = .ok (.iinc 1 1, 3) := dk_132 1 1 (dk_at dksJ8_putCharsAt_1 0 rfl rfl)
theorem dJ8_putCharsAt_26 : decode cJ8_putCharsAt 26 = .ok (.iload_n 3, 1) := dk_29 (dk_at dksJ8_putCharsAt_1 3 rfl rfl)
theorem dJ8_putCharsAt_27 : decode cJ8_putCharsAt 27 = .ok (.invokestatic 111, 3) := dk_184 0 111 (dk_at dksJ8_putCharsAt_1 4 rfl rfl)
theorem dJ8_putCharsAt_30 : decode cJ8_putCharsAt 30 = .ok (.aload_n 0, 1) := dk_42 (dk_at dksJ8_putCharsAt_1 7 rfl rfl)
theorem dJ8_putCharsAt_31 : decode cJ8_putCharsAt 31 = .ok (.iload_n 1, 1) := dk_27 (dk_at dksJ8_putCharsAt_1 8 rfl rfl)
theorem dJ8_putCharsAt_32 : decode cJ8_putCharsAt 32 = .ok (.iinc 1 1, 3) := dk_132 1 1 (dk_at dksJ8_putCharsAt_1 9 rfl rfl)
theorem dJ8_putCharsAt_35 : decode cJ8_putCharsAt 35 = .ok (.iload 4, 2) := dk_21 4 (dk_at dksJ8_putCharsAt_1 12 rfl rfl)
theorem dJ8_putCharsAt_37 : decode cJ8_putCharsAt 37 = .ok (.invokestatic 111, 3) := dk_184 0 111 (dk_at dksJ8_putCharsAt_1 14 rfl rfl)
theorem dJ8_putCharsAt_40 : decode cJ8_putCharsAt 40 = .ok (.aload_n 0, 1) := dk_42 (dk_at dksJ8_putCharsAt_1 17 rfl rfl)
theorem dJ8_putCharsAt_41 : decode cJ8_putCharsAt 41 = .ok (.iload_n 1, 1) := dk_27 (dk_at dksJ8_putCharsAt_1 18 rfl rfl)
theorem dJ8_putCharsAt_42 : decode cJ8_putCharsAt 42 = .ok (.iinc 1 1, 3) := dk_132 1 1 (dk_at dksJ8_putCharsAt_1 19 rfl rfl)
theorem dJ8_putCharsAt_45 : decode cJ8_putCharsAt 45 = .ok (.iload 5, 2) := dk_21 5 (dk_at dksJ8_putCharsAt_1 22 rfl rfl)
theorem dJ8_putCharsAt_47 : decode cJ8_putCharsAt 47 = .ok (.invokestatic 111, 3) := dk_184 0 111 (dk_at dksJ8_putCharsAt_2 0 rfl rfl)
theorem dJ8_putCharsAt_50 : decode cJ8_putCharsAt 50 = .ok (.getstatic 44, 3) := dk_178 0 44 (dk_at dksJ8_putCharsAt_2 3 rfl rfl)
theorem dJ8_putCharsAt_53 : decode cJ8_putCharsAt 53 = .ok (.ifCond .ne 17, 3) := dk_154 0 17 (dk_at dksJ8_putCharsAt_2 6 rfl rfl)
theorem dJ8_putCharsAt_56 : decode cJ8_putCharsAt 56 = .ok (.iload_n 1, 1) := dk_27 (dk_at dksJ8_putCharsAt_2 9 rfl rfl)
theorem dJ8_putCharsAt_57 : decode cJ8_putCharsAt 57 = .ok (.iload 6, 2) := dk_21 6 (dk_at dksJ8_putCharsAt_2 10 rfl rfl)
theorem dJ8_putCharsAt_59 : decode cJ8_putCharsAt 59 = .ok (.if_icmp .eq 11, 3) := dk_159 0 11 (dk_at dksJ8_putCharsAt_2 12 rfl rfl)
theorem dJ8_putCharsAt_62 : decode cJ8_putCharsAt 62 = .ok (.new 52, 3) := dk_187 0 52 (dk_at dksJ8_putCharsAt_2 15 rfl rfl)
theorem dJ8_putCharsAt_65 : decode cJ8_putCharsAt 65 = .ok (.dup, 1) := dk_89 (dk_at dksJ8_putCharsAt_2 18 rfl rfl)
theorem dJ8_putCharsAt_66 : decode cJ8_putCharsAt 66 = .ok (.invokespecial 66, 3) := dk_183 0 66 (dk_at dksJ8_putCharsAt_2 19 rfl rfl)
theorem dJ8_putCharsAt_69 : decode cJ8_putCharsAt 69 = .ok (.athrow, 1) := dk_191 (dk_at dksJ8_putCharsAt_2 22 rfl rfl)
theorem dJ8_putCharsAt_70 : decode cJ8_putCharsAt 70 = .ok (.iload 6, 2) := dk_21 6 (dk_at dksJ8_putCharsAt_3 0 rfl rfl)
theorem dJ8_putCharsAt_72 : decode cJ8_putCharsAt 72 = .ok (.ireturn, 1) := dk_172 (dk_at dksJ8_putCharsAt_3 2 rfl rfl)
abbrev cJ8_checkBoundsBeginEnd : ByteArray := prog_41_method_93_code
def yJ8_checkBoundsBeginEnd : MethodName := ⟨RJ8, "checkBoundsBeginEnd", "(II[B)V"⟩
def dkwJ8_checkBoundsBeginEnd_0 : List UInt8 := [26, 27, 44, 184, 0, 48, 184, 0, 241, 177]
abbrev dktJ8_checkBoundsBeginEnd_0 : List UInt8 := dkwJ8_checkBoundsBeginEnd_0 ++ []
theorem dksJ8_checkBoundsBeginEnd_0 : cJ8_checkBoundsBeginEnd.data.toList.drop 0 = dktJ8_checkBoundsBeginEnd_0 := by decide +kernel
theorem dJ8_checkBoundsBeginEnd_0 : decode cJ8_checkBoundsBeginEnd 0 = .ok (.iload_n 0, 1) := dk_26 (dk_at dksJ8_checkBoundsBeginEnd_0 0 rfl rfl)
theorem dJ8_checkBoundsBeginEnd_1 : decode cJ8_checkBoundsBeginEnd 1 = .ok (.iload_n 1, 1) := dk_27 (dk_at dksJ8_checkBoundsBeginEnd_0 1 rfl rfl)
theorem dJ8_checkBoundsBeginEnd_2 : decode cJ8_checkBoundsBeginEnd 2 = .ok (.aload_n 2, 1) := dk_44 (dk_at dksJ8_checkBoundsBeginEnd_0 2 rfl rfl)
theorem dJ8_checkBoundsBeginEnd_3 : decode cJ8_checkBoundsBeginEnd 3 = .ok (.invokestatic 48, 3) := dk_184 0 48 (dk_at dksJ8_checkBoundsBeginEnd_0 3 rfl rfl)
theorem dJ8_checkBoundsBeginEnd_6 : decode cJ8_checkBoundsBeginEnd 6 = .ok (.invokestatic 241, 3) := dk_184 0 241 (dk_at dksJ8_checkBoundsBeginEnd_0 6 rfl rfl)
theorem dJ8_checkBoundsBeginEnd_9 : decode cJ8_checkBoundsBeginEnd 9 = .ok (.return_, 1) := dk_177 (dk_at dksJ8_checkBoundsBeginEnd_0 9 rfl rfl)
abbrev cJ8_length : ByteArray := prog_41_method_6_code
def yJ8_length : MethodName := ⟨RJ8, "length", "([B)I"⟩
def dkwJ8_length_0 : List UInt8 := [42, 190, 4, 122, 172]
abbrev dktJ8_length_0 : List UInt8 := dkwJ8_length_0 ++ []
theorem dksJ8_length_0 : cJ8_length.data.toList.drop 0 = dktJ8_length_0 := by decide +kernel
theorem dJ8_length_0 : decode cJ8_length 0 = .ok (.aload_n 0, 1) := dk_42 (dk_at dksJ8_length_0 0 rfl rfl)
theorem dJ8_length_1 : decode cJ8_length 1 = .ok (.arraylength, 1) := dk_190 (dk_at dksJ8_length_0 1 rfl rfl)
theorem dJ8_length_2 : decode cJ8_length 2 = .ok (.iconst 1, 1) := dk_4 (dk_at dksJ8_length_0 2 rfl rfl)
theorem dJ8_length_3 : decode cJ8_length 3 = .ok (.ishr, 1) := dk_122 (dk_at dksJ8_length_0 3 rfl rfl)
theorem dJ8_length_4 : decode cJ8_length 4 = .ok (.ireturn, 1) := dk_172 (dk_at dksJ8_length_0 4 rfl rfl)
abbrev cJ8_putChar : ByteArray := prog_41_method_4_code
def yJ8_putChar : MethodName := ⟨RJ8, "putChar", "([BII)V"⟩
def dkwJ8_putChar_2 : List UInt8 := [178, 0, 63, 122, 145, 84, 177]
abbrev dktJ8_putChar_2 : List UInt8 := dkwJ8_putChar_2 ++ []
def dkwJ8_putChar_1 : List UInt8 := [183, 0, 56, 191, 27, 4, 120, 60, 42, 27, 132, 1, 1, 28, 178, 0, 59, 122, 145, 84, 42, 27, 28]
abbrev dktJ8_putChar_1 : List UInt8 := dkwJ8_putChar_1 ++ dktJ8_putChar_2
def dkwJ8_putChar_0 : List UInt8 := [178, 0, 44, 154, 0, 25, 27, 155, 0, 11, 27, 42, 184, 0, 48, 161, 0, 13, 187, 0, 52, 89, 18, 54]
abbrev dktJ8_putChar_0 : List UInt8 := dkwJ8_putChar_0 ++ dktJ8_putChar_1
theorem dksJ8_putChar_0 : cJ8_putChar.data.toList.drop 0 = dktJ8_putChar_0 := by decide +kernel
theorem dksJ8_putChar_1 : cJ8_putChar.data.toList.drop 24 = dktJ8_putChar_1 := dk_seg dksJ8_putChar_0 24 rfl rfl
theorem dksJ8_putChar_2 : cJ8_putChar.data.toList.drop 47 = dktJ8_putChar_2 := dk_seg dksJ8_putChar_1 23 rfl rfl
theorem dJ8_putChar_0 : decode cJ8_putChar 0 = .ok (.getstatic 44, 3) := dk_178 0 44 (dk_at dksJ8_putChar_0 0 rfl rfl)
theorem dJ8_putChar_3 : decode cJ8_putChar 3 = .ok (.ifCond .ne 25, 3) := dk_154 0 25 (dk_at dksJ8_putChar_0 3 rfl rfl)
theorem dJ8_putChar_6 : decode cJ8_putChar 6 = .ok (.iload_n 1, 1) := dk_27 (dk_at dksJ8_putChar_0 6 rfl rfl)
theorem dJ8_putChar_7 : decode cJ8_putChar 7 = .ok (.ifCond .lt 11, 3) := dk_155 0 11 (dk_at dksJ8_putChar_0 7 rfl rfl)
theorem dJ8_putChar_10 : decode cJ8_putChar 10 = .ok (.iload_n 1, 1) := dk_27 (dk_at dksJ8_putChar_0 10 rfl rfl)
theorem dJ8_putChar_11 : decode cJ8_putChar 11 = .ok (.aload_n 0, 1) := dk_42 (dk_at dksJ8_putChar_0 11 rfl rfl)
theorem dJ8_putChar_12 : decode cJ8_putChar 12 = .ok (.invokestatic 48, 3) := dk_184 0 48 (dk_at dksJ8_putChar_0 12 rfl rfl)
theorem dJ8_putChar_15 : decode cJ8_putChar 15 = .ok (.if_icmp .lt 13, 3) := dk_161 0 13 (dk_at dksJ8_putChar_0 15 rfl rfl)
theorem dJ8_putChar_18 : decode cJ8_putChar 18 = .ok (.new 52, 3) := dk_187 0 52 (dk_at dksJ8_putChar_0 18 rfl rfl)
theorem dJ8_putChar_21 : decode cJ8_putChar 21 = .ok (.dup, 1) := dk_89 (dk_at dksJ8_putChar_0 21 rfl rfl)
theorem dJ8_putChar_22 : decode cJ8_putChar 22 = .ok (.ldc 54, 2) := dk_18 54 (dk_at dksJ8_putChar_0 22 rfl rfl)
theorem dJ8_putChar_24 : decode cJ8_putChar 24 = .ok (.invokespecial 56, 3) := dk_183 0 56 (dk_at dksJ8_putChar_1 0 rfl rfl)
theorem dJ8_putChar_27 : decode cJ8_putChar 27 = .ok (.athrow, 1) := dk_191 (dk_at dksJ8_putChar_1 3 rfl rfl)
theorem dJ8_putChar_28 : decode cJ8_putChar 28 = .ok (.iload_n 1, 1) := dk_27 (dk_at dksJ8_putChar_1 4 rfl rfl)
theorem dJ8_putChar_29 : decode cJ8_putChar 29 = .ok (.iconst 1, 1) := dk_4 (dk_at dksJ8_putChar_1 5 rfl rfl)
theorem dJ8_putChar_30 : decode cJ8_putChar 30 = .ok (.ishl, 1) := dk_120 (dk_at dksJ8_putChar_1 6 rfl rfl)
theorem dJ8_putChar_31 : decode cJ8_putChar 31 = .ok (.istore_n 1, 1) := dk_60 (dk_at dksJ8_putChar_1 7 rfl rfl)
theorem dJ8_putChar_32 : decode cJ8_putChar 32 = .ok (.aload_n 0, 1) := dk_42 (dk_at dksJ8_putChar_1 8 rfl rfl)
theorem dJ8_putChar_33 : decode cJ8_putChar 33 = .ok (.iload_n 1, 1) := dk_27 (dk_at dksJ8_putChar_1 9 rfl rfl)
theorem dJ8_putChar_34 : decode cJ8_putChar 34 = .ok (.iinc 1 1, 3) := dk_132 1 1 (dk_at dksJ8_putChar_1 10 rfl rfl)
theorem dJ8_putChar_37 : decode cJ8_putChar 37 = .ok (.iload_n 2, 1) := dk_28 (dk_at dksJ8_putChar_1 13 rfl rfl)
theorem dJ8_putChar_38 : decode cJ8_putChar 38 = .ok (.getstatic 59, 3) := dk_178 0 59 (dk_at dksJ8_putChar_1 14 rfl rfl)
theorem dJ8_putChar_41 : decode cJ8_putChar 41 = .ok (.ishr, 1) := dk_122 (dk_at dksJ8_putChar_1 17 rfl rfl)
theorem dJ8_putChar_42 : decode cJ8_putChar 42 = .ok (.i2b, 1) := dk_145 (dk_at dksJ8_putChar_1 18 rfl rfl)
theorem dJ8_putChar_43 : decode cJ8_putChar 43 = .ok (.bastore, 1) := dk_84 (dk_at dksJ8_putChar_1 19 rfl rfl)
theorem dJ8_putChar_44 : decode cJ8_putChar 44 = .ok (.aload_n 0, 1) := dk_42 (dk_at dksJ8_putChar_1 20 rfl rfl)
theorem dJ8_putChar_45 : decode cJ8_putChar 45 = .ok (.iload_n 1, 1) := dk_27 (dk_at dksJ8_putChar_1 21 rfl rfl)
theorem dJ8_putChar_46 : decode cJ8_putChar 46 = .ok (.iload_n 2, 1) := dk_28 (dk_at dksJ8_putChar_1 22 rfl rfl)
theorem dJ8_putChar_47 : decode cJ8_putChar 47 = .ok (.getstatic 63, 3) := dk_178 0 63 (dk_at dksJ8_putChar_2 0 rfl rfl)
theorem dJ8_putChar_50 : decode cJ8_putChar 50 = .ok (.ishr, 1) := dk_122 (dk_at dksJ8_putChar_2 3 rfl rfl)
theorem dJ8_putChar_51 : decode cJ8_putChar 51 = .ok (.i2b, 1) := dk_145 (dk_at dksJ8_putChar_2 4 rfl rfl)
theorem dJ8_putChar_52 : decode cJ8_putChar 52 = .ok (.bastore, 1) := dk_84 (dk_at dksJ8_putChar_2 5 rfl rfl)
theorem dJ8_putChar_53 : decode cJ8_putChar 53 = .ok (.return_, 1) := dk_177 (dk_at dksJ8_putChar_2 6 rfl rfl)
abbrev cJ8_inflate : ByteArray := prog_41_method_86_code
def yJ8_inflate : MethodName := ⟨RJ8, "inflate", "([BI[BII)V"⟩
def dkwJ8_inflate_1 : List UInt8 := [132, 1, 1, 51, 17, 0, 255, 126, 184, 0, 111, 132, 5, 1, 167, 255, 228, 177]
abbrev dktJ8_inflate_1 : List UInt8 := dkwJ8_inflate_1 ++ []
def dkwJ8_inflate_0 : List UInt8 := [29, 21, 4, 44, 184, 0, 173, 3, 54, 5, 21, 5, 21, 4, 162, 0, 27, 44, 29, 132, 3, 1, 42, 27]
abbrev dktJ8_inflate_0 : List UInt8 := dkwJ8_inflate_0 ++ dktJ8_inflate_1
theorem dksJ8_inflate_0 : cJ8_inflate.data.toList.drop 0 = dktJ8_inflate_0 := by decide +kernel
theorem dksJ8_inflate_1 : cJ8_inflate.data.toList.drop 24 = dktJ8_inflate_1 := dk_seg dksJ8_inflate_0 24 rfl rfl
theorem dJ8_inflate_0 : decode cJ8_inflate 0 = .ok (.iload_n 3, 1) := dk_29 (dk_at dksJ8_inflate_0 0 rfl rfl)
theorem dJ8_inflate_1 : decode cJ8_inflate 1 = .ok (.iload 4, 2) := dk_21 4 (dk_at dksJ8_inflate_0 1 rfl rfl)
theorem dJ8_inflate_3 : decode cJ8_inflate 3 = .ok (.aload_n 2, 1) := dk_44 (dk_at dksJ8_inflate_0 3 rfl rfl)
theorem dJ8_inflate_4 : decode cJ8_inflate 4 = .ok (.invokestatic 173, 3) := dk_184 0 173 (dk_at dksJ8_inflate_0 4 rfl rfl)
theorem dJ8_inflate_7 : decode cJ8_inflate 7 = .ok (.iconst 0, 1) := dk_3 (dk_at dksJ8_inflate_0 7 rfl rfl)
theorem dJ8_inflate_8 : decode cJ8_inflate 8 = .ok (.istore 5, 2) := dk_54 5 (dk_at dksJ8_inflate_0 8 rfl rfl)
theorem dJ8_inflate_10 : decode cJ8_inflate 10 = .ok (.iload 5, 2) := dk_21 5 (dk_at dksJ8_inflate_0 10 rfl rfl)
theorem dJ8_inflate_12 : decode cJ8_inflate 12 = .ok (.iload 4, 2) := dk_21 4 (dk_at dksJ8_inflate_0 12 rfl rfl)
theorem dJ8_inflate_14 : decode cJ8_inflate 14 = .ok (.if_icmp .ge 27, 3) := dk_162 0 27 (dk_at dksJ8_inflate_0 14 rfl rfl)
theorem dJ8_inflate_17 : decode cJ8_inflate 17 = .ok (.aload_n 2, 1) := dk_44 (dk_at dksJ8_inflate_0 17 rfl rfl)
theorem dJ8_inflate_18 : decode cJ8_inflate 18 = .ok (.iload_n 3, 1) := dk_29 (dk_at dksJ8_inflate_0 18 rfl rfl)
theorem dJ8_inflate_19 : decode cJ8_inflate 19 = .ok (.iinc 3 1, 3) := dk_132 3 1 (dk_at dksJ8_inflate_0 19 rfl rfl)
theorem dJ8_inflate_22 : decode cJ8_inflate 22 = .ok (.aload_n 0, 1) := dk_42 (dk_at dksJ8_inflate_0 22 rfl rfl)
theorem dJ8_inflate_23 : decode cJ8_inflate 23 = .ok (.iload_n 1, 1) := dk_27 (dk_at dksJ8_inflate_0 23 rfl rfl)
theorem dJ8_inflate_24 : decode cJ8_inflate 24 = .ok (.iinc 1 1, 3) := dk_132 1 1 (dk_at dksJ8_inflate_1 0 rfl rfl)
theorem dJ8_inflate_27 : decode cJ8_inflate 27 = .ok (.baload, 1) := dk_51 (dk_at dksJ8_inflate_1 3 rfl rfl)
theorem dJ8_inflate_28 : decode cJ8_inflate 28 = .ok (.sipush 255, 3) := dk_17 0 255 (dk_at dksJ8_inflate_1 4 rfl rfl)
theorem dJ8_inflate_31 : decode cJ8_inflate 31 = .ok (.iand, 1) := dk_126 (dk_at dksJ8_inflate_1 7 rfl rfl)
theorem dJ8_inflate_32 : decode cJ8_inflate 32 = .ok (.invokestatic 111, 3) := dk_184 0 111 (dk_at dksJ8_inflate_1 8 rfl rfl)
theorem dJ8_inflate_35 : decode cJ8_inflate 35 = .ok (.iinc 5 1, 3) := dk_132 5 1 (dk_at dksJ8_inflate_1 11 rfl rfl)
theorem dJ8_inflate_38 : decode cJ8_inflate 38 = .ok (.goto (-28), 3) := dk_167 255 228 (dk_at dksJ8_inflate_1 14 rfl rfl)
theorem dJ8_inflate_41 : decode cJ8_inflate 41 = .ok (.return_, 1) := dk_177 (dk_at dksJ8_inflate_1 17 rfl rfl)
abbrev cJ8_checkBoundsOffCount : ByteArray := prog_41_method_94_code
def yJ8_checkBoundsOffCount : MethodName := ⟨RJ8, "checkBoundsOffCount", "(II[B)V"⟩
def dkwJ8_checkBoundsOffCount_0 : List UInt8 := [26, 27, 44, 184, 0, 48, 184, 1, 163, 87, 177]
abbrev dktJ8_checkBoundsOffCount_0 : List UInt8 := dkwJ8_checkBoundsOffCount_0 ++ []
theorem dksJ8_checkBoundsOffCount_0 : cJ8_checkBoundsOffCount.data.toList.drop 0 = dktJ8_checkBoundsOffCount_0 := by decide +kernel
theorem dJ8_checkBoundsOffCount_0 : decode cJ8_checkBoundsOffCount 0 = .ok (.iload_n 0, 1) := dk_26 (dk_at dksJ8_checkBoundsOffCount_0 0 rfl rfl)
theorem dJ8_checkBoundsOffCount_1 : decode cJ8_checkBoundsOffCount 1 = .ok (.iload_n 1, 1) := dk_27 (dk_at dksJ8_checkBoundsOffCount_0 1 rfl rfl)
theorem dJ8_checkBoundsOffCount_2 : decode cJ8_checkBoundsOffCount 2 = .ok (.aload_n 2, 1) := dk_44 (dk_at dksJ8_checkBoundsOffCount_0 2 rfl rfl)
theorem dJ8_checkBoundsOffCount_3 : decode cJ8_checkBoundsOffCount 3 = .ok (.invokestatic 48, 3) := dk_184 0 48 (dk_at dksJ8_checkBoundsOffCount_0 3 rfl rfl)
theorem dJ8_checkBoundsOffCount_6 : decode cJ8_checkBoundsOffCount 6 = .ok (.invokestatic 419, 3) := dk_184 1 163 (dk_at dksJ8_checkBoundsOffCount_0 6 rfl rfl)
theorem dJ8_checkBoundsOffCount_9 : decode cJ8_checkBoundsOffCount 9 = .ok (.pop, 1) := dk_87 (dk_at dksJ8_checkBoundsOffCount_0 9 rfl rfl)
theorem dJ8_checkBoundsOffCount_10 : decode cJ8_checkBoundsOffCount 10 = .ok (.return_, 1) := dk_177 (dk_at dksJ8_checkBoundsOffCount_0 10 rfl rfl)
abbrev cJ8_getChars : ByteArray := prog_41_method_77_code
def yJ8_getChars : MethodName := ⟨RJ8, "getChars", "(III[B)I"⟩
def dkwJ8_getChars_1 : List UInt8 := [159, 0, 11, 187, 0, 52, 89, 183, 0, 66, 191, 21, 4, 172]
abbrev dktJ8_getChars_1 : List UInt8 := dkwJ8_getChars_1 ++ []
def dkwJ8_getChars_0 : List UInt8 := [27, 28, 45, 184, 0, 96, 26, 28, 45, 184, 1, 137, 54, 4, 178, 0, 44, 154, 0, 17, 27, 21, 4]
abbrev dktJ8_getChars_0 : List UInt8 := dkwJ8_getChars_0 ++ dktJ8_getChars_1
theorem dksJ8_getChars_0 : cJ8_getChars.data.toList.drop 0 = dktJ8_getChars_0 := by decide +kernel
theorem dksJ8_getChars_1 : cJ8_getChars.data.toList.drop 23 = dktJ8_getChars_1 := dk_seg dksJ8_getChars_0 23 rfl rfl
theorem dJ8_getChars_0 : decode cJ8_getChars 0 = .ok (.iload_n 1, 1) := dk_27 (dk_at dksJ8_getChars_0 0 rfl rfl)
theorem dJ8_getChars_1 : decode cJ8_getChars 1 = .ok (.iload_n 2, 1) := dk_28 (dk_at dksJ8_getChars_0 1 rfl rfl)
theorem dJ8_getChars_2 : decode cJ8_getChars 2 = .ok (.aload_n 3, 1) := dk_45 (dk_at dksJ8_getChars_0 2 rfl rfl)
theorem dJ8_getChars_3 : decode cJ8_getChars 3 = .ok (.invokestatic 96, 3) := dk_184 0 96 (dk_at dksJ8_getChars_0 3 rfl rfl)
theorem dJ8_getChars_6 : decode cJ8_getChars 6 = .ok (.iload_n 0, 1) := dk_26 (dk_at dksJ8_getChars_0 6 rfl rfl)
theorem dJ8_getChars_7 : decode cJ8_getChars 7 = .ok (.iload_n 2, 1) := dk_28 (dk_at dksJ8_getChars_0 7 rfl rfl)
theorem dJ8_getChars_8 : decode cJ8_getChars 8 = .ok (.aload_n 3, 1) := dk_45 (dk_at dksJ8_getChars_0 8 rfl rfl)
theorem dJ8_getChars_9 : decode cJ8_getChars 9 = .ok (.invokestatic 393, 3) := dk_184 1 137 (dk_at dksJ8_getChars_0 9 rfl rfl)
theorem dJ8_getChars_12 : decode cJ8_getChars 12 = .ok (.istore 4, 2) := dk_54 4 (dk_at dksJ8_getChars_0 12 rfl rfl)
theorem dJ8_getChars_14 : decode cJ8_getChars 14 = .ok (.getstatic 44, 3) := dk_178 0 44 (dk_at dksJ8_getChars_0 14 rfl rfl)
theorem dJ8_getChars_17 : decode cJ8_getChars 17 = .ok (.ifCond .ne 17, 3) := dk_154 0 17 (dk_at dksJ8_getChars_0 17 rfl rfl)
theorem dJ8_getChars_20 : decode cJ8_getChars 20 = .ok (.iload_n 1, 1) := dk_27 (dk_at dksJ8_getChars_0 20 rfl rfl)
theorem dJ8_getChars_21 : decode cJ8_getChars 21 = .ok (.iload 4, 2) := dk_21 4 (dk_at dksJ8_getChars_0 21 rfl rfl)
theorem dJ8_getChars_23 : decode cJ8_getChars 23 = .ok (.if_icmp .eq 11, 3) := dk_159 0 11 (dk_at dksJ8_getChars_1 0 rfl rfl)
theorem dJ8_getChars_26 : decode cJ8_getChars 26 = .ok (.new 52, 3) := dk_187 0 52 (dk_at dksJ8_getChars_1 3 rfl rfl)
theorem dJ8_getChars_29 : decode cJ8_getChars 29 = .ok (.dup, 1) := dk_89 (dk_at dksJ8_getChars_1 6 rfl rfl)
theorem dJ8_getChars_30 : decode cJ8_getChars 30 = .ok (.invokespecial 66, 3) := dk_183 0 66 (dk_at dksJ8_getChars_1 7 rfl rfl)
theorem dJ8_getChars_33 : decode cJ8_getChars 33 = .ok (.athrow, 1) := dk_191 (dk_at dksJ8_getChars_1 10 rfl rfl)
theorem dJ8_getChars_34 : decode cJ8_getChars 34 = .ok (.iload 4, 2) := dk_21 4 (dk_at dksJ8_getChars_1 11 rfl rfl)
theorem dJ8_getChars_36 : decode cJ8_getChars 36 = .ok (.ireturn, 1) := dk_172 (dk_at dksJ8_getChars_1 13 rfl rfl)
abbrev cJ8_getChars_2 : ByteArray := prog_41_method_89_code
def yJ8_getChars_2 : MethodName := ⟨RJ8, "getChars", "(II[B)I"⟩
def dkwJ8_getChars_2_5 : List UInt8 := [132, 5, 255, 21, 5, 16, 45, 184, 0, 111, 21, 5, 172]
abbrev dktJ8_getChars_2_5 : List UInt8 := dkwJ8_getChars_2_5 ++ []
def dkwJ8_getChars_2_4 : List UInt8 := [162, 0, 18, 44, 132, 5, 255, 21, 5, 178, 1, 151, 26, 116, 51, 184, 0, 111, 21, 6, 153, 0, 14, 44]
abbrev dktJ8_getChars_2_4 : List UInt8 := dkwJ8_getChars_2_4 ++ dktJ8_getChars_2_5
def dkwJ8_getChars_2_3 : List UInt8 := [184, 0, 111, 167, 255, 205, 44, 132, 5, 255, 21, 5, 178, 1, 147, 26, 116, 51, 184, 0, 111, 26, 16, 247]
abbrev dktJ8_getChars_2_3 : List UInt8 := dkwJ8_getChars_2_3 ++ dktJ8_getChars_2_4
def dkwJ8_getChars_2_2 : List UInt8 := [21, 5, 178, 1, 147, 21, 4, 51, 184, 0, 111, 44, 132, 5, 255, 21, 5, 178, 1, 151, 21, 4, 51]
abbrev dktJ8_getChars_2_2 : List UInt8 := dkwJ8_getChars_2_2 ++ dktJ8_getChars_2_3
def dkwJ8_getChars_2_1 : List UInt8 := [16, 156, 163, 0, 51, 26, 16, 100, 108, 62, 29, 16, 100, 104, 26, 100, 54, 4, 29, 59, 44, 132, 5, 255]
abbrev dktJ8_getChars_2_1 : List UInt8 := dkwJ8_getChars_2_1 ++ dktJ8_getChars_2_2
def dkwJ8_getChars_2_0 : List UInt8 := [27, 54, 5, 26, 156, 0, 7, 4, 167, 0, 4, 3, 54, 6, 21, 6, 154, 0, 6, 26, 116, 59, 26]
abbrev dktJ8_getChars_2_0 : List UInt8 := dkwJ8_getChars_2_0 ++ dktJ8_getChars_2_1
theorem dksJ8_getChars_2_0 : cJ8_getChars_2.data.toList.drop 0 = dktJ8_getChars_2_0 := by decide +kernel
theorem dksJ8_getChars_2_1 : cJ8_getChars_2.data.toList.drop 23 = dktJ8_getChars_2_1 := dk_seg dksJ8_getChars_2_0 23 rfl rfl
theorem dksJ8_getChars_2_2 : cJ8_getChars_2.data.toList.drop 47 = dktJ8_getChars_2_2 := dk_seg dksJ8_getChars_2_1 24 rfl rfl
theorem dksJ8_getChars_2_3 : cJ8_getChars_2.data.toList.drop 70 = dktJ8_getChars_2_3 := dk_seg dksJ8_getChars_2_2 23 rfl rfl
theorem dksJ8_getChars_2_4 : cJ8_getChars_2.data.toList.drop 94 = dktJ8_getChars_2_4 := dk_seg dksJ8_getChars_2_3 24 rfl rfl
theorem dksJ8_getChars_2_5 : cJ8_getChars_2.data.toList.drop 118 = dktJ8_getChars_2_5 := dk_seg dksJ8_getChars_2_4 24 rfl rfl
theorem dJ8_getChars_2_0 : decode cJ8_getChars_2 0 = .ok (.iload_n 1, 1) := dk_27 (dk_at dksJ8_getChars_2_0 0 rfl rfl)
theorem dJ8_getChars_2_1 : decode cJ8_getChars_2 1 = .ok (.istore 5, 2) := dk_54 5 (dk_at dksJ8_getChars_2_0 1 rfl rfl)
theorem dJ8_getChars_2_3 : decode cJ8_getChars_2 3 = .ok (.iload_n 0, 1) := dk_26 (dk_at dksJ8_getChars_2_0 3 rfl rfl)
theorem dJ8_getChars_2_4 : decode cJ8_getChars_2 4 = .ok (.ifCond .ge 7, 3) := dk_156 0 7 (dk_at dksJ8_getChars_2_0 4 rfl rfl)
theorem dJ8_getChars_2_7 : decode cJ8_getChars_2 7 = .ok (.iconst 1, 1) := dk_4 (dk_at dksJ8_getChars_2_0 7 rfl rfl)
theorem dJ8_getChars_2_8 : decode cJ8_getChars_2 8 = .ok (.goto 4, 3) := dk_167 0 4 (dk_at dksJ8_getChars_2_0 8 rfl rfl)
theorem dJ8_getChars_2_11 : decode cJ8_getChars_2 11 = .ok (.iconst 0, 1) := dk_3 (dk_at dksJ8_getChars_2_0 11 rfl rfl)
theorem dJ8_getChars_2_12 : decode cJ8_getChars_2 12 = .ok (.istore 6, 2) := dk_54 6 (dk_at dksJ8_getChars_2_0 12 rfl rfl)
theorem dJ8_getChars_2_14 : decode cJ8_getChars_2 14 = .ok (.iload 6, 2) := dk_21 6 (dk_at dksJ8_getChars_2_0 14 rfl rfl)
theorem dJ8_getChars_2_16 : decode cJ8_getChars_2 16 = .ok (.ifCond .ne 6, 3) := dk_154 0 6 (dk_at dksJ8_getChars_2_0 16 rfl rfl)
theorem dJ8_getChars_2_19 : decode cJ8_getChars_2 19 = .ok (.iload_n 0, 1) := dk_26 (dk_at dksJ8_getChars_2_0 19 rfl rfl)
theorem dJ8_getChars_2_20 : decode cJ8_getChars_2 20 = .ok (.ineg, 1) := dk_116 (dk_at dksJ8_getChars_2_0 20 rfl rfl)
theorem dJ8_getChars_2_21 : decode cJ8_getChars_2 21 = .ok (.istore_n 0, 1) := dk_59 (dk_at dksJ8_getChars_2_0 21 rfl rfl)
theorem dJ8_getChars_2_22 : decode cJ8_getChars_2 22 = .ok (.iload_n 0, 1) := dk_26 (dk_at dksJ8_getChars_2_0 22 rfl rfl)
theorem dJ8_getChars_2_23 : decode cJ8_getChars_2 23 = .ok (.bipush (-100), 2) := dk_16 156 (dk_at dksJ8_getChars_2_1 0 rfl rfl)
theorem dJ8_getChars_2_25 : decode cJ8_getChars_2 25 = .ok (.if_icmp .gt 51, 3) := dk_163 0 51 (dk_at dksJ8_getChars_2_1 2 rfl rfl)
theorem dJ8_getChars_2_28 : decode cJ8_getChars_2 28 = .ok (.iload_n 0, 1) := dk_26 (dk_at dksJ8_getChars_2_1 5 rfl rfl)
theorem dJ8_getChars_2_29 : decode cJ8_getChars_2 29 = .ok (.bipush 100, 2) := dk_16 100 (dk_at dksJ8_getChars_2_1 6 rfl rfl)
theorem dJ8_getChars_2_31 : decode cJ8_getChars_2 31 = .ok (.idiv, 1) := dk_108 (dk_at dksJ8_getChars_2_1 8 rfl rfl)
theorem dJ8_getChars_2_32 : decode cJ8_getChars_2 32 = .ok (.istore_n 3, 1) := dk_62 (dk_at dksJ8_getChars_2_1 9 rfl rfl)
theorem dJ8_getChars_2_33 : decode cJ8_getChars_2 33 = .ok (.iload_n 3, 1) := dk_29 (dk_at dksJ8_getChars_2_1 10 rfl rfl)
theorem dJ8_getChars_2_34 : decode cJ8_getChars_2 34 = .ok (.bipush 100, 2) := dk_16 100 (dk_at dksJ8_getChars_2_1 11 rfl rfl)
theorem dJ8_getChars_2_36 : decode cJ8_getChars_2 36 = .ok (.imul, 1) := dk_104 (dk_at dksJ8_getChars_2_1 13 rfl rfl)
theorem dJ8_getChars_2_37 : decode cJ8_getChars_2 37 = .ok (.iload_n 0, 1) := dk_26 (dk_at dksJ8_getChars_2_1 14 rfl rfl)
theorem dJ8_getChars_2_38 : decode cJ8_getChars_2 38 = .ok (.isub, 1) := dk_100 (dk_at dksJ8_getChars_2_1 15 rfl rfl)
theorem dJ8_getChars_2_39 : decode cJ8_getChars_2 39 = .ok (.istore 4, 2) := dk_54 4 (dk_at dksJ8_getChars_2_1 16 rfl rfl)
theorem dJ8_getChars_2_41 : decode cJ8_getChars_2 41 = .ok (.iload_n 3, 1) := dk_29 (dk_at dksJ8_getChars_2_1 18 rfl rfl)
theorem dJ8_getChars_2_42 : decode cJ8_getChars_2 42 = .ok (.istore_n 0, 1) := dk_59 (dk_at dksJ8_getChars_2_1 19 rfl rfl)
theorem dJ8_getChars_2_43 : decode cJ8_getChars_2 43 = .ok (.aload_n 2, 1) := dk_44 (dk_at dksJ8_getChars_2_1 20 rfl rfl)
theorem dJ8_getChars_2_44 : decode cJ8_getChars_2 44 = .ok (.iinc 5 (-1), 3) := dk_132 5 255 (dk_at dksJ8_getChars_2_1 21 rfl rfl)
theorem dJ8_getChars_2_47 : decode cJ8_getChars_2 47 = .ok (.iload 5, 2) := dk_21 5 (dk_at dksJ8_getChars_2_2 0 rfl rfl)
theorem dJ8_getChars_2_49 : decode cJ8_getChars_2 49 = .ok (.getstatic 403, 3) := dk_178 1 147 (dk_at dksJ8_getChars_2_2 2 rfl rfl)
theorem dJ8_getChars_2_52 : decode cJ8_getChars_2 52 = .ok (.iload 4, 2) := dk_21 4 (dk_at dksJ8_getChars_2_2 5 rfl rfl)
theorem dJ8_getChars_2_54 : decode cJ8_getChars_2 54 = .ok (.baload, 1) := dk_51 (dk_at dksJ8_getChars_2_2 7 rfl rfl)
theorem dJ8_getChars_2_55 : decode cJ8_getChars_2 55 = .ok (.invokestatic 111, 3) := dk_184 0 111 (dk_at dksJ8_getChars_2_2 8 rfl rfl)
theorem dJ8_getChars_2_58 : decode cJ8_getChars_2 58 = .ok (.aload_n 2, 1) := dk_44 (dk_at dksJ8_getChars_2_2 11 rfl rfl)
theorem dJ8_getChars_2_59 : decode cJ8_getChars_2 59 = .ok (.iinc 5 (-1), 3) := dk_132 5 255 (dk_at dksJ8_getChars_2_2 12 rfl rfl)
theorem dJ8_getChars_2_62 : decode cJ8_getChars_2 62 = .ok (.iload 5, 2) := dk_21 5 (dk_at dksJ8_getChars_2_2 15 rfl rfl)
theorem dJ8_getChars_2_64 : decode cJ8_getChars_2 64 = .ok (.getstatic 407, 3) := dk_178 1 151 (dk_at dksJ8_getChars_2_2 17 rfl rfl)
theorem dJ8_getChars_2_67 : decode cJ8_getChars_2 67 = .ok (.iload 4, 2) := dk_21 4 (dk_at dksJ8_getChars_2_2 20 rfl rfl)
theorem dJ8_getChars_2_69 : decode cJ8_getChars_2 69 = .ok (.baload, 1) := dk_51 (dk_at dksJ8_getChars_2_2 22 rfl rfl)
theorem dJ8_getChars_2_70 : decode cJ8_getChars_2 70 = .ok (.invokestatic 111, 3) := dk_184 0 111 (dk_at dksJ8_getChars_2_3 0 rfl rfl)
theorem dJ8_getChars_2_73 : decode cJ8_getChars_2 73 = .ok (.goto (-51), 3) := dk_167 255 205 (dk_at dksJ8_getChars_2_3 3 rfl rfl)
theorem dJ8_getChars_2_76 : decode cJ8_getChars_2 76 = .ok (.aload_n 2, 1) := dk_44 (dk_at dksJ8_getChars_2_3 6 rfl rfl)
theorem dJ8_getChars_2_77 : decode cJ8_getChars_2 77 = .ok (.iinc 5 (-1), 3) := dk_132 5 255 (dk_at dksJ8_getChars_2_3 7 rfl rfl)
theorem dJ8_getChars_2_80 : decode cJ8_getChars_2 80 = .ok (.iload 5, 2) := dk_21 5 (dk_at dksJ8_getChars_2_3 10 rfl rfl)
theorem dJ8_getChars_2_82 : decode cJ8_getChars_2 82 = .ok (.getstatic 403, 3) := dk_178 1 147 (dk_at dksJ8_getChars_2_3 12 rfl rfl)
theorem dJ8_getChars_2_85 : decode cJ8_getChars_2 85 = .ok (.iload_n 0, 1) := dk_26 (dk_at dksJ8_getChars_2_3 15 rfl rfl)
theorem dJ8_getChars_2_86 : decode cJ8_getChars_2 86 = .ok (.ineg, 1) := dk_116 (dk_at dksJ8_getChars_2_3 16 rfl rfl)
theorem dJ8_getChars_2_87 : decode cJ8_getChars_2 87 = .ok (.baload, 1) := dk_51 (dk_at dksJ8_getChars_2_3 17 rfl rfl)
theorem dJ8_getChars_2_88 : decode cJ8_getChars_2 88 = .ok (.invokestatic 111, 3) := dk_184 0 111 (dk_at dksJ8_getChars_2_3 18 rfl rfl)
theorem dJ8_getChars_2_91 : decode cJ8_getChars_2 91 = .ok (.iload_n 0, 1) := dk_26 (dk_at dksJ8_getChars_2_3 21 rfl rfl)
theorem dJ8_getChars_2_92 : decode cJ8_getChars_2 92 = .ok (.bipush (-9), 2) := dk_16 247 (dk_at dksJ8_getChars_2_3 22 rfl rfl)
theorem dJ8_getChars_2_94 : decode cJ8_getChars_2 94 = .ok (.if_icmp .ge 18, 3) := dk_162 0 18 (dk_at dksJ8_getChars_2_4 0 rfl rfl)
theorem dJ8_getChars_2_97 : decode cJ8_getChars_2 97 = .ok (.aload_n 2, 1) := dk_44 (dk_at dksJ8_getChars_2_4 3 rfl rfl)
theorem dJ8_getChars_2_98 : decode cJ8_getChars_2 98 = .ok (.iinc 5 (-1), 3) := dk_132 5 255 (dk_at dksJ8_getChars_2_4 4 rfl rfl)
theorem dJ8_getChars_2_101 : decode cJ8_getChars_2 101 = .ok (.iload 5, 2) := dk_21 5 (dk_at dksJ8_getChars_2_4 7 rfl rfl)
theorem dJ8_getChars_2_103 : decode cJ8_getChars_2 103 = .ok (.getstatic 407, 3) := dk_178 1 151 (dk_at dksJ8_getChars_2_4 9 rfl rfl)
theorem dJ8_getChars_2_106 : decode cJ8_getChars_2 106 = .ok (.iload_n 0, 1) := dk_26 (dk_at dksJ8_getChars_2_4 12 rfl rfl)
theorem dJ8_getChars_2_107 : decode cJ8_getChars_2 107 = .ok (.ineg, 1) := dk_116 (dk_at dksJ8_getChars_2_4 13 rfl rfl)
theorem dJ8_getChars_2_108 : decode cJ8_getChars_2 108 = .ok (.baload, 1) := dk_51 (dk_at dksJ8_getChars_2_4 14 rfl rfl)
theorem dJ8_getChars_2_109 : decode cJ8_getChars_2 109 = .ok (.invokestatic 111, 3) := dk_184 0 111 (dk_at dksJ8_getChars_2_4 15 rfl rfl)
theorem dJ8_getChars_2_112 : decode cJ8_getChars_2 112 = .ok (.iload 6, 2) := dk_21 6 (dk_at dksJ8_getChars_2_4 18 rfl rfl)
theorem dJ8_getChars_2_114 : decode cJ8_getChars_2 114 = .ok (.ifCond .eq 14, 3) := dk_153 0 14 (dk_at dksJ8_getChars_2_4 20 rfl rfl)
theorem dJ8_getChars_2_117 : decode cJ8_getChars_2 117 = .ok (.aload_n 2, 1) := dk_44 (dk_at dksJ8_getChars_2_4 23 rfl rfl)
theorem dJ8_getChars_2_118 : decode cJ8_getChars_2 118 = .ok (.iinc 5 (-1), 3) := dk_132 5 255 (dk_at dksJ8_getChars_2_5 0 rfl rfl)
theorem dJ8_getChars_2_121 : decode cJ8_getChars_2 121 = .ok (.iload 5, 2) := dk_21 5 (dk_at dksJ8_getChars_2_5 3 rfl rfl)
theorem dJ8_getChars_2_123 : decode cJ8_getChars_2 123 = .ok (.bipush 45, 2) := dk_16 45 (dk_at dksJ8_getChars_2_5 5 rfl rfl)
theorem dJ8_getChars_2_125 : decode cJ8_getChars_2 125 = .ok (.invokestatic 111, 3) := dk_184 0 111 (dk_at dksJ8_getChars_2_5 7 rfl rfl)
theorem dJ8_getChars_2_128 : decode cJ8_getChars_2 128 = .ok (.iload 5, 2) := dk_21 5 (dk_at dksJ8_getChars_2_5 10 rfl rfl)
theorem dJ8_getChars_2_130 : decode cJ8_getChars_2 130 = .ok (.ireturn, 1) := dk_172 (dk_at dksJ8_getChars_2_5 12 rfl rfl)
abbrev cJ8_compress : ByteArray := prog_41_method_17_code
def yJ8_compress : MethodName := ⟨RJ8, "compress", "([BII)[B"⟩
def dkwJ8_compress_2 : List UInt8 := [25, 5, 3, 45, 3, 28, 184, 0, 123, 28, 159, 0, 6, 25, 5, 176, 45, 176]
abbrev dktJ8_compress_2 : List UInt8 := dkwJ8_compress_2 ++ []
def dkwJ8_compress_1 : List UInt8 := [27, 28, 96, 184, 0, 11, 184, 0, 126, 58, 5, 25, 5, 21, 4, 184, 0, 71, 17, 0, 255, 163, 0, 16]
abbrev dktJ8_compress_1 : List UInt8 := dkwJ8_compress_1 ++ dktJ8_compress_2
def dkwJ8_compress_0 : List UInt8 := [28, 188, 8, 78, 42, 27, 45, 3, 28, 184, 0, 123, 54, 4, 21, 4, 28, 159, 0, 47, 42, 27, 4, 120]
abbrev dktJ8_compress_0 : List UInt8 := dkwJ8_compress_0 ++ dktJ8_compress_1
theorem dksJ8_compress_0 : cJ8_compress.data.toList.drop 0 = dktJ8_compress_0 := by decide +kernel
theorem dksJ8_compress_1 : cJ8_compress.data.toList.drop 24 = dktJ8_compress_1 := dk_seg dksJ8_compress_0 24 rfl rfl
theorem dksJ8_compress_2 : cJ8_compress.data.toList.drop 48 = dktJ8_compress_2 := dk_seg dksJ8_compress_1 24 rfl rfl
theorem dJ8_compress_0 : decode cJ8_compress 0 = .ok (.iload_n 2, 1) := dk_28 (dk_at dksJ8_compress_0 0 rfl rfl)
theorem dJ8_compress_1 : decode cJ8_compress 1 = .ok (.newarray .byte, 2) := dk_188_8 (dk_at dksJ8_compress_0 1 rfl rfl)
theorem dJ8_compress_3 : decode cJ8_compress 3 = .ok (.astore_n 3, 1) := dk_78 (dk_at dksJ8_compress_0 3 rfl rfl)
theorem dJ8_compress_4 : decode cJ8_compress 4 = .ok (.aload_n 0, 1) := dk_42 (dk_at dksJ8_compress_0 4 rfl rfl)
theorem dJ8_compress_5 : decode cJ8_compress 5 = .ok (.iload_n 1, 1) := dk_27 (dk_at dksJ8_compress_0 5 rfl rfl)
theorem dJ8_compress_6 : decode cJ8_compress 6 = .ok (.aload_n 3, 1) := dk_45 (dk_at dksJ8_compress_0 6 rfl rfl)
theorem dJ8_compress_7 : decode cJ8_compress 7 = .ok (.iconst 0, 1) := dk_3 (dk_at dksJ8_compress_0 7 rfl rfl)
theorem dJ8_compress_8 : decode cJ8_compress 8 = .ok (.iload_n 2, 1) := dk_28 (dk_at dksJ8_compress_0 8 rfl rfl)
theorem dJ8_compress_9 : decode cJ8_compress 9 = .ok (.invokestatic 123, 3) := dk_184 0 123 (dk_at dksJ8_compress_0 9 rfl rfl)
theorem dJ8_compress_12 : decode cJ8_compress 12 = .ok (.istore 4, 2) := dk_54 4 (dk_at dksJ8_compress_0 12 rfl rfl)
theorem dJ8_compress_14 : decode cJ8_compress 14 = .ok (.iload 4, 2) := dk_21 4 (dk_at dksJ8_compress_0 14 rfl rfl)
theorem dJ8_compress_16 : decode cJ8_compress 16 = .ok (.iload_n 2, 1) := dk_28 (dk_at dksJ8_compress_0 16 rfl rfl)
theorem dJ8_compress_17 : decode cJ8_compress 17 = .ok (.if_icmp .eq 47, 3) := dk_159 0 47 (dk_at dksJ8_compress_0 17 rfl rfl)
theorem dJ8_compress_20 : decode cJ8_compress 20 = .ok (.aload_n 0, 1) := dk_42 (dk_at dksJ8_compress_0 20 rfl rfl)
theorem dJ8_compress_21 : decode cJ8_compress 21 = .ok (.iload_n 1, 1) := dk_27 (dk_at dksJ8_compress_0 21 rfl rfl)
theorem dJ8_compress_22 : decode cJ8_compress 22 = .ok (.iconst 1, 1) := dk_4 (dk_at dksJ8_compress_0 22 rfl rfl)
theorem dJ8_compress_23 : decode cJ8_compress 23 = .ok (.ishl, 1) := dk_120 (dk_at dksJ8_compress_0 23 rfl rfl)
theorem dJ8_compress_24 : decode cJ8_compress 24 = .ok (.iload_n 1, 1) := dk_27 (dk_at dksJ8_compress_1 0 rfl rfl)
theorem dJ8_compress_25 : decode cJ8_compress 25 = .ok (.iload_n 2, 1) := dk_28 (dk_at dksJ8_compress_1 1 rfl rfl)
theorem dJ8_compress_26 : decode cJ8_compress 26 = .ok (.iadd, 1) := dk_96 (dk_at dksJ8_compress_1 2 rfl rfl)
theorem dJ8_compress_27 : decode cJ8_compress 27 = .ok (.invokestatic 11, 3) := dk_184 0 11 (dk_at dksJ8_compress_1 3 rfl rfl)
theorem dJ8_compress_30 : decode cJ8_compress 30 = .ok (.invokestatic 126, 3) := dk_184 0 126 (dk_at dksJ8_compress_1 6 rfl rfl)
theorem dJ8_compress_33 : decode cJ8_compress 33 = .ok (.astore 5, 2) := dk_58 5 (dk_at dksJ8_compress_1 9 rfl rfl)
theorem dJ8_compress_35 : decode cJ8_compress 35 = .ok (.aload 5, 2) := dk_25 5 (dk_at dksJ8_compress_1 11 rfl rfl)
theorem dJ8_compress_37 : decode cJ8_compress 37 = .ok (.iload 4, 2) := dk_21 4 (dk_at dksJ8_compress_1 13 rfl rfl)
theorem dJ8_compress_39 : decode cJ8_compress 39 = .ok (.invokestatic 71, 3) := dk_184 0 71 (dk_at dksJ8_compress_1 15 rfl rfl)
theorem dJ8_compress_42 : decode cJ8_compress 42 = .ok (.sipush 255, 3) := dk_17 0 255 (dk_at dksJ8_compress_1 18 rfl rfl)
theorem dJ8_compress_45 : decode cJ8_compress 45 = .ok (.if_icmp .gt 16, 3) := dk_163 0 16 (dk_at dksJ8_compress_1 21 rfl rfl)
theorem dJ8_compress_48 : decode cJ8_compress 48 = .ok (.aload 5, 2) := dk_25 5 (dk_at dksJ8_compress_2 0 rfl rfl)
theorem dJ8_compress_50 : decode cJ8_compress 50 = .ok (.iconst 0, 1) := dk_3 (dk_at dksJ8_compress_2 2 rfl rfl)
theorem dJ8_compress_51 : decode cJ8_compress 51 = .ok (.aload_n 3, 1) := dk_45 (dk_at dksJ8_compress_2 3 rfl rfl)
theorem dJ8_compress_52 : decode cJ8_compress 52 = .ok (.iconst 0, 1) := dk_3 (dk_at dksJ8_compress_2 4 rfl rfl)
theorem dJ8_compress_53 : decode cJ8_compress 53 = .ok (.iload_n 2, 1) := dk_28 (dk_at dksJ8_compress_2 5 rfl rfl)
theorem dJ8_compress_54 : decode cJ8_compress 54 = .ok (.invokestatic 123, 3) := dk_184 0 123 (dk_at dksJ8_compress_2 6 rfl rfl)
theorem dJ8_compress_57 : decode cJ8_compress 57 = .ok (.iload_n 2, 1) := dk_28 (dk_at dksJ8_compress_2 9 rfl rfl)
theorem dJ8_compress_58 : decode cJ8_compress 58 = .ok (.if_icmp .eq 6, 3) := dk_159 0 6 (dk_at dksJ8_compress_2 10 rfl rfl)
theorem dJ8_compress_61 : decode cJ8_compress 61 = .ok (.aload 5, 2) := dk_25 5 (dk_at dksJ8_compress_2 13 rfl rfl)
theorem dJ8_compress_63 : decode cJ8_compress 63 = .ok (.areturn, 1) := dk_176 (dk_at dksJ8_compress_2 15 rfl rfl)
theorem dJ8_compress_64 : decode cJ8_compress 64 = .ok (.aload_n 3, 1) := dk_45 (dk_at dksJ8_compress_2 16 rfl rfl)
theorem dJ8_compress_65 : decode cJ8_compress 65 = .ok (.areturn, 1) := dk_176 (dk_at dksJ8_compress_2 17 rfl rfl)
abbrev cJ8_compress_2 : ByteArray := prog_41_method_22_code
def yJ8_compress_2 : MethodName := ⟨RJ8, "compress", "([BI[BII)I"⟩
def dkwJ8_compress_2_2 : List UInt8 := [132, 5, 1, 167, 255, 216, 21, 4, 172]
abbrev dktJ8_compress_2_2 : List UInt8 := dkwJ8_compress_2_2 ++ []
def dkwJ8_compress_2_1 : List UInt8 := [21, 6, 17, 0, 255, 164, 0, 6, 21, 5, 172, 44, 29, 21, 6, 145, 84, 132, 1, 1, 132, 3, 1]
abbrev dktJ8_compress_2_1 : List UInt8 := dkwJ8_compress_2_1 ++ dktJ8_compress_2_2
def dkwJ8_compress_2_0 : List UInt8 := [27, 21, 4, 42, 184, 0, 173, 3, 54, 5, 21, 5, 21, 4, 162, 0, 39, 42, 27, 184, 0, 71, 54, 6]
abbrev dktJ8_compress_2_0 : List UInt8 := dkwJ8_compress_2_0 ++ dktJ8_compress_2_1
theorem dksJ8_compress_2_0 : cJ8_compress_2.data.toList.drop 0 = dktJ8_compress_2_0 := by decide +kernel
theorem dksJ8_compress_2_1 : cJ8_compress_2.data.toList.drop 24 = dktJ8_compress_2_1 := dk_seg dksJ8_compress_2_0 24 rfl rfl
theorem dksJ8_compress_2_2 : cJ8_compress_2.data.toList.drop 47 = dktJ8_compress_2_2 := dk_seg dksJ8_compress_2_1 23 rfl rfl
theorem dJ8_compress_2_0 : decode cJ8_compress_2 0 = .ok (.iload_n 1, 1) := dk_27 (dk_at dksJ8_compress_2_0 0 rfl rfl)
theorem dJ8_compress_2_1 : decode cJ8_compress_2 1 = .ok (.iload 4, 2) := dk_21 4 (dk_at dksJ8_compress_2_0 1 rfl rfl)
theorem dJ8_compress_2_3 : decode cJ8_compress_2 3 = .ok (.aload_n 0, 1) := dk_42 (dk_at dksJ8_compress_2_0 3 rfl rfl)
theorem dJ8_compress_2_4 : decode cJ8_compress_2 4 = .ok (.invokestatic 173, 3) := dk_184 0 173 (dk_at dksJ8_compress_2_0 4 rfl rfl)
theorem dJ8_compress_2_7 : decode cJ8_compress_2 7 = .ok (.iconst 0, 1) := dk_3 (dk_at dksJ8_compress_2_0 7 rfl rfl)
theorem dJ8_compress_2_8 : decode cJ8_compress_2 8 = .ok (.istore 5, 2) := dk_54 5 (dk_at dksJ8_compress_2_0 8 rfl rfl)
theorem dJ8_compress_2_10 : decode cJ8_compress_2 10 = .ok (.iload 5, 2) := dk_21 5 (dk_at dksJ8_compress_2_0 10 rfl rfl)
theorem dJ8_compress_2_12 : decode cJ8_compress_2 12 = .ok (.iload 4, 2) := dk_21 4 (dk_at dksJ8_compress_2_0 12 rfl rfl)
theorem dJ8_compress_2_14 : decode cJ8_compress_2 14 = .ok (.if_icmp .ge 39, 3) := dk_162 0 39 (dk_at dksJ8_compress_2_0 14 rfl rfl)
theorem dJ8_compress_2_17 : decode cJ8_compress_2 17 = .ok (.aload_n 0, 1) := dk_42 (dk_at dksJ8_compress_2_0 17 rfl rfl)
theorem dJ8_compress_2_18 : decode cJ8_compress_2 18 = .ok (.iload_n 1, 1) := dk_27 (dk_at dksJ8_compress_2_0 18 rfl rfl)
theorem dJ8_compress_2_19 : decode cJ8_compress_2 19 = .ok (.invokestatic 71, 3) := dk_184 0 71 (dk_at dksJ8_compress_2_0 19 rfl rfl)
theorem dJ8_compress_2_22 : decode cJ8_compress_2 22 = .ok (.istore 6, 2) := dk_54 6 (dk_at dksJ8_compress_2_0 22 rfl rfl)
theorem dJ8_compress_2_24 : decode cJ8_compress_2 24 = .ok (.iload 6, 2) := dk_21 6 (dk_at dksJ8_compress_2_1 0 rfl rfl)
theorem dJ8_compress_2_26 : decode cJ8_compress_2 26 = .ok (.sipush 255, 3) := dk_17 0 255 (dk_at dksJ8_compress_2_1 2 rfl rfl)
theorem dJ8_compress_2_29 : decode cJ8_compress_2 29 = .ok (.if_icmp .le 6, 3) := dk_164 0 6 (dk_at dksJ8_compress_2_1 5 rfl rfl)
theorem dJ8_compress_2_32 : decode cJ8_compress_2 32 = .ok (.iload 5, 2) := dk_21 5 (dk_at dksJ8_compress_2_1 8 rfl rfl)
theorem dJ8_compress_2_34 : decode cJ8_compress_2 34 = .ok (.ireturn, 1) := dk_172 (dk_at dksJ8_compress_2_1 10 rfl rfl)
theorem dJ8_compress_2_35 : decode cJ8_compress_2 35 = .ok (.aload_n 2, 1) := dk_44 (dk_at dksJ8_compress_2_1 11 rfl rfl)
theorem dJ8_compress_2_36 : decode cJ8_compress_2 36 = .ok (.iload_n 3, 1) := dk_29 (dk_at dksJ8_compress_2_1 12 rfl rfl)
theorem dJ8_compress_2_37 : decode cJ8_compress_2 37 = .ok (.iload 6, 2) := dk_21 6 (dk_at dksJ8_compress_2_1 13 rfl rfl)
theorem dJ8_compress_2_39 : decode cJ8_compress_2 39 = .ok (.i2b, 1) := dk_145 (dk_at dksJ8_compress_2_1 15 rfl rfl)
theorem dJ8_compress_2_40 : decode cJ8_compress_2 40 = .ok (.bastore, 1) := dk_84 (dk_at dksJ8_compress_2_1 16 rfl rfl)
theorem dJ8_compress_2_41 : decode cJ8_compress_2 41 = .ok (.iinc 1 1, 3) := dk_132 1 1 (dk_at dksJ8_compress_2_1 17 rfl rfl)
theorem dJ8_compress_2_44 : decode cJ8_compress_2 44 = .ok (.iinc 3 1, 3) := dk_132 3 1 (dk_at dksJ8_compress_2_1 20 rfl rfl)
theorem dJ8_compress_2_47 : decode cJ8_compress_2 47 = .ok (.iinc 5 1, 3) := dk_132 5 1 (dk_at dksJ8_compress_2_2 0 rfl rfl)
theorem dJ8_compress_2_50 : decode cJ8_compress_2 50 = .ok (.goto (-40), 3) := dk_167 255 216 (dk_at dksJ8_compress_2_2 3 rfl rfl)
theorem dJ8_compress_2_53 : decode cJ8_compress_2 53 = .ok (.iload 4, 2) := dk_21 4 (dk_at dksJ8_compress_2_2 6 rfl rfl)
theorem dJ8_compress_2_55 : decode cJ8_compress_2 55 = .ok (.ireturn, 1) := dk_172 (dk_at dksJ8_compress_2_2 8 rfl rfl)
abbrev cJ8_getChar : ByteArray := prog_41_method_5_code
def yJ8_getChar : MethodName := ⟨RJ8, "getChar", "([BI)C"⟩
def dkwJ8_getChar_2 : List UInt8 := [51, 17, 0, 255, 126, 178, 0, 63, 120, 128, 146, 172]
abbrev dktJ8_getChar_2 : List UInt8 := dkwJ8_getChar_2 ++ []
def dkwJ8_getChar_1 : List UInt8 := [183, 0, 56, 191, 27, 4, 120, 60, 42, 27, 132, 1, 1, 51, 17, 0, 255, 126, 178, 0, 59, 120, 42, 27]
abbrev dktJ8_getChar_1 : List UInt8 := dkwJ8_getChar_1 ++ dktJ8_getChar_2
def dkwJ8_getChar_0 : List UInt8 := [178, 0, 44, 154, 0, 25, 27, 155, 0, 11, 27, 42, 184, 0, 48, 161, 0, 13, 187, 0, 52, 89, 18, 54]
abbrev dktJ8_getChar_0 : List UInt8 := dkwJ8_getChar_0 ++ dktJ8_getChar_1
theorem dksJ8_getChar_0 : cJ8_getChar.data.toList.drop 0 = dktJ8_getChar_0 := by decide +kernel
theorem dksJ8_getChar_1 : cJ8_getChar.data.toList.drop 24 = dktJ8_getChar_1 := dk_seg dksJ8_getChar_0 24 rfl rfl
theorem dksJ8_getChar_2 : cJ8_getChar.data.toList.drop 48 = dktJ8_getChar_2 := dk_seg dksJ8_getChar_1 24 rfl rfl
theorem dJ8_getChar_0 : decode cJ8_getChar 0 = .ok (.getstatic 44, 3) := dk_178 0 44 (dk_at dksJ8_getChar_0 0 rfl rfl)
theorem dJ8_getChar_3 : decode cJ8_getChar 3 = .ok (.ifCond .ne 25, 3) := dk_154 0 25 (dk_at dksJ8_getChar_0 3 rfl rfl)
theorem dJ8_getChar_6 : decode cJ8_getChar 6 = .ok (.iload_n 1, 1) := dk_27 (dk_at dksJ8_getChar_0 6 rfl rfl)
theorem dJ8_getChar_7 : decode cJ8_getChar 7 = .ok (.ifCond .lt 11, 3) := dk_155 0 11 (dk_at dksJ8_getChar_0 7 rfl rfl)
theorem dJ8_getChar_10 : decode cJ8_getChar 10 = .ok (.iload_n 1, 1) := dk_27 (dk_at dksJ8_getChar_0 10 rfl rfl)
theorem dJ8_getChar_11 : decode cJ8_getChar 11 = .ok (.aload_n 0, 1) := dk_42 (dk_at dksJ8_getChar_0 11 rfl rfl)
theorem dJ8_getChar_12 : decode cJ8_getChar 12 = .ok (.invokestatic 48, 3) := dk_184 0 48 (dk_at dksJ8_getChar_0 12 rfl rfl)
theorem dJ8_getChar_15 : decode cJ8_getChar 15 = .ok (.if_icmp .lt 13, 3) := dk_161 0 13 (dk_at dksJ8_getChar_0 15 rfl rfl)
theorem dJ8_getChar_18 : decode cJ8_getChar 18 = .ok (.new 52, 3) := dk_187 0 52 (dk_at dksJ8_getChar_0 18 rfl rfl)
theorem dJ8_getChar_21 : decode cJ8_getChar 21 = .ok (.dup, 1) := dk_89 (dk_at dksJ8_getChar_0 21 rfl rfl)
theorem dJ8_getChar_22 : decode cJ8_getChar 22 = .ok (.ldc 54, 2) := dk_18 54 (dk_at dksJ8_getChar_0 22 rfl rfl)
theorem dJ8_getChar_24 : decode cJ8_getChar 24 = .ok (.invokespecial 56, 3) := dk_183 0 56 (dk_at dksJ8_getChar_1 0 rfl rfl)
theorem dJ8_getChar_27 : decode cJ8_getChar 27 = .ok (.athrow, 1) := dk_191 (dk_at dksJ8_getChar_1 3 rfl rfl)
theorem dJ8_getChar_28 : decode cJ8_getChar 28 = .ok (.iload_n 1, 1) := dk_27 (dk_at dksJ8_getChar_1 4 rfl rfl)
theorem dJ8_getChar_29 : decode cJ8_getChar 29 = .ok (.iconst 1, 1) := dk_4 (dk_at dksJ8_getChar_1 5 rfl rfl)
theorem dJ8_getChar_30 : decode cJ8_getChar 30 = .ok (.ishl, 1) := dk_120 (dk_at dksJ8_getChar_1 6 rfl rfl)
theorem dJ8_getChar_31 : decode cJ8_getChar 31 = .ok (.istore_n 1, 1) := dk_60 (dk_at dksJ8_getChar_1 7 rfl rfl)
theorem dJ8_getChar_32 : decode cJ8_getChar 32 = .ok (.aload_n 0, 1) := dk_42 (dk_at dksJ8_getChar_1 8 rfl rfl)
theorem dJ8_getChar_33 : decode cJ8_getChar 33 = .ok (.iload_n 1, 1) := dk_27 (dk_at dksJ8_getChar_1 9 rfl rfl)
theorem dJ8_getChar_34 : decode cJ8_getChar 34 = .ok (.iinc 1 1, 3) := dk_132 1 1 (dk_at dksJ8_getChar_1 10 rfl rfl)
theorem dJ8_getChar_37 : decode cJ8_getChar 37 = .ok (.baload, 1) := dk_51 (dk_at dksJ8_getChar_1 13 rfl rfl)
theorem dJ8_getChar_38 : decode cJ8_getChar 38 = .ok (.sipush 255, 3) := dk_17 0 255 (dk_at dksJ8_getChar_1 14 rfl rfl)
theorem dJ8_getChar_41 : decode cJ8_getChar 41 = .ok (.iand, 1) := dk_126 (dk_at dksJ8_getChar_1 17 rfl rfl)
theorem dJ8_getChar_42 : decode cJ8_getChar 42 = .ok (.getstatic 59, 3) := dk_178 0 59 (dk_at dksJ8_getChar_1 18 rfl rfl)
theorem dJ8_getChar_45 : decode cJ8_getChar 45 = .ok (.ishl, 1) := dk_120 (dk_at dksJ8_getChar_1 21 rfl rfl)
theorem dJ8_getChar_46 : decode cJ8_getChar 46 = .ok (.aload_n 0, 1) := dk_42 (dk_at dksJ8_getChar_1 22 rfl rfl)
theorem dJ8_getChar_47 : decode cJ8_getChar 47 = .ok (.iload_n 1, 1) := dk_27 (dk_at dksJ8_getChar_1 23 rfl rfl)
theorem dJ8_getChar_48 : decode cJ8_getChar 48 = .ok (.baload, 1) := dk_51 (dk_at dksJ8_getChar_2 0 rfl rfl)
theorem dJ8_getChar_49 : decode cJ8_getChar 49 = .ok (.sipush 255, 3) := dk_17 0 255 (dk_at dksJ8_getChar_2 1 rfl rfl)
theorem dJ8_getChar_52 : decode cJ8_getChar 52 = .ok (.iand, 1) := dk_126 (dk_at dksJ8_getChar_2 4 rfl rfl)
theorem dJ8_getChar_53 : decode cJ8_getChar 53 = .ok (.getstatic 63, 3) := dk_178 0 63 (dk_at dksJ8_getChar_2 5 rfl rfl)
theorem dJ8_getChar_56 : decode cJ8_getChar 56 = .ok (.ishl, 1) := dk_120 (dk_at dksJ8_getChar_2 8 rfl rfl)
theorem dJ8_getChar_57 : decode cJ8_getChar 57 = .ok (.ior, 1) := dk_128 (dk_at dksJ8_getChar_2 9 rfl rfl)
theorem dJ8_getChar_58 : decode cJ8_getChar 58 = .ok (.i2c, 1) := dk_146 (dk_at dksJ8_getChar_2 10 rfl rfl)
theorem dJ8_getChar_59 : decode cJ8_getChar 59 = .ok (.ireturn, 1) := dk_172 (dk_at dksJ8_getChar_2 11 rfl rfl)
abbrev cJ8_coderFromArrayLen : ByteArray := prog_41_method_15_code
def yJ8_coderFromArrayLen : MethodName := ⟨RJ8, "coderFromArrayLen", "([BI)B"⟩
def dkwJ8_coderFromArrayLen_0 : List UInt8 := [27, 42, 190, 100, 16, 31, 124, 145, 172]
abbrev dktJ8_coderFromArrayLen_0 : List UInt8 := dkwJ8_coderFromArrayLen_0 ++ []
theorem dksJ8_coderFromArrayLen_0 : cJ8_coderFromArrayLen.data.toList.drop 0 = dktJ8_coderFromArrayLen_0 := by decide +kernel
theorem dJ8_coderFromArrayLen_0 : decode cJ8_coderFromArrayLen 0 = .ok (.iload_n 1, 1) := dk_27 (dk_at dksJ8_coderFromArrayLen_0 0 rfl rfl)
theorem dJ8_coderFromArrayLen_1 : decode cJ8_coderFromArrayLen 1 = .ok (.aload_n 0, 1) := dk_42 (dk_at dksJ8_coderFromArrayLen_0 1 rfl rfl)
theorem dJ8_coderFromArrayLen_2 : decode cJ8_coderFromArrayLen 2 = .ok (.arraylength, 1) := dk_190 (dk_at dksJ8_coderFromArrayLen_0 2 rfl rfl)
theorem dJ8_coderFromArrayLen_3 : decode cJ8_coderFromArrayLen 3 = .ok (.isub, 1) := dk_100 (dk_at dksJ8_coderFromArrayLen_0 3 rfl rfl)
theorem dJ8_coderFromArrayLen_4 : decode cJ8_coderFromArrayLen 4 = .ok (.bipush 31, 2) := dk_16 31 (dk_at dksJ8_coderFromArrayLen_0 4 rfl rfl)
theorem dJ8_coderFromArrayLen_6 : decode cJ8_coderFromArrayLen 6 = .ok (.iushr, 1) := dk_124 (dk_at dksJ8_coderFromArrayLen_0 6 rfl rfl)
theorem dJ8_coderFromArrayLen_7 : decode cJ8_coderFromArrayLen 7 = .ok (.i2b, 1) := dk_145 (dk_at dksJ8_coderFromArrayLen_0 7 rfl rfl)
theorem dJ8_coderFromArrayLen_8 : decode cJ8_coderFromArrayLen 8 = .ok (.ireturn, 1) := dk_172 (dk_at dksJ8_coderFromArrayLen_0 8 rfl rfl)
abbrev cJ8_fillNull : ByteArray := prog_41_method_70_code
def yJ8_fillNull : MethodName := ⟨RJ8, "fillNull", "([BII)V"⟩
def dkwJ8_fillNull_0 : List UInt8 := [42, 27, 4, 120, 28, 4, 120, 3, 184, 1, 124, 177]
abbrev dktJ8_fillNull_0 : List UInt8 := dkwJ8_fillNull_0 ++ []
theorem dksJ8_fillNull_0 : cJ8_fillNull.data.toList.drop 0 = dktJ8_fillNull_0 := by decide +kernel
theorem dJ8_fillNull_0 : decode cJ8_fillNull 0 = .ok (.aload_n 0, 1) := dk_42 (dk_at dksJ8_fillNull_0 0 rfl rfl)
theorem dJ8_fillNull_1 : decode cJ8_fillNull 1 = .ok (.iload_n 1, 1) := dk_27 (dk_at dksJ8_fillNull_0 1 rfl rfl)
theorem dJ8_fillNull_2 : decode cJ8_fillNull 2 = .ok (.iconst 1, 1) := dk_4 (dk_at dksJ8_fillNull_0 2 rfl rfl)
theorem dJ8_fillNull_3 : decode cJ8_fillNull 3 = .ok (.ishl, 1) := dk_120 (dk_at dksJ8_fillNull_0 3 rfl rfl)
theorem dJ8_fillNull_4 : decode cJ8_fillNull 4 = .ok (.iload_n 2, 1) := dk_28 (dk_at dksJ8_fillNull_0 4 rfl rfl)
theorem dJ8_fillNull_5 : decode cJ8_fillNull 5 = .ok (.iconst 1, 1) := dk_4 (dk_at dksJ8_fillNull_0 5 rfl rfl)
theorem dJ8_fillNull_6 : decode cJ8_fillNull 6 = .ok (.ishl, 1) := dk_120 (dk_at dksJ8_fillNull_0 6 rfl rfl)
theorem dJ8_fillNull_7 : decode cJ8_fillNull 7 = .ok (.iconst 0, 1) := dk_3 (dk_at dksJ8_fillNull_0 7 rfl rfl)
theorem dJ8_fillNull_8 : decode cJ8_fillNull 8 = .ok (.invokestatic 380, 3) := dk_184 1 124 (dk_at dksJ8_fillNull_0 8 rfl rfl)
theorem dJ8_fillNull_11 : decode cJ8_fillNull 11 = .ok (.return_, 1) := dk_177 (dk_at dksJ8_fillNull_0 11 rfl rfl)
abbrev cJ8_putCharSB : ByteArray := prog_41_method_71_code
def yJ8_putCharSB : MethodName := ⟨RJ8, "putCharSB", "([BII)V"⟩
def dkwJ8_putCharSB_0 : List UInt8 := [27, 42, 184, 0, 67, 42, 27, 28, 184, 0, 111, 177]
abbrev dktJ8_putCharSB_0 : List UInt8 := dkwJ8_putCharSB_0 ++ []
theorem dksJ8_putCharSB_0 : cJ8_putCharSB.data.toList.drop 0 = dktJ8_putCharSB_0 := by decide +kernel
theorem dJ8_putCharSB_0 : decode cJ8_putCharSB 0 = .ok (.iload_n 1, 1) := dk_27 (dk_at dksJ8_putCharSB_0 0 rfl rfl)
theorem dJ8_putCharSB_1 : decode cJ8_putCharSB 1 = .ok (.aload_n 0, 1) := dk_42 (dk_at dksJ8_putCharSB_0 1 rfl rfl)
theorem dJ8_putCharSB_2 : decode cJ8_putCharSB 2 = .ok (.invokestatic 67, 3) := dk_184 0 67 (dk_at dksJ8_putCharSB_0 2 rfl rfl)
theorem dJ8_putCharSB_5 : decode cJ8_putCharSB 5 = .ok (.aload_n 0, 1) := dk_42 (dk_at dksJ8_putCharSB_0 5 rfl rfl)
theorem dJ8_putCharSB_6 : decode cJ8_putCharSB 6 = .ok (.iload_n 1, 1) := dk_27 (dk_at dksJ8_putCharSB_0 6 rfl rfl)
theorem dJ8_putCharSB_7 : decode cJ8_putCharSB 7 = .ok (.iload_n 2, 1) := dk_28 (dk_at dksJ8_putCharSB_0 7 rfl rfl)
theorem dJ8_putCharSB_8 : decode cJ8_putCharSB 8 = .ok (.invokestatic 111, 3) := dk_184 0 111 (dk_at dksJ8_putCharSB_0 8 rfl rfl)
theorem dJ8_putCharSB_11 : decode cJ8_putCharSB 11 = .ok (.return_, 1) := dk_177 (dk_at dksJ8_putCharSB_0 11 rfl rfl)
abbrev cJ8_checkIndex : ByteArray := prog_41_method_91_code
def yJ8_checkIndex : MethodName := ⟨RJ8, "checkIndex", "(I[B)V"⟩
def dkwJ8_checkIndex_0 : List UInt8 := [26, 43, 184, 0, 48, 184, 1, 158, 177]
abbrev dktJ8_checkIndex_0 : List UInt8 := dkwJ8_checkIndex_0 ++ []
theorem dksJ8_checkIndex_0 : cJ8_checkIndex.data.toList.drop 0 = dktJ8_checkIndex_0 := by decide +kernel
theorem dJ8_checkIndex_0 : decode cJ8_checkIndex 0 = .ok (.iload_n 0, 1) := dk_26 (dk_at dksJ8_checkIndex_0 0 rfl rfl)
theorem dJ8_checkIndex_1 : decode cJ8_checkIndex 1 = .ok (.aload_n 1, 1) := dk_43 (dk_at dksJ8_checkIndex_0 1 rfl rfl)
theorem dJ8_checkIndex_2 : decode cJ8_checkIndex 2 = .ok (.invokestatic 48, 3) := dk_184 0 48 (dk_at dksJ8_checkIndex_0 2 rfl rfl)
theorem dJ8_checkIndex_5 : decode cJ8_checkIndex 5 = .ok (.invokestatic 414, 3) := dk_184 1 158 (dk_at dksJ8_checkIndex_0 5 rfl rfl)
theorem dJ8_checkIndex_8 : decode cJ8_checkIndex 8 = .ok (.return_, 1) := dk_177 (dk_at dksJ8_checkIndex_0 8 rfl rfl)
abbrev cJ8_charAt : ByteArray := prog_41_method_83_code
def yJ8_charAt : MethodName := ⟨RJ8, "charAt", "([BI)C"⟩
def dkwJ8_charAt_0 : List UInt8 := [27, 42, 184, 0, 67, 42, 27, 184, 0, 71, 172]
abbrev dktJ8_charAt_0 : List UInt8 := dkwJ8_charAt_0 ++ []
theorem dksJ8_charAt_0 : cJ8_charAt.data.toList.drop 0 = dktJ8_charAt_0 := by decide +kernel
theorem dJ8_charAt_0 : decode cJ8_charAt 0 = .ok (.iload_n 1, 1) := dk_27 (dk_at dksJ8_charAt_0 0 rfl rfl)
theorem dJ8_charAt_1 : decode cJ8_charAt 1 = .ok (.aload_n 0, 1) := dk_42 (dk_at dksJ8_charAt_0 1 rfl rfl)
theorem dJ8_charAt_2 : decode cJ8_charAt 2 = .ok (.invokestatic 67, 3) := dk_184 0 67 (dk_at dksJ8_charAt_0 2 rfl rfl)
theorem dJ8_charAt_5 : decode cJ8_charAt 5 = .ok (.aload_n 0, 1) := dk_42 (dk_at dksJ8_charAt_0 5 rfl rfl)
theorem dJ8_charAt_6 : decode cJ8_charAt 6 = .ok (.iload_n 1, 1) := dk_27 (dk_at dksJ8_charAt_0 6 rfl rfl)
theorem dJ8_charAt_7 : decode cJ8_charAt 7 = .ok (.invokestatic 71, 3) := dk_184 0 71 (dk_at dksJ8_charAt_0 7 rfl rfl)
theorem dJ8_charAt_10 : decode cJ8_charAt 10 = .ok (.ireturn, 1) := dk_172 (dk_at dksJ8_charAt_0 10 rfl rfl)
abbrev cJ8_compareTo : ByteArray := prog_41_method_29_code
def yJ8_compareTo : MethodName := ⟨RJ8, "compareTo", "([B[B)I"⟩
def dkwJ8_compareTo_0 : List UInt8 := [42, 184, 0, 48, 61, 43, 184, 0, 48, 62, 42, 43, 28, 29, 184, 0, 176, 172]
abbrev dktJ8_compareTo_0 : List UInt8 := dkwJ8_compareTo_0 ++ []
theorem dksJ8_compareTo_0 : cJ8_compareTo.data.toList.drop 0 = dktJ8_compareTo_0 := by decide +kernel
theorem dJ8_compareTo_0 : decode cJ8_compareTo 0 = .ok (.aload_n 0, 1) := dk_42 (dk_at dksJ8_compareTo_0 0 rfl rfl)
theorem dJ8_compareTo_1 : decode cJ8_compareTo 1 = .ok (.invokestatic 48, 3) := dk_184 0 48 (dk_at dksJ8_compareTo_0 1 rfl rfl)
theorem dJ8_compareTo_4 : decode cJ8_compareTo 4 = .ok (.istore_n 2, 1) := dk_61 (dk_at dksJ8_compareTo_0 4 rfl rfl)
theorem dJ8_compareTo_5 : decode cJ8_compareTo 5 = .ok (.aload_n 1, 1) := dk_43 (dk_at dksJ8_compareTo_0 5 rfl rfl)
theorem dJ8_compareTo_6 : decode cJ8_compareTo 6 = .ok (.invokestatic 48, 3) := dk_184 0 48 (dk_at dksJ8_compareTo_0 6 rfl rfl)
theorem dJ8_compareTo_9 : decode cJ8_compareTo 9 = .ok (.istore_n 3, 1) := dk_62 (dk_at dksJ8_compareTo_0 9 rfl rfl)
theorem dJ8_compareTo_10 : decode cJ8_compareTo 10 = .ok (.aload_n 0, 1) := dk_42 (dk_at dksJ8_compareTo_0 10 rfl rfl)
theorem dJ8_compareTo_11 : decode cJ8_compareTo 11 = .ok (.aload_n 1, 1) := dk_43 (dk_at dksJ8_compareTo_0 11 rfl rfl)
theorem dJ8_compareTo_12 : decode cJ8_compareTo 12 = .ok (.iload_n 2, 1) := dk_28 (dk_at dksJ8_compareTo_0 12 rfl rfl)
theorem dJ8_compareTo_13 : decode cJ8_compareTo 13 = .ok (.iload_n 3, 1) := dk_29 (dk_at dksJ8_compareTo_0 13 rfl rfl)
theorem dJ8_compareTo_14 : decode cJ8_compareTo 14 = .ok (.invokestatic 176, 3) := dk_184 0 176 (dk_at dksJ8_compareTo_0 14 rfl rfl)
theorem dJ8_compareTo_17 : decode cJ8_compareTo 17 = .ok (.ireturn, 1) := dk_172 (dk_at dksJ8_compareTo_0 17 rfl rfl)
abbrev cJ8_compareValues : ByteArray := prog_41_method_31_code
def yJ8_compareValues : MethodName := ⟨RJ8, "compareValues", "([B[BII)I"⟩
def dkwJ8_compareValues_2 : List UInt8 := [132, 5, 1, 167, 255, 217, 28, 29, 100, 172]
abbrev dktJ8_compareValues_2 : List UInt8 := dkwJ8_compareValues_2 ++ []
def dkwJ8_compareValues_1 : List UInt8 := [54, 6, 43, 21, 5, 184, 0, 71, 54, 7, 21, 6, 21, 7, 159, 0, 9, 21, 6, 21, 7, 100, 172]
abbrev dktJ8_compareValues_1 : List UInt8 := dkwJ8_compareValues_1 ++ dktJ8_compareValues_2
def dkwJ8_compareValues_0 : List UInt8 := [28, 29, 184, 0, 183, 54, 4, 3, 54, 5, 21, 5, 21, 4, 162, 0, 38, 42, 21, 5, 184, 0, 71]
abbrev dktJ8_compareValues_0 : List UInt8 := dkwJ8_compareValues_0 ++ dktJ8_compareValues_1
theorem dksJ8_compareValues_0 : cJ8_compareValues.data.toList.drop 0 = dktJ8_compareValues_0 := by decide +kernel
theorem dksJ8_compareValues_1 : cJ8_compareValues.data.toList.drop 23 = dktJ8_compareValues_1 := dk_seg dksJ8_compareValues_0 23 rfl rfl
theorem dksJ8_compareValues_2 : cJ8_compareValues.data.toList.drop 46 = dktJ8_compareValues_2 := dk_seg dksJ8_compareValues_1 23 rfl rfl
theorem dJ8_compareValues_0 : decode cJ8_compareValues 0 = .ok (.iload_n 2, 1) := dk_28 (dk_at dksJ8_compareValues_0 0 rfl rfl)
theorem dJ8_compareValues_1 : decode cJ8_compareValues 1 = .ok (.iload_n 3, 1) := dk_29 (dk_at dksJ8_compareValues_0 1 rfl rfl)
theorem dJ8_compareValues_2 : decode cJ8_compareValues 2 = .ok (.invokestatic 183, 3) := dk_184 0 183 (dk_at dksJ8_compareValues_0 2 rfl rfl)
theorem dJ8_compareValues_5 : decode cJ8_compareValues 5 = .ok (.istore 4, 2) := dk_54 4 (dk_at dksJ8_compareValues_0 5 rfl rfl)
theorem dJ8_compareValues_7 : decode cJ8_compareValues 7 = .ok (.iconst 0, 1) := dk_3 (dk_at dksJ8_compareValues_0 7 rfl rfl)
theorem dJ8_compareValues_8 : decode cJ8_compareValues 8 = .ok (.istore 5, 2) := dk_54 5 (dk_at dksJ8_compareValues_0 8 rfl rfl)
theorem dJ8_compareValues_10 : decode cJ8_compareValues 10 = .ok (.iload 5, 2) := dk_21 5 (dk_at dksJ8_compareValues_0 10 rfl rfl)
theorem dJ8_compareValues_12 : decode cJ8_compareValues 12 = .ok (.iload 4, 2) := dk_21 4 (dk_at dksJ8_compareValues_0 12 rfl rfl)
theorem dJ8_compareValues_14 : decode cJ8_compareValues 14 = .ok (.if_icmp .ge 38, 3) := dk_162 0 38 (dk_at dksJ8_compareValues_0 14 rfl rfl)
theorem dJ8_compareValues_17 : decode cJ8_compareValues 17 = .ok (.aload_n 0, 1) := dk_42 (dk_at dksJ8_compareValues_0 17 rfl rfl)
theorem dJ8_compareValues_18 : decode cJ8_compareValues 18 = .ok (.iload 5, 2) := dk_21 5 (dk_at dksJ8_compareValues_0 18 rfl rfl)
theorem dJ8_compareValues_20 : decode cJ8_compareValues 20 = .ok (.invokestatic 71, 3) := dk_184 0 71 (dk_at dksJ8_compareValues_0 20 rfl rfl)
theorem dJ8_compareValues_23 : decode cJ8_compareValues 23 = .ok (.istore 6, 2) := dk_54 6 (dk_at dksJ8_compareValues_1 0 rfl rfl)
theorem dJ8_compareValues_25 : decode cJ8_compareValues 25 = .ok (.aload_n 1, 1) := dk_43 (dk_at dksJ8_compareValues_1 2 rfl rfl)
theorem dJ8_compareValues_26 : decode cJ8_compareValues 26 = .ok (.iload 5, 2) := dk_21 5 (dk_at dksJ8_compareValues_1 3 rfl rfl)
theorem dJ8_compareValues_28 : decode cJ8_compareValues 28 = .ok (.invokestatic 71, 3) := dk_184 0 71 (dk_at dksJ8_compareValues_1 5 rfl rfl)
theorem dJ8_compareValues_31 : decode cJ8_compareValues 31 = .ok (.istore 7, 2) := dk_54 7 (dk_at dksJ8_compareValues_1 8 rfl rfl)
theorem dJ8_compareValues_33 : decode cJ8_compareValues 33 = .ok (.iload 6, 2) := dk_21 6 (dk_at dksJ8_compareValues_1 10 rfl rfl)
theorem dJ8_compareValues_35 : decode cJ8_compareValues 35 = .ok (.iload 7, 2) := dk_21 7 (dk_at dksJ8_compareValues_1 12 rfl rfl)
theorem dJ8_compareValues_37 : decode cJ8_compareValues 37 = .ok (.if_icmp .eq 9, 3) := dk_159 0 9 (dk_at dksJ8_compareValues_1 14 rfl rfl)
theorem dJ8_compareValues_40 : decode cJ8_compareValues 40 = .ok (.iload 6, 2) := dk_21 6 (dk_at dksJ8_compareValues_1 17 rfl rfl)
theorem dJ8_compareValues_42 : decode cJ8_compareValues 42 = .ok (.iload 7, 2) := dk_21 7 (dk_at dksJ8_compareValues_1 19 rfl rfl)
theorem dJ8_compareValues_44 : decode cJ8_compareValues 44 = .ok (.isub, 1) := dk_100 (dk_at dksJ8_compareValues_1 21 rfl rfl)
theorem dJ8_compareValues_45 : decode cJ8_compareValues 45 = .ok (.ireturn, 1) := dk_172 (dk_at dksJ8_compareValues_1 22 rfl rfl)
theorem dJ8_compareValues_46 : decode cJ8_compareValues 46 = .ok (.iinc 5 1, 3) := dk_132 5 1 (dk_at dksJ8_compareValues_2 0 rfl rfl)
theorem dJ8_compareValues_49 : decode cJ8_compareValues 49 = .ok (.goto (-39), 3) := dk_167 255 217 (dk_at dksJ8_compareValues_2 3 rfl rfl)
theorem dJ8_compareValues_52 : decode cJ8_compareValues 52 = .ok (.iload_n 2, 1) := dk_28 (dk_at dksJ8_compareValues_2 6 rfl rfl)
theorem dJ8_compareValues_53 : decode cJ8_compareValues 53 = .ok (.iload_n 3, 1) := dk_29 (dk_at dksJ8_compareValues_2 7 rfl rfl)
theorem dJ8_compareValues_54 : decode cJ8_compareValues 54 = .ok (.isub, 1) := dk_100 (dk_at dksJ8_compareValues_2 8 rfl rfl)
theorem dJ8_compareValues_55 : decode cJ8_compareValues 55 = .ok (.ireturn, 1) := dk_172 (dk_at dksJ8_compareValues_2 9 rfl rfl)
abbrev cJ8_compareToLatin1 : ByteArray := prog_41_method_32_code
def yJ8_compareToLatin1 : MethodName := ⟨RJ8, "compareToLatin1", "([B[B)I"⟩
def dkwJ8_compareToLatin1_0 : List UInt8 := [43, 42, 184, 0, 189, 116, 172]
abbrev dktJ8_compareToLatin1_0 : List UInt8 := dkwJ8_compareToLatin1_0 ++ []
theorem dksJ8_compareToLatin1_0 : cJ8_compareToLatin1.data.toList.drop 0 = dktJ8_compareToLatin1_0 := by decide +kernel
theorem dJ8_compareToLatin1_0 : decode cJ8_compareToLatin1 0 = .ok (.aload_n 1, 1) := dk_43 (dk_at dksJ8_compareToLatin1_0 0 rfl rfl)
theorem dJ8_compareToLatin1_1 : decode cJ8_compareToLatin1 1 = .ok (.aload_n 0, 1) := dk_42 (dk_at dksJ8_compareToLatin1_0 1 rfl rfl)
theorem dJ8_compareToLatin1_2 : decode cJ8_compareToLatin1 2 = .ok (.invokestatic 189, 3) := dk_184 0 189 (dk_at dksJ8_compareToLatin1_0 2 rfl rfl)
theorem dJ8_compareToLatin1_5 : decode cJ8_compareToLatin1 5 = .ok (.ineg, 1) := dk_116 (dk_at dksJ8_compareToLatin1_0 5 rfl rfl)
theorem dJ8_compareToLatin1_6 : decode cJ8_compareToLatin1 6 = .ok (.ireturn, 1) := dk_172 (dk_at dksJ8_compareToLatin1_0 6 rfl rfl)
abbrev cJ8_compareTo_2 : ByteArray := prog_41_method_30_code
def yJ8_compareTo_2 : MethodName := ⟨RJ8, "compareTo", "([B[BII)I"⟩
def dkwJ8_compareTo_2_0 : List UInt8 := [28, 42, 184, 0, 180, 29, 43, 184, 0, 180, 42, 43, 28, 29, 184, 0, 176, 172]
abbrev dktJ8_compareTo_2_0 : List UInt8 := dkwJ8_compareTo_2_0 ++ []
theorem dksJ8_compareTo_2_0 : cJ8_compareTo_2.data.toList.drop 0 = dktJ8_compareTo_2_0 := by decide +kernel
theorem dJ8_compareTo_2_0 : decode cJ8_compareTo_2 0 = .ok (.iload_n 2, 1) := dk_28 (dk_at dksJ8_compareTo_2_0 0 rfl rfl)
theorem dJ8_compareTo_2_1 : decode cJ8_compareTo_2 1 = .ok (.aload_n 0, 1) := dk_42 (dk_at dksJ8_compareTo_2_0 1 rfl rfl)
theorem dJ8_compareTo_2_2 : decode cJ8_compareTo_2 2 = .ok (.invokestatic 180, 3) := dk_184 0 180 (dk_at dksJ8_compareTo_2_0 2 rfl rfl)
theorem dJ8_compareTo_2_5 : decode cJ8_compareTo_2 5 = .ok (.iload_n 3, 1) := dk_29 (dk_at dksJ8_compareTo_2_0 5 rfl rfl)
theorem dJ8_compareTo_2_6 : decode cJ8_compareTo_2 6 = .ok (.aload_n 1, 1) := dk_43 (dk_at dksJ8_compareTo_2_0 6 rfl rfl)
theorem dJ8_compareTo_2_7 : decode cJ8_compareTo_2 7 = .ok (.invokestatic 180, 3) := dk_184 0 180 (dk_at dksJ8_compareTo_2_0 7 rfl rfl)
theorem dJ8_compareTo_2_10 : decode cJ8_compareTo_2 10 = .ok (.aload_n 0, 1) := dk_42 (dk_at dksJ8_compareTo_2_0 10 rfl rfl)
theorem dJ8_compareTo_2_11 : decode cJ8_compareTo_2 11 = .ok (.aload_n 1, 1) := dk_43 (dk_at dksJ8_compareTo_2_0 11 rfl rfl)
theorem dJ8_compareTo_2_12 : decode cJ8_compareTo_2 12 = .ok (.iload_n 2, 1) := dk_28 (dk_at dksJ8_compareTo_2_0 12 rfl rfl)
theorem dJ8_compareTo_2_13 : decode cJ8_compareTo_2 13 = .ok (.iload_n 3, 1) := dk_29 (dk_at dksJ8_compareTo_2_0 13 rfl rfl)
theorem dJ8_compareTo_2_14 : decode cJ8_compareTo_2 14 = .ok (.invokestatic 176, 3) := dk_184 0 176 (dk_at dksJ8_compareTo_2_0 14 rfl rfl)
theorem dJ8_compareTo_2_17 : decode cJ8_compareTo_2 17 = .ok (.ireturn, 1) := dk_172 (dk_at dksJ8_compareTo_2_0 17 rfl rfl)
abbrev cJ8_checkOffset : ByteArray := prog_41_method_92_code
def yJ8_checkOffset : MethodName := ⟨RJ8, "checkOffset", "(I[B)V"⟩
def dkwJ8_checkOffset_0 : List UInt8 := [26, 43, 184, 0, 48, 184, 1, 161, 177]
abbrev dktJ8_checkOffset_0 : List UInt8 := dkwJ8_checkOffset_0 ++ []
theorem dksJ8_checkOffset_0 : cJ8_checkOffset.data.toList.drop 0 = dktJ8_checkOffset_0 := by decide +kernel
theorem dJ8_checkOffset_0 : decode cJ8_checkOffset 0 = .ok (.iload_n 0, 1) := dk_26 (dk_at dksJ8_checkOffset_0 0 rfl rfl)
theorem dJ8_checkOffset_1 : decode cJ8_checkOffset 1 = .ok (.aload_n 1, 1) := dk_43 (dk_at dksJ8_checkOffset_0 1 rfl rfl)
theorem dJ8_checkOffset_2 : decode cJ8_checkOffset 2 = .ok (.invokestatic 48, 3) := dk_184 0 48 (dk_at dksJ8_checkOffset_0 2 rfl rfl)
theorem dJ8_checkOffset_5 : decode cJ8_checkOffset 5 = .ok (.invokestatic 417, 3) := dk_184 1 161 (dk_at dksJ8_checkOffset_0 5 rfl rfl)
theorem dJ8_checkOffset_8 : decode cJ8_checkOffset 8 = .ok (.return_, 1) := dk_177 (dk_at dksJ8_checkOffset_0 8 rfl rfl)
abbrev cJ8_compareToLatin1_2 : ByteArray := prog_41_method_33_code
def yJ8_compareToLatin1_2 : MethodName := ⟨RJ8, "compareToLatin1", "([B[BII)I"⟩
def dkwJ8_compareToLatin1_2_0 : List UInt8 := [43, 42, 29, 28, 184, 0, 193, 116, 172]
abbrev dktJ8_compareToLatin1_2_0 : List UInt8 := dkwJ8_compareToLatin1_2_0 ++ []
theorem dksJ8_compareToLatin1_2_0 : cJ8_compareToLatin1_2.data.toList.drop 0 = dktJ8_compareToLatin1_2_0 := by decide +kernel
theorem dJ8_compareToLatin1_2_0 : decode cJ8_compareToLatin1_2 0 = .ok (.aload_n 1, 1) := dk_43 (dk_at dksJ8_compareToLatin1_2_0 0 rfl rfl)
theorem dJ8_compareToLatin1_2_1 : decode cJ8_compareToLatin1_2 1 = .ok (.aload_n 0, 1) := dk_42 (dk_at dksJ8_compareToLatin1_2_0 1 rfl rfl)
theorem dJ8_compareToLatin1_2_2 : decode cJ8_compareToLatin1_2 2 = .ok (.iload_n 3, 1) := dk_29 (dk_at dksJ8_compareToLatin1_2_0 2 rfl rfl)
theorem dJ8_compareToLatin1_2_3 : decode cJ8_compareToLatin1_2 3 = .ok (.iload_n 2, 1) := dk_28 (dk_at dksJ8_compareToLatin1_2_0 3 rfl rfl)
theorem dJ8_compareToLatin1_2_4 : decode cJ8_compareToLatin1_2 4 = .ok (.invokestatic 193, 3) := dk_184 0 193 (dk_at dksJ8_compareToLatin1_2_0 4 rfl rfl)
theorem dJ8_compareToLatin1_2_7 : decode cJ8_compareToLatin1_2 7 = .ok (.ineg, 1) := dk_116 (dk_at dksJ8_compareToLatin1_2_0 7 rfl rfl)
theorem dJ8_compareToLatin1_2_8 : decode cJ8_compareToLatin1_2 8 = .ok (.ireturn, 1) := dk_172 (dk_at dksJ8_compareToLatin1_2_0 8 rfl rfl)
abbrev cJ8_indexOf : ByteArray := prog_41_method_40_code
def yJ8_indexOf : MethodName := ⟨RJ8, "indexOf", "([BIII)I"⟩
def dkwJ8_indexOf_1 : List UInt8 := [18, 227, 162, 0, 11, 42, 27, 28, 29, 184, 0, 228, 172, 42, 27, 28, 29, 184, 0, 232, 172]
abbrev dktJ8_indexOf_1 : List UInt8 := dkwJ8_indexOf_1 ++ []
def dkwJ8_indexOf_0 : List UInt8 := [28, 3, 184, 0, 224, 61, 29, 42, 190, 4, 122, 184, 0, 183, 62, 28, 29, 161, 0, 5, 2, 172, 27]
abbrev dktJ8_indexOf_0 : List UInt8 := dkwJ8_indexOf_0 ++ dktJ8_indexOf_1
theorem dksJ8_indexOf_0 : cJ8_indexOf.data.toList.drop 0 = dktJ8_indexOf_0 := by decide +kernel
theorem dksJ8_indexOf_1 : cJ8_indexOf.data.toList.drop 23 = dktJ8_indexOf_1 := dk_seg dksJ8_indexOf_0 23 rfl rfl
theorem dJ8_indexOf_0 : decode cJ8_indexOf 0 = .ok (.iload_n 2, 1) := dk_28 (dk_at dksJ8_indexOf_0 0 rfl rfl)
theorem dJ8_indexOf_1 : decode cJ8_indexOf 1 = .ok (.iconst 0, 1) := dk_3 (dk_at dksJ8_indexOf_0 1 rfl rfl)
theorem dJ8_indexOf_2 : decode cJ8_indexOf 2 = .ok (.invokestatic 224, 3) := dk_184 0 224 (dk_at dksJ8_indexOf_0 2 rfl rfl)
theorem dJ8_indexOf_5 : decode cJ8_indexOf 5 = .ok (.istore_n 2, 1) := dk_61 (dk_at dksJ8_indexOf_0 5 rfl rfl)
theorem dJ8_indexOf_6 : decode cJ8_indexOf 6 = .ok (.iload_n 3, 1) := dk_29 (dk_at dksJ8_indexOf_0 6 rfl rfl)
theorem dJ8_indexOf_7 : decode cJ8_indexOf 7 = .ok (.aload_n 0, 1) := dk_42 (dk_at dksJ8_indexOf_0 7 rfl rfl)
theorem dJ8_indexOf_8 : decode cJ8_indexOf 8 = .ok (.arraylength, 1) := dk_190 (dk_at dksJ8_indexOf_0 8 rfl rfl)
theorem dJ8_indexOf_9 : decode cJ8_indexOf 9 = .ok (.iconst 1, 1) := dk_4 (dk_at dksJ8_indexOf_0 9 rfl rfl)
theorem dJ8_indexOf_10 : decode cJ8_indexOf 10 = .ok (.ishr, 1) := dk_122 (dk_at dksJ8_indexOf_0 10 rfl rfl)
theorem dJ8_indexOf_11 : decode cJ8_indexOf 11 = .ok (.invokestatic 183, 3) := dk_184 0 183 (dk_at dksJ8_indexOf_0 11 rfl rfl)
theorem dJ8_indexOf_14 : decode cJ8_indexOf 14 = .ok (.istore_n 3, 1) := dk_62 (dk_at dksJ8_indexOf_0 14 rfl rfl)
theorem dJ8_indexOf_15 : decode cJ8_indexOf 15 = .ok (.iload_n 2, 1) := dk_28 (dk_at dksJ8_indexOf_0 15 rfl rfl)
theorem dJ8_indexOf_16 : decode cJ8_indexOf 16 = .ok (.iload_n 3, 1) := dk_29 (dk_at dksJ8_indexOf_0 16 rfl rfl)
theorem dJ8_indexOf_17 : decode cJ8_indexOf 17 = .ok (.if_icmp .lt 5, 3) := dk_161 0 5 (dk_at dksJ8_indexOf_0 17 rfl rfl)
theorem dJ8_indexOf_20 : decode cJ8_indexOf 20 = .ok (.iconst (-1), 1) := dk_2 (dk_at dksJ8_indexOf_0 20 rfl rfl)
theorem dJ8_indexOf_21 : decode cJ8_indexOf 21 = .ok (.ireturn, 1) := dk_172 (dk_at dksJ8_indexOf_0 21 rfl rfl)
theorem dJ8_indexOf_22 : decode cJ8_indexOf 22 = .ok (.iload_n 1, 1) := dk_27 (dk_at dksJ8_indexOf_0 22 rfl rfl)
theorem dJ8_indexOf_23 : decode cJ8_indexOf 23 = .ok (.ldc 227, 2) := dk_18 227 (dk_at dksJ8_indexOf_1 0 rfl rfl)
theorem dJ8_indexOf_25 : decode cJ8_indexOf 25 = .ok (.if_icmp .ge 11, 3) := dk_162 0 11 (dk_at dksJ8_indexOf_1 2 rfl rfl)
theorem dJ8_indexOf_28 : decode cJ8_indexOf 28 = .ok (.aload_n 0, 1) := dk_42 (dk_at dksJ8_indexOf_1 5 rfl rfl)
theorem dJ8_indexOf_29 : decode cJ8_indexOf 29 = .ok (.iload_n 1, 1) := dk_27 (dk_at dksJ8_indexOf_1 6 rfl rfl)
theorem dJ8_indexOf_30 : decode cJ8_indexOf 30 = .ok (.iload_n 2, 1) := dk_28 (dk_at dksJ8_indexOf_1 7 rfl rfl)
theorem dJ8_indexOf_31 : decode cJ8_indexOf 31 = .ok (.iload_n 3, 1) := dk_29 (dk_at dksJ8_indexOf_1 8 rfl rfl)
theorem dJ8_indexOf_32 : decode cJ8_indexOf 32 = .ok (.invokestatic 228, 3) := dk_184 0 228 (dk_at dksJ8_indexOf_1 9 rfl rfl)
theorem dJ8_indexOf_35 : decode cJ8_indexOf 35 = .ok (.ireturn, 1) := dk_172 (dk_at dksJ8_indexOf_1 12 rfl rfl)
theorem dJ8_indexOf_36 : decode cJ8_indexOf 36 = .ok (.aload_n 0, 1) := dk_42 (dk_at dksJ8_indexOf_1 13 rfl rfl)
theorem dJ8_indexOf_37 : decode cJ8_indexOf 37 = .ok (.iload_n 1, 1) := dk_27 (dk_at dksJ8_indexOf_1 14 rfl rfl)
theorem dJ8_indexOf_38 : decode cJ8_indexOf 38 = .ok (.iload_n 2, 1) := dk_28 (dk_at dksJ8_indexOf_1 15 rfl rfl)
theorem dJ8_indexOf_39 : decode cJ8_indexOf 39 = .ok (.iload_n 3, 1) := dk_29 (dk_at dksJ8_indexOf_1 16 rfl rfl)
theorem dJ8_indexOf_40 : decode cJ8_indexOf 40 = .ok (.invokestatic 232, 3) := dk_184 0 232 (dk_at dksJ8_indexOf_1 17 rfl rfl)
theorem dJ8_indexOf_43 : decode cJ8_indexOf 43 = .ok (.ireturn, 1) := dk_172 (dk_at dksJ8_indexOf_1 20 rfl rfl)
abbrev cJ8_indexOfChar : ByteArray := prog_41_method_47_code
def yJ8_indexOfChar : MethodName := ⟨RJ8, "indexOfChar", "([BIII)I"⟩
def dkwJ8_indexOfChar_0 : List UInt8 := [28, 29, 42, 184, 0, 96, 42, 27, 28, 29, 184, 0, 244, 172]
abbrev dktJ8_indexOfChar_0 : List UInt8 := dkwJ8_indexOfChar_0 ++ []
theorem dksJ8_indexOfChar_0 : cJ8_indexOfChar.data.toList.drop 0 = dktJ8_indexOfChar_0 := by decide +kernel
theorem dJ8_indexOfChar_0 : decode cJ8_indexOfChar 0 = .ok (.iload_n 2, 1) := dk_28 (dk_at dksJ8_indexOfChar_0 0 rfl rfl)
theorem dJ8_indexOfChar_1 : decode cJ8_indexOfChar 1 = .ok (.iload_n 3, 1) := dk_29 (dk_at dksJ8_indexOfChar_0 1 rfl rfl)
theorem dJ8_indexOfChar_2 : decode cJ8_indexOfChar 2 = .ok (.aload_n 0, 1) := dk_42 (dk_at dksJ8_indexOfChar_0 2 rfl rfl)
theorem dJ8_indexOfChar_3 : decode cJ8_indexOfChar 3 = .ok (.invokestatic 96, 3) := dk_184 0 96 (dk_at dksJ8_indexOfChar_0 3 rfl rfl)
theorem dJ8_indexOfChar_6 : decode cJ8_indexOfChar 6 = .ok (.aload_n 0, 1) := dk_42 (dk_at dksJ8_indexOfChar_0 6 rfl rfl)
theorem dJ8_indexOfChar_7 : decode cJ8_indexOfChar 7 = .ok (.iload_n 1, 1) := dk_27 (dk_at dksJ8_indexOfChar_0 7 rfl rfl)
theorem dJ8_indexOfChar_8 : decode cJ8_indexOfChar 8 = .ok (.iload_n 2, 1) := dk_28 (dk_at dksJ8_indexOfChar_0 8 rfl rfl)
theorem dJ8_indexOfChar_9 : decode cJ8_indexOfChar 9 = .ok (.iload_n 3, 1) := dk_29 (dk_at dksJ8_indexOfChar_0 9 rfl rfl)
theorem dJ8_indexOfChar_10 : decode cJ8_indexOfChar 10 = .ok (.invokestatic 244, 3) := dk_184 0 244 (dk_at dksJ8_indexOfChar_0 10 rfl rfl)
theorem dJ8_indexOfChar_13 : decode cJ8_indexOfChar 13 = .ok (.ireturn, 1) := dk_172 (dk_at dksJ8_indexOfChar_0 13 rfl rfl)
abbrev cJ8_indexOfCharUnsafe : ByteArray := prog_41_method_48_code
def yJ8_indexOfCharUnsafe : MethodName := ⟨RJ8, "indexOfCharUnsafe", "([BIII)I"⟩
def dkwJ8_indexOfCharUnsafe_1 : List UInt8 := [132, 4, 1, 167, 255, 234, 2, 172]
abbrev dktJ8_indexOfCharUnsafe_1 : List UInt8 := dkwJ8_indexOfCharUnsafe_1 ++ []
def dkwJ8_indexOfCharUnsafe_0 : List UInt8 := [28, 54, 4, 21, 4, 29, 162, 0, 22, 42, 21, 4, 184, 0, 71, 27, 160, 0, 6, 21, 4, 172]
abbrev dktJ8_indexOfCharUnsafe_0 : List UInt8 := dkwJ8_indexOfCharUnsafe_0 ++ dktJ8_indexOfCharUnsafe_1
theorem dksJ8_indexOfCharUnsafe_0 : cJ8_indexOfCharUnsafe.data.toList.drop 0 = dktJ8_indexOfCharUnsafe_0 := by decide +kernel
theorem dksJ8_indexOfCharUnsafe_1 : cJ8_indexOfCharUnsafe.data.toList.drop 22 = dktJ8_indexOfCharUnsafe_1 := dk_seg dksJ8_indexOfCharUnsafe_0 22 rfl rfl
theorem dJ8_indexOfCharUnsafe_0 : decode cJ8_indexOfCharUnsafe 0 = .ok (.iload_n 2, 1) := dk_28 (dk_at dksJ8_indexOfCharUnsafe_0 0 rfl rfl)
theorem dJ8_indexOfCharUnsafe_1 : decode cJ8_indexOfCharUnsafe 1 = .ok (.istore 4, 2) := dk_54 4 (dk_at dksJ8_indexOfCharUnsafe_0 1 rfl rfl)
theorem dJ8_indexOfCharUnsafe_3 : decode cJ8_indexOfCharUnsafe 3 = .ok (.iload 4, 2) := dk_21 4 (dk_at dksJ8_indexOfCharUnsafe_0 3 rfl rfl)
theorem dJ8_indexOfCharUnsafe_5 : decode cJ8_indexOfCharUnsafe 5 = .ok (.iload_n 3, 1) := dk_29 (dk_at dksJ8_indexOfCharUnsafe_0 5 rfl rfl)
theorem dJ8_indexOfCharUnsafe_6 : decode cJ8_indexOfCharUnsafe 6 = .ok (.if_icmp .ge 22, 3) := dk_162 0 22 (dk_at dksJ8_indexOfCharUnsafe_0 6 rfl rfl)
theorem dJ8_indexOfCharUnsafe_9 : decode cJ8_indexOfCharUnsafe 9 = .ok (.aload_n 0, 1) := dk_42 (dk_at dksJ8_indexOfCharUnsafe_0 9 rfl rfl)
theorem dJ8_indexOfCharUnsafe_10 : decode cJ8_indexOfCharUnsafe 10 = .ok (.iload 4, 2) := dk_21 4 (dk_at dksJ8_indexOfCharUnsafe_0 10 rfl rfl)
theorem dJ8_indexOfCharUnsafe_12 : decode cJ8_indexOfCharUnsafe 12 = .ok (.invokestatic 71, 3) := dk_184 0 71 (dk_at dksJ8_indexOfCharUnsafe_0 12 rfl rfl)
theorem dJ8_indexOfCharUnsafe_15 : decode cJ8_indexOfCharUnsafe 15 = .ok (.iload_n 1, 1) := dk_27 (dk_at dksJ8_indexOfCharUnsafe_0 15 rfl rfl)
theorem dJ8_indexOfCharUnsafe_16 : decode cJ8_indexOfCharUnsafe 16 = .ok (.if_icmp .ne 6, 3) := dk_160 0 6 (dk_at dksJ8_indexOfCharUnsafe_0 16 rfl rfl)
theorem dJ8_indexOfCharUnsafe_19 : decode cJ8_indexOfCharUnsafe 19 = .ok (.iload 4, 2) := dk_21 4 (dk_at dksJ8_indexOfCharUnsafe_0 19 rfl rfl)
theorem dJ8_indexOfCharUnsafe_21 : decode cJ8_indexOfCharUnsafe 21 = .ok (.ireturn, 1) := dk_172 (dk_at dksJ8_indexOfCharUnsafe_0 21 rfl rfl)
theorem dJ8_indexOfCharUnsafe_22 : decode cJ8_indexOfCharUnsafe 22 = .ok (.iinc 4 1, 3) := dk_132 4 1 (dk_at dksJ8_indexOfCharUnsafe_1 0 rfl rfl)
theorem dJ8_indexOfCharUnsafe_25 : decode cJ8_indexOfCharUnsafe 25 = .ok (.goto (-22), 3) := dk_167 255 234 (dk_at dksJ8_indexOfCharUnsafe_1 3 rfl rfl)
theorem dJ8_indexOfCharUnsafe_28 : decode cJ8_indexOfCharUnsafe 28 = .ok (.iconst (-1), 1) := dk_2 (dk_at dksJ8_indexOfCharUnsafe_1 6 rfl rfl)
theorem dJ8_indexOfCharUnsafe_29 : decode cJ8_indexOfCharUnsafe 29 = .ok (.ireturn, 1) := dk_172 (dk_at dksJ8_indexOfCharUnsafe_1 7 rfl rfl)
abbrev cJ8_indexOfSupplementary : ByteArray := prog_41_method_49_code
def yJ8_indexOfSupplementary : MethodName := ⟨RJ8, "indexOfSupplementary", "([BIII)I"⟩
def dkwJ8_indexOfSupplementary_3 : List UInt8 := [167, 255, 218, 2, 172]
abbrev dktJ8_indexOfSupplementary_3 : List UInt8 := dkwJ8_indexOfSupplementary_3 ++ []
def dkwJ8_indexOfSupplementary_2 : List UInt8 := [160, 0, 19, 42, 21, 6, 4, 96, 184, 0, 71, 21, 5, 160, 0, 6, 21, 6, 172, 132, 6, 1]
abbrev dktJ8_indexOfSupplementary_2 : List UInt8 := dkwJ8_indexOfSupplementary_2 ++ dktJ8_indexOfSupplementary_3
def dkwJ8_indexOfSupplementary_1 : List UInt8 := [184, 0, 96, 28, 54, 6, 21, 6, 29, 4, 100, 162, 0, 36, 42, 21, 6, 184, 0, 71, 21, 4]
abbrev dktJ8_indexOfSupplementary_1 : List UInt8 := dkwJ8_indexOfSupplementary_1 ++ dktJ8_indexOfSupplementary_2
def dkwJ8_indexOfSupplementary_0 : List UInt8 := [27, 184, 0, 164, 153, 0, 65, 27, 184, 0, 157, 54, 4, 27, 184, 0, 161, 54, 5, 28, 29, 42]
abbrev dktJ8_indexOfSupplementary_0 : List UInt8 := dkwJ8_indexOfSupplementary_0 ++ dktJ8_indexOfSupplementary_1
theorem dksJ8_indexOfSupplementary_0 : cJ8_indexOfSupplementary.data.toList.drop 0 = dktJ8_indexOfSupplementary_0 := by decide +kernel
theorem dksJ8_indexOfSupplementary_1 : cJ8_indexOfSupplementary.data.toList.drop 22 = dktJ8_indexOfSupplementary_1 := dk_seg dksJ8_indexOfSupplementary_0 22 rfl rfl
theorem dksJ8_indexOfSupplementary_2 : cJ8_indexOfSupplementary.data.toList.drop 44 = dktJ8_indexOfSupplementary_2 := dk_seg dksJ8_indexOfSupplementary_1 22 rfl rfl
theorem dksJ8_indexOfSupplementary_3 : cJ8_indexOfSupplementary.data.toList.drop 66 = dktJ8_indexOfSupplementary_3 := dk_seg dksJ8_indexOfSupplementary_2 22 rfl rfl
theorem dJ8_indexOfSupplementary_0 : decode cJ8_indexOfSupplementary 0 = .ok (.iload_n 1, 1) := dk_27 (dk_at dksJ8_indexOfSupplementary_0 0 rfl rfl)
theorem dJ8_indexOfSupplementary_1 : decode cJ8_indexOfSupplementary 1 = .ok (.invokestatic 164, 3) := dk_184 0 164 (dk_at dksJ8_indexOfSupplementary_0 1 rfl rfl)
theorem dJ8_indexOfSupplementary_4 : decode cJ8_indexOfSupplementary 4 = .ok (.ifCond .eq 65, 3) := dk_153 0 65 (dk_at dksJ8_indexOfSupplementary_0 4 rfl rfl)
theorem dJ8_indexOfSupplementary_7 : decode cJ8_indexOfSupplementary 7 = .ok (.iload_n 1, 1) := dk_27 (dk_at dksJ8_indexOfSupplementary_0 7 rfl rfl)
theorem dJ8_indexOfSupplementary_8 : decode cJ8_indexOfSupplementary 8 = .ok (.invokestatic 157, 3) := dk_184 0 157 (dk_at dksJ8_indexOfSupplementary_0 8 rfl rfl)
theorem dJ8_indexOfSupplementary_11 : decode cJ8_indexOfSupplementary 11 = .ok (.istore 4, 2) := dk_54 4 (dk_at dksJ8_indexOfSupplementary_0 11 rfl rfl)
theorem dJ8_indexOfSupplementary_13 : decode cJ8_indexOfSupplementary 13 = .ok (.iload_n 1, 1) := dk_27 (dk_at dksJ8_indexOfSupplementary_0 13 rfl rfl)
theorem dJ8_indexOfSupplementary_14 : decode cJ8_indexOfSupplementary 14 = .ok (.invokestatic 161, 3) := dk_184 0 161 (dk_at dksJ8_indexOfSupplementary_0 14 rfl rfl)
theorem dJ8_indexOfSupplementary_17 : decode cJ8_indexOfSupplementary 17 = .ok (.istore 5, 2) := dk_54 5 (dk_at dksJ8_indexOfSupplementary_0 17 rfl rfl)
theorem dJ8_indexOfSupplementary_19 : decode cJ8_indexOfSupplementary 19 = .ok (.iload_n 2, 1) := dk_28 (dk_at dksJ8_indexOfSupplementary_0 19 rfl rfl)
theorem dJ8_indexOfSupplementary_20 : decode cJ8_indexOfSupplementary 20 = .ok (.iload_n 3, 1) := dk_29 (dk_at dksJ8_indexOfSupplementary_0 20 rfl rfl)
theorem dJ8_indexOfSupplementary_21 : decode cJ8_indexOfSupplementary 21 = .ok (.aload_n 0, 1) := dk_42 (dk_at dksJ8_indexOfSupplementary_0 21 rfl rfl)
theorem dJ8_indexOfSupplementary_22 : decode cJ8_indexOfSupplementary 22 = .ok (.invokestatic 96, 3) := dk_184 0 96 (dk_at dksJ8_indexOfSupplementary_1 0 rfl rfl)
theorem dJ8_indexOfSupplementary_25 : decode cJ8_indexOfSupplementary 25 = .ok (.iload_n 2, 1) := dk_28 (dk_at dksJ8_indexOfSupplementary_1 3 rfl rfl)
theorem dJ8_indexOfSupplementary_26 : decode cJ8_indexOfSupplementary 26 = .ok (.istore 6, 2) := dk_54 6 (dk_at dksJ8_indexOfSupplementary_1 4 rfl rfl)
theorem dJ8_indexOfSupplementary_28 : decode cJ8_indexOfSupplementary 28 = .ok (.iload 6, 2) := dk_21 6 (dk_at dksJ8_indexOfSupplementary_1 6 rfl rfl)
theorem dJ8_indexOfSupplementary_30 : decode cJ8_indexOfSupplementary 30 = .ok (.iload_n 3, 1) := dk_29 (dk_at dksJ8_indexOfSupplementary_1 8 rfl rfl)
theorem dJ8_indexOfSupplementary_31 : decode cJ8_indexOfSupplementary 31 = .ok (.iconst 1, 1) := dk_4 (dk_at dksJ8_indexOfSupplementary_1 9 rfl rfl)
theorem dJ8_indexOfSupplementary_32 : decode cJ8_indexOfSupplementary 32 = .ok (.isub, 1) := dk_100 (dk_at dksJ8_indexOfSupplementary_1 10 rfl rfl)
theorem dJ8_indexOfSupplementary_33 : decode cJ8_indexOfSupplementary 33 = .ok (.if_icmp .ge 36, 3) := dk_162 0 36 (dk_at dksJ8_indexOfSupplementary_1 11 rfl rfl)
theorem dJ8_indexOfSupplementary_36 : decode cJ8_indexOfSupplementary 36 = .ok (.aload_n 0, 1) := dk_42 (dk_at dksJ8_indexOfSupplementary_1 14 rfl rfl)
theorem dJ8_indexOfSupplementary_37 : decode cJ8_indexOfSupplementary 37 = .ok (.iload 6, 2) := dk_21 6 (dk_at dksJ8_indexOfSupplementary_1 15 rfl rfl)
theorem dJ8_indexOfSupplementary_39 : decode cJ8_indexOfSupplementary 39 = .ok (.invokestatic 71, 3) := dk_184 0 71 (dk_at dksJ8_indexOfSupplementary_1 17 rfl rfl)
theorem dJ8_indexOfSupplementary_42 : decode cJ8_indexOfSupplementary 42 = .ok (.iload 4, 2) := dk_21 4 (dk_at dksJ8_indexOfSupplementary_1 20 rfl rfl)
theorem dJ8_indexOfSupplementary_44 : decode cJ8_indexOfSupplementary 44 = .ok (.if_icmp .ne 19, 3) := dk_160 0 19 (dk_at dksJ8_indexOfSupplementary_2 0 rfl rfl)
theorem dJ8_indexOfSupplementary_47 : decode cJ8_indexOfSupplementary 47 = .ok (.aload_n 0, 1) := dk_42 (dk_at dksJ8_indexOfSupplementary_2 3 rfl rfl)
theorem dJ8_indexOfSupplementary_48 : decode cJ8_indexOfSupplementary 48 = .ok (.iload 6, 2) := dk_21 6 (dk_at dksJ8_indexOfSupplementary_2 4 rfl rfl)
theorem dJ8_indexOfSupplementary_50 : decode cJ8_indexOfSupplementary 50 = .ok (.iconst 1, 1) := dk_4 (dk_at dksJ8_indexOfSupplementary_2 6 rfl rfl)
theorem dJ8_indexOfSupplementary_51 : decode cJ8_indexOfSupplementary 51 = .ok (.iadd, 1) := dk_96 (dk_at dksJ8_indexOfSupplementary_2 7 rfl rfl)
theorem dJ8_indexOfSupplementary_52 : decode cJ8_indexOfSupplementary 52 = .ok (.invokestatic 71, 3) := dk_184 0 71 (dk_at dksJ8_indexOfSupplementary_2 8 rfl rfl)
theorem dJ8_indexOfSupplementary_55 : decode cJ8_indexOfSupplementary 55 = .ok (.iload 5, 2) := dk_21 5 (dk_at dksJ8_indexOfSupplementary_2 11 rfl rfl)
theorem dJ8_indexOfSupplementary_57 : decode cJ8_indexOfSupplementary 57 = .ok (.if_icmp .ne 6, 3) := dk_160 0 6 (dk_at dksJ8_indexOfSupplementary_2 13 rfl rfl)
theorem dJ8_indexOfSupplementary_60 : decode cJ8_indexOfSupplementary 60 = .ok (.iload 6, 2) := dk_21 6 (dk_at dksJ8_indexOfSupplementary_2 16 rfl rfl)
theorem dJ8_indexOfSupplementary_62 : decode cJ8_indexOfSupplementary 62 = .ok (.ireturn, 1) := dk_172 (dk_at dksJ8_indexOfSupplementary_2 18 rfl rfl)
theorem dJ8_indexOfSupplementary_63 : decode cJ8_indexOfSupplementary 63 = .ok (.iinc 6 1, 3) := dk_132 6 1 (dk_at dksJ8_indexOfSupplementary_2 19 rfl rfl)
theorem dJ8_indexOfSupplementary_66 : decode cJ8_indexOfSupplementary 66 = .ok (.goto (-38), 3) := dk_167 255 218 (dk_at dksJ8_indexOfSupplementary_3 0 rfl rfl)
theorem dJ8_indexOfSupplementary_69 : decode cJ8_indexOfSupplementary 69 = .ok (.iconst (-1), 1) := dk_2 (dk_at dksJ8_indexOfSupplementary_3 3 rfl rfl)
theorem dJ8_indexOfSupplementary_70 : decode cJ8_indexOfSupplementary 70 = .ok (.ireturn, 1) := dk_172 (dk_at dksJ8_indexOfSupplementary_3 4 rfl rfl)
theorem q132 : (Jvm.Cond.initialized "java/lang/StringUTF16") ∈ lw_all := lw_g (lw_at lw_m1 10 rfl) rfl
theorem q275 : (Jvm.Cond.static ({ cls := "java/lang/StringUTF16", name := "newBytesFor", desc := "(I)[B" } : Jvm.MethodName)) ∈ lw_all := lw_g (lw_at lw_m1 153 rfl) rfl
theorem q276 : (Jvm.Cond.code ({ cls := "java/lang/StringUTF16", name := "newBytesFor", desc := "(I)[B" } : Jvm.MethodName) prog_41_method_2_code (1 : Nat) (Option.some (Jvm.ClassFile.FieldType.array Jvm.ClassFile.FieldType.byte))) ∈ lw_all := lw_g (lw_at lw_m1 154 rfl) rfl
theorem q277 : (Jvm.Cond.methodLink "java/lang/StringUTF16" (11 : Nat) ({ cls := "java/lang/StringUTF16", name := "newBytesLength", desc := "(I)I" } : Jvm.MethodName)) ∈ lw_all := lw_g (lw_at lw_m1 155 rfl) rfl
theorem q278 : (Jvm.Cond.static ({ cls := "java/lang/StringUTF16", name := "newBytesLength", desc := "(I)I" } : Jvm.MethodName)) ∈ lw_all := lw_g (lw_at lw_m1 156 rfl) rfl
theorem q279 : (Jvm.Cond.code ({ cls := "java/lang/StringUTF16", name := "newBytesLength", desc := "(I)I" } : Jvm.MethodName) prog_41_method_3_code (1 : Nat) (Option.some Jvm.ClassFile.FieldType.int)) ∈ lw_all := lw_g (lw_at lw_m1 157 rfl) rfl
theorem q280 : (Jvm.Cond.constant "java/lang/StringUTF16" (20 : Nat) (1073741823 : Int32)) ∈ lw_all := lw_g (lw_at lw_m1 158 rfl) rfl
theorem q415 : (Jvm.Cond.static ({ cls := "java/lang/StringUTF16", name := "putCharsAt", desc := "([BICCCC)I" } : Jvm.MethodName)) ∈ lw_all := lw_g (lw_at lw_m2 53 rfl) rfl
theorem q416 : (Jvm.Cond.code ({ cls := "java/lang/StringUTF16", name := "putCharsAt", desc := "([BICCCC)I" } : Jvm.MethodName) prog_41_method_81_code (7 : Nat) (Option.some Jvm.ClassFile.FieldType.int)) ∈ lw_all := lw_g (lw_at lw_m2 54 rfl) rfl
theorem q417 : (Jvm.Cond.methodLink "java/lang/StringUTF16" (96 : Nat) ({ cls := "java/lang/StringUTF16", name := "checkBoundsBeginEnd", desc := "(II[B)V" } : Jvm.MethodName)) ∈ lw_all := lw_g (lw_at lw_m2 55 rfl) rfl
theorem q418 : (Jvm.Cond.static ({ cls := "java/lang/StringUTF16", name := "checkBoundsBeginEnd", desc := "(II[B)V" } : Jvm.MethodName)) ∈ lw_all := lw_g (lw_at lw_m2 56 rfl) rfl
theorem q419 : (Jvm.Cond.code ({ cls := "java/lang/StringUTF16", name := "checkBoundsBeginEnd", desc := "(II[B)V" } : Jvm.MethodName) prog_41_method_93_code (3 : Nat) (Option.none : Option Jvm.ClassFile.FieldType)) ∈ lw_all := lw_g (lw_at lw_m2 57 rfl) rfl
theorem q420 : (Jvm.Cond.methodLink "java/lang/StringUTF16" (48 : Nat) ({ cls := "java/lang/StringUTF16", name := "length", desc := "([B)I" } : Jvm.MethodName)) ∈ lw_all := lw_g (lw_at lw_m2 58 rfl) rfl
theorem q421 : (Jvm.Cond.static ({ cls := "java/lang/StringUTF16", name := "length", desc := "([B)I" } : Jvm.MethodName)) ∈ lw_all := lw_g (lw_at lw_m2 59 rfl) rfl
theorem q422 : (Jvm.Cond.code ({ cls := "java/lang/StringUTF16", name := "length", desc := "([B)I" } : Jvm.MethodName) prog_41_method_6_code (1 : Nat) (Option.some Jvm.ClassFile.FieldType.int)) ∈ lw_all := lw_g (lw_at lw_m2 60 rfl) rfl
theorem q423 : (Jvm.Cond.methodLink "java/lang/StringUTF16" (241 : Nat) ({ cls := "java/lang/String", name := "checkBoundsBeginEnd", desc := "(III)V" } : Jvm.MethodName)) ∈ lw_all := lw_g (lw_at lw_m2 61 rfl) rfl
theorem q431 : (Jvm.Cond.methodLink "java/lang/StringUTF16" (111 : Nat) ({ cls := "java/lang/StringUTF16", name := "putChar", desc := "([BII)V" } : Jvm.MethodName)) ∈ lw_all := lw_g (lw_at lw_m2 69 rfl) rfl
theorem q432 : (Jvm.Cond.static ({ cls := "java/lang/StringUTF16", name := "putChar", desc := "([BII)V" } : Jvm.MethodName)) ∈ lw_all := lw_g (lw_at lw_m2 70 rfl) rfl
theorem q433 : (Jvm.Cond.code ({ cls := "java/lang/StringUTF16", name := "putChar", desc := "([BII)V" } : Jvm.MethodName) prog_41_method_4_code (3 : Nat) (Option.none : Option Jvm.ClassFile.FieldType)) ∈ lw_all := lw_g (lw_at lw_m2 71 rfl) rfl
theorem q434 : (Jvm.Cond.fieldLink "java/lang/StringUTF16" (44 : Nat) "java/lang/StringUTF16" "$assertionsDisabled" "Z") ∈ lw_all := lw_g (lw_at lw_m2 72 rfl) rfl
theorem q435 : (Jvm.Cond.laysStatic "java/lang/StringUTF16" "$assertionsDisabled" "Z") ∈ lw_tbl := lw_at lw_m2 73 rfl
theorem q436 : (Jvm.Cond.fieldLink "java/lang/StringUTF16" (59 : Nat) "java/lang/StringUTF16" "HI_BYTE_SHIFT" "I") ∈ lw_all := lw_g (lw_at lw_m2 74 rfl) rfl
theorem q437 : (Jvm.Cond.laysStatic "java/lang/StringUTF16" "HI_BYTE_SHIFT" "I") ∈ lw_tbl := lw_at lw_m2 75 rfl
theorem q438 : (Jvm.Cond.fieldLink "java/lang/StringUTF16" (63 : Nat) "java/lang/StringUTF16" "LO_BYTE_SHIFT" "I") ∈ lw_all := lw_g (lw_at lw_m2 76 rfl) rfl
theorem q439 : (Jvm.Cond.laysStatic "java/lang/StringUTF16" "LO_BYTE_SHIFT" "I") ∈ lw_tbl := lw_at lw_m2 77 rfl
theorem q466 : (Jvm.Cond.static ({ cls := "java/lang/StringUTF16", name := "inflate", desc := "([BI[BII)V" } : Jvm.MethodName)) ∈ lw_all := lw_g (lw_at lw_m2 104 rfl) rfl
theorem q467 : (Jvm.Cond.code ({ cls := "java/lang/StringUTF16", name := "inflate", desc := "([BI[BII)V" } : Jvm.MethodName) prog_41_method_86_code (6 : Nat) (Option.none : Option Jvm.ClassFile.FieldType)) ∈ lw_all := lw_g (lw_at lw_m2 105 rfl) rfl
theorem q468 : (Jvm.Cond.methodLink "java/lang/StringUTF16" (173 : Nat) ({ cls := "java/lang/StringUTF16", name := "checkBoundsOffCount", desc := "(II[B)V" } : Jvm.MethodName)) ∈ lw_all := lw_g (lw_at lw_m2 106 rfl) rfl
theorem q469 : (Jvm.Cond.static ({ cls := "java/lang/StringUTF16", name := "checkBoundsOffCount", desc := "(II[B)V" } : Jvm.MethodName)) ∈ lw_all := lw_g (lw_at lw_m2 107 rfl) rfl
theorem q470 : (Jvm.Cond.code ({ cls := "java/lang/StringUTF16", name := "checkBoundsOffCount", desc := "(II[B)V" } : Jvm.MethodName) prog_41_method_94_code (3 : Nat) (Option.none : Option Jvm.ClassFile.FieldType)) ∈ lw_all := lw_g (lw_at lw_m2 108 rfl) rfl
theorem q471 : (Jvm.Cond.methodLink "java/lang/StringUTF16" (419 : Nat) ({ cls := "java/lang/String", name := "checkBoundsOffCount", desc := "(III)I" } : Jvm.MethodName)) ∈ lw_all := lw_g (lw_at lw_m2 109 rfl) rfl
theorem q501 : (Jvm.Cond.static ({ cls := "java/lang/StringUTF16", name := "getChars", desc := "(III[B)I" } : Jvm.MethodName)) ∈ lw_all := lw_g (lw_at lw_m2 139 rfl) rfl
theorem q502 : (Jvm.Cond.code ({ cls := "java/lang/StringUTF16", name := "getChars", desc := "(III[B)I" } : Jvm.MethodName) prog_41_method_77_code (5 : Nat) (Option.some Jvm.ClassFile.FieldType.int)) ∈ lw_all := lw_g (lw_at lw_m2 140 rfl) rfl
theorem q503 : (Jvm.Cond.methodLink "java/lang/StringUTF16" (393 : Nat) ({ cls := "java/lang/StringUTF16", name := "getChars", desc := "(II[B)I" } : Jvm.MethodName)) ∈ lw_all := lw_g (lw_at lw_m2 141 rfl) rfl
theorem q504 : (Jvm.Cond.static ({ cls := "java/lang/StringUTF16", name := "getChars", desc := "(II[B)I" } : Jvm.MethodName)) ∈ lw_all := lw_g (lw_at lw_m2 142 rfl) rfl
theorem q505 : (Jvm.Cond.code ({ cls := "java/lang/StringUTF16", name := "getChars", desc := "(II[B)I" } : Jvm.MethodName) prog_41_method_89_code (7 : Nat) (Option.some Jvm.ClassFile.FieldType.int)) ∈ lw_all := lw_g (lw_at lw_m2 143 rfl) rfl
theorem q506 : (Jvm.Cond.fieldLink "java/lang/StringUTF16" (403 : Nat) "java/lang/Integer" "DigitOnes" "[B") ∈ lw_all := lw_g (lw_at lw_m2 144 rfl) rfl
theorem q507 : (Jvm.Cond.fieldLink "java/lang/StringUTF16" (407 : Nat) "java/lang/Integer" "DigitTens" "[B") ∈ lw_all := lw_g (lw_at lw_m2 145 rfl) rfl
theorem q617 : (Jvm.Cond.static ({ cls := "java/lang/StringUTF16", name := "compress", desc := "([BII)[B" } : Jvm.MethodName)) ∈ lw_all := lw_g (lw_at lw_m3 15 rfl) rfl
theorem q618 : (Jvm.Cond.code ({ cls := "java/lang/StringUTF16", name := "compress", desc := "([BII)[B" } : Jvm.MethodName) prog_41_method_17_code (6 : Nat) (Option.some (Jvm.ClassFile.FieldType.array Jvm.ClassFile.FieldType.byte))) ∈ lw_all := lw_g (lw_at lw_m3 16 rfl) rfl
theorem q619 : (Jvm.Cond.methodLink "java/lang/StringUTF16" (123 : Nat) ({ cls := "java/lang/StringUTF16", name := "compress", desc := "([BI[BII)I" } : Jvm.MethodName)) ∈ lw_all := lw_g (lw_at lw_m3 17 rfl) rfl
theorem q620 : (Jvm.Cond.static ({ cls := "java/lang/StringUTF16", name := "compress", desc := "([BI[BII)I" } : Jvm.MethodName)) ∈ lw_all := lw_g (lw_at lw_m3 18 rfl) rfl
theorem q621 : (Jvm.Cond.code ({ cls := "java/lang/StringUTF16", name := "compress", desc := "([BI[BII)I" } : Jvm.MethodName) prog_41_method_22_code (7 : Nat) (Option.some Jvm.ClassFile.FieldType.int)) ∈ lw_all := lw_g (lw_at lw_m3 19 rfl) rfl
theorem q622 : (Jvm.Cond.methodLink "java/lang/StringUTF16" (71 : Nat) ({ cls := "java/lang/StringUTF16", name := "getChar", desc := "([BI)C" } : Jvm.MethodName)) ∈ lw_all := lw_g (lw_at lw_m3 20 rfl) rfl
theorem q623 : (Jvm.Cond.static ({ cls := "java/lang/StringUTF16", name := "getChar", desc := "([BI)C" } : Jvm.MethodName)) ∈ lw_all := lw_g (lw_at lw_m3 21 rfl) rfl
theorem q624 : (Jvm.Cond.code ({ cls := "java/lang/StringUTF16", name := "getChar", desc := "([BI)C" } : Jvm.MethodName) prog_41_method_5_code (2 : Nat) (Option.some Jvm.ClassFile.FieldType.char)) ∈ lw_all := lw_g (lw_at lw_m3 22 rfl) rfl
theorem q625 : (Jvm.Cond.methodLink "java/lang/StringUTF16" (126 : Nat) ({ cls := "java/util/Arrays", name := "copyOfRange", desc := "([BII)[B" } : Jvm.MethodName)) ∈ lw_all := lw_g (lw_at lw_m3 23 rfl) rfl
theorem q627 : (Jvm.Cond.static ({ cls := "java/lang/StringUTF16", name := "coderFromArrayLen", desc := "([BI)B" } : Jvm.MethodName)) ∈ lw_all := lw_g (lw_at lw_m3 25 rfl) rfl
theorem q628 : (Jvm.Cond.code ({ cls := "java/lang/StringUTF16", name := "coderFromArrayLen", desc := "([BI)B" } : Jvm.MethodName) prog_41_method_15_code (2 : Nat) (Option.some Jvm.ClassFile.FieldType.byte)) ∈ lw_all := lw_g (lw_at lw_m3 26 rfl) rfl
theorem q687 : (Jvm.Cond.static ({ cls := "java/lang/StringUTF16", name := "fillNull", desc := "([BII)V" } : Jvm.MethodName)) ∈ lw_all := lw_g (lw_at lw_m3 85 rfl) rfl
theorem q688 : (Jvm.Cond.code ({ cls := "java/lang/StringUTF16", name := "fillNull", desc := "([BII)V" } : Jvm.MethodName) prog_41_method_70_code (3 : Nat) (Option.none : Option Jvm.ClassFile.FieldType)) ∈ lw_all := lw_g (lw_at lw_m3 86 rfl) rfl
theorem q689 : (Jvm.Cond.methodLink "java/lang/StringUTF16" (380 : Nat) ({ cls := "java/util/Arrays", name := "fill", desc := "([BIIB)V" } : Jvm.MethodName)) ∈ lw_all := lw_g (lw_at lw_m3 87 rfl) rfl
theorem q1270 : (Jvm.Cond.static ({ cls := "java/lang/StringUTF16", name := "putCharSB", desc := "([BII)V" } : Jvm.MethodName)) ∈ lw_all := lw_g (lw_at lw_m5 188 rfl) rfl
theorem q1271 : (Jvm.Cond.code ({ cls := "java/lang/StringUTF16", name := "putCharSB", desc := "([BII)V" } : Jvm.MethodName) prog_41_method_71_code (3 : Nat) (Option.none : Option Jvm.ClassFile.FieldType)) ∈ lw_all := lw_g (lw_at lw_m5 189 rfl) rfl
theorem q1272 : (Jvm.Cond.methodLink "java/lang/StringUTF16" (67 : Nat) ({ cls := "java/lang/StringUTF16", name := "checkIndex", desc := "(I[B)V" } : Jvm.MethodName)) ∈ lw_all := lw_g (lw_at lw_m5 190 rfl) rfl
theorem q1273 : (Jvm.Cond.static ({ cls := "java/lang/StringUTF16", name := "checkIndex", desc := "(I[B)V" } : Jvm.MethodName)) ∈ lw_all := lw_g (lw_at lw_m5 191 rfl) rfl
theorem q1274 : (Jvm.Cond.code ({ cls := "java/lang/StringUTF16", name := "checkIndex", desc := "(I[B)V" } : Jvm.MethodName) prog_41_method_91_code (2 : Nat) (Option.none : Option Jvm.ClassFile.FieldType)) ∈ lw_all := lw_g (lw_at lw_m5 192 rfl) rfl
theorem q1275 : (Jvm.Cond.methodLink "java/lang/StringUTF16" (414 : Nat) ({ cls := "java/lang/String", name := "checkIndex", desc := "(II)V" } : Jvm.MethodName)) ∈ lw_all := lw_g (lw_at lw_m5 193 rfl) rfl
theorem q1356 : (Jvm.Cond.static ({ cls := "java/lang/StringUTF16", name := "charAt", desc := "([BI)C" } : Jvm.MethodName)) ∈ lw_all := lw_g (lw_at lw_m6 34 rfl) rfl
theorem q1357 : (Jvm.Cond.code ({ cls := "java/lang/StringUTF16", name := "charAt", desc := "([BI)C" } : Jvm.MethodName) prog_41_method_83_code (2 : Nat) (Option.some Jvm.ClassFile.FieldType.char)) ∈ lw_all := lw_g (lw_at lw_m6 35 rfl) rfl
theorem q1678 : (Jvm.Cond.static ({ cls := "java/lang/StringUTF16", name := "compareTo", desc := "([B[B)I" } : Jvm.MethodName)) ∈ lw_all := lw_g (lw_at lw_m7 116 rfl) rfl
theorem q1679 : (Jvm.Cond.code ({ cls := "java/lang/StringUTF16", name := "compareTo", desc := "([B[B)I" } : Jvm.MethodName) prog_41_method_29_code (4 : Nat) (Option.some Jvm.ClassFile.FieldType.int)) ∈ lw_all := lw_g (lw_at lw_m7 117 rfl) rfl
theorem q1680 : (Jvm.Cond.methodLink "java/lang/StringUTF16" (176 : Nat) ({ cls := "java/lang/StringUTF16", name := "compareValues", desc := "([B[BII)I" } : Jvm.MethodName)) ∈ lw_all := lw_g (lw_at lw_m7 118 rfl) rfl
theorem q1681 : (Jvm.Cond.static ({ cls := "java/lang/StringUTF16", name := "compareValues", desc := "([B[BII)I" } : Jvm.MethodName)) ∈ lw_all := lw_g (lw_at lw_m7 119 rfl) rfl
theorem q1682 : (Jvm.Cond.code ({ cls := "java/lang/StringUTF16", name := "compareValues", desc := "([B[BII)I" } : Jvm.MethodName) prog_41_method_31_code (8 : Nat) (Option.some Jvm.ClassFile.FieldType.int)) ∈ lw_all := lw_g (lw_at lw_m7 120 rfl) rfl
theorem q1683 : (Jvm.Cond.methodLink "java/lang/StringUTF16" (183 : Nat) ({ cls := "java/lang/Math", name := "min", desc := "(II)I" } : Jvm.MethodName)) ∈ lw_all := lw_g (lw_at lw_m7 121 rfl) rfl
theorem q1696 : (Jvm.Cond.static ({ cls := "java/lang/StringUTF16", name := "compareToLatin1", desc := "([B[B)I" } : Jvm.MethodName)) ∈ lw_all := lw_g (lw_at lw_m7 134 rfl) rfl
theorem q1697 : (Jvm.Cond.code ({ cls := "java/lang/StringUTF16", name := "compareToLatin1", desc := "([B[B)I" } : Jvm.MethodName) prog_41_method_32_code (2 : Nat) (Option.some Jvm.ClassFile.FieldType.int)) ∈ lw_all := lw_g (lw_at lw_m7 135 rfl) rfl
theorem q1698 : (Jvm.Cond.methodLink "java/lang/StringUTF16" (189 : Nat) ({ cls := "java/lang/StringLatin1", name := "compareToUTF16", desc := "([B[B)I" } : Jvm.MethodName)) ∈ lw_all := lw_g (lw_at lw_m7 136 rfl) rfl
theorem q1715 : (Jvm.Cond.static ({ cls := "java/lang/StringUTF16", name := "compareTo", desc := "([B[BII)I" } : Jvm.MethodName)) ∈ lw_all := lw_g (lw_at lw_m7 153 rfl) rfl
theorem q1716 : (Jvm.Cond.code ({ cls := "java/lang/StringUTF16", name := "compareTo", desc := "([B[BII)I" } : Jvm.MethodName) prog_41_method_30_code (4 : Nat) (Option.some Jvm.ClassFile.FieldType.int)) ∈ lw_all := lw_g (lw_at lw_m7 154 rfl) rfl
theorem q1717 : (Jvm.Cond.methodLink "java/lang/StringUTF16" (180 : Nat) ({ cls := "java/lang/StringUTF16", name := "checkOffset", desc := "(I[B)V" } : Jvm.MethodName)) ∈ lw_all := lw_g (lw_at lw_m7 155 rfl) rfl
theorem q1718 : (Jvm.Cond.static ({ cls := "java/lang/StringUTF16", name := "checkOffset", desc := "(I[B)V" } : Jvm.MethodName)) ∈ lw_all := lw_g (lw_at lw_m7 156 rfl) rfl
theorem q1719 : (Jvm.Cond.code ({ cls := "java/lang/StringUTF16", name := "checkOffset", desc := "(I[B)V" } : Jvm.MethodName) prog_41_method_92_code (2 : Nat) (Option.none : Option Jvm.ClassFile.FieldType)) ∈ lw_all := lw_g (lw_at lw_m7 157 rfl) rfl
theorem q1720 : (Jvm.Cond.methodLink "java/lang/StringUTF16" (417 : Nat) ({ cls := "java/lang/String", name := "checkOffset", desc := "(II)V" } : Jvm.MethodName)) ∈ lw_all := lw_g (lw_at lw_m7 158 rfl) rfl
theorem q1728 : (Jvm.Cond.static ({ cls := "java/lang/StringUTF16", name := "compareToLatin1", desc := "([B[BII)I" } : Jvm.MethodName)) ∈ lw_all := lw_g (lw_at lw_m7 166 rfl) rfl
theorem q1729 : (Jvm.Cond.code ({ cls := "java/lang/StringUTF16", name := "compareToLatin1", desc := "([B[BII)I" } : Jvm.MethodName) prog_41_method_33_code (4 : Nat) (Option.some Jvm.ClassFile.FieldType.int)) ∈ lw_all := lw_g (lw_at lw_m7 167 rfl) rfl
theorem q1730 : (Jvm.Cond.methodLink "java/lang/StringUTF16" (193 : Nat) ({ cls := "java/lang/StringLatin1", name := "compareToUTF16", desc := "([B[BII)I" } : Jvm.MethodName)) ∈ lw_all := lw_g (lw_at lw_m7 168 rfl) rfl
theorem q2456 : (Jvm.Cond.static ({ cls := "java/lang/StringUTF16", name := "indexOf", desc := "([BIII)I" } : Jvm.MethodName)) ∈ lw_all := lw_g (lw_at lw_m10 174 rfl) rfl
theorem q2457 : (Jvm.Cond.code ({ cls := "java/lang/StringUTF16", name := "indexOf", desc := "([BIII)I" } : Jvm.MethodName) prog_41_method_40_code (4 : Nat) (Option.some Jvm.ClassFile.FieldType.int)) ∈ lw_all := lw_g (lw_at lw_m10 175 rfl) rfl
theorem q2458 : (Jvm.Cond.methodLink "java/lang/StringUTF16" (224 : Nat) ({ cls := "java/lang/Math", name := "max", desc := "(II)I" } : Jvm.MethodName)) ∈ lw_all := lw_g (lw_at lw_m10 176 rfl) rfl
theorem q2459 : (Jvm.Cond.constant "java/lang/StringUTF16" (227 : Nat) (65536 : Int32)) ∈ lw_all := lw_g (lw_at lw_m10 177 rfl) rfl
theorem q2460 : (Jvm.Cond.methodLink "java/lang/StringUTF16" (228 : Nat) ({ cls := "java/lang/StringUTF16", name := "indexOfChar", desc := "([BIII)I" } : Jvm.MethodName)) ∈ lw_all := lw_g (lw_at lw_m10 178 rfl) rfl
theorem q2461 : (Jvm.Cond.static ({ cls := "java/lang/StringUTF16", name := "indexOfChar", desc := "([BIII)I" } : Jvm.MethodName)) ∈ lw_all := lw_g (lw_at lw_m10 179 rfl) rfl
theorem q2462 : (Jvm.Cond.code ({ cls := "java/lang/StringUTF16", name := "indexOfChar", desc := "([BIII)I" } : Jvm.MethodName) prog_41_method_47_code (4 : Nat) (Option.some Jvm.ClassFile.FieldType.int)) ∈ lw_all := lw_g (lw_at lw_m10 180 rfl) rfl
theorem q2463 : (Jvm.Cond.methodLink "java/lang/StringUTF16" (244 : Nat) ({ cls := "java/lang/StringUTF16", name := "indexOfCharUnsafe", desc := "([BIII)I" } : Jvm.MethodName)) ∈ lw_all := lw_g (lw_at lw_m10 181 rfl) rfl
theorem q2464 : (Jvm.Cond.static ({ cls := "java/lang/StringUTF16", name := "indexOfCharUnsafe", desc := "([BIII)I" } : Jvm.MethodName)) ∈ lw_all := lw_g (lw_at lw_m10 182 rfl) rfl
theorem q2465 : (Jvm.Cond.code ({ cls := "java/lang/StringUTF16", name := "indexOfCharUnsafe", desc := "([BIII)I" } : Jvm.MethodName) prog_41_method_48_code (5 : Nat) (Option.some Jvm.ClassFile.FieldType.int)) ∈ lw_all := lw_g (lw_at lw_m10 183 rfl) rfl
theorem q2466 : (Jvm.Cond.methodLink "java/lang/StringUTF16" (232 : Nat) ({ cls := "java/lang/StringUTF16", name := "indexOfSupplementary", desc := "([BIII)I" } : Jvm.MethodName)) ∈ lw_all := lw_g (lw_at lw_m10 184 rfl) rfl
theorem q2467 : (Jvm.Cond.static ({ cls := "java/lang/StringUTF16", name := "indexOfSupplementary", desc := "([BIII)I" } : Jvm.MethodName)) ∈ lw_all := lw_g (lw_at lw_m10 185 rfl) rfl
theorem q2468 : (Jvm.Cond.code ({ cls := "java/lang/StringUTF16", name := "indexOfSupplementary", desc := "([BIII)I" } : Jvm.MethodName) prog_41_method_49_code (7 : Nat) (Option.some Jvm.ClassFile.FieldType.int)) ∈ lw_all := lw_g (lw_at lw_m10 186 rfl) rfl
theorem q2469 : (Jvm.Cond.methodLink "java/lang/StringUTF16" (164 : Nat) ({ cls := "java/lang/Character", name := "isValidCodePoint", desc := "(I)Z" } : Jvm.MethodName)) ∈ lw_all := lw_g (lw_at lw_m10 187 rfl) rfl
theorem q2472 : (Jvm.Cond.methodLink "java/lang/StringUTF16" (157 : Nat) ({ cls := "java/lang/Character", name := "highSurrogate", desc := "(I)C" } : Jvm.MethodName)) ∈ lw_all := lw_g (lw_at lw_m10 190 rfl) rfl
theorem q2476 : (Jvm.Cond.methodLink "java/lang/StringUTF16" (161 : Nat) ({ cls := "java/lang/Character", name := "lowSurrogate", desc := "(I)C" } : Jvm.MethodName)) ∈ lw_all := lw_g (lw_at lw_m10 194 rfl) rfl
/-! java/util/BitSet -/
set_option maxRecDepth 100000
def RJ18 : String := "java/util/BitSet"
def TJ18 : u_T := fun k => match k with
  | 0 => ("java/util/BitSet", "words", "[J", false)
  | 1 => ("java/util/BitSet", "wordsInUse", "I", false)
  | _ => ("java/util/BitSet", "sizeIsSticky", "Z", false)
def tyJ18 : Nat → FieldType := fun k => match k with
  | 0 => .array .long
  | 1 => .int
  | _ => .boolean
abbrev wsJ180 : List Cond := u_ws RJ18 TJ18 3
theorem nmJ18 : ∀ a, a < 3 → ∀ b, b < 3 → a ≠ b → (TJ18 a).2.1 ≠ (TJ18 b).2.1 := by decide +kernel
theorem tyJ18_ok : ∀ k, k < 3 → parseFieldDescriptor (TJ18 k).2.2.1 = some (tyJ18 k) := by decide +kernel
abbrev cJ18_get : ByteArray := prog_59_method_26_code
def yJ18_get : MethodName := ⟨RJ18, "get", "(I)Z"⟩
def dkwJ18_get_2 : List UInt8 := [42, 180, 0, 11, 28, 47, 10, 27, 121, 127, 9, 148, 153, 0, 7, 4, 167, 0, 4, 3, 172]
abbrev dktJ18_get_2 : List UInt8 := dkwJ18_get_2 ++ []
def dkwJ18_get_1 : List UInt8 := [182, 0, 45, 183, 0, 146, 191, 42, 182, 0, 56, 27, 184, 0, 52, 61, 28, 42, 180, 0, 7, 162, 0, 22]
abbrev dktJ18_get_1 : List UInt8 := dkwJ18_get_1 ++ dktJ18_get_2
def dkwJ18_get_0 : List UInt8 := [27, 156, 0, 30, 187, 0, 142, 89, 187, 0, 33, 89, 183, 0, 35, 18, 153, 182, 0, 38, 27, 182, 0, 42]
abbrev dktJ18_get_0 : List UInt8 := dkwJ18_get_0 ++ dktJ18_get_1
theorem dksJ18_get_0 : cJ18_get.data.toList.drop 0 = dktJ18_get_0 := by decide +kernel
theorem dksJ18_get_1 : cJ18_get.data.toList.drop 24 = dktJ18_get_1 := dk_seg dksJ18_get_0 24 rfl rfl
theorem dksJ18_get_2 : cJ18_get.data.toList.drop 48 = dktJ18_get_2 := dk_seg dksJ18_get_1 24 rfl rfl
theorem dJ18_get_0 : decode cJ18_get 0 = .ok (.iload_n 1, 1) := dk_27 (dk_at dksJ18_get_0 0 rfl rfl)
theorem dJ18_get_1 : decode cJ18_get 1 = .ok (.ifCond .ge 30, 3) := dk_156 0 30 (dk_at dksJ18_get_0 1 rfl rfl)
theorem dJ18_get_4 : decode cJ18_get 4 = .ok (.new 142, 3) := dk_187 0 142 (dk_at dksJ18_get_0 4 rfl rfl)
theorem dJ18_get_7 : decode cJ18_get 7 = .ok (.dup, 1) := dk_89 (dk_at dksJ18_get_0 7 rfl rfl)
theorem dJ18_get_8 : decode cJ18_get 8 = .ok (.new 33, 3) := dk_187 0 33 (dk_at dksJ18_get_0 8 rfl rfl)
theorem dJ18_get_11 : decode cJ18_get 11 = .ok (.dup, 1) := dk_89 (dk_at dksJ18_get_0 11 rfl rfl)
theorem dJ18_get_12 : decode cJ18_get 12 = .ok (.invokespecial 35, 3) := dk_183 0 35 (dk_at dksJ18_get_0 12 rfl rfl)
theorem dJ18_get_15 : decode cJ18_get 15 = .ok (.ldc 153, 2) := dk_18 153 (dk_at dksJ18_get_0 15 rfl rfl)
theorem dJ18_get_17 : decode cJ18_get 17 = .ok (.invokevirtual 38, 3) := dk_182 0 38 (dk_at dksJ18_get_0 17 rfl rfl)
theorem dJ18_get_20 : decode cJ18_get 20 = .ok (.iload_n 1, 1) := dk_27 (dk_at dksJ18_get_0 20 rfl rfl)
theorem dJ18_get_21 : decode cJ18_get 21 = .ok (.invokevirtual 42, 3) := dk_182 0 42 (dk_at dksJ18_get_0 21 rfl rfl)
theorem dJ18_get_24 : decode cJ18_get 24 = .ok (.invokevirtual 45, 3) := dk_182 0 45 (dk_at dksJ18_get_1 0 rfl rfl)
theorem dJ18_get_27 : decode cJ18_get 27 = .ok (.invokespecial 146, 3) := dk_183 0 146 (dk_at dksJ18_get_1 3 rfl rfl)
theorem dJ18_get_30 : decode cJ18_get 30 = .ok (.athrow, 1) := dk_191 (dk_at dksJ18_get_1 6 rfl rfl)
theorem dJ18_get_31 : decode cJ18_get 31 = .ok (.aload_n 0, 1) := dk_42 (dk_at dksJ18_get_1 7 rfl rfl)
theorem dJ18_get_32 : decode cJ18_get 32 = .ok (.invokevirtual 56, 3) := dk_182 0 56 (dk_at dksJ18_get_1 8 rfl rfl)
theorem dJ18_get_35 : decode cJ18_get 35 = .ok (.iload_n 1, 1) := dk_27 (dk_at dksJ18_get_1 11 rfl rfl)
theorem dJ18_get_36 : decode cJ18_get 36 = .ok (.invokestatic 52, 3) := dk_184 0 52 (dk_at dksJ18_get_1 12 rfl rfl)
theorem dJ18_get_39 : decode cJ18_get 39 = .ok (.istore_n 2, 1) := dk_61 (dk_at dksJ18_get_1 15 rfl rfl)
theorem dJ18_get_40 : decode cJ18_get 40 = .ok (.iload_n 2, 1) := dk_28 (dk_at dksJ18_get_1 16 rfl rfl)
theorem dJ18_get_41 : decode cJ18_get 41 = .ok (.aload_n 0, 1) := dk_42 (dk_at dksJ18_get_1 17 rfl rfl)
theorem dJ18_get_42 : decode cJ18_get 42 = .ok (.getfield 7, 3) := dk_180 0 7 (dk_at dksJ18_get_1 18 rfl rfl)
theorem dJ18_get_45 : decode cJ18_get 45 = .ok (.if_icmp .ge 22, 3) := dk_162 0 22 (dk_at dksJ18_get_1 21 rfl rfl)
theorem dJ18_get_48 : decode cJ18_get 48 = .ok (.aload_n 0, 1) := dk_42 (dk_at dksJ18_get_2 0 rfl rfl)
theorem dJ18_get_49 : decode cJ18_get 49 = .ok (.getfield 11, 3) := dk_180 0 11 (dk_at dksJ18_get_2 1 rfl rfl)
theorem dJ18_get_52 : decode cJ18_get 52 = .ok (.iload_n 2, 1) := dk_28 (dk_at dksJ18_get_2 4 rfl rfl)
theorem dJ18_get_53 : decode cJ18_get 53 = .ok (.laload, 1) := dk_47 (dk_at dksJ18_get_2 5 rfl rfl)
theorem dJ18_get_54 : decode cJ18_get 54 = .ok (.lconst 1, 1) := dk_10 (dk_at dksJ18_get_2 6 rfl rfl)
theorem dJ18_get_55 : decode cJ18_get 55 = .ok (.iload_n 1, 1) := dk_27 (dk_at dksJ18_get_2 7 rfl rfl)
theorem dJ18_get_56 : decode cJ18_get 56 = .ok (.lshl, 1) := dk_121 (dk_at dksJ18_get_2 8 rfl rfl)
theorem dJ18_get_57 : decode cJ18_get 57 = .ok (.land, 1) := dk_127 (dk_at dksJ18_get_2 9 rfl rfl)
theorem dJ18_get_58 : decode cJ18_get 58 = .ok (.lconst 0, 1) := dk_9 (dk_at dksJ18_get_2 10 rfl rfl)
theorem dJ18_get_59 : decode cJ18_get 59 = .ok (.lcmp, 1) := dk_148 (dk_at dksJ18_get_2 11 rfl rfl)
theorem dJ18_get_60 : decode cJ18_get 60 = .ok (.ifCond .eq 7, 3) := dk_153 0 7 (dk_at dksJ18_get_2 12 rfl rfl)
theorem dJ18_get_63 : decode cJ18_get 63 = .ok (.iconst 1, 1) := dk_4 (dk_at dksJ18_get_2 15 rfl rfl)
theorem dJ18_get_64 : decode cJ18_get 64 = .ok (.goto 4, 3) := dk_167 0 4 (dk_at dksJ18_get_2 16 rfl rfl)
theorem dJ18_get_67 : decode cJ18_get 67 = .ok (.iconst 0, 1) := dk_3 (dk_at dksJ18_get_2 19 rfl rfl)
theorem dJ18_get_68 : decode cJ18_get 68 = .ok (.ireturn, 1) := dk_172 (dk_at dksJ18_get_2 20 rfl rfl)
abbrev cJ18_checkInvariants : ByteArray := prog_59_method_2_code
def yJ18_checkInvariants : MethodName := ⟨RJ18, "checkInvariants", "()V"⟩
def dkwJ18_checkInvariants_4 : List UInt8 := [180, 0, 7, 47, 9, 148, 153, 0, 11, 187, 0, 15, 89, 183, 0, 17, 191, 177]
abbrev dktJ18_checkInvariants_4 : List UInt8 := dkwJ18_checkInvariants_4 ++ []
def dkwJ18_checkInvariants_3 : List UInt8 := [178, 0, 3, 154, 0, 37, 42, 180, 0, 7, 42, 180, 0, 11, 190, 159, 0, 25, 42, 180, 0, 11, 42]
abbrev dktJ18_checkInvariants_3 : List UInt8 := dkwJ18_checkInvariants_3 ++ dktJ18_checkInvariants_4
def dkwJ18_checkInvariants_2 : List UInt8 := [155, 0, 15, 42, 180, 0, 7, 42, 180, 0, 11, 190, 164, 0, 11, 187, 0, 15, 89, 183, 0, 17, 191]
abbrev dktJ18_checkInvariants_2 : List UInt8 := dkwJ18_checkInvariants_2 ++ dktJ18_checkInvariants_3
def dkwJ18_checkInvariants_1 : List UInt8 := [9, 148, 154, 0, 11, 187, 0, 15, 89, 183, 0, 17, 191, 178, 0, 3, 154, 0, 30, 42, 180, 0, 7]
abbrev dktJ18_checkInvariants_1 : List UInt8 := dkwJ18_checkInvariants_1 ++ dktJ18_checkInvariants_2
def dkwJ18_checkInvariants_0 : List UInt8 := [178, 0, 3, 154, 0, 34, 42, 180, 0, 7, 153, 0, 27, 42, 180, 0, 11, 42, 180, 0, 7, 4, 100, 47]
abbrev dktJ18_checkInvariants_0 : List UInt8 := dkwJ18_checkInvariants_0 ++ dktJ18_checkInvariants_1
theorem dksJ18_checkInvariants_0 : cJ18_checkInvariants.data.toList.drop 0 = dktJ18_checkInvariants_0 := by decide +kernel
theorem dksJ18_checkInvariants_1 : cJ18_checkInvariants.data.toList.drop 24 = dktJ18_checkInvariants_1 := dk_seg dksJ18_checkInvariants_0 24 rfl rfl
theorem dksJ18_checkInvariants_2 : cJ18_checkInvariants.data.toList.drop 47 = dktJ18_checkInvariants_2 := dk_seg dksJ18_checkInvariants_1 23 rfl rfl
theorem dksJ18_checkInvariants_3 : cJ18_checkInvariants.data.toList.drop 70 = dktJ18_checkInvariants_3 := dk_seg dksJ18_checkInvariants_2 23 rfl rfl
theorem dksJ18_checkInvariants_4 : cJ18_checkInvariants.data.toList.drop 93 = dktJ18_checkInvariants_4 := dk_seg dksJ18_checkInvariants_3 23 rfl rfl
theorem dJ18_checkInvariants_0 : decode cJ18_checkInvariants 0 = .ok (.getstatic 3, 3) := dk_178 0 3 (dk_at dksJ18_checkInvariants_0 0 rfl rfl)
theorem dJ18_checkInvariants_3 : decode cJ18_checkInvariants 3 = .ok (.ifCond .ne 34, 3) := dk_154 0 34 (dk_at dksJ18_checkInvariants_0 3 rfl rfl)
theorem dJ18_checkInvariants_6 : decode cJ18_checkInvariants 6 = .ok (.aload_n 0, 1) := dk_42 (dk_at dksJ18_checkInvariants_0 6 rfl rfl)
theorem dJ18_checkInvariants_7 : decode cJ18_checkInvariants 7 = .ok (.getfield 7, 3) := dk_180 0 7 (dk_at dksJ18_checkInvariants_0 7 rfl rfl)
theorem dJ18_checkInvariants_10 : decode cJ18_checkInvariants 10 = .ok (.ifCond .eq 27, 3) := dk_153 0 27 (dk_at dksJ18_checkInvariants_0 10 rfl rfl)
theorem dJ18_checkInvariants_13 : decode cJ18_checkInvariants 13 = .ok (.aload_n 0, 1) := dk_42 (dk_at dksJ18_checkInvariants_0 13 rfl rfl)
theorem dJ18_checkInvariants_14 : decode cJ18_checkInvariants 14 = .ok (.getfield 11, 3) := dk_180 0 11 (dk_at dksJ18_checkInvariants_0 14 rfl rfl)
theorem dJ18_checkInvariants_17 : decode cJ18_checkInvariants 17 = .ok (.aload_n 0, 1) := dk_42 (dk_at dksJ18_checkInvariants_0 17 rfl rfl)
theorem dJ18_checkInvariants_18 : decode cJ18_checkInvariants 18 = .ok (.getfield 7, 3) := dk_180 0 7 (dk_at dksJ18_checkInvariants_0 18 rfl rfl)
theorem dJ18_checkInvariants_21 : decode cJ18_checkInvariants 21 = .ok (.iconst 1, 1) := dk_4 (dk_at dksJ18_checkInvariants_0 21 rfl rfl)
theorem dJ18_checkInvariants_22 : decode cJ18_checkInvariants 22 = .ok (.isub, 1) := dk_100 (dk_at dksJ18_checkInvariants_0 22 rfl rfl)
theorem dJ18_checkInvariants_23 : decode cJ18_checkInvariants 23 = .ok (.laload, 1) := dk_47 (dk_at dksJ18_checkInvariants_0 23 rfl rfl)
theorem dJ18_checkInvariants_24 : decode cJ18_checkInvariants 24 = .ok (.lconst 0, 1) := dk_9 (dk_at dksJ18_checkInvariants_1 0 rfl rfl)
theorem dJ18_checkInvariants_25 : decode cJ18_checkInvariants 25 = .ok (.lcmp, 1) := dk_148 (dk_at dksJ18_checkInvariants_1 1 rfl rfl)
theorem dJ18_checkInvariants_26 : decode cJ18_checkInvariants 26 = .ok (.ifCond .ne 11, 3) := dk_154 0 11 (dk_at dksJ18_checkInvariants_1 2 rfl rfl)
theorem dJ18_checkInvariants_29 : decode cJ18_checkInvariants 29 = .ok (.new 15, 3) := dk_187 0 15 (dk_at dksJ18_checkInvariants_1 5 rfl rfl)
theorem dJ18_checkInvariants_32 : decode cJ18_checkInvariants 32 = .ok (.dup, 1) := dk_89 (dk_at dksJ18_checkInvariants_1 8 rfl rfl)
theorem dJ18_checkInvariants_33 : decode cJ18_checkInvariants 33 = .ok (.invokespecial 17, 3) := dk_183 0 17 (dk_at dksJ18_checkInvariants_1 9 rfl rfl)
theorem dJ18_checkInvariants_36 : decode cJ18_checkInvariants 36 = .ok (.athrow, 1) := dk_191 (dk_at dksJ18_checkInvariants_1 12 rfl rfl)
theorem dJ18_checkInvariants_37 : decode cJ18_checkInvariants 37 = .ok (.getstatic 3, 3) := dk_178 0 3 (dk_at dksJ18_checkInvariants_1 13 rfl rfl)
theorem dJ18_checkInvariants_40 : decode cJ18_checkInvariants 40 = .ok (.ifCond .ne 30, 3) := dk_154 0 30 (dk_at dksJ18_checkInvariants_1 16 rfl rfl)
theorem dJ18_checkInvariants_43 : decode cJ18_checkInvariants 43 = .ok (.aload_n 0, 1) := dk_42 (dk_at dksJ18_checkInvariants_1 19 rfl rfl)
theorem dJ18_checkInvariants_44 : decode cJ18_checkInvariants 44 = .ok (.getfield 7, 3) := dk_180 0 7 (dk_at dksJ18_checkInvariants_1 20 rfl rfl)
theorem dJ18_checkInvariants_47 : decode cJ18_checkInvariants 47 = .ok (.ifCond .lt 15, 3) := dk_155 0 15 (dk_at dksJ18_checkInvariants_2 0 rfl rfl)
theorem dJ18_checkInvariants_50 : decode cJ18_checkInvariants 50 = .ok (.aload_n 0, 1) := dk_42 (dk_at dksJ18_checkInvariants_2 3 rfl rfl)
theorem dJ18_checkInvariants_51 : decode cJ18_checkInvariants 51 = .ok (.getfield 7, 3) := dk_180 0 7 (dk_at dksJ18_checkInvariants_2 4 rfl rfl)
theorem dJ18_checkInvariants_54 : decode cJ18_checkInvariants 54 = .ok (.aload_n 0, 1) := dk_42 (dk_at dksJ18_checkInvariants_2 7 rfl rfl)
theorem dJ18_checkInvariants_55 : decode cJ18_checkInvariants 55 = .ok (.getfield 11, 3) := dk_180 0 11 (dk_at dksJ18_checkInvariants_2 8 rfl rfl)
theorem dJ18_checkInvariants_58 : decode cJ18_checkInvariants 58 = .ok (.arraylength, 1) := dk_190 (dk_at dksJ18_checkInvariants_2 11 rfl rfl)
theorem dJ18_checkInvariants_59 : decode cJ18_checkInvariants 59 = .ok (.if_icmp .le 11, 3) := dk_164 0 11 (dk_at dksJ18_checkInvariants_2 12 rfl rfl)
theorem dJ18_checkInvariants_62 : decode cJ18_checkInvariants 62 = .ok (.new 15, 3) := dk_187 0 15 (dk_at dksJ18_checkInvariants_2 15 rfl rfl)
theorem dJ18_checkInvariants_65 : decode cJ18_checkInvariants 65 = .ok (.dup, 1) := dk_89 (dk_at dksJ18_checkInvariants_2 18 rfl rfl)
theorem dJ18_checkInvariants_66 : decode cJ18_checkInvariants 66 = .ok (.invokespecial 17, 3) := dk_183 0 17 (dk_at dksJ18_checkInvariants_2 19 rfl rfl)
theorem dJ18_checkInvariants_69 : decode cJ18_checkInvariants 69 = .ok (.athrow, 1) := dk_191 (dk_at dksJ18_checkInvariants_2 22 rfl rfl)
theorem dJ18_checkInvariants_70 : decode cJ18_checkInvariants 70 = .ok (.getstatic 3, 3) := dk_178 0 3 (dk_at dksJ18_checkInvariants_3 0 rfl rfl)
theorem dJ18_checkInvariants_73 : decode cJ18_checkInvariants 73 = .ok (.ifCond .ne 37, 3) := dk_154 0 37 (dk_at dksJ18_checkInvariants_3 3 rfl rfl)
theorem dJ18_checkInvariants_76 : decode cJ18_checkInvariants 76 = .ok (.aload_n 0, 1) := dk_42 (dk_at dksJ18_checkInvariants_3 6 rfl rfl)
theorem dJ18_checkInvariants_77 : decode cJ18_checkInvariants 77 = .ok (.getfield 7, 3) := dk_180 0 7 (dk_at dksJ18_checkInvariants_3 7 rfl rfl)
theorem dJ18_checkInvariants_80 : decode cJ18_checkInvariants 80 = .ok (.aload_n 0, 1) := dk_42 (dk_at dksJ18_checkInvariants_3 10 rfl rfl)
theorem dJ18_checkInvariants_81 : decode cJ18_checkInvariants 81 = .ok (.getfield 11, 3) := dk_180 0 11 (dk_at dksJ18_checkInvariants_3 11 rfl rfl)
theorem dJ18_checkInvariants_84 : decode cJ18_checkInvariants 84 = .ok (.arraylength, 1) := dk_190 (dk_at dksJ18_checkInvariants_3 14 rfl rfl)
theorem dJ18_checkInvariants_85 : decode cJ18_checkInvariants 85 = .ok (.if_icmp .eq 25, 3) := dk_159 0 25 (dk_at dksJ18_checkInvariants_3 15 rfl rfl)
theorem dJ18_checkInvariants_88 : decode cJ18_checkInvariants 88 = .ok (.aload_n 0, 1) := dk_42 (dk_at dksJ18_checkInvariants_3 18 rfl rfl)
theorem dJ18_checkInvariants_89 : decode cJ18_checkInvariants 89 = .ok (.getfield 11, 3) := dk_180 0 11 (dk_at dksJ18_checkInvariants_3 19 rfl rfl)
theorem dJ18_checkInvariants_92 : decode cJ18_checkInvariants 92 = .ok (.aload_n 0, 1) := dk_42 (dk_at dksJ18_checkInvariants_3 22 rfl rfl)
theorem dJ18_checkInvariants_93 : decode cJ18_checkInvariants 93 = .ok (.getfield 7, 3) := dk_180 0 7 (dk_at dksJ18_checkInvariants_4 0 rfl rfl)
theorem dJ18_checkInvariants_96 : decode cJ18_checkInvariants 96 = .ok (.laload, 1) := dk_47 (dk_at dksJ18_checkInvariants_4 3 rfl rfl)
theorem dJ18_checkInvariants_97 : decode cJ18_checkInvariants 97 = .ok (.lconst 0, 1) := dk_9 (dk_at dksJ18_checkInvariants_4 4 rfl rfl)
theorem dJ18_checkInvariants_98 : decode cJ18_checkInvariants 98 = .ok (.lcmp, 1) := dk_148 (dk_at dksJ18_checkInvariants_4 5 rfl rfl)
theorem dJ18_checkInvariants_99 : decode cJ18_checkInvariants 99 = .ok (.ifCond .eq 11, 3) := dk_153 0 11 (dk_at dksJ18_checkInvariants_4 6 rfl rfl)
theorem dJ18_checkInvariants_102 : decode cJ18_checkInvariants 102 = .ok (.new 15, 3) := dk_187 0 15 (dk_at dksJ18_checkInvariants_4 9 rfl rfl)
theorem dJ18_checkInvariants_105 : decode cJ18_checkInvariants 105 = .ok (.dup, 1) := dk_89 (dk_at dksJ18_checkInvariants_4 12 rfl rfl)
theorem dJ18_checkInvariants_106 : decode cJ18_checkInvariants 106 = .ok (.invokespecial 17, 3) := dk_183 0 17 (dk_at dksJ18_checkInvariants_4 13 rfl rfl)
theorem dJ18_checkInvariants_109 : decode cJ18_checkInvariants 109 = .ok (.athrow, 1) := dk_191 (dk_at dksJ18_checkInvariants_4 16 rfl rfl)
theorem dJ18_checkInvariants_110 : decode cJ18_checkInvariants 110 = .ok (.return_, 1) := dk_177 (dk_at dksJ18_checkInvariants_4 17 rfl rfl)
abbrev cJ18_wordIndex : ByteArray := prog_59_method_1_code
def yJ18_wordIndex : MethodName := ⟨RJ18, "wordIndex", "(I)I"⟩
def dkwJ18_wordIndex_0 : List UInt8 := [26, 16, 6, 122, 172]
abbrev dktJ18_wordIndex_0 : List UInt8 := dkwJ18_wordIndex_0 ++ []
theorem dksJ18_wordIndex_0 : cJ18_wordIndex.data.toList.drop 0 = dktJ18_wordIndex_0 := by decide +kernel
theorem dJ18_wordIndex_0 : decode cJ18_wordIndex 0 = .ok (.iload_n 0, 1) := dk_26 (dk_at dksJ18_wordIndex_0 0 rfl rfl)
theorem dJ18_wordIndex_1 : decode cJ18_wordIndex 1 = .ok (.bipush 6, 2) := dk_16 6 (dk_at dksJ18_wordIndex_0 1 rfl rfl)
theorem dJ18_wordIndex_3 : decode cJ18_wordIndex 3 = .ok (.ishr, 1) := dk_122 (dk_at dksJ18_wordIndex_0 3 rfl rfl)
theorem dJ18_wordIndex_4 : decode cJ18_wordIndex 4 = .ok (.ireturn, 1) := dk_172 (dk_at dksJ18_wordIndex_0 4 rfl rfl)
abbrev cJ18_init : ByteArray := prog_59_method_4_code
def yJ18_init : MethodName := ⟨RJ18, "<init>", "()V"⟩
def dkwJ18_init_1 : List UInt8 := [181, 0, 24, 177]
abbrev dktJ18_init_1 : List UInt8 := dkwJ18_init_1 ++ []
def dkwJ18_init_0 : List UInt8 := [42, 183, 0, 21, 42, 3, 181, 0, 7, 42, 3, 181, 0, 24, 42, 16, 64, 182, 0, 27, 42, 3]
abbrev dktJ18_init_0 : List UInt8 := dkwJ18_init_0 ++ dktJ18_init_1
theorem dksJ18_init_0 : cJ18_init.data.toList.drop 0 = dktJ18_init_0 := by decide +kernel
theorem dksJ18_init_1 : cJ18_init.data.toList.drop 22 = dktJ18_init_1 := dk_seg dksJ18_init_0 22 rfl rfl
theorem dJ18_init_0 : decode cJ18_init 0 = .ok (.aload_n 0, 1) := dk_42 (dk_at dksJ18_init_0 0 rfl rfl)
theorem dJ18_init_1 : decode cJ18_init 1 = .ok (.invokespecial 21, 3) := dk_183 0 21 (dk_at dksJ18_init_0 1 rfl rfl)
theorem dJ18_init_4 : decode cJ18_init 4 = .ok (.aload_n 0, 1) := dk_42 (dk_at dksJ18_init_0 4 rfl rfl)
theorem dJ18_init_5 : decode cJ18_init 5 = .ok (.iconst 0, 1) := dk_3 (dk_at dksJ18_init_0 5 rfl rfl)
theorem dJ18_init_6 : decode cJ18_init 6 = .ok (.putfield 7, 3) := dk_181 0 7 (dk_at dksJ18_init_0 6 rfl rfl)
theorem dJ18_init_9 : decode cJ18_init 9 = .ok (.aload_n 0, 1) := dk_42 (dk_at dksJ18_init_0 9 rfl rfl)
theorem dJ18_init_10 : decode cJ18_init 10 = .ok (.iconst 0, 1) := dk_3 (dk_at dksJ18_init_0 10 rfl rfl)
theorem dJ18_init_11 : decode cJ18_init 11 = .ok (.putfield 24, 3) := dk_181 0 24 (dk_at dksJ18_init_0 11 rfl rfl)
theorem dJ18_init_14 : decode cJ18_init 14 = .ok (.aload_n 0, 1) := dk_42 (dk_at dksJ18_init_0 14 rfl rfl)
theorem dJ18_init_15 : decode cJ18_init 15 = .ok (.bipush 64, 2) := dk_16 64 (dk_at dksJ18_init_0 15 rfl rfl)
theorem dJ18_init_17 : decode cJ18_init 17 = .ok (.invokevirtual 27, 3) := dk_182 0 27 (dk_at dksJ18_init_0 17 rfl rfl)
theorem dJ18_init_20 : decode cJ18_init 20 = .ok (.aload_n 0, 1) := dk_42 (dk_at dksJ18_init_0 20 rfl rfl)
theorem dJ18_init_21 : decode cJ18_init 21 = .ok (.iconst 0, 1) := dk_3 (dk_at dksJ18_init_0 21 rfl rfl)
theorem dJ18_init_22 : decode cJ18_init 22 = .ok (.putfield 24, 3) := dk_181 0 24 (dk_at dksJ18_init_1 0 rfl rfl)
theorem dJ18_init_25 : decode cJ18_init 25 = .ok (.return_, 1) := dk_177 (dk_at dksJ18_init_1 3 rfl rfl)
abbrev cJ18_initWords : ByteArray := prog_59_method_6_code
def yJ18_initWords : MethodName := ⟨RJ18, "initWords", "(I)V"⟩
def dkwJ18_initWords_0 : List UInt8 := [42, 27, 4, 100, 184, 0, 52, 4, 96, 188, 11, 181, 0, 11, 177]
abbrev dktJ18_initWords_0 : List UInt8 := dkwJ18_initWords_0 ++ []
theorem dksJ18_initWords_0 : cJ18_initWords.data.toList.drop 0 = dktJ18_initWords_0 := by decide +kernel
theorem dJ18_initWords_0 : decode cJ18_initWords 0 = .ok (.aload_n 0, 1) := dk_42 (dk_at dksJ18_initWords_0 0 rfl rfl)
theorem dJ18_initWords_1 : decode cJ18_initWords 1 = .ok (.iload_n 1, 1) := dk_27 (dk_at dksJ18_initWords_0 1 rfl rfl)
theorem dJ18_initWords_2 : decode cJ18_initWords 2 = .ok (.iconst 1, 1) := dk_4 (dk_at dksJ18_initWords_0 2 rfl rfl)
theorem dJ18_initWords_3 : decode cJ18_initWords 3 = .ok (.isub, 1) := dk_100 (dk_at dksJ18_initWords_0 3 rfl rfl)
theorem dJ18_initWords_4 : decode cJ18_initWords 4 = .ok (.invokestatic 52, 3) := dk_184 0 52 (dk_at dksJ18_initWords_0 4 rfl rfl)
theorem dJ18_initWords_7 : decode cJ18_initWords 7 = .ok (.iconst 1, 1) := dk_4 (dk_at dksJ18_initWords_0 7 rfl rfl)
theorem dJ18_initWords_8 : decode cJ18_initWords 8 = .ok (.iadd, 1) := dk_96 (dk_at dksJ18_initWords_0 8 rfl rfl)
theorem dJ18_initWords_9 : decode cJ18_initWords 9 = .ok (.newarray .long, 2) := dk_188_11 (dk_at dksJ18_initWords_0 9 rfl rfl)
theorem dJ18_initWords_11 : decode cJ18_initWords 11 = .ok (.putfield 11, 3) := dk_181 0 11 (dk_at dksJ18_initWords_0 11 rfl rfl)
theorem dJ18_initWords_14 : decode cJ18_initWords 14 = .ok (.return_, 1) := dk_177 (dk_at dksJ18_initWords_0 14 rfl rfl)
abbrev cJ18_set : ByteArray := prog_59_method_19_code
def yJ18_set : MethodName := ⟨RJ18, "set", "(I)V"⟩
def dkwJ18_set_2 : List UInt8 := [10, 27, 121, 129, 80, 42, 182, 0, 56, 177]
abbrev dktJ18_set_2 : List UInt8 := dkwJ18_set_2 ++ []
def dkwJ18_set_1 : List UInt8 := [182, 0, 45, 183, 0, 146, 191, 27, 184, 0, 52, 61, 42, 28, 182, 0, 155, 42, 180, 0, 11, 28, 92, 47]
abbrev dktJ18_set_1 : List UInt8 := dkwJ18_set_1 ++ dktJ18_set_2
def dkwJ18_set_0 : List UInt8 := [27, 156, 0, 30, 187, 0, 142, 89, 187, 0, 33, 89, 183, 0, 35, 18, 153, 182, 0, 38, 27, 182, 0, 42]
abbrev dktJ18_set_0 : List UInt8 := dkwJ18_set_0 ++ dktJ18_set_1
theorem dksJ18_set_0 : cJ18_set.data.toList.drop 0 = dktJ18_set_0 := by decide +kernel
theorem dksJ18_set_1 : cJ18_set.data.toList.drop 24 = dktJ18_set_1 := dk_seg dksJ18_set_0 24 rfl rfl
theorem dksJ18_set_2 : cJ18_set.data.toList.drop 48 = dktJ18_set_2 := dk_seg dksJ18_set_1 24 rfl rfl
theorem dJ18_set_0 : decode cJ18_set 0 = .ok (.iload_n 1, 1) := dk_27 (dk_at dksJ18_set_0 0 rfl rfl)
theorem dJ18_set_1 : decode cJ18_set 1 = .ok (.ifCond .ge 30, 3) := dk_156 0 30 (dk_at dksJ18_set_0 1 rfl rfl)
theorem dJ18_set_4 : decode cJ18_set 4 = .ok (.new 142, 3) := dk_187 0 142 (dk_at dksJ18_set_0 4 rfl rfl)
theorem dJ18_set_7 : decode cJ18_set 7 = .ok (.dup, 1) := dk_89 (dk_at dksJ18_set_0 7 rfl rfl)
theorem dJ18_set_8 : decode cJ18_set 8 = .ok (.new 33, 3) := dk_187 0 33 (dk_at dksJ18_set_0 8 rfl rfl)
theorem dJ18_set_11 : decode cJ18_set 11 = .ok (.dup, 1) := dk_89 (dk_at dksJ18_set_0 11 rfl rfl)
theorem dJ18_set_12 : decode cJ18_set 12 = .ok (.invokespecial 35, 3) := dk_183 0 35 (dk_at dksJ18_set_0 12 rfl rfl)
theorem dJ18_set_15 : decode cJ18_set 15 = .ok (.ldc 153, 2) := dk_18 153 (dk_at dksJ18_set_0 15 rfl rfl)
theorem dJ18_set_17 : decode cJ18_set 17 = .ok (.invokevirtual 38, 3) := dk_182 0 38 (dk_at dksJ18_set_0 17 rfl rfl)
theorem dJ18_set_20 : decode cJ18_set 20 = .ok (.iload_n 1, 1) := dk_27 (dk_at dksJ18_set_0 20 rfl rfl)
theorem dJ18_set_21 : decode cJ18_set 21 = .ok (.invokevirtual 42, 3) := dk_182 0 42 (dk_at dksJ18_set_0 21 rfl rfl)
theorem dJ18_set_24 : decode cJ18_set 24 = .ok (.invokevirtual 45, 3) := dk_182 0 45 (dk_at dksJ18_set_1 0 rfl rfl)
theorem dJ18_set_27 : decode cJ18_set 27 = .ok (.invokespecial 146, 3) := dk_183 0 146 (dk_at dksJ18_set_1 3 rfl rfl)
theorem dJ18_set_30 : decode cJ18_set 30 = .ok (.athrow, 1) := dk_191 (dk_at dksJ18_set_1 6 rfl rfl)
theorem dJ18_set_31 : decode cJ18_set 31 = .ok (.iload_n 1, 1) := dk_27 (dk_at dksJ18_set_1 7 rfl rfl)
theorem dJ18_set_32 : decode cJ18_set 32 = .ok (.invokestatic 52, 3) := dk_184 0 52 (dk_at dksJ18_set_1 8 rfl rfl)
theorem dJ18_set_35 : decode cJ18_set 35 = .ok (.istore_n 2, 1) := dk_61 (dk_at dksJ18_set_1 11 rfl rfl)
theorem dJ18_set_36 : decode cJ18_set 36 = .ok (.aload_n 0, 1) := dk_42 (dk_at dksJ18_set_1 12 rfl rfl)
theorem dJ18_set_37 : decode cJ18_set 37 = .ok (.iload_n 2, 1) := dk_28 (dk_at dksJ18_set_1 13 rfl rfl)
theorem dJ18_set_38 : decode cJ18_set 38 = .ok (.invokevirtual 155, 3) := dk_182 0 155 (dk_at dksJ18_set_1 14 rfl rfl)
theorem dJ18_set_41 : decode cJ18_set 41 = .ok (.aload_n 0, 1) := dk_42 (dk_at dksJ18_set_1 17 rfl rfl)
theorem dJ18_set_42 : decode cJ18_set 42 = .ok (.getfield 11, 3) := dk_180 0 11 (dk_at dksJ18_set_1 18 rfl rfl)
theorem dJ18_set_45 : decode cJ18_set 45 = .ok (.iload_n 2, 1) := dk_28 (dk_at dksJ18_set_1 21 rfl rfl)
theorem dJ18_set_46 : decode cJ18_set 46 = .ok (.dup2, 1) := dk_92 (dk_at dksJ18_set_1 22 rfl rfl)
theorem dJ18_set_47 : decode cJ18_set 47 = .ok (.laload, 1) := dk_47 (dk_at dksJ18_set_1 23 rfl rfl)
theorem dJ18_set_48 : decode cJ18_set 48 = .ok (.lconst 1, 1) := dk_10 (dk_at dksJ18_set_2 0 rfl rfl)
theorem dJ18_set_49 : decode cJ18_set 49 = .ok (.iload_n 1, 1) := dk_27 (dk_at dksJ18_set_2 1 rfl rfl)
theorem dJ18_set_50 : decode cJ18_set 50 = .ok (.lshl, 1) := dk_121 (dk_at dksJ18_set_2 2 rfl rfl)
theorem dJ18_set_51 : decode cJ18_set 51 = .ok (.lor, 1) := dk_129 (dk_at dksJ18_set_2 3 rfl rfl)
theorem dJ18_set_52 : decode cJ18_set 52 = .ok (.lastore, 1) := dk_80 (dk_at dksJ18_set_2 4 rfl rfl)
theorem dJ18_set_53 : decode cJ18_set 53 = .ok (.aload_n 0, 1) := dk_42 (dk_at dksJ18_set_2 5 rfl rfl)
theorem dJ18_set_54 : decode cJ18_set 54 = .ok (.invokevirtual 56, 3) := dk_182 0 56 (dk_at dksJ18_set_2 6 rfl rfl)
theorem dJ18_set_57 : decode cJ18_set 57 = .ok (.return_, 1) := dk_177 (dk_at dksJ18_set_2 9 rfl rfl)
abbrev cJ18_expandTo : ByteArray := prog_59_method_15_code
def yJ18_expandTo : MethodName := ⟨RJ18, "expandTo", "(I)V"⟩
def dkwJ18_expandTo_0 : List UInt8 := [27, 4, 96, 61, 42, 180, 0, 7, 28, 162, 0, 13, 42, 28, 182, 0, 139, 42, 28, 181, 0, 7, 177]
abbrev dktJ18_expandTo_0 : List UInt8 := dkwJ18_expandTo_0 ++ []
theorem dksJ18_expandTo_0 : cJ18_expandTo.data.toList.drop 0 = dktJ18_expandTo_0 := by decide +kernel
theorem dJ18_expandTo_0 : decode cJ18_expandTo 0 = .ok (.iload_n 1, 1) := dk_27 (dk_at dksJ18_expandTo_0 0 rfl rfl)
theorem dJ18_expandTo_1 : decode cJ18_expandTo 1 = .ok (.iconst 1, 1) := dk_4 (dk_at dksJ18_expandTo_0 1 rfl rfl)
theorem dJ18_expandTo_2 : decode cJ18_expandTo 2 = .ok (.iadd, 1) := dk_96 (dk_at dksJ18_expandTo_0 2 rfl rfl)
theorem dJ18_expandTo_3 : decode cJ18_expandTo 3 = .ok (.istore_n 2, 1) := dk_61 (dk_at dksJ18_expandTo_0 3 rfl rfl)
theorem dJ18_expandTo_4 : decode cJ18_expandTo 4 = .ok (.aload_n 0, 1) := dk_42 (dk_at dksJ18_expandTo_0 4 rfl rfl)
theorem dJ18_expandTo_5 : decode cJ18_expandTo 5 = .ok (.getfield 7, 3) := dk_180 0 7 (dk_at dksJ18_expandTo_0 5 rfl rfl)
theorem dJ18_expandTo_8 : decode cJ18_expandTo 8 = .ok (.iload_n 2, 1) := dk_28 (dk_at dksJ18_expandTo_0 8 rfl rfl)
theorem dJ18_expandTo_9 : decode cJ18_expandTo 9 = .ok (.if_icmp .ge 13, 3) := dk_162 0 13 (dk_at dksJ18_expandTo_0 9 rfl rfl)
theorem dJ18_expandTo_12 : decode cJ18_expandTo 12 = .ok (.aload_n 0, 1) := dk_42 (dk_at dksJ18_expandTo_0 12 rfl rfl)
theorem dJ18_expandTo_13 : decode cJ18_expandTo 13 = .ok (.iload_n 2, 1) := dk_28 (dk_at dksJ18_expandTo_0 13 rfl rfl)
theorem dJ18_expandTo_14 : decode cJ18_expandTo 14 = .ok (.invokevirtual 139, 3) := dk_182 0 139 (dk_at dksJ18_expandTo_0 14 rfl rfl)
theorem dJ18_expandTo_17 : decode cJ18_expandTo 17 = .ok (.aload_n 0, 1) := dk_42 (dk_at dksJ18_expandTo_0 17 rfl rfl)
theorem dJ18_expandTo_18 : decode cJ18_expandTo 18 = .ok (.iload_n 2, 1) := dk_28 (dk_at dksJ18_expandTo_0 18 rfl rfl)
theorem dJ18_expandTo_19 : decode cJ18_expandTo 19 = .ok (.putfield 7, 3) := dk_181 0 7 (dk_at dksJ18_expandTo_0 19 rfl rfl)
theorem dJ18_expandTo_22 : decode cJ18_expandTo 22 = .ok (.return_, 1) := dk_177 (dk_at dksJ18_expandTo_0 22 rfl rfl)
abbrev cJ18_ensureCapacity : ByteArray := prog_59_method_14_code
def yJ18_ensureCapacity : MethodName := ⟨RJ18, "ensureCapacity", "(I)V"⟩
def dkwJ18_ensureCapacity_1 : List UInt8 := [180, 0, 11, 28, 184, 0, 59, 181, 0, 11, 42, 3, 181, 0, 24, 177]
abbrev dktJ18_ensureCapacity_1 : List UInt8 := dkwJ18_ensureCapacity_1 ++ []
def dkwJ18_ensureCapacity_0 : List UInt8 := [42, 180, 0, 11, 190, 27, 162, 0, 32, 5, 42, 180, 0, 11, 190, 104, 27, 184, 0, 133, 61, 42, 42]
abbrev dktJ18_ensureCapacity_0 : List UInt8 := dkwJ18_ensureCapacity_0 ++ dktJ18_ensureCapacity_1
theorem dksJ18_ensureCapacity_0 : cJ18_ensureCapacity.data.toList.drop 0 = dktJ18_ensureCapacity_0 := by decide +kernel
theorem dksJ18_ensureCapacity_1 : cJ18_ensureCapacity.data.toList.drop 23 = dktJ18_ensureCapacity_1 := dk_seg dksJ18_ensureCapacity_0 23 rfl rfl
theorem dJ18_ensureCapacity_0 : decode cJ18_ensureCapacity 0 = .ok (.aload_n 0, 1) := dk_42 (dk_at dksJ18_ensureCapacity_0 0 rfl rfl)
theorem dJ18_ensureCapacity_1 : decode cJ18_ensureCapacity 1 = .ok (.getfield 11, 3) := dk_180 0 11 (dk_at dksJ18_ensureCapacity_0 1 rfl rfl)
theorem dJ18_ensureCapacity_4 : decode cJ18_ensureCapacity 4 = .ok (.arraylength, 1) := dk_190 (dk_at dksJ18_ensureCapacity_0 4 rfl rfl)
theorem dJ18_ensureCapacity_5 : decode cJ18_ensureCapacity 5 = .ok (.iload_n 1, 1) := dk_27 (dk_at dksJ18_ensureCapacity_0 5 rfl rfl)
theorem dJ18_ensureCapacity_6 : decode cJ18_ensureCapacity 6 = .ok (.if_icmp .ge 32, 3) := dk_162 0 32 (dk_at dksJ18_ensureCapacity_0 6 rfl rfl)
theorem dJ18_ensureCapacity_9 : decode cJ18_ensureCapacity 9 = .ok (.iconst 2, 1) := dk_5 (dk_at dksJ18_ensureCapacity_0 9 rfl rfl)
theorem dJ18_ensureCapacity_10 : decode cJ18_ensureCapacity 10 = .ok (.aload_n 0, 1) := dk_42 (dk_at dksJ18_ensureCapacity_0 10 rfl rfl)
theorem dJ18_ensureCapacity_11 : decode cJ18_ensureCapacity 11 = .ok (.getfield 11, 3) := dk_180 0 11 (dk_at dksJ18_ensureCapacity_0 11 rfl rfl)
theorem dJ18_ensureCapacity_14 : decode cJ18_ensureCapacity 14 = .ok (.arraylength, 1) := dk_190 (dk_at dksJ18_ensureCapacity_0 14 rfl rfl)
theorem dJ18_ensureCapacity_15 : decode cJ18_ensureCapacity 15 = .ok (.imul, 1) := dk_104 (dk_at dksJ18_ensureCapacity_0 15 rfl rfl)
theorem dJ18_ensureCapacity_16 : decode cJ18_ensureCapacity 16 = .ok (.iload_n 1, 1) := dk_27 (dk_at dksJ18_ensureCapacity_0 16 rfl rfl)
theorem dJ18_ensureCapacity_17 : decode cJ18_ensureCapacity 17 = .ok (.invokestatic 133, 3) := dk_184 0 133 (dk_at dksJ18_ensureCapacity_0 17 rfl rfl)
theorem dJ18_ensureCapacity_20 : decode cJ18_ensureCapacity 20 = .ok (.istore_n 2, 1) := dk_61 (dk_at dksJ18_ensureCapacity_0 20 rfl rfl)
theorem dJ18_ensureCapacity_21 : decode cJ18_ensureCapacity 21 = .ok (.aload_n 0, 1) := dk_42 (dk_at dksJ18_ensureCapacity_0 21 rfl rfl)
theorem dJ18_ensureCapacity_22 : decode cJ18_ensureCapacity 22 = .ok (.aload_n 0, 1) := dk_42 (dk_at dksJ18_ensureCapacity_0 22 rfl rfl)
theorem dJ18_ensureCapacity_23 : decode cJ18_ensureCapacity 23 = .ok (.getfield 11, 3) := dk_180 0 11 (dk_at dksJ18_ensureCapacity_1 0 rfl rfl)
theorem dJ18_ensureCapacity_26 : decode cJ18_ensureCapacity 26 = .ok (.iload_n 2, 1) := dk_28 (dk_at dksJ18_ensureCapacity_1 3 rfl rfl)
theorem dJ18_ensureCapacity_27 : decode cJ18_ensureCapacity 27 = .ok (.invokestatic 59, 3) := dk_184 0 59 (dk_at dksJ18_ensureCapacity_1 4 rfl rfl)
theorem dJ18_ensureCapacity_30 : decode cJ18_ensureCapacity 30 = .ok (.putfield 11, 3) := dk_181 0 11 (dk_at dksJ18_ensureCapacity_1 7 rfl rfl)
theorem dJ18_ensureCapacity_33 : decode cJ18_ensureCapacity 33 = .ok (.aload_n 0, 1) := dk_42 (dk_at dksJ18_ensureCapacity_1 10 rfl rfl)
theorem dJ18_ensureCapacity_34 : decode cJ18_ensureCapacity 34 = .ok (.iconst 0, 1) := dk_3 (dk_at dksJ18_ensureCapacity_1 11 rfl rfl)
theorem dJ18_ensureCapacity_35 : decode cJ18_ensureCapacity 35 = .ok (.putfield 24, 3) := dk_181 0 24 (dk_at dksJ18_ensureCapacity_1 12 rfl rfl)
theorem dJ18_ensureCapacity_38 : decode cJ18_ensureCapacity 38 = .ok (.return_, 1) := dk_177 (dk_at dksJ18_ensureCapacity_1 15 rfl rfl)
abbrev cJ18_cardinality : ByteArray := prog_59_method_35_code
def yJ18_cardinality : MethodName := ⟨RJ18, "cardinality", "()I"⟩
def dkwJ18_cardinality_1 : List UInt8 := [132, 2, 1, 167, 255, 233, 27, 172]
abbrev dktJ18_cardinality_1 : List UInt8 := dkwJ18_cardinality_1 ++ []
def dkwJ18_cardinality_0 : List UInt8 := [3, 60, 3, 61, 28, 42, 180, 0, 7, 162, 0, 21, 27, 42, 180, 0, 11, 28, 47, 184, 0, 196, 96, 60]
abbrev dktJ18_cardinality_0 : List UInt8 := dkwJ18_cardinality_0 ++ dktJ18_cardinality_1
theorem dksJ18_cardinality_0 : cJ18_cardinality.data.toList.drop 0 = dktJ18_cardinality_0 := by decide +kernel
theorem dksJ18_cardinality_1 : cJ18_cardinality.data.toList.drop 24 = dktJ18_cardinality_1 := dk_seg dksJ18_cardinality_0 24 rfl rfl
theorem dJ18_cardinality_0 : decode cJ18_cardinality 0 = .ok (.iconst 0, 1) := dk_3 (dk_at dksJ18_cardinality_0 0 rfl rfl)
theorem dJ18_cardinality_1 : decode cJ18_cardinality 1 = .ok (.istore_n 1, 1) := dk_60 (dk_at dksJ18_cardinality_0 1 rfl rfl)
theorem dJ18_cardinality_2 : decode cJ18_cardinality 2 = .ok (.iconst 0, 1) := dk_3 (dk_at dksJ18_cardinality_0 2 rfl rfl)
theorem dJ18_cardinality_3 : decode cJ18_cardinality 3 = .ok (.istore_n 2, 1) := dk_61 (dk_at dksJ18_cardinality_0 3 rfl rfl)
theorem dJ18_cardinality_4 : decode cJ18_cardinality 4 = .ok (.iload_n 2, 1) := dk_28 (dk_at dksJ18_cardinality_0 4 rfl rfl)
theorem dJ18_cardinality_5 : decode cJ18_cardinality 5 = .ok (.aload_n 0, 1) := dk_42 (dk_at dksJ18_cardinality_0 5 rfl rfl)
theorem dJ18_cardinality_6 : decode cJ18_cardinality 6 = .ok (.getfield 7, 3) := dk_180 0 7 (dk_at dksJ18_cardinality_0 6 rfl rfl)
theorem dJ18_cardinality_9 : decode cJ18_cardinality 9 = .ok (.if_icmp .ge 21, 3) := dk_162 0 21 (dk_at dksJ18_cardinality_0 9 rfl rfl)
theorem dJ18_cardinality_12 : decode cJ18_cardinality 12 = .ok (.iload_n 1, 1) := dk_27 (dk_at dksJ18_cardinality_0 12 rfl rfl)
theorem dJ18_cardinality_13 : decode cJ18_cardinality 13 = .ok (.aload_n 0, 1) := dk_42 (dk_at dksJ18_cardinality_0 13 rfl rfl)
theorem dJ18_cardinality_14 : decode cJ18_cardinality 14 = .ok (.getfield 11, 3) := dk_180 0 11 (dk_at dksJ18_cardinality_0 14 rfl rfl)
theorem dJ18_cardinality_17 : decode cJ18_cardinality 17 = .ok (.iload_n 2, 1) := dk_28 (dk_at dksJ18_cardinality_0 17 rfl rfl)
theorem dJ18_cardinality_18 : decode cJ18_cardinality 18 = .ok (.laload, 1) := dk_47 (dk_at dksJ18_cardinality_0 18 rfl rfl)
theorem dJ18_cardinality_19 : decode cJ18_cardinality 19 = .ok (.invokestatic 196, 3) := dk_184 0 196 (dk_at dksJ18_cardinality_0 19 rfl rfl)
theorem dJ18_cardinality_22 : decode cJ18_cardinality 22 = .ok (.iadd, 1) := dk_96 (dk_at dksJ18_cardinality_0 22 rfl rfl)
theorem dJ18_cardinality_23 : decode cJ18_cardinality 23 = .ok (.istore_n 1, 1) := dk_60 (dk_at dksJ18_cardinality_0 23 rfl rfl)
theorem dJ18_cardinality_24 : decode cJ18_cardinality 24 = .ok (.iinc 2 1, 3) := dk_132 2 1 (dk_at dksJ18_cardinality_1 0 rfl rfl)
theorem dJ18_cardinality_27 : decode cJ18_cardinality 27 = .ok (.goto (-23), 3) := dk_167 255 233 (dk_at dksJ18_cardinality_1 3 rfl rfl)
theorem dJ18_cardinality_30 : decode cJ18_cardinality 30 = .ok (.iload_n 1, 1) := dk_27 (dk_at dksJ18_cardinality_1 6 rfl rfl)
theorem dJ18_cardinality_31 : decode cJ18_cardinality 31 = .ok (.ireturn, 1) := dk_172 (dk_at dksJ18_cardinality_1 7 rfl rfl)
abbrev cJ18_flip : ByteArray := prog_59_method_17_code
def yJ18_flip : MethodName := ⟨RJ18, "flip", "(I)V"⟩
def dkwJ18_flip_2 : List UInt8 := [10, 27, 121, 131, 80, 42, 182, 0, 158, 42, 182, 0, 56, 177]
abbrev dktJ18_flip_2 : List UInt8 := dkwJ18_flip_2 ++ []
def dkwJ18_flip_1 : List UInt8 := [182, 0, 45, 183, 0, 146, 191, 27, 184, 0, 52, 61, 42, 28, 182, 0, 155, 42, 180, 0, 11, 28, 92, 47]
abbrev dktJ18_flip_1 : List UInt8 := dkwJ18_flip_1 ++ dktJ18_flip_2
def dkwJ18_flip_0 : List UInt8 := [27, 156, 0, 30, 187, 0, 142, 89, 187, 0, 33, 89, 183, 0, 35, 18, 153, 182, 0, 38, 27, 182, 0, 42]
abbrev dktJ18_flip_0 : List UInt8 := dkwJ18_flip_0 ++ dktJ18_flip_1
theorem dksJ18_flip_0 : cJ18_flip.data.toList.drop 0 = dktJ18_flip_0 := by decide +kernel
theorem dksJ18_flip_1 : cJ18_flip.data.toList.drop 24 = dktJ18_flip_1 := dk_seg dksJ18_flip_0 24 rfl rfl
theorem dksJ18_flip_2 : cJ18_flip.data.toList.drop 48 = dktJ18_flip_2 := dk_seg dksJ18_flip_1 24 rfl rfl
theorem dJ18_flip_0 : decode cJ18_flip 0 = .ok (.iload_n 1, 1) := dk_27 (dk_at dksJ18_flip_0 0 rfl rfl)
theorem dJ18_flip_1 : decode cJ18_flip 1 = .ok (.ifCond .ge 30, 3) := dk_156 0 30 (dk_at dksJ18_flip_0 1 rfl rfl)
theorem dJ18_flip_4 : decode cJ18_flip 4 = .ok (.new 142, 3) := dk_187 0 142 (dk_at dksJ18_flip_0 4 rfl rfl)
theorem dJ18_flip_7 : decode cJ18_flip 7 = .ok (.dup, 1) := dk_89 (dk_at dksJ18_flip_0 7 rfl rfl)
theorem dJ18_flip_8 : decode cJ18_flip 8 = .ok (.new 33, 3) := dk_187 0 33 (dk_at dksJ18_flip_0 8 rfl rfl)
theorem dJ18_flip_11 : decode cJ18_flip 11 = .ok (.dup, 1) := dk_89 (dk_at dksJ18_flip_0 11 rfl rfl)
theorem dJ18_flip_12 : decode cJ18_flip 12 = .ok (.invokespecial 35, 3) := dk_183 0 35 (dk_at dksJ18_flip_0 12 rfl rfl)
theorem dJ18_flip_15 : decode cJ18_flip 15 = .ok (.ldc 153, 2) := dk_18 153 (dk_at dksJ18_flip_0 15 rfl rfl)
theorem dJ18_flip_17 : decode cJ18_flip 17 = .ok (.invokevirtual 38, 3) := dk_182 0 38 (dk_at dksJ18_flip_0 17 rfl rfl)
theorem dJ18_flip_20 : decode cJ18_flip 20 = .ok (.iload_n 1, 1) := dk_27 (dk_at dksJ18_flip_0 20 rfl rfl)
theorem dJ18_flip_21 : decode cJ18_flip 21 = .ok (.invokevirtual 42, 3) := dk_182 0 42 (dk_at dksJ18_flip_0 21 rfl rfl)
theorem dJ18_flip_24 : decode cJ18_flip 24 = .ok (.invokevirtual 45, 3) := dk_182 0 45 (dk_at dksJ18_flip_1 0 rfl rfl)
theorem dJ18_flip_27 : decode cJ18_flip 27 = .ok (.invokespecial 146, 3) := dk_183 0 146 (dk_at dksJ18_flip_1 3 rfl rfl)
theorem dJ18_flip_30 : decode cJ18_flip 30 = .ok (.athrow, 1) := dk_191 (dk_at dksJ18_flip_1 6 rfl rfl)
theorem dJ18_flip_31 : decode cJ18_flip 31 = .ok (.iload_n 1, 1) := dk_27 (dk_at dksJ18_flip_1 7 rfl rfl)
theorem dJ18_flip_32 : decode cJ18_flip 32 = .ok (.invokestatic 52, 3) := dk_184 0 52 (dk_at dksJ18_flip_1 8 rfl rfl)
theorem dJ18_flip_35 : decode cJ18_flip 35 = .ok (.istore_n 2, 1) := dk_61 (dk_at dksJ18_flip_1 11 rfl rfl)
theorem dJ18_flip_36 : decode cJ18_flip 36 = .ok (.aload_n 0, 1) := dk_42 (dk_at dksJ18_flip_1 12 rfl rfl)
theorem dJ18_flip_37 : decode cJ18_flip 37 = .ok (.iload_n 2, 1) := dk_28 (dk_at dksJ18_flip_1 13 rfl rfl)
theorem dJ18_flip_38 : decode cJ18_flip 38 = .ok (.invokevirtual 155, 3) := dk_182 0 155 (dk_at dksJ18_flip_1 14 rfl rfl)
theorem dJ18_flip_41 : decode cJ18_flip 41 = .ok (.aload_n 0, 1) := dk_42 (dk_at dksJ18_flip_1 17 rfl rfl)
theorem dJ18_flip_42 : decode cJ18_flip 42 = .ok (.getfield 11, 3) := dk_180 0 11 (dk_at dksJ18_flip_1 18 rfl rfl)
theorem dJ18_flip_45 : decode cJ18_flip 45 = .ok (.iload_n 2, 1) := dk_28 (dk_at dksJ18_flip_1 21 rfl rfl)
theorem dJ18_flip_46 : decode cJ18_flip 46 = .ok (.dup2, 1) := dk_92 (dk_at dksJ18_flip_1 22 rfl rfl)
theorem dJ18_flip_47 : decode cJ18_flip 47 = .ok (.laload, 1) := dk_47 (dk_at dksJ18_flip_1 23 rfl rfl)
theorem dJ18_flip_48 : decode cJ18_flip 48 = .ok (.lconst 1, 1) := dk_10 (dk_at dksJ18_flip_2 0 rfl rfl)
theorem dJ18_flip_49 : decode cJ18_flip 49 = .ok (.iload_n 1, 1) := dk_27 (dk_at dksJ18_flip_2 1 rfl rfl)
theorem dJ18_flip_50 : decode cJ18_flip 50 = .ok (.lshl, 1) := dk_121 (dk_at dksJ18_flip_2 2 rfl rfl)
theorem dJ18_flip_51 : decode cJ18_flip 51 = .ok (.lxor, 1) := dk_131 (dk_at dksJ18_flip_2 3 rfl rfl)
theorem dJ18_flip_52 : decode cJ18_flip 52 = .ok (.lastore, 1) := dk_80 (dk_at dksJ18_flip_2 4 rfl rfl)
theorem dJ18_flip_53 : decode cJ18_flip 53 = .ok (.aload_n 0, 1) := dk_42 (dk_at dksJ18_flip_2 5 rfl rfl)
theorem dJ18_flip_54 : decode cJ18_flip 54 = .ok (.invokevirtual 158, 3) := dk_182 0 158 (dk_at dksJ18_flip_2 6 rfl rfl)
theorem dJ18_flip_57 : decode cJ18_flip 57 = .ok (.aload_n 0, 1) := dk_42 (dk_at dksJ18_flip_2 9 rfl rfl)
theorem dJ18_flip_58 : decode cJ18_flip 58 = .ok (.invokevirtual 56, 3) := dk_182 0 56 (dk_at dksJ18_flip_2 10 rfl rfl)
theorem dJ18_flip_61 : decode cJ18_flip 61 = .ok (.return_, 1) := dk_177 (dk_at dksJ18_flip_2 13 rfl rfl)
abbrev cJ18_recalculateWordsInUse : ByteArray := prog_59_method_3_code
def yJ18_recalculateWordsInUse : MethodName := ⟨RJ18, "recalculateWordsInUse", "()V"⟩
def dkwJ18_recalculateWordsInUse_1 : List UInt8 := [167, 0, 9, 132, 1, 255, 167, 255, 235, 42, 27, 4, 96, 181, 0, 7, 177]
abbrev dktJ18_recalculateWordsInUse_1 : List UInt8 := dkwJ18_recalculateWordsInUse_1 ++ []
def dkwJ18_recalculateWordsInUse_0 : List UInt8 := [42, 180, 0, 7, 4, 100, 60, 27, 155, 0, 23, 42, 180, 0, 11, 27, 47, 9, 148, 153, 0, 6]
abbrev dktJ18_recalculateWordsInUse_0 : List UInt8 := dkwJ18_recalculateWordsInUse_0 ++ dktJ18_recalculateWordsInUse_1
theorem dksJ18_recalculateWordsInUse_0 : cJ18_recalculateWordsInUse.data.toList.drop 0 = dktJ18_recalculateWordsInUse_0 := by decide +kernel
theorem dksJ18_recalculateWordsInUse_1 : cJ18_recalculateWordsInUse.data.toList.drop 22 = dktJ18_recalculateWordsInUse_1 := dk_seg dksJ18_recalculateWordsInUse_0 22 rfl rfl
theorem dJ18_recalculateWordsInUse_0 : decode cJ18_recalculateWordsInUse 0 = .ok (.aload_n 0, 1) := dk_42 (dk_at dksJ18_recalculateWordsInUse_0 0 rfl rfl)
theorem dJ18_recalculateWordsInUse_1 : decode cJ18_recalculateWordsInUse 1 = .ok (.getfield 7, 3) := dk_180 0 7 (dk_at dksJ18_recalculateWordsInUse_0 1 rfl rfl)
theorem dJ18_recalculateWordsInUse_4 : decode cJ18_recalculateWordsInUse 4 = .ok (.iconst 1, 1) := dk_4 (dk_at dksJ18_recalculateWordsInUse_0 4 rfl rfl)
theorem dJ18_recalculateWordsInUse_5 : decode cJ18_recalculateWordsInUse 5 = .ok (.isub, 1) := dk_100 (dk_at dksJ18_recalculateWordsInUse_0 5 rfl rfl)
theorem dJ18_recalculateWordsInUse_6 : decode cJ18_recalculateWordsInUse 6 = .ok (.istore_n 1, 1) := dk_60 (dk_at dksJ18_recalculateWordsInUse_0 6 rfl rfl)
theorem dJ18_recalculateWordsInUse_7 : decode cJ18_recalculateWordsInUse 7 = .ok (.iload_n 1, 1) := dk_27 (dk_at dksJ18_recalculateWordsInUse_0 7 rfl rfl)
theorem dJ18_recalculateWordsInUse_8 : decode cJ18_recalculateWordsInUse 8 = .ok (.ifCond .lt 23, 3) := dk_155 0 23 (dk_at dksJ18_recalculateWordsInUse_0 8 rfl rfl)
theorem dJ18_recalculateWordsInUse_11 : decode cJ18_recalculateWordsInUse 11 = .ok (.aload_n 0, 1) := dk_42 (dk_at dksJ18_recalculateWordsInUse_0 11 rfl rfl)
theorem dJ18_recalculateWordsInUse_12 : decode cJ18_recalculateWordsInUse 12 = .ok (.getfield 11, 3) := dk_180 0 11 (dk_at dksJ18_recalculateWordsInUse_0 12 rfl rfl)
theorem dJ18_recalculateWordsInUse_15 : decode cJ18_recalculateWordsInUse 15 = .ok (.iload_n 1, 1) := dk_27 (dk_at dksJ18_recalculateWordsInUse_0 15 rfl rfl)
theorem dJ18_recalculateWordsInUse_16 : decode cJ18_recalculateWordsInUse 16 = .ok (.laload, 1) := dk_47 (dk_at dksJ18_recalculateWordsInUse_0 16 rfl rfl)
theorem dJ18_recalculateWordsInUse_17 : decode cJ18_recalculateWordsInUse 17 = .ok (.lconst 0, 1) := dk_9 (dk_at dksJ18_recalculateWordsInUse_0 17 rfl rfl)
theorem dJ18_recalculateWordsInUse_18 : decode cJ18_recalculateWordsInUse 18 = .ok (.lcmp, 1) := dk_148 (dk_at dksJ18_recalculateWordsInUse_0 18 rfl rfl)
theorem dJ18_recalculateWordsInUse_19 : decode cJ18_recalculateWordsInUse 19 = .ok (.ifCond .eq 6, 3) := dk_153 0 6 (dk_at dksJ18_recalculateWordsInUse_0 19 rfl rfl)
theorem dJ18_recalculateWordsInUse_22 : decode cJ18_recalculateWordsInUse 22 = .ok (.goto 9, 3) := dk_167 0 9 (dk_at dksJ18_recalculateWordsInUse_1 0 rfl rfl)
theorem dJ18_recalculateWordsInUse_25 : decode cJ18_recalculateWordsInUse 25 = .ok (.iinc 1 (-1), 3) := dk_132 1 255 (dk_at dksJ18_recalculateWordsInUse_1 3 rfl rfl)
theorem dJ18_recalculateWordsInUse_28 : decode cJ18_recalculateWordsInUse 28 = .ok (.goto (-21), 3) := dk_167 255 235 (dk_at dksJ18_recalculateWordsInUse_1 6 rfl rfl)
theorem dJ18_recalculateWordsInUse_31 : decode cJ18_recalculateWordsInUse 31 = .ok (.aload_n 0, 1) := dk_42 (dk_at dksJ18_recalculateWordsInUse_1 9 rfl rfl)
theorem dJ18_recalculateWordsInUse_32 : decode cJ18_recalculateWordsInUse 32 = .ok (.iload_n 1, 1) := dk_27 (dk_at dksJ18_recalculateWordsInUse_1 10 rfl rfl)
theorem dJ18_recalculateWordsInUse_33 : decode cJ18_recalculateWordsInUse 33 = .ok (.iconst 1, 1) := dk_4 (dk_at dksJ18_recalculateWordsInUse_1 11 rfl rfl)
theorem dJ18_recalculateWordsInUse_34 : decode cJ18_recalculateWordsInUse 34 = .ok (.iadd, 1) := dk_96 (dk_at dksJ18_recalculateWordsInUse_1 12 rfl rfl)
theorem dJ18_recalculateWordsInUse_35 : decode cJ18_recalculateWordsInUse 35 = .ok (.putfield 7, 3) := dk_181 0 7 (dk_at dksJ18_recalculateWordsInUse_1 13 rfl rfl)
theorem dJ18_recalculateWordsInUse_38 : decode cJ18_recalculateWordsInUse 38 = .ok (.return_, 1) := dk_177 (dk_at dksJ18_recalculateWordsInUse_1 16 rfl rfl)
abbrev cJ18_nextSetBit : ByteArray := prog_59_method_28_code
def yJ18_nextSetBit : MethodName := ⟨RJ18, "nextSetBit", "(I)I"⟩
def dkwJ18_nextSetBit_4 : List UInt8 := [28, 47, 66, 167, 255, 220]
abbrev dktJ18_nextSetBit_4 : List UInt8 := dkwJ18_nextSetBit_4 ++ []
def dkwJ18_nextSetBit_3 : List UInt8 := [104, 33, 184, 0, 182, 96, 172, 132, 2, 1, 28, 42, 180, 0, 7, 160, 0, 5, 2, 172, 42, 180, 0, 11]
abbrev dktJ18_nextSetBit_3 : List UInt8 := dkwJ18_nextSetBit_3 ++ dktJ18_nextSetBit_4
def dkwJ18_nextSetBit_2 : List UInt8 := [2, 172, 42, 180, 0, 11, 28, 47, 20, 0, 165, 27, 121, 127, 66, 33, 9, 148, 153, 0, 13, 28, 16, 64]
abbrev dktJ18_nextSetBit_2 : List UInt8 := dkwJ18_nextSetBit_2 ++ dktJ18_nextSetBit_3
def dkwJ18_nextSetBit_1 : List UInt8 := [182, 0, 45, 183, 0, 146, 191, 42, 182, 0, 56, 27, 184, 0, 52, 61, 28, 42, 180, 0, 7, 161, 0, 5]
abbrev dktJ18_nextSetBit_1 : List UInt8 := dkwJ18_nextSetBit_1 ++ dktJ18_nextSetBit_2
def dkwJ18_nextSetBit_0 : List UInt8 := [27, 156, 0, 30, 187, 0, 142, 89, 187, 0, 33, 89, 183, 0, 35, 18, 144, 182, 0, 38, 27, 182, 0, 42]
abbrev dktJ18_nextSetBit_0 : List UInt8 := dkwJ18_nextSetBit_0 ++ dktJ18_nextSetBit_1
theorem dksJ18_nextSetBit_0 : cJ18_nextSetBit.data.toList.drop 0 = dktJ18_nextSetBit_0 := by decide +kernel
theorem dksJ18_nextSetBit_1 : cJ18_nextSetBit.data.toList.drop 24 = dktJ18_nextSetBit_1 := dk_seg dksJ18_nextSetBit_0 24 rfl rfl
theorem dksJ18_nextSetBit_2 : cJ18_nextSetBit.data.toList.drop 48 = dktJ18_nextSetBit_2 := dk_seg dksJ18_nextSetBit_1 24 rfl rfl
theorem dksJ18_nextSetBit_3 : cJ18_nextSetBit.data.toList.drop 72 = dktJ18_nextSetBit_3 := dk_seg dksJ18_nextSetBit_2 24 rfl rfl
theorem dksJ18_nextSetBit_4 : cJ18_nextSetBit.data.toList.drop 96 = dktJ18_nextSetBit_4 := dk_seg dksJ18_nextSetBit_3 24 rfl rfl
theorem dJ18_nextSetBit_0 : decode cJ18_nextSetBit 0 = .ok (.iload_n 1, 1) := dk_27 (dk_at dksJ18_nextSetBit_0 0 rfl rfl)
theorem dJ18_nextSetBit_1 : decode cJ18_nextSetBit 1 = .ok (.ifCond .ge 30, 3) := dk_156 0 30 (dk_at dksJ18_nextSetBit_0 1 rfl rfl)
theorem dJ18_nextSetBit_4 : decode cJ18_nextSetBit 4 = .ok (.new 142, 3) := dk_187 0 142 (dk_at dksJ18_nextSetBit_0 4 rfl rfl)
theorem dJ18_nextSetBit_7 : decode cJ18_nextSetBit 7 = .ok (.dup, 1) := dk_89 (dk_at dksJ18_nextSetBit_0 7 rfl rfl)
theorem dJ18_nextSetBit_8 : decode cJ18_nextSetBit 8 = .ok (.new 33, 3) := dk_187 0 33 (dk_at dksJ18_nextSetBit_0 8 rfl rfl)
theorem dJ18_nextSetBit_11 : decode cJ18_nextSetBit 11 = .ok (.dup, 1) := dk_89 (dk_at dksJ18_nextSetBit_0 11 rfl rfl)
theorem dJ18_nextSetBit_12 : decode cJ18_nextSetBit 12 = .ok (.invokespecial 35, 3) := dk_183 0 35 (dk_at dksJ18_nextSetBit_0 12 rfl rfl)
theorem dJ18_nextSetBit_15 : decode cJ18_nextSetBit 15 = .ok (.ldc 144, 2) := dk_18 144 (dk_at dksJ18_nextSetBit_0 15 rfl rfl)
theorem dJ18_nextSetBit_17 : decode cJ18_nextSetBit 17 = .ok (.invokevirtual 38, 3) := dk_182 0 38 (dk_at dksJ18_nextSetBit_0 17 rfl rfl)
theorem dJ18_nextSetBit_20 : decode cJ18_nextSetBit 20 = .ok (.iload_n 1, 1) := dk_27 (dk_at dksJ18_nextSetBit_0 20 rfl rfl)
theorem dJ18_nextSetBit_21 : decode cJ18_nextSetBit 21 = .ok (.invokevirtual 42, 3) := dk_182 0 42 (dk_at dksJ18_nextSetBit_0 21 rfl rfl)
theorem dJ18_nextSetBit_24 : decode cJ18_nextSetBit 24 = .ok (.invokevirtual 45, 3) := dk_182 0 45 (dk_at dksJ18_nextSetBit_1 0 rfl rfl)
theorem dJ18_nextSetBit_27 : decode cJ18_nextSetBit 27 = .ok (.invokespecial 146, 3) := dk_183 0 146 (dk_at dksJ18_nextSetBit_1 3 rfl rfl)
theorem dJ18_nextSetBit_30 : decode cJ18_nextSetBit 30 = .ok (.athrow, 1) := dk_191 (dk_at dksJ18_nextSetBit_1 6 rfl rfl)
theorem dJ18_nextSetBit_31 : decode cJ18_nextSetBit 31 = .ok (.aload_n 0, 1) := dk_42 (dk_at dksJ18_nextSetBit_1 7 rfl rfl)
theorem dJ18_nextSetBit_32 : decode cJ18_nextSetBit 32 = .ok (.invokevirtual 56, 3) := dk_182 0 56 (dk_at dksJ18_nextSetBit_1 8 rfl rfl)
theorem dJ18_nextSetBit_35 : decode cJ18_nextSetBit 35 = .ok (.iload_n 1, 1) := dk_27 (dk_at dksJ18_nextSetBit_1 11 rfl rfl)
theorem dJ18_nextSetBit_36 : decode cJ18_nextSetBit 36 = .ok (.invokestatic 52, 3) := dk_184 0 52 (dk_at dksJ18_nextSetBit_1 12 rfl rfl)
theorem dJ18_nextSetBit_39 : decode cJ18_nextSetBit 39 = .ok (.istore_n 2, 1) := dk_61 (dk_at dksJ18_nextSetBit_1 15 rfl rfl)
theorem dJ18_nextSetBit_40 : decode cJ18_nextSetBit 40 = .ok (.iload_n 2, 1) := dk_28 (dk_at dksJ18_nextSetBit_1 16 rfl rfl)
theorem dJ18_nextSetBit_41 : decode cJ18_nextSetBit 41 = .ok (.aload_n 0, 1) := dk_42 (dk_at dksJ18_nextSetBit_1 17 rfl rfl)
theorem dJ18_nextSetBit_42 : decode cJ18_nextSetBit 42 = .ok (.getfield 7, 3) := dk_180 0 7 (dk_at dksJ18_nextSetBit_1 18 rfl rfl)
theorem dJ18_nextSetBit_45 : decode cJ18_nextSetBit 45 = .ok (.if_icmp .lt 5, 3) := dk_161 0 5 (dk_at dksJ18_nextSetBit_1 21 rfl rfl)
theorem dJ18_nextSetBit_48 : decode cJ18_nextSetBit 48 = .ok (.iconst (-1), 1) := dk_2 (dk_at dksJ18_nextSetBit_2 0 rfl rfl)
theorem dJ18_nextSetBit_49 : decode cJ18_nextSetBit 49 = .ok (.ireturn, 1) := dk_172 (dk_at dksJ18_nextSetBit_2 1 rfl rfl)
theorem dJ18_nextSetBit_50 : decode cJ18_nextSetBit 50 = .ok (.aload_n 0, 1) := dk_42 (dk_at dksJ18_nextSetBit_2 2 rfl rfl)
theorem dJ18_nextSetBit_51 : decode cJ18_nextSetBit 51 = .ok (.getfield 11, 3) := dk_180 0 11 (dk_at dksJ18_nextSetBit_2 3 rfl rfl)
theorem dJ18_nextSetBit_54 : decode cJ18_nextSetBit 54 = .ok (.iload_n 2, 1) := dk_28 (dk_at dksJ18_nextSetBit_2 6 rfl rfl)
theorem dJ18_nextSetBit_55 : decode cJ18_nextSetBit 55 = .ok (.laload, 1) := dk_47 (dk_at dksJ18_nextSetBit_2 7 rfl rfl)
theorem dJ18_nextSetBit_56 : decode cJ18_nextSetBit 56 = .ok (.ldc2_w 165, 3) := dk_20 0 165 (dk_at dksJ18_nextSetBit_2 8 rfl rfl)
theorem dJ18_nextSetBit_59 : decode cJ18_nextSetBit 59 = .ok (.iload_n 1, 1) := dk_27 (dk_at dksJ18_nextSetBit_2 11 rfl rfl)
theorem dJ18_nextSetBit_60 : decode cJ18_nextSetBit 60 = .ok (.lshl, 1) := dk_121 (dk_at dksJ18_nextSetBit_2 12 rfl rfl)
theorem dJ18_nextSetBit_61 : decode cJ18_nextSetBit 61 = .ok (.land, 1) := dk_127 (dk_at dksJ18_nextSetBit_2 13 rfl rfl)
theorem dJ18_nextSetBit_62 : decode cJ18_nextSetBit 62 = .ok (.lstore_n 3, 1) := dk_66 (dk_at dksJ18_nextSetBit_2 14 rfl rfl)
theorem dJ18_nextSetBit_63 : decode cJ18_nextSetBit 63 = .ok (.lload_n 3, 1) := dk_33 (dk_at dksJ18_nextSetBit_2 15 rfl rfl)
theorem dJ18_nextSetBit_64 : decode cJ18_nextSetBit 64 = .ok (.lconst 0, 1) := dk_9 (dk_at dksJ18_nextSetBit_2 16 rfl rfl)
theorem dJ18_nextSetBit_65 : decode cJ18_nextSetBit 65 = .ok (.lcmp, 1) := dk_148 (dk_at dksJ18_nextSetBit_2 17 rfl rfl)
theorem dJ18_nextSetBit_66 : decode cJ18_nextSetBit 66 = .ok (.ifCond .eq 13, 3) := dk_153 0 13 (dk_at dksJ18_nextSetBit_2 18 rfl rfl)
theorem dJ18_nextSetBit_69 : decode cJ18_nextSetBit 69 = .ok (.iload_n 2, 1) := dk_28 (dk_at dksJ18_nextSetBit_2 21 rfl rfl)
theorem dJ18_nextSetBit_70 : decode cJ18_nextSetBit 70 = .ok (.bipush 64, 2) := dk_16 64 (dk_at dksJ18_nextSetBit_2 22 rfl rfl)
theorem dJ18_nextSetBit_72 : decode cJ18_nextSetBit 72 = .ok (.imul, 1) := dk_104 (dk_at dksJ18_nextSetBit_3 0 rfl rfl)
theorem dJ18_nextSetBit_73 : decode cJ18_nextSetBit 73 = .ok (.lload_n 3, 1) := dk_33 (dk_at dksJ18_nextSetBit_3 1 rfl rfl)
theorem dJ18_nextSetBit_74 : decode cJ18_nextSetBit 74 = .ok (.invokestatic 182, 3) := dk_184 0 182 (dk_at dksJ18_nextSetBit_3 2 rfl rfl)
theorem dJ18_nextSetBit_77 : decode cJ18_nextSetBit 77 = .ok (.iadd, 1) := dk_96 (dk_at dksJ18_nextSetBit_3 5 rfl rfl)
theorem dJ18_nextSetBit_78 : decode cJ18_nextSetBit 78 = .ok (.ireturn, 1) := dk_172 (dk_at dksJ18_nextSetBit_3 6 rfl rfl)
theorem dJ18_nextSetBit_79 : decode cJ18_nextSetBit 79 = .ok (.iinc 2 1, 3) := dk_132 2 1 (dk_at dksJ18_nextSetBit_3 7 rfl rfl)
theorem dJ18_nextSetBit_82 : decode cJ18_nextSetBit 82 = .ok (.iload_n 2, 1) := dk_28 (dk_at dksJ18_nextSetBit_3 10 rfl rfl)
theorem dJ18_nextSetBit_83 : decode cJ18_nextSetBit 83 = .ok (.aload_n 0, 1) := dk_42 (dk_at dksJ18_nextSetBit_3 11 rfl rfl)
theorem dJ18_nextSetBit_84 : decode cJ18_nextSetBit 84 = .ok (.getfield 7, 3) := dk_180 0 7 (dk_at dksJ18_nextSetBit_3 12 rfl rfl)
theorem dJ18_nextSetBit_87 : decode cJ18_nextSetBit 87 = .ok (.if_icmp .ne 5, 3) := dk_160 0 5 (dk_at dksJ18_nextSetBit_3 15 rfl rfl)
theorem dJ18_nextSetBit_90 : decode cJ18_nextSetBit 90 = .ok (.iconst (-1), 1) := dk_2 (dk_at dksJ18_nextSetBit_3 18 rfl rfl)
theorem dJ18_nextSetBit_91 : decode cJ18_nextSetBit 91 = .ok (.ireturn, 1) := dk_172 (dk_at dksJ18_nextSetBit_3 19 rfl rfl)
theorem dJ18_nextSetBit_92 : decode cJ18_nextSetBit 92 = .ok (.aload_n 0, 1) := dk_42 (dk_at dksJ18_nextSetBit_3 20 rfl rfl)
theorem dJ18_nextSetBit_93 : decode cJ18_nextSetBit 93 = .ok (.getfield 11, 3) := dk_180 0 11 (dk_at dksJ18_nextSetBit_3 21 rfl rfl)
theorem dJ18_nextSetBit_96 : decode cJ18_nextSetBit 96 = .ok (.iload_n 2, 1) := dk_28 (dk_at dksJ18_nextSetBit_4 0 rfl rfl)
theorem dJ18_nextSetBit_97 : decode cJ18_nextSetBit 97 = .ok (.laload, 1) := dk_47 (dk_at dksJ18_nextSetBit_4 1 rfl rfl)
theorem dJ18_nextSetBit_98 : decode cJ18_nextSetBit 98 = .ok (.lstore_n 3, 1) := dk_66 (dk_at dksJ18_nextSetBit_4 2 rfl rfl)
theorem dJ18_nextSetBit_99 : decode cJ18_nextSetBit 99 = .ok (.goto (-36), 3) := dk_167 255 220 (dk_at dksJ18_nextSetBit_4 3 rfl rfl)
abbrev cJ18_or : ByteArray := prog_59_method_37_code
def yJ18_or : MethodName := ⟨RJ18, "or", "(Ljava/util/BitSet;)V"⟩
def dkwJ18_or_4 : List UInt8 := [180, 0, 7, 28, 100, 184, 0, 199, 42, 182, 0, 56, 177]
abbrev dktJ18_or_4 : List UInt8 := dkwJ18_or_4 ++ []
def dkwJ18_or_3 : List UInt8 := [167, 255, 233, 28, 43, 180, 0, 7, 162, 0, 22, 43, 180, 0, 11, 28, 42, 180, 0, 11, 28, 42]
abbrev dktJ18_or_3 : List UInt8 := dkwJ18_or_3 ++ dktJ18_or_4
def dkwJ18_or_2 : List UInt8 := [29, 28, 162, 0, 24, 42, 180, 0, 11, 29, 92, 47, 43, 180, 0, 11, 29, 47, 129, 80, 132, 3, 1]
abbrev dktJ18_or_2 : List UInt8 := dkwJ18_or_2 ++ dktJ18_or_3
def dkwJ18_or_1 : List UInt8 := [180, 0, 7, 162, 0, 19, 42, 43, 180, 0, 7, 182, 0, 139, 42, 43, 180, 0, 7, 181, 0, 7, 3, 62]
abbrev dktJ18_or_1 : List UInt8 := dkwJ18_or_1 ++ dktJ18_or_2
def dkwJ18_or_0 : List UInt8 := [42, 43, 166, 0, 4, 177, 42, 180, 0, 7, 43, 180, 0, 7, 184, 0, 193, 61, 42, 180, 0, 7, 43]
abbrev dktJ18_or_0 : List UInt8 := dkwJ18_or_0 ++ dktJ18_or_1
theorem dksJ18_or_0 : cJ18_or.data.toList.drop 0 = dktJ18_or_0 := by decide +kernel
theorem dksJ18_or_1 : cJ18_or.data.toList.drop 23 = dktJ18_or_1 := dk_seg dksJ18_or_0 23 rfl rfl
theorem dksJ18_or_2 : cJ18_or.data.toList.drop 47 = dktJ18_or_2 := dk_seg dksJ18_or_1 24 rfl rfl
theorem dksJ18_or_3 : cJ18_or.data.toList.drop 70 = dktJ18_or_3 := dk_seg dksJ18_or_2 23 rfl rfl
theorem dksJ18_or_4 : cJ18_or.data.toList.drop 92 = dktJ18_or_4 := dk_seg dksJ18_or_3 22 rfl rfl
theorem dJ18_or_0 : decode cJ18_or 0 = .ok (.aload_n 0, 1) := dk_42 (dk_at dksJ18_or_0 0 rfl rfl)
theorem dJ18_or_1 : decode cJ18_or 1 = .ok (.aload_n 1, 1) := dk_43 (dk_at dksJ18_or_0 1 rfl rfl)
theorem dJ18_or_2 : decode cJ18_or 2 = .ok (.if_acmp .ne 4, 3) := dk_166 0 4 (dk_at dksJ18_or_0 2 rfl rfl)
theorem dJ18_or_5 : decode cJ18_or 5 = .ok (.return_, 1) := dk_177 (dk_at dksJ18_or_0 5 rfl rfl)
theorem dJ18_or_6 : decode cJ18_or 6 = .ok (.aload_n 0, 1) := dk_42 (dk_at dksJ18_or_0 6 rfl rfl)
theorem dJ18_or_7 : decode cJ18_or 7 = .ok (.getfield 7, 3) := dk_180 0 7 (dk_at dksJ18_or_0 7 rfl rfl)
theorem dJ18_or_10 : decode cJ18_or 10 = .ok (.aload_n 1, 1) := dk_43 (dk_at dksJ18_or_0 10 rfl rfl)
theorem dJ18_or_11 : decode cJ18_or 11 = .ok (.getfield 7, 3) := dk_180 0 7 (dk_at dksJ18_or_0 11 rfl rfl)
theorem dJ18_or_14 : decode cJ18_or 14 = .ok (.invokestatic 193, 3) := dk_184 0 193 (dk_at dksJ18_or_0 14 rfl rfl)
theorem dJ18_or_17 : decode cJ18_or 17 = .ok (.istore_n 2, 1) := dk_61 (dk_at dksJ18_or_0 17 rfl rfl)
theorem dJ18_or_18 : decode cJ18_or 18 = .ok (.aload_n 0, 1) := dk_42 (dk_at dksJ18_or_0 18 rfl rfl)
theorem dJ18_or_19 : decode cJ18_or 19 = .ok (.getfield 7, 3) := dk_180 0 7 (dk_at dksJ18_or_0 19 rfl rfl)
theorem dJ18_or_22 : decode cJ18_or 22 = .ok (.aload_n 1, 1) := dk_43 (dk_at dksJ18_or_0 22 rfl rfl)
theorem dJ18_or_23 : decode cJ18_or 23 = .ok (.getfield 7, 3) := dk_180 0 7 (dk_at dksJ18_or_1 0 rfl rfl)
theorem dJ18_or_26 : decode cJ18_or 26 = .ok (.if_icmp .ge 19, 3) := dk_162 0 19 (dk_at dksJ18_or_1 3 rfl rfl)
theorem dJ18_or_29 : decode cJ18_or 29 = .ok (.aload_n 0, 1) := dk_42 (dk_at dksJ18_or_1 6 rfl rfl)
theorem dJ18_or_30 : decode cJ18_or 30 = .ok (.aload_n 1, 1) := dk_43 (dk_at dksJ18_or_1 7 rfl rfl)
theorem dJ18_or_31 : decode cJ18_or 31 = .ok (.getfield 7, 3) := dk_180 0 7 (dk_at dksJ18_or_1 8 rfl rfl)
theorem dJ18_or_34 : decode cJ18_or 34 = .ok (.invokevirtual 139, 3) := dk_182 0 139 (dk_at dksJ18_or_1 11 rfl rfl)
theorem dJ18_or_37 : decode cJ18_or 37 = .ok (.aload_n 0, 1) := dk_42 (dk_at dksJ18_or_1 14 rfl rfl)
theorem dJ18_or_38 : decode cJ18_or 38 = .ok (.aload_n 1, 1) := dk_43 (dk_at dksJ18_or_1 15 rfl rfl)
theorem dJ18_or_39 : decode cJ18_or 39 = .ok (.getfield 7, 3) := dk_180 0 7 (dk_at dksJ18_or_1 16 rfl rfl)
theorem dJ18_or_42 : decode cJ18_or 42 = .ok (.putfield 7, 3) := dk_181 0 7 (dk_at dksJ18_or_1 19 rfl rfl)
theorem dJ18_or_45 : decode cJ18_or 45 = .ok (.iconst 0, 1) := dk_3 (dk_at dksJ18_or_1 22 rfl rfl)
theorem dJ18_or_46 : decode cJ18_or 46 = .ok (.istore_n 3, 1) := dk_62 (dk_at dksJ18_or_1 23 rfl rfl)
theorem dJ18_or_47 : decode cJ18_or 47 = .ok (.iload_n 3, 1) := dk_29 (dk_at dksJ18_or_2 0 rfl rfl)
theorem dJ18_or_48 : decode cJ18_or 48 = .ok (.iload_n 2, 1) := dk_28 (dk_at dksJ18_or_2 1 rfl rfl)
theorem dJ18_or_49 : decode cJ18_or 49 = .ok (.if_icmp .ge 24, 3) := dk_162 0 24 (dk_at dksJ18_or_2 2 rfl rfl)
theorem dJ18_or_52 : decode cJ18_or 52 = .ok (.aload_n 0, 1) := dk_42 (dk_at dksJ18_or_2 5 rfl rfl)
theorem dJ18_or_53 : decode cJ18_or 53 = .ok (.getfield 11, 3) := dk_180 0 11 (dk_at dksJ18_or_2 6 rfl rfl)
theorem dJ18_or_56 : decode cJ18_or 56 = .ok (.iload_n 3, 1) := dk_29 (dk_at dksJ18_or_2 9 rfl rfl)
theorem dJ18_or_57 : decode cJ18_or 57 = .ok (.dup2, 1) := dk_92 (dk_at dksJ18_or_2 10 rfl rfl)
theorem dJ18_or_58 : decode cJ18_or 58 = .ok (.laload, 1) := dk_47 (dk_at dksJ18_or_2 11 rfl rfl)
theorem dJ18_or_59 : decode cJ18_or 59 = .ok (.aload_n 1, 1) := dk_43 (dk_at dksJ18_or_2 12 rfl rfl)
theorem dJ18_or_60 : decode cJ18_or 60 = .ok (.getfield 11, 3) := dk_180 0 11 (dk_at dksJ18_or_2 13 rfl rfl)
theorem dJ18_or_63 : decode cJ18_or 63 = .ok (.iload_n 3, 1) := dk_29 (dk_at dksJ18_or_2 16 rfl rfl)
theorem dJ18_or_64 : decode cJ18_or 64 = .ok (.laload, 1) := dk_47 (dk_at dksJ18_or_2 17 rfl rfl)
theorem dJ18_or_65 : decode cJ18_or 65 = .ok (.lor, 1) := dk_129 (dk_at dksJ18_or_2 18 rfl rfl)
theorem dJ18_or_66 : decode cJ18_or 66 = .ok (.lastore, 1) := dk_80 (dk_at dksJ18_or_2 19 rfl rfl)
theorem dJ18_or_67 : decode cJ18_or 67 = .ok (.iinc 3 1, 3) := dk_132 3 1 (dk_at dksJ18_or_2 20 rfl rfl)
theorem dJ18_or_70 : decode cJ18_or 70 = .ok (.goto (-23), 3) := dk_167 255 233 (dk_at dksJ18_or_3 0 rfl rfl)
theorem dJ18_or_73 : decode cJ18_or 73 = .ok (.iload_n 2, 1) := dk_28 (dk_at dksJ18_or_3 3 rfl rfl)
theorem dJ18_or_74 : decode cJ18_or 74 = .ok (.aload_n 1, 1) := dk_43 (dk_at dksJ18_or_3 4 rfl rfl)
theorem dJ18_or_75 : decode cJ18_or 75 = .ok (.getfield 7, 3) := dk_180 0 7 (dk_at dksJ18_or_3 5 rfl rfl)
theorem dJ18_or_78 : decode cJ18_or 78 = .ok (.if_icmp .ge 22, 3) := dk_162 0 22 (dk_at dksJ18_or_3 8 rfl rfl)
theorem dJ18_or_81 : decode cJ18_or 81 = .ok (.aload_n 1, 1) := dk_43 (dk_at dksJ18_or_3 11 rfl rfl)
theorem dJ18_or_82 : decode cJ18_or 82 = .ok (.getfield 11, 3) := dk_180 0 11 (dk_at dksJ18_or_3 12 rfl rfl)
theorem dJ18_or_85 : decode cJ18_or 85 = .ok (.iload_n 2, 1) := dk_28 (dk_at dksJ18_or_3 15 rfl rfl)
theorem dJ18_or_86 : decode cJ18_or 86 = .ok (.aload_n 0, 1) := dk_42 (dk_at dksJ18_or_3 16 rfl rfl)
theorem dJ18_or_87 : decode cJ18_or 87 = .ok (.getfield 11, 3) := dk_180 0 11 (dk_at dksJ18_or_3 17 rfl rfl)
theorem dJ18_or_90 : decode cJ18_or 90 = .ok (.iload_n 2, 1) := dk_28 (dk_at dksJ18_or_3 20 rfl rfl)
theorem dJ18_or_91 : decode cJ18_or 91 = .ok (.aload_n 0, 1) := dk_42 (dk_at dksJ18_or_3 21 rfl rfl)
theorem dJ18_or_92 : decode cJ18_or 92 = .ok (.getfield 7, 3) := dk_180 0 7 (dk_at dksJ18_or_4 0 rfl rfl)
theorem dJ18_or_95 : decode cJ18_or 95 = .ok (.iload_n 2, 1) := dk_28 (dk_at dksJ18_or_4 3 rfl rfl)
theorem dJ18_or_96 : decode cJ18_or 96 = .ok (.isub, 1) := dk_100 (dk_at dksJ18_or_4 4 rfl rfl)
theorem dJ18_or_97 : decode cJ18_or 97 = .ok (.invokestatic 199, 3) := dk_184 0 199 (dk_at dksJ18_or_4 5 rfl rfl)
theorem dJ18_or_100 : decode cJ18_or 100 = .ok (.aload_n 0, 1) := dk_42 (dk_at dksJ18_or_4 8 rfl rfl)
theorem dJ18_or_101 : decode cJ18_or 101 = .ok (.invokevirtual 56, 3) := dk_182 0 56 (dk_at dksJ18_or_4 9 rfl rfl)
theorem dJ18_or_104 : decode cJ18_or 104 = .ok (.return_, 1) := dk_177 (dk_at dksJ18_or_4 12 rfl rfl)
abbrev cJ18_andNot : ByteArray := prog_59_method_39_code
def yJ18_andNot : MethodName := ⟨RJ18, "andNot", "(Ljava/util/BitSet;)V"⟩
def dkwJ18_andNot_2 : List UInt8 := [182, 0, 56, 177]
abbrev dktJ18_andNot_2 : List UInt8 := dkwJ18_andNot_2 ++ []
def dkwJ18_andNot_1 : List UInt8 := [47, 43, 180, 0, 11, 28, 47, 20, 0, 165, 131, 127, 80, 132, 2, 255, 167, 255, 230, 42, 182, 0, 158, 42]
abbrev dktJ18_andNot_1 : List UInt8 := dkwJ18_andNot_1 ++ dktJ18_andNot_2
def dkwJ18_andNot_0 : List UInt8 := [42, 180, 0, 7, 43, 180, 0, 7, 184, 0, 193, 4, 100, 61, 28, 155, 0, 28, 42, 180, 0, 11, 28, 92]
abbrev dktJ18_andNot_0 : List UInt8 := dkwJ18_andNot_0 ++ dktJ18_andNot_1
theorem dksJ18_andNot_0 : cJ18_andNot.data.toList.drop 0 = dktJ18_andNot_0 := by decide +kernel
theorem dksJ18_andNot_1 : cJ18_andNot.data.toList.drop 24 = dktJ18_andNot_1 := dk_seg dksJ18_andNot_0 24 rfl rfl
theorem dksJ18_andNot_2 : cJ18_andNot.data.toList.drop 48 = dktJ18_andNot_2 := dk_seg dksJ18_andNot_1 24 rfl rfl
theorem dJ18_andNot_0 : decode cJ18_andNot 0 = .ok (.aload_n 0, 1) := dk_42 (dk_at dksJ18_andNot_0 0 rfl rfl)
theorem dJ18_andNot_1 : decode cJ18_andNot 1 = .ok (.getfield 7, 3) := dk_180 0 7 (dk_at dksJ18_andNot_0 1 rfl rfl)
theorem dJ18_andNot_4 : decode cJ18_andNot 4 = .ok (.aload_n 1, 1) := dk_43 (dk_at dksJ18_andNot_0 4 rfl rfl)
theorem dJ18_andNot_5 : decode cJ18_andNot 5 = .ok (.getfield 7, 3) := dk_180 0 7 (dk_at dksJ18_andNot_0 5 rfl rfl)
theorem dJ18_andNot_8 : decode cJ18_andNot 8 = .ok (.invokestatic 193, 3) := dk_184 0 193 (dk_at dksJ18_andNot_0 8 rfl rfl)
theorem dJ18_andNot_11 : decode cJ18_andNot 11 = .ok (.iconst 1, 1) := dk_4 (dk_at dksJ18_andNot_0 11 rfl rfl)
theorem dJ18_andNot_12 : decode cJ18_andNot 12 = .ok (.isub, 1) := dk_100 (dk_at dksJ18_andNot_0 12 rfl rfl)
theorem dJ18_andNot_13 : decode cJ18_andNot 13 = .ok (.istore_n 2, 1) := dk_61 (dk_at dksJ18_andNot_0 13 rfl rfl)
theorem dJ18_andNot_14 : decode cJ18_andNot 14 = .ok (.iload_n 2, 1) := dk_28 (dk_at dksJ18_andNot_0 14 rfl rfl)
theorem dJ18_andNot_15 : decode cJ18_andNot 15 = .ok (.ifCond .lt 28, 3) := dk_155 0 28 (dk_at dksJ18_andNot_0 15 rfl rfl)
theorem dJ18_andNot_18 : decode cJ18_andNot 18 = .ok (.aload_n 0, 1) := dk_42 (dk_at dksJ18_andNot_0 18 rfl rfl)
theorem dJ18_andNot_19 : decode cJ18_andNot 19 = .ok (.getfield 11, 3) := dk_180 0 11 (dk_at dksJ18_andNot_0 19 rfl rfl)
theorem dJ18_andNot_22 : decode cJ18_andNot 22 = .ok (.iload_n 2, 1) := dk_28 (dk_at dksJ18_andNot_0 22 rfl rfl)
theorem dJ18_andNot_23 : decode cJ18_andNot 23 = .ok (.dup2, 1) := dk_92 (dk_at dksJ18_andNot_0 23 rfl rfl)
theorem dJ18_andNot_24 : decode cJ18_andNot 24 = .ok (.laload, 1) := dk_47 (dk_at dksJ18_andNot_1 0 rfl rfl)
theorem dJ18_andNot_25 : decode cJ18_andNot 25 = .ok (.aload_n 1, 1) := dk_43 (dk_at dksJ18_andNot_1 1 rfl rfl)
theorem dJ18_andNot_26 : decode cJ18_andNot 26 = .ok (.getfield 11, 3) := dk_180 0 11 (dk_at dksJ18_andNot_1 2 rfl rfl)
theorem dJ18_andNot_29 : decode cJ18_andNot 29 = .ok (.iload_n 2, 1) := dk_28 (dk_at dksJ18_andNot_1 5 rfl rfl)
theorem dJ18_andNot_30 : decode cJ18_andNot 30 = .ok (.laload, 1) := dk_47 (dk_at dksJ18_andNot_1 6 rfl rfl)
theorem dJ18_andNot_31 : decode cJ18_andNot 31 = .ok (.ldc2_w 165, 3) := dk_20 0 165 (dk_at dksJ18_andNot_1 7 rfl rfl)
theorem dJ18_andNot_34 : decode cJ18_andNot 34 = .ok (.lxor, 1) := dk_131 (dk_at dksJ18_andNot_1 10 rfl rfl)
theorem dJ18_andNot_35 : decode cJ18_andNot 35 = .ok (.land, 1) := dk_127 (dk_at dksJ18_andNot_1 11 rfl rfl)
theorem dJ18_andNot_36 : decode cJ18_andNot 36 = .ok (.lastore, 1) := dk_80 (dk_at dksJ18_andNot_1 12 rfl rfl)
theorem dJ18_andNot_37 : decode cJ18_andNot 37 = .ok (.iinc 2 (-1), 3) := dk_132 2 255 (dk_at dksJ18_andNot_1 13 rfl rfl)
theorem dJ18_andNot_40 : decode cJ18_andNot 40 = .ok (.goto (-26), 3) := dk_167 255 230 (dk_at dksJ18_andNot_1 16 rfl rfl)
theorem dJ18_andNot_43 : decode cJ18_andNot 43 = .ok (.aload_n 0, 1) := dk_42 (dk_at dksJ18_andNot_1 19 rfl rfl)
theorem dJ18_andNot_44 : decode cJ18_andNot 44 = .ok (.invokevirtual 158, 3) := dk_182 0 158 (dk_at dksJ18_andNot_1 20 rfl rfl)
theorem dJ18_andNot_47 : decode cJ18_andNot 47 = .ok (.aload_n 0, 1) := dk_42 (dk_at dksJ18_andNot_1 23 rfl rfl)
theorem dJ18_andNot_48 : decode cJ18_andNot 48 = .ok (.invokevirtual 56, 3) := dk_182 0 56 (dk_at dksJ18_andNot_2 0 rfl rfl)
theorem dJ18_andNot_51 : decode cJ18_andNot 51 = .ok (.return_, 1) := dk_177 (dk_at dksJ18_andNot_2 3 rfl rfl)
abbrev cJ18_clear : ByteArray := prog_59_method_23_code
def yJ18_clear : MethodName := ⟨RJ18, "clear", "(I)V"⟩
def dkwJ18_clear_2 : List UInt8 := [180, 0, 11, 28, 92, 47, 10, 27, 121, 20, 0, 165, 131, 127, 80, 42, 182, 0, 158, 42, 182, 0, 56, 177]
abbrev dktJ18_clear_2 : List UInt8 := dkwJ18_clear_2 ++ []
def dkwJ18_clear_1 : List UInt8 := [182, 0, 45, 183, 0, 146, 191, 27, 184, 0, 52, 61, 28, 42, 180, 0, 7, 161, 0, 4, 177, 42]
abbrev dktJ18_clear_1 : List UInt8 := dkwJ18_clear_1 ++ dktJ18_clear_2
def dkwJ18_clear_0 : List UInt8 := [27, 156, 0, 30, 187, 0, 142, 89, 187, 0, 33, 89, 183, 0, 35, 18, 153, 182, 0, 38, 27, 182, 0, 42]
abbrev dktJ18_clear_0 : List UInt8 := dkwJ18_clear_0 ++ dktJ18_clear_1
theorem dksJ18_clear_0 : cJ18_clear.data.toList.drop 0 = dktJ18_clear_0 := by decide +kernel
theorem dksJ18_clear_1 : cJ18_clear.data.toList.drop 24 = dktJ18_clear_1 := dk_seg dksJ18_clear_0 24 rfl rfl
theorem dksJ18_clear_2 : cJ18_clear.data.toList.drop 46 = dktJ18_clear_2 := dk_seg dksJ18_clear_1 22 rfl rfl
theorem dJ18_clear_0 : decode cJ18_clear 0 = .ok (.iload_n 1, 1) := dk_27 (dk_at dksJ18_clear_0 0 rfl rfl)
theorem dJ18_clear_1 : decode cJ18_clear 1 = .ok (.ifCond .ge 30, 3) := dk_156 0 30 (dk_at dksJ18_clear_0 1 rfl rfl)
theorem dJ18_clear_4 : decode cJ18_clear 4 = .ok (.new 142, 3) := dk_187 0 142 (dk_at dksJ18_clear_0 4 rfl rfl)
theorem dJ18_clear_7 : decode cJ18_clear 7 = .ok (.dup, 1) := dk_89 (dk_at dksJ18_clear_0 7 rfl rfl)
theorem dJ18_clear_8 : decode cJ18_clear 8 = .ok (.new 33, 3) := dk_187 0 33 (dk_at dksJ18_clear_0 8 rfl rfl)
theorem dJ18_clear_11 : decode cJ18_clear 11 = .ok (.dup, 1) := dk_89 (dk_at dksJ18_clear_0 11 rfl rfl)
theorem dJ18_clear_12 : decode cJ18_clear 12 = .ok (.invokespecial 35, 3) := dk_183 0 35 (dk_at dksJ18_clear_0 12 rfl rfl)
theorem dJ18_clear_15 : decode cJ18_clear 15 = .ok (.ldc 153, 2) := dk_18 153 (dk_at dksJ18_clear_0 15 rfl rfl)
theorem dJ18_clear_17 : decode cJ18_clear 17 = .ok (.invokevirtual 38, 3) := dk_182 0 38 (dk_at dksJ18_clear_0 17 rfl rfl)
theorem dJ18_clear_20 : decode cJ18_clear 20 = .ok (.iload_n 1, 1) := dk_27 (dk_at dksJ18_clear_0 20 rfl rfl)
theorem dJ18_clear_21 : decode cJ18_clear 21 = .ok (.invokevirtual 42, 3) := dk_182 0 42 (dk_at dksJ18_clear_0 21 rfl rfl)
theorem dJ18_clear_24 : decode cJ18_clear 24 = .ok (.invokevirtual 45, 3) := dk_182 0 45 (dk_at dksJ18_clear_1 0 rfl rfl)
theorem dJ18_clear_27 : decode cJ18_clear 27 = .ok (.invokespecial 146, 3) := dk_183 0 146 (dk_at dksJ18_clear_1 3 rfl rfl)
theorem dJ18_clear_30 : decode cJ18_clear 30 = .ok (.athrow, 1) := dk_191 (dk_at dksJ18_clear_1 6 rfl rfl)
theorem dJ18_clear_31 : decode cJ18_clear 31 = .ok (.iload_n 1, 1) := dk_27 (dk_at dksJ18_clear_1 7 rfl rfl)
theorem dJ18_clear_32 : decode cJ18_clear 32 = .ok (.invokestatic 52, 3) := dk_184 0 52 (dk_at dksJ18_clear_1 8 rfl rfl)
theorem dJ18_clear_35 : decode cJ18_clear 35 = .ok (.istore_n 2, 1) := dk_61 (dk_at dksJ18_clear_1 11 rfl rfl)
theorem dJ18_clear_36 : decode cJ18_clear 36 = .ok (.iload_n 2, 1) := dk_28 (dk_at dksJ18_clear_1 12 rfl rfl)
theorem dJ18_clear_37 : decode cJ18_clear 37 = .ok (.aload_n 0, 1) := dk_42 (dk_at dksJ18_clear_1 13 rfl rfl)
theorem dJ18_clear_38 : decode cJ18_clear 38 = .ok (.getfield 7, 3) := dk_180 0 7 (dk_at dksJ18_clear_1 14 rfl rfl)
theorem dJ18_clear_41 : decode cJ18_clear 41 = .ok (.if_icmp .lt 4, 3) := dk_161 0 4 (dk_at dksJ18_clear_1 17 rfl rfl)
theorem dJ18_clear_44 : decode cJ18_clear 44 = .ok (.return_, 1) := dk_177 (dk_at dksJ18_clear_1 20 rfl rfl)
theorem dJ18_clear_45 : decode cJ18_clear 45 = .ok (.aload_n 0, 1) := dk_42 (dk_at dksJ18_clear_1 21 rfl rfl)
theorem dJ18_clear_46 : decode cJ18_clear 46 = .ok (.getfield 11, 3) := dk_180 0 11 (dk_at dksJ18_clear_2 0 rfl rfl)
theorem dJ18_clear_49 : decode cJ18_clear 49 = .ok (.iload_n 2, 1) := dk_28 (dk_at dksJ18_clear_2 3 rfl rfl)
theorem dJ18_clear_50 : decode cJ18_clear 50 = .ok (.dup2, 1) := dk_92 (dk_at dksJ18_clear_2 4 rfl rfl)
theorem dJ18_clear_51 : decode cJ18_clear 51 = .ok (.laload, 1) := dk_47 (dk_at dksJ18_clear_2 5 rfl rfl)
theorem dJ18_clear_52 : decode cJ18_clear 52 = .ok (.lconst 1, 1) := dk_10 (dk_at dksJ18_clear_2 6 rfl rfl)
theorem dJ18_clear_53 : decode cJ18_clear 53 = .ok (.iload_n 1, 1) := dk_27 (dk_at dksJ18_clear_2 7 rfl rfl)
theorem dJ18_clear_54 : decode cJ18_clear 54 = .ok (.lshl, 1) := dk_121 (dk_at dksJ18_clear_2 8 rfl rfl)
theorem dJ18_clear_55 : decode cJ18_clear 55 = .ok (.ldc2_w 165, 3) := dk_20 0 165 (dk_at dksJ18_clear_2 9 rfl rfl)
theorem dJ18_clear_58 : decode cJ18_clear 58 = .ok (.lxor, 1) := dk_131 (dk_at dksJ18_clear_2 12 rfl rfl)
theorem dJ18_clear_59 : decode cJ18_clear 59 = .ok (.land, 1) := dk_127 (dk_at dksJ18_clear_2 13 rfl rfl)
theorem dJ18_clear_60 : decode cJ18_clear 60 = .ok (.lastore, 1) := dk_80 (dk_at dksJ18_clear_2 14 rfl rfl)
theorem dJ18_clear_61 : decode cJ18_clear 61 = .ok (.aload_n 0, 1) := dk_42 (dk_at dksJ18_clear_2 15 rfl rfl)
theorem dJ18_clear_62 : decode cJ18_clear 62 = .ok (.invokevirtual 158, 3) := dk_182 0 158 (dk_at dksJ18_clear_2 16 rfl rfl)
theorem dJ18_clear_65 : decode cJ18_clear 65 = .ok (.aload_n 0, 1) := dk_42 (dk_at dksJ18_clear_2 19 rfl rfl)
theorem dJ18_clear_66 : decode cJ18_clear 66 = .ok (.invokevirtual 56, 3) := dk_182 0 56 (dk_at dksJ18_clear_2 20 rfl rfl)
theorem dJ18_clear_69 : decode cJ18_clear 69 = .ok (.return_, 1) := dk_177 (dk_at dksJ18_clear_2 23 rfl rfl)
theorem q143 : (Jvm.Cond.initialized "java/util/BitSet") ∈ lw_all := lw_g (lw_at lw_m1 21 rfl) rfl
theorem q810 : (Jvm.Cond.instanceMethod ({ cls := "java/util/BitSet", name := "get", desc := "(I)Z" } : Jvm.MethodName)) ∈ lw_all := lw_g (lw_at lw_m3 208 rfl) rfl
theorem q811 : (Jvm.Cond.selects "java/util/BitSet" ({ cls := "java/util/BitSet", name := "get", desc := "(I)Z" } : Jvm.MethodName) ({ cls := "java/util/BitSet", name := "get", desc := "(I)Z" } : Jvm.MethodName)) ∈ lw_all := lw_g (lw_at lw_m3 209 rfl) rfl
theorem q812 : (Jvm.Cond.code ({ cls := "java/util/BitSet", name := "get", desc := "(I)Z" } : Jvm.MethodName) prog_59_method_26_code (3 : Nat) (Option.some Jvm.ClassFile.FieldType.boolean)) ∈ lw_all := lw_g (lw_at lw_m3 210 rfl) rfl
theorem q813 : (Jvm.Cond.classLink "java/util/BitSet" (142 : Nat) "java/lang/IndexOutOfBoundsException") ∈ lw_all := lw_g (lw_at lw_m3 211 rfl) rfl
theorem q822 : (Jvm.Cond.classLink "java/util/BitSet" (33 : Nat) "java/lang/StringBuilder") ∈ lw_all := lw_g (lw_at lw_m3 220 rfl) rfl
theorem q823 : (Jvm.Cond.methodLink "java/util/BitSet" (35 : Nat) ({ cls := "java/lang/StringBuilder", name := "<init>", desc := "()V" } : Jvm.MethodName)) ∈ lw_all := lw_g (lw_at lw_m3 221 rfl) rfl
theorem q824 : (Jvm.Cond.stringRef "java/util/BitSet" (153 : Nat) "bitIndex < 0: ") ∈ lw_tbl := lw_at lw_m3 222 rfl
theorem q825 : (Jvm.Cond.methodLink "java/util/BitSet" (38 : Nat) ({ cls := "java/lang/StringBuilder", name := "append", desc := "(Ljava/lang/String;)Ljava/lang/StringBuilder;" } : Jvm.MethodName)) ∈ lw_all := lw_g (lw_at lw_m3 223 rfl) rfl
theorem q826 : (Jvm.Cond.methodLink "java/util/BitSet" (42 : Nat) ({ cls := "java/lang/StringBuilder", name := "append", desc := "(I)Ljava/lang/StringBuilder;" } : Jvm.MethodName)) ∈ lw_all := lw_g (lw_at lw_m3 224 rfl) rfl
theorem q827 : (Jvm.Cond.methodLink "java/util/BitSet" (45 : Nat) ({ cls := "java/lang/StringBuilder", name := "toString", desc := "()Ljava/lang/String;" } : Jvm.MethodName)) ∈ lw_all := lw_g (lw_at lw_m3 225 rfl) rfl
theorem q828 : (Jvm.Cond.methodLink "java/util/BitSet" (146 : Nat) ({ cls := "java/lang/IndexOutOfBoundsException", name := "<init>", desc := "(Ljava/lang/String;)V" } : Jvm.MethodName)) ∈ lw_all := lw_g (lw_at lw_m3 226 rfl) rfl
theorem q831 : (Jvm.Cond.methodLink "java/util/BitSet" (56 : Nat) ({ cls := "java/util/BitSet", name := "checkInvariants", desc := "()V" } : Jvm.MethodName)) ∈ lw_all := lw_g (lw_at lw_m3 229 rfl) rfl
theorem q832 : (Jvm.Cond.privateMethod ({ cls := "java/util/BitSet", name := "checkInvariants", desc := "()V" } : Jvm.MethodName)) ∈ lw_tbl := lw_at lw_m3 230 rfl
theorem q833 : (Jvm.Cond.instanceMethod ({ cls := "java/util/BitSet", name := "checkInvariants", desc := "()V" } : Jvm.MethodName)) ∈ lw_all := lw_g (lw_at lw_m3 231 rfl) rfl
theorem q834 : (Jvm.Cond.instantiable "java/util/BitSet" (3 : Nat)) ∈ lw_all := lw_g (lw_at lw_m3 232 rfl) rfl
theorem q835 : (Jvm.Cond.code ({ cls := "java/util/BitSet", name := "checkInvariants", desc := "()V" } : Jvm.MethodName) prog_59_method_2_code (1 : Nat) (Option.none : Option Jvm.ClassFile.FieldType)) ∈ lw_all := lw_g (lw_at lw_m3 233 rfl) rfl
theorem q836 : (Jvm.Cond.fieldLink "java/util/BitSet" (3 : Nat) "java/util/BitSet" "$assertionsDisabled" "Z") ∈ lw_all := lw_g (lw_at lw_m3 234 rfl) rfl
theorem q837 : (Jvm.Cond.laysStatic "java/util/BitSet" "$assertionsDisabled" "Z") ∈ lw_tbl := lw_at lw_m3 235 rfl
theorem q838 : (Jvm.Cond.methodLink "java/util/BitSet" (52 : Nat) ({ cls := "java/util/BitSet", name := "wordIndex", desc := "(I)I" } : Jvm.MethodName)) ∈ lw_all := lw_g (lw_at lw_m3 236 rfl) rfl
theorem q839 : (Jvm.Cond.static ({ cls := "java/util/BitSet", name := "wordIndex", desc := "(I)I" } : Jvm.MethodName)) ∈ lw_all := lw_g (lw_at lw_m3 237 rfl) rfl
theorem q840 : (Jvm.Cond.code ({ cls := "java/util/BitSet", name := "wordIndex", desc := "(I)I" } : Jvm.MethodName) prog_59_method_1_code (1 : Nat) (Option.some Jvm.ClassFile.FieldType.int)) ∈ lw_all := lw_g (lw_at lw_m3 238 rfl) rfl
theorem q935 : (Jvm.Cond.instanceMethod ({ cls := "java/util/BitSet", name := "<init>", desc := "()V" } : Jvm.MethodName)) ∈ lw_all := lw_g (lw_at lw_m4 93 rfl) rfl
theorem q936 : (Jvm.Cond.code ({ cls := "java/util/BitSet", name := "<init>", desc := "()V" } : Jvm.MethodName) prog_59_method_4_code (1 : Nat) (Option.none : Option Jvm.ClassFile.FieldType)) ∈ lw_all := lw_g (lw_at lw_m4 94 rfl) rfl
theorem q937 : (Jvm.Cond.methodLink "java/util/BitSet" (21 : Nat) ({ cls := "java/lang/Object", name := "<init>", desc := "()V" } : Jvm.MethodName)) ∈ lw_all := lw_g (lw_at lw_m4 95 rfl) rfl
theorem q938 : (Jvm.Cond.methodLink "java/util/BitSet" (27 : Nat) ({ cls := "java/util/BitSet", name := "initWords", desc := "(I)V" } : Jvm.MethodName)) ∈ lw_all := lw_g (lw_at lw_m4 96 rfl) rfl
theorem q939 : (Jvm.Cond.privateMethod ({ cls := "java/util/BitSet", name := "initWords", desc := "(I)V" } : Jvm.MethodName)) ∈ lw_tbl := lw_at lw_m4 97 rfl
theorem q940 : (Jvm.Cond.instanceMethod ({ cls := "java/util/BitSet", name := "initWords", desc := "(I)V" } : Jvm.MethodName)) ∈ lw_all := lw_g (lw_at lw_m4 98 rfl) rfl
theorem q941 : (Jvm.Cond.code ({ cls := "java/util/BitSet", name := "initWords", desc := "(I)V" } : Jvm.MethodName) prog_59_method_6_code (2 : Nat) (Option.none : Option Jvm.ClassFile.FieldType)) ∈ lw_all := lw_g (lw_at lw_m4 99 rfl) rfl
theorem q942 : (Jvm.Cond.fieldLink "java/util/BitSet" (11 : Nat) "java/util/BitSet" "words" "[J") ∈ lw_all := lw_g (lw_at lw_m4 100 rfl) rfl
theorem q943 : (Jvm.Cond.fieldLink "java/util/BitSet" (7 : Nat) "java/util/BitSet" "wordsInUse" "I") ∈ lw_all := lw_g (lw_at lw_m4 101 rfl) rfl
theorem q944 : (Jvm.Cond.fieldLink "java/util/BitSet" (24 : Nat) "java/util/BitSet" "sizeIsSticky" "Z") ∈ lw_all := lw_g (lw_at lw_m4 102 rfl) rfl
theorem q945 : (Jvm.Cond.lays "java/util/BitSet" "java/util/BitSet" "words" "[J") ∈ lw_all := lw_g (lw_at lw_m4 103 rfl) rfl
theorem q946 : (Jvm.Cond.soleField "java/util/BitSet" "words") ∈ lw_all := lw_g (lw_at lw_m4 104 rfl) rfl
theorem q947 : (Jvm.Cond.lays "java/util/BitSet" "java/util/BitSet" "wordsInUse" "I") ∈ lw_all := lw_g (lw_at lw_m4 105 rfl) rfl
theorem q948 : (Jvm.Cond.soleField "java/util/BitSet" "wordsInUse") ∈ lw_all := lw_g (lw_at lw_m4 106 rfl) rfl
theorem q949 : (Jvm.Cond.lays "java/util/BitSet" "java/util/BitSet" "sizeIsSticky" "Z") ∈ lw_all := lw_g (lw_at lw_m4 107 rfl) rfl
theorem q950 : (Jvm.Cond.soleField "java/util/BitSet" "sizeIsSticky") ∈ lw_all := lw_g (lw_at lw_m4 108 rfl) rfl
theorem q951 : (Jvm.Cond.superclass "java/util/BitSet" "java/lang/Object") ∈ lw_all := lw_g (lw_at lw_m4 109 rfl) rfl
theorem q1005 : (Jvm.Cond.selects "java/util/BitSet" ({ cls := "java/lang/Object", name := "getClass", desc := "()Ljava/lang/Class;" } : Jvm.MethodName) ({ cls := "java/lang/Object", name := "getClass", desc := "()Ljava/lang/Class;" } : Jvm.MethodName)) ∈ lw_all := lw_g (lw_at lw_m4 163 rfl) rfl
theorem q1053 : (Jvm.Cond.instanceMethod ({ cls := "java/util/BitSet", name := "set", desc := "(I)V" } : Jvm.MethodName)) ∈ lw_all := lw_g (lw_at lw_m4 211 rfl) rfl
theorem q1054 : (Jvm.Cond.selects "java/util/BitSet" ({ cls := "java/util/BitSet", name := "set", desc := "(I)V" } : Jvm.MethodName) ({ cls := "java/util/BitSet", name := "set", desc := "(I)V" } : Jvm.MethodName)) ∈ lw_all := lw_g (lw_at lw_m4 212 rfl) rfl
theorem q1055 : (Jvm.Cond.code ({ cls := "java/util/BitSet", name := "set", desc := "(I)V" } : Jvm.MethodName) prog_59_method_19_code (3 : Nat) (Option.none : Option Jvm.ClassFile.FieldType)) ∈ lw_all := lw_g (lw_at lw_m4 213 rfl) rfl
theorem q1056 : (Jvm.Cond.methodLink "java/util/BitSet" (155 : Nat) ({ cls := "java/util/BitSet", name := "expandTo", desc := "(I)V" } : Jvm.MethodName)) ∈ lw_all := lw_g (lw_at lw_m4 214 rfl) rfl
theorem q1057 : (Jvm.Cond.privateMethod ({ cls := "java/util/BitSet", name := "expandTo", desc := "(I)V" } : Jvm.MethodName)) ∈ lw_tbl := lw_at lw_m4 215 rfl
theorem q1058 : (Jvm.Cond.instanceMethod ({ cls := "java/util/BitSet", name := "expandTo", desc := "(I)V" } : Jvm.MethodName)) ∈ lw_all := lw_g (lw_at lw_m4 216 rfl) rfl
theorem q1059 : (Jvm.Cond.code ({ cls := "java/util/BitSet", name := "expandTo", desc := "(I)V" } : Jvm.MethodName) prog_59_method_15_code (3 : Nat) (Option.none : Option Jvm.ClassFile.FieldType)) ∈ lw_all := lw_g (lw_at lw_m4 217 rfl) rfl
theorem q1060 : (Jvm.Cond.methodLink "java/util/BitSet" (139 : Nat) ({ cls := "java/util/BitSet", name := "ensureCapacity", desc := "(I)V" } : Jvm.MethodName)) ∈ lw_all := lw_g (lw_at lw_m4 218 rfl) rfl
theorem q1061 : (Jvm.Cond.privateMethod ({ cls := "java/util/BitSet", name := "ensureCapacity", desc := "(I)V" } : Jvm.MethodName)) ∈ lw_tbl := lw_at lw_m4 219 rfl
theorem q1062 : (Jvm.Cond.instanceMethod ({ cls := "java/util/BitSet", name := "ensureCapacity", desc := "(I)V" } : Jvm.MethodName)) ∈ lw_all := lw_g (lw_at lw_m4 220 rfl) rfl
theorem q1063 : (Jvm.Cond.code ({ cls := "java/util/BitSet", name := "ensureCapacity", desc := "(I)V" } : Jvm.MethodName) prog_59_method_14_code (3 : Nat) (Option.none : Option Jvm.ClassFile.FieldType)) ∈ lw_all := lw_g (lw_at lw_m4 221 rfl) rfl
theorem q1064 : (Jvm.Cond.methodLink "java/util/BitSet" (133 : Nat) ({ cls := "java/lang/Math", name := "max", desc := "(II)I" } : Jvm.MethodName)) ∈ lw_all := lw_g (lw_at lw_m4 222 rfl) rfl
theorem q1065 : (Jvm.Cond.methodLink "java/util/BitSet" (59 : Nat) ({ cls := "java/util/Arrays", name := "copyOf", desc := "([JI)[J" } : Jvm.MethodName)) ∈ lw_all := lw_g (lw_at lw_m4 223 rfl) rfl
theorem q1074 : (Jvm.Cond.instanceMethod ({ cls := "java/util/BitSet", name := "cardinality", desc := "()I" } : Jvm.MethodName)) ∈ lw_all := lw_g (lw_at lw_m4 232 rfl) rfl
theorem q1075 : (Jvm.Cond.selects "java/util/BitSet" ({ cls := "java/util/BitSet", name := "cardinality", desc := "()I" } : Jvm.MethodName) ({ cls := "java/util/BitSet", name := "cardinality", desc := "()I" } : Jvm.MethodName)) ∈ lw_all := lw_g (lw_at lw_m4 233 rfl) rfl
theorem q1076 : (Jvm.Cond.code ({ cls := "java/util/BitSet", name := "cardinality", desc := "()I" } : Jvm.MethodName) prog_59_method_35_code (3 : Nat) (Option.some Jvm.ClassFile.FieldType.int)) ∈ lw_all := lw_g (lw_at lw_m4 234 rfl) rfl
theorem q1077 : (Jvm.Cond.methodLink "java/util/BitSet" (196 : Nat) ({ cls := "java/lang/Long", name := "bitCount", desc := "(J)I" } : Jvm.MethodName)) ∈ lw_all := lw_g (lw_at lw_m4 235 rfl) rfl
theorem q1091 : (Jvm.Cond.instanceMethod ({ cls := "java/util/BitSet", name := "flip", desc := "(I)V" } : Jvm.MethodName)) ∈ lw_all := lw_g (lw_at lw_m5 9 rfl) rfl
theorem q1092 : (Jvm.Cond.selects "java/util/BitSet" ({ cls := "java/util/BitSet", name := "flip", desc := "(I)V" } : Jvm.MethodName) ({ cls := "java/util/BitSet", name := "flip", desc := "(I)V" } : Jvm.MethodName)) ∈ lw_all := lw_g (lw_at lw_m5 10 rfl) rfl
theorem q1093 : (Jvm.Cond.code ({ cls := "java/util/BitSet", name := "flip", desc := "(I)V" } : Jvm.MethodName) prog_59_method_17_code (3 : Nat) (Option.none : Option Jvm.ClassFile.FieldType)) ∈ lw_all := lw_g (lw_at lw_m5 11 rfl) rfl
theorem q1094 : (Jvm.Cond.methodLink "java/util/BitSet" (158 : Nat) ({ cls := "java/util/BitSet", name := "recalculateWordsInUse", desc := "()V" } : Jvm.MethodName)) ∈ lw_all := lw_g (lw_at lw_m5 12 rfl) rfl
theorem q1095 : (Jvm.Cond.privateMethod ({ cls := "java/util/BitSet", name := "recalculateWordsInUse", desc := "()V" } : Jvm.MethodName)) ∈ lw_tbl := lw_at lw_m5 13 rfl
theorem q1096 : (Jvm.Cond.instanceMethod ({ cls := "java/util/BitSet", name := "recalculateWordsInUse", desc := "()V" } : Jvm.MethodName)) ∈ lw_all := lw_g (lw_at lw_m5 14 rfl) rfl
theorem q1097 : (Jvm.Cond.code ({ cls := "java/util/BitSet", name := "recalculateWordsInUse", desc := "()V" } : Jvm.MethodName) prog_59_method_3_code (2 : Nat) (Option.none : Option Jvm.ClassFile.FieldType)) ∈ lw_all := lw_g (lw_at lw_m5 15 rfl) rfl
theorem q1113 : (Jvm.Cond.instanceMethod ({ cls := "java/util/BitSet", name := "nextSetBit", desc := "(I)I" } : Jvm.MethodName)) ∈ lw_all := lw_g (lw_at lw_m5 31 rfl) rfl
theorem q1114 : (Jvm.Cond.selects "java/util/BitSet" ({ cls := "java/util/BitSet", name := "nextSetBit", desc := "(I)I" } : Jvm.MethodName) ({ cls := "java/util/BitSet", name := "nextSetBit", desc := "(I)I" } : Jvm.MethodName)) ∈ lw_all := lw_g (lw_at lw_m5 32 rfl) rfl
theorem q1115 : (Jvm.Cond.code ({ cls := "java/util/BitSet", name := "nextSetBit", desc := "(I)I" } : Jvm.MethodName) prog_59_method_28_code (5 : Nat) (Option.some Jvm.ClassFile.FieldType.int)) ∈ lw_all := lw_g (lw_at lw_m5 33 rfl) rfl
theorem q1116 : (Jvm.Cond.stringRef "java/util/BitSet" (144 : Nat) "fromIndex < 0: ") ∈ lw_tbl := lw_at lw_m5 34 rfl
theorem q1117 : (Jvm.Cond.constantLong "java/util/BitSet" (165 : Nat) (-1 : Int64)) ∈ lw_all := lw_g (lw_at lw_m5 35 rfl) rfl
theorem q1118 : (Jvm.Cond.methodLink "java/util/BitSet" (182 : Nat) ({ cls := "java/lang/Long", name := "numberOfTrailingZeros", desc := "(J)I" } : Jvm.MethodName)) ∈ lw_all := lw_g (lw_at lw_m5 36 rfl) rfl
theorem q2922 : (Jvm.Cond.instanceMethod ({ cls := "java/util/BitSet", name := "or", desc := "(Ljava/util/BitSet;)V" } : Jvm.MethodName)) ∈ lw_all := lw_g (lw_at lw_m12 160 rfl) rfl
theorem q2923 : (Jvm.Cond.selects "java/util/BitSet" ({ cls := "java/util/BitSet", name := "or", desc := "(Ljava/util/BitSet;)V" } : Jvm.MethodName) ({ cls := "java/util/BitSet", name := "or", desc := "(Ljava/util/BitSet;)V" } : Jvm.MethodName)) ∈ lw_all := lw_g (lw_at lw_m12 161 rfl) rfl
theorem q2924 : (Jvm.Cond.code ({ cls := "java/util/BitSet", name := "or", desc := "(Ljava/util/BitSet;)V" } : Jvm.MethodName) prog_59_method_37_code (4 : Nat) (Option.none : Option Jvm.ClassFile.FieldType)) ∈ lw_all := lw_g (lw_at lw_m12 162 rfl) rfl
theorem q2925 : (Jvm.Cond.methodLink "java/util/BitSet" (193 : Nat) ({ cls := "java/lang/Math", name := "min", desc := "(II)I" } : Jvm.MethodName)) ∈ lw_all := lw_g (lw_at lw_m12 163 rfl) rfl
theorem q2926 : (Jvm.Cond.methodLink "java/util/BitSet" (199 : Nat) ({ cls := "java/lang/System", name := "arraycopy", desc := "(Ljava/lang/Object;ILjava/lang/Object;II)V" } : Jvm.MethodName)) ∈ lw_all := lw_g (lw_at lw_m12 164 rfl) rfl
theorem q2928 : (Jvm.Cond.instanceMethod ({ cls := "java/util/BitSet", name := "andNot", desc := "(Ljava/util/BitSet;)V" } : Jvm.MethodName)) ∈ lw_all := lw_g (lw_at lw_m12 166 rfl) rfl
theorem q2929 : (Jvm.Cond.selects "java/util/BitSet" ({ cls := "java/util/BitSet", name := "andNot", desc := "(Ljava/util/BitSet;)V" } : Jvm.MethodName) ({ cls := "java/util/BitSet", name := "andNot", desc := "(Ljava/util/BitSet;)V" } : Jvm.MethodName)) ∈ lw_all := lw_g (lw_at lw_m12 167 rfl) rfl
theorem q2930 : (Jvm.Cond.code ({ cls := "java/util/BitSet", name := "andNot", desc := "(Ljava/util/BitSet;)V" } : Jvm.MethodName) prog_59_method_39_code (3 : Nat) (Option.none : Option Jvm.ClassFile.FieldType)) ∈ lw_all := lw_g (lw_at lw_m12 168 rfl) rfl
theorem q2932 : (Jvm.Cond.instanceMethod ({ cls := "java/util/BitSet", name := "clear", desc := "(I)V" } : Jvm.MethodName)) ∈ lw_all := lw_g (lw_at lw_m12 170 rfl) rfl
theorem q2933 : (Jvm.Cond.selects "java/util/BitSet" ({ cls := "java/util/BitSet", name := "clear", desc := "(I)V" } : Jvm.MethodName) ({ cls := "java/util/BitSet", name := "clear", desc := "(I)V" } : Jvm.MethodName)) ∈ lw_all := lw_g (lw_at lw_m12 171 rfl) rfl
theorem q2934 : (Jvm.Cond.code ({ cls := "java/util/BitSet", name := "clear", desc := "(I)V" } : Jvm.MethodName) prog_59_method_23_code (3 : Nat) (Option.none : Option Jvm.ClassFile.FieldType)) ∈ lw_all := lw_g (lw_at lw_m12 172 rfl) rfl
theorem q3681 : (Jvm.Cond.castable "java/util/BitSet" "java/lang/Object") ∈ lw_tbl := lw_at lw_m15 199 rfl
theorem in_J18 : ∀ w ∈ wsJ180, w ∈ lw_all := lw_in wsJ180 [945, 947, 949] (by decide +kernel) (by decide +kernel)
/-! jdk/internal/util/ArraysSupport -/
set_option maxRecDepth 100000
def RJ19 : String := "jdk/internal/util/ArraysSupport"
abbrev cJ19_newLength : ByteArray := prog_92_method_27_code
def yJ19_newLength : MethodName := ⟨RJ19, "newLength", "(III)I"⟩
def dkwJ19_newLength_1 : List UInt8 := [184, 0, 201, 172]
abbrev dktJ19_newLength_1 : List UInt8 := dkwJ19_newLength_1 ++ []
def dkwJ19_newLength_0 : List UInt8 := [26, 27, 28, 184, 0, 194, 96, 62, 3, 29, 162, 0, 11, 29, 18, 200, 163, 0, 5, 29, 172, 26, 27]
abbrev dktJ19_newLength_0 : List UInt8 := dkwJ19_newLength_0 ++ dktJ19_newLength_1
theorem dksJ19_newLength_0 : cJ19_newLength.data.toList.drop 0 = dktJ19_newLength_0 := by decide +kernel
theorem dksJ19_newLength_1 : cJ19_newLength.data.toList.drop 23 = dktJ19_newLength_1 := dk_seg dksJ19_newLength_0 23 rfl rfl
theorem dJ19_newLength_0 : decode cJ19_newLength 0 = .ok (.iload_n 0, 1) := dk_26 (dk_at dksJ19_newLength_0 0 rfl rfl)
theorem dJ19_newLength_1 : decode cJ19_newLength 1 = .ok (.iload_n 1, 1) := dk_27 (dk_at dksJ19_newLength_0 1 rfl rfl)
theorem dJ19_newLength_2 : decode cJ19_newLength 2 = .ok (.iload_n 2, 1) := dk_28 (dk_at dksJ19_newLength_0 2 rfl rfl)
theorem dJ19_newLength_3 : decode cJ19_newLength 3 = .ok (.invokestatic 194, 3) := dk_184 0 194 (dk_at dksJ19_newLength_0 3 rfl rfl)
theorem dJ19_newLength_6 : decode cJ19_newLength 6 = .ok (.iadd, 1) := dk_96 (dk_at dksJ19_newLength_0 6 rfl rfl)
theorem dJ19_newLength_7 : decode cJ19_newLength 7 = .ok (.istore_n 3, 1) := dk_62 (dk_at dksJ19_newLength_0 7 rfl rfl)
theorem dJ19_newLength_8 : decode cJ19_newLength 8 = .ok (.iconst 0, 1) := dk_3 (dk_at dksJ19_newLength_0 8 rfl rfl)
theorem dJ19_newLength_9 : decode cJ19_newLength 9 = .ok (.iload_n 3, 1) := dk_29 (dk_at dksJ19_newLength_0 9 rfl rfl)
theorem dJ19_newLength_10 : decode cJ19_newLength 10 = .ok (.if_icmp .ge 11, 3) := dk_162 0 11 (dk_at dksJ19_newLength_0 10 rfl rfl)
theorem dJ19_newLength_13 : decode cJ19_newLength 13 = .ok (.iload_n 3, 1) := dk_29 (dk_at dksJ19_newLength_0 13 rfl rfl)
theorem dJ19_newLength_14 : decode cJ19_newLength 14 = .ok (.ldc 200, 2) := dk_18 200 (dk_at dksJ19_newLength_0 14 rfl rfl)
theorem dJ19_newLength_16 : decode cJ19_newLength 16 = .ok (.if_icmp .gt 5, 3) := dk_163 0 5 (dk_at dksJ19_newLength_0 16 rfl rfl)
theorem dJ19_newLength_19 : decode cJ19_newLength 19 = .ok (.iload_n 3, 1) := dk_29 (dk_at dksJ19_newLength_0 19 rfl rfl)
theorem dJ19_newLength_20 : decode cJ19_newLength 20 = .ok (.ireturn, 1) := dk_172 (dk_at dksJ19_newLength_0 20 rfl rfl)
theorem dJ19_newLength_21 : decode cJ19_newLength 21 = .ok (.iload_n 0, 1) := dk_26 (dk_at dksJ19_newLength_0 21 rfl rfl)
theorem dJ19_newLength_22 : decode cJ19_newLength 22 = .ok (.iload_n 1, 1) := dk_27 (dk_at dksJ19_newLength_0 22 rfl rfl)
theorem dJ19_newLength_23 : decode cJ19_newLength 23 = .ok (.invokestatic 201, 3) := dk_184 0 201 (dk_at dksJ19_newLength_1 0 rfl rfl)
theorem dJ19_newLength_26 : decode cJ19_newLength 26 = .ok (.ireturn, 1) := dk_172 (dk_at dksJ19_newLength_1 3 rfl rfl)
abbrev cJ19_hugeLength : ByteArray := prog_92_method_28_code
def yJ19_hugeLength : MethodName := ⟨RJ19, "hugeLength", "(II)I"⟩
def dkwJ19_hugeLength_2 : List UInt8 := [191, 28, 18, 200, 163, 0, 6, 18, 200, 172, 28, 172]
abbrev dktJ19_hugeLength_2 : List UInt8 := dkwJ19_hugeLength_2 ++ []
def dkwJ19_hugeLength_1 : List UInt8 := [26, 182, 0, 98, 18, 208, 182, 0, 94, 27, 182, 0, 98, 18, 210, 182, 0, 94, 182, 0, 101, 183, 0, 212]
abbrev dktJ19_hugeLength_1 : List UInt8 := dkwJ19_hugeLength_1 ++ dktJ19_hugeLength_2
def dkwJ19_hugeLength_0 : List UInt8 := [26, 27, 96, 61, 28, 156, 0, 44, 187, 0, 204, 89, 187, 0, 89, 89, 183, 0, 91, 18, 206, 182, 0, 94]
abbrev dktJ19_hugeLength_0 : List UInt8 := dkwJ19_hugeLength_0 ++ dktJ19_hugeLength_1
theorem dksJ19_hugeLength_0 : cJ19_hugeLength.data.toList.drop 0 = dktJ19_hugeLength_0 := by decide +kernel
theorem dksJ19_hugeLength_1 : cJ19_hugeLength.data.toList.drop 24 = dktJ19_hugeLength_1 := dk_seg dksJ19_hugeLength_0 24 rfl rfl
theorem dksJ19_hugeLength_2 : cJ19_hugeLength.data.toList.drop 48 = dktJ19_hugeLength_2 := dk_seg dksJ19_hugeLength_1 24 rfl rfl
theorem dJ19_hugeLength_0 : decode cJ19_hugeLength 0 = .ok (.iload_n 0, 1) := dk_26 (dk_at dksJ19_hugeLength_0 0 rfl rfl)
theorem dJ19_hugeLength_1 : decode cJ19_hugeLength 1 = .ok (.iload_n 1, 1) := dk_27 (dk_at dksJ19_hugeLength_0 1 rfl rfl)
theorem dJ19_hugeLength_2 : decode cJ19_hugeLength 2 = .ok (.iadd, 1) := dk_96 (dk_at dksJ19_hugeLength_0 2 rfl rfl)
theorem dJ19_hugeLength_3 : decode cJ19_hugeLength 3 = .ok (.istore_n 2, 1) := dk_61 (dk_at dksJ19_hugeLength_0 3 rfl rfl)
theorem dJ19_hugeLength_4 : decode cJ19_hugeLength 4 = .ok (.iload_n 2, 1) := dk_28 (dk_at dksJ19_hugeLength_0 4 rfl rfl)
theorem dJ19_hugeLength_5 : decode cJ19_hugeLength 5 = .ok (.ifCond .ge 44, 3) := dk_156 0 44 (dk_at dksJ19_hugeLength_0 5 rfl rfl)
theorem dJ19_hugeLength_8 : decode cJ19_hugeLength 8 = .ok (.new 204, 3) := dk_187 0 204 (dk_at dksJ19_hugeLength_0 8 rfl rfl)
theorem dJ19_hugeLength_11 : decode cJ19_hugeLength 11 = .ok (.dup, 1) := dk_89 (dk_at dksJ19_hugeLength_0 11 rfl rfl)
theorem dJ19_hugeLength_12 : decode cJ19_hugeLength 12 = .ok (.new 89, 3) := dk_187 0 89 (dk_at dksJ19_hugeLength_0 12 rfl rfl)
theorem dJ19_hugeLength_15 : decode cJ19_hugeLength 15 = .ok (.dup, 1) := dk_89 (dk_at dksJ19_hugeLength_0 15 rfl rfl)
theorem dJ19_hugeLength_16 : decode cJ19_hugeLength 16 = .ok (.invokespecial 91, 3) := dk_183 0 91 (dk_at dksJ19_hugeLength_0 16 rfl rfl)
theorem dJ19_hugeLength_19 : decode cJ19_hugeLength 19 = .ok (.ldc 206, 2) := dk_18 206 (dk_at dksJ19_hugeLength_0 19 rfl rfl)
theorem dJ19_hugeLength_21 : decode cJ19_hugeLength 21 = .ok (.invokevirtual 94, 3) := dk_182 0 94 (dk_at dksJ19_hugeLength_0 21 rfl rfl)
theorem dJ19_hugeLength_24 : decode cJ19_hugeLength 24 = .ok (.iload_n 0, 1) := dk_26 (dk_at dksJ19_hugeLength_1 0 rfl rfl)
theorem dJ19_hugeLength_25 : decode cJ19_hugeLength 25 = .ok (.invokevirtual 98, 3) := dk_182 0 98 (dk_at dksJ19_hugeLength_1 1 rfl rfl)
theorem dJ19_hugeLength_28 : decode cJ19_hugeLength 28 = .ok (.ldc 208, 2) := dk_18 208 (dk_at dksJ19_hugeLength_1 4 rfl rfl)
theorem dJ19_hugeLength_30 : decode cJ19_hugeLength 30 = .ok (.invokevirtual 94, 3) := dk_182 0 94 (dk_at dksJ19_hugeLength_1 6 rfl rfl)
theorem dJ19_hugeLength_33 : decode cJ19_hugeLength 33 = .ok (.iload_n 1, 1) := dk_27 (dk_at dksJ19_hugeLength_1 9 rfl rfl)
theorem dJ19_hugeLength_34 : decode cJ19_hugeLength 34 = .ok (.invokevirtual 98, 3) := dk_182 0 98 (dk_at dksJ19_hugeLength_1 10 rfl rfl)
theorem dJ19_hugeLength_37 : decode cJ19_hugeLength 37 = .ok (.ldc 210, 2) := dk_18 210 (dk_at dksJ19_hugeLength_1 13 rfl rfl)
theorem dJ19_hugeLength_39 : decode cJ19_hugeLength 39 = .ok (.invokevirtual 94, 3) := dk_182 0 94 (dk_at dksJ19_hugeLength_1 15 rfl rfl)
theorem dJ19_hugeLength_42 : decode cJ19_hugeLength 42 = .ok (.invokevirtual 101, 3) := dk_182 0 101 (dk_at dksJ19_hugeLength_1 18 rfl rfl)
theorem dJ19_hugeLength_45 : decode cJ19_hugeLength 45 = .ok (.invokespecial 212, 3) := dk_183 0 212 (dk_at dksJ19_hugeLength_1 21 rfl rfl)
theorem dJ19_hugeLength_48 : decode cJ19_hugeLength 48 = .ok (.athrow, 1) := dk_191 (dk_at dksJ19_hugeLength_2 0 rfl rfl)
theorem dJ19_hugeLength_49 : decode cJ19_hugeLength 49 = .ok (.iload_n 2, 1) := dk_28 (dk_at dksJ19_hugeLength_2 1 rfl rfl)
theorem dJ19_hugeLength_50 : decode cJ19_hugeLength 50 = .ok (.ldc 200, 2) := dk_18 200 (dk_at dksJ19_hugeLength_2 2 rfl rfl)
theorem dJ19_hugeLength_52 : decode cJ19_hugeLength 52 = .ok (.if_icmp .gt 6, 3) := dk_163 0 6 (dk_at dksJ19_hugeLength_2 4 rfl rfl)
theorem dJ19_hugeLength_55 : decode cJ19_hugeLength 55 = .ok (.ldc 200, 2) := dk_18 200 (dk_at dksJ19_hugeLength_2 7 rfl rfl)
theorem dJ19_hugeLength_57 : decode cJ19_hugeLength 57 = .ok (.ireturn, 1) := dk_172 (dk_at dksJ19_hugeLength_2 9 rfl rfl)
theorem dJ19_hugeLength_58 : decode cJ19_hugeLength 58 = .ok (.iload_n 2, 1) := dk_28 (dk_at dksJ19_hugeLength_2 10 rfl rfl)
theorem dJ19_hugeLength_59 : decode cJ19_hugeLength 59 = .ok (.ireturn, 1) := dk_172 (dk_at dksJ19_hugeLength_2 11 rfl rfl)
abbrev cJ19_mismatch : ByteArray := prog_92_method_13_code
def yJ19_mismatch : MethodName := ⟨RJ19, "mismatch", "([B[BI)I"⟩
def dkwJ19_mismatch_3 : List UInt8 := [172]
abbrev dktJ19_mismatch_3 : List UInt8 := dkwJ19_mismatch_3 ++ []
def dkwJ19_mismatch_2 : List UInt8 := [62, 29, 28, 162, 0, 20, 42, 29, 51, 43, 29, 51, 159, 0, 5, 29, 172, 132, 3, 1, 167, 255, 237, 2]
abbrev dktJ19_mismatch_2 : List UInt8 := dkwJ19_mismatch_2 ++ dktJ19_mismatch_3
def dkwJ19_mismatch_1 : List UInt8 := [43, 178, 0, 126, 133, 28, 178, 0, 129, 184, 0, 122, 62, 29, 155, 0, 5, 29, 172, 28, 29, 2, 130, 100]
abbrev dktJ19_mismatch_1 : List UInt8 := dkwJ19_mismatch_1 ++ dktJ19_mismatch_2
def dkwJ19_mismatch_0 : List UInt8 := [3, 62, 28, 16, 7, 164, 0, 44, 42, 3, 51, 43, 3, 51, 159, 0, 5, 3, 172, 42, 178, 0, 126, 133]
abbrev dktJ19_mismatch_0 : List UInt8 := dkwJ19_mismatch_0 ++ dktJ19_mismatch_1
theorem dksJ19_mismatch_0 : cJ19_mismatch.data.toList.drop 0 = dktJ19_mismatch_0 := by decide +kernel
theorem dksJ19_mismatch_1 : cJ19_mismatch.data.toList.drop 24 = dktJ19_mismatch_1 := dk_seg dksJ19_mismatch_0 24 rfl rfl
theorem dksJ19_mismatch_2 : cJ19_mismatch.data.toList.drop 48 = dktJ19_mismatch_2 := dk_seg dksJ19_mismatch_1 24 rfl rfl
theorem dksJ19_mismatch_3 : cJ19_mismatch.data.toList.drop 72 = dktJ19_mismatch_3 := dk_seg dksJ19_mismatch_2 24 rfl rfl
theorem dJ19_mismatch_0 : decode cJ19_mismatch 0 = .ok (.iconst 0, 1) := dk_3 (dk_at dksJ19_mismatch_0 0 rfl rfl)
theorem dJ19_mismatch_1 : decode cJ19_mismatch 1 = .ok (.istore_n 3, 1) := dk_62 (dk_at dksJ19_mismatch_0 1 rfl rfl)
theorem dJ19_mismatch_2 : decode cJ19_mismatch 2 = .ok (.iload_n 2, 1) := dk_28 (dk_at dksJ19_mismatch_0 2 rfl rfl)
theorem dJ19_mismatch_3 : decode cJ19_mismatch 3 = .ok (.bipush 7, 2) := dk_16 7 (dk_at dksJ19_mismatch_0 3 rfl rfl)
theorem dJ19_mismatch_5 : decode cJ19_mismatch 5 = .ok (.if_icmp .le 44, 3) := dk_164 0 44 (dk_at dksJ19_mismatch_0 5 rfl rfl)
theorem dJ19_mismatch_8 : decode cJ19_mismatch 8 = .ok (.aload_n 0, 1) := dk_42 (dk_at dksJ19_mismatch_0 8 rfl rfl)
theorem dJ19_mismatch_9 : decode cJ19_mismatch 9 = .ok (.iconst 0, 1) := dk_3 (dk_at dksJ19_mismatch_0 9 rfl rfl)
theorem dJ19_mismatch_10 : decode cJ19_mismatch 10 = .ok (.baload, 1) := dk_51 (dk_at dksJ19_mismatch_0 10 rfl rfl)
theorem dJ19_mismatch_11 : decode cJ19_mismatch 11 = .ok (.aload_n 1, 1) := dk_43 (dk_at dksJ19_mismatch_0 11 rfl rfl)
theorem dJ19_mismatch_12 : decode cJ19_mismatch 12 = .ok (.iconst 0, 1) := dk_3 (dk_at dksJ19_mismatch_0 12 rfl rfl)
theorem dJ19_mismatch_13 : decode cJ19_mismatch 13 = .ok (.baload, 1) := dk_51 (dk_at dksJ19_mismatch_0 13 rfl rfl)
theorem dJ19_mismatch_14 : decode cJ19_mismatch 14 = .ok (.if_icmp .eq 5, 3) := dk_159 0 5 (dk_at dksJ19_mismatch_0 14 rfl rfl)
theorem dJ19_mismatch_17 : decode cJ19_mismatch 17 = .ok (.iconst 0, 1) := dk_3 (dk_at dksJ19_mismatch_0 17 rfl rfl)
theorem dJ19_mismatch_18 : decode cJ19_mismatch 18 = .ok (.ireturn, 1) := dk_172 (dk_at dksJ19_mismatch_0 18 rfl rfl)
theorem dJ19_mismatch_19 : decode cJ19_mismatch 19 = .ok (.aload_n 0, 1) := dk_42 (dk_at dksJ19_mismatch_0 19 rfl rfl)
theorem dJ19_mismatch_20 : decode cJ19_mismatch 20 = .ok (.getstatic 126, 3) := dk_178 0 126 (dk_at dksJ19_mismatch_0 20 rfl rfl)
theorem dJ19_mismatch_23 : decode cJ19_mismatch 23 = .ok (.i2l, 1) := dk_133 (dk_at dksJ19_mismatch_0 23 rfl rfl)
theorem dJ19_mismatch_24 : decode cJ19_mismatch 24 = .ok (.aload_n 1, 1) := dk_43 (dk_at dksJ19_mismatch_1 0 rfl rfl)
theorem dJ19_mismatch_25 : decode cJ19_mismatch 25 = .ok (.getstatic 126, 3) := dk_178 0 126 (dk_at dksJ19_mismatch_1 1 rfl rfl)
theorem dJ19_mismatch_28 : decode cJ19_mismatch 28 = .ok (.i2l, 1) := dk_133 (dk_at dksJ19_mismatch_1 4 rfl rfl)
theorem dJ19_mismatch_29 : decode cJ19_mismatch 29 = .ok (.iload_n 2, 1) := dk_28 (dk_at dksJ19_mismatch_1 5 rfl rfl)
theorem dJ19_mismatch_30 : decode cJ19_mismatch 30 = .ok (.getstatic 129, 3) := dk_178 0 129 (dk_at dksJ19_mismatch_1 6 rfl rfl)
theorem dJ19_mismatch_33 : decode cJ19_mismatch 33 = .ok (.invokestatic 122, 3) := dk_184 0 122 (dk_at dksJ19_mismatch_1 9 rfl rfl)
theorem dJ19_mismatch_36 : decode cJ19_mismatch 36 = .ok (.istore_n 3, 1) := dk_62 (dk_at dksJ19_mismatch_1 12 rfl rfl)
theorem dJ19_mismatch_37 : decode cJ19_mismatch 37 = .ok (.iload_n 3, 1) := dk_29 (dk_at dksJ19_mismatch_1 13 rfl rfl)
theorem dJ19_mismatch_38 : decode cJ19_mismatch 38 = .ok (.ifCond .lt 5, 3) := dk_155 0 5 (dk_at dksJ19_mismatch_1 14 rfl rfl)
theorem dJ19_mismatch_41 : decode cJ19_mismatch 41 = .ok (.iload_n 3, 1) := dk_29 (dk_at dksJ19_mismatch_1 17 rfl rfl)
theorem dJ19_mismatch_42 : decode cJ19_mismatch 42 = .ok (.ireturn, 1) := dk_172 (dk_at dksJ19_mismatch_1 18 rfl rfl)
theorem dJ19_mismatch_43 : decode cJ19_mismatch 43 = .ok (.iload_n 2, 1) := dk_28 (dk_at dksJ19_mismatch_1 19 rfl rfl)
theorem dJ19_mismatch_44 : decode cJ19_mismatch 44 = .ok (.iload_n 3, 1) := dk_29 (dk_at dksJ19_mismatch_1 20 rfl rfl)
theorem dJ19_mismatch_45 : decode cJ19_mismatch 45 = .ok (.iconst (-1), 1) := dk_2 (dk_at dksJ19_mismatch_1 21 rfl rfl)
theorem dJ19_mismatch_46 : decode cJ19_mismatch 46 = .ok (.ixor, 1) := dk_130 (dk_at dksJ19_mismatch_1 22 rfl rfl)
theorem dJ19_mismatch_47 : decode cJ19_mismatch 47 = .ok (.isub, 1) := dk_100 (dk_at dksJ19_mismatch_1 23 rfl rfl)
theorem dJ19_mismatch_48 : decode cJ19_mismatch 48 = .ok (.istore_n 3, 1) := dk_62 (dk_at dksJ19_mismatch_2 0 rfl rfl)
theorem dJ19_mismatch_49 : decode cJ19_mismatch 49 = .ok (.iload_n 3, 1) := dk_29 (dk_at dksJ19_mismatch_2 1 rfl rfl)
theorem dJ19_mismatch_50 : decode cJ19_mismatch 50 = .ok (.iload_n 2, 1) := dk_28 (dk_at dksJ19_mismatch_2 2 rfl rfl)
theorem dJ19_mismatch_51 : decode cJ19_mismatch 51 = .ok (.if_icmp .ge 20, 3) := dk_162 0 20 (dk_at dksJ19_mismatch_2 3 rfl rfl)
theorem dJ19_mismatch_54 : decode cJ19_mismatch 54 = .ok (.aload_n 0, 1) := dk_42 (dk_at dksJ19_mismatch_2 6 rfl rfl)
theorem dJ19_mismatch_55 : decode cJ19_mismatch 55 = .ok (.iload_n 3, 1) := dk_29 (dk_at dksJ19_mismatch_2 7 rfl rfl)
theorem dJ19_mismatch_56 : decode cJ19_mismatch 56 = .ok (.baload, 1) := dk_51 (dk_at dksJ19_mismatch_2 8 rfl rfl)
theorem dJ19_mismatch_57 : decode cJ19_mismatch 57 = .ok (.aload_n 1, 1) := dk_43 (dk_at dksJ19_mismatch_2 9 rfl rfl)
theorem dJ19_mismatch_58 : decode cJ19_mismatch 58 = .ok (.iload_n 3, 1) := dk_29 (dk_at dksJ19_mismatch_2 10 rfl rfl)
theorem dJ19_mismatch_59 : decode cJ19_mismatch 59 = .ok (.baload, 1) := dk_51 (dk_at dksJ19_mismatch_2 11 rfl rfl)
theorem dJ19_mismatch_60 : decode cJ19_mismatch 60 = .ok (.if_icmp .eq 5, 3) := dk_159 0 5 (dk_at dksJ19_mismatch_2 12 rfl rfl)
theorem dJ19_mismatch_63 : decode cJ19_mismatch 63 = .ok (.iload_n 3, 1) := dk_29 (dk_at dksJ19_mismatch_2 15 rfl rfl)
theorem dJ19_mismatch_64 : decode cJ19_mismatch 64 = .ok (.ireturn, 1) := dk_172 (dk_at dksJ19_mismatch_2 16 rfl rfl)
theorem dJ19_mismatch_65 : decode cJ19_mismatch 65 = .ok (.iinc 3 1, 3) := dk_132 3 1 (dk_at dksJ19_mismatch_2 17 rfl rfl)
theorem dJ19_mismatch_68 : decode cJ19_mismatch 68 = .ok (.goto (-19), 3) := dk_167 255 237 (dk_at dksJ19_mismatch_2 20 rfl rfl)
theorem dJ19_mismatch_71 : decode cJ19_mismatch 71 = .ok (.iconst (-1), 1) := dk_2 (dk_at dksJ19_mismatch_2 23 rfl rfl)
theorem dJ19_mismatch_72 : decode cJ19_mismatch 72 = .ok (.ireturn, 1) := dk_172 (dk_at dksJ19_mismatch_3 0 rfl rfl)
abbrev cJ19_vectorizedMismatch : ByteArray := prog_92_method_3_code
def yJ19_vectorizedMismatch : MethodName := ⟨RJ19, "vectorizedMismatch", "(Ljava/lang/Object;JLjava/lang/Object;JII)I"⟩
def dkwJ19_vectorizedMismatch_11 : List UInt8 := [54, 10, 21, 10, 2, 130, 172, 21, 10, 2, 130, 172]
abbrev dktJ19_vectorizedMismatch_11 : List UInt8 := dkwJ19_vectorizedMismatch_11 ++ []
def dkwJ19_vectorizedMismatch_10 : List UInt8 := [178, 0, 46, 21, 7, 96, 122, 54, 17, 21, 9, 21, 8, 120, 21, 17, 96, 172, 21, 10, 21, 11, 100]
abbrev dktJ19_vectorizedMismatch_10 : List UInt8 := dkwJ19_vectorizedMismatch_10 ++ dktJ19_vectorizedMismatch_11
def dkwJ19_vectorizedMismatch_9 : List UInt8 := [153, 0, 18, 21, 16, 184, 0, 58, 178, 0, 46, 21, 7, 96, 122, 167, 0, 15, 21, 16, 184, 0, 11]
abbrev dktJ19_vectorizedMismatch_9 : List UInt8 := dkwJ19_vectorizedMismatch_9 ++ dktJ19_vectorizedMismatch_10
def dkwJ19_vectorizedMismatch_8 : List UInt8 := [182, 0, 54, 54, 15, 21, 14, 21, 15, 159, 0, 54, 21, 14, 21, 15, 130, 54, 16, 178, 0, 36]
abbrev dktJ19_vectorizedMismatch_8 : List UInt8 := dkwJ19_vectorizedMismatch_8 ++ dktJ19_vectorizedMismatch_9
def dkwJ19_vectorizedMismatch_7 : List UInt8 := [55, 12, 178, 0, 26, 42, 31, 22, 12, 97, 182, 0, 54, 54, 14, 178, 0, 26, 45, 22, 4, 22, 12, 97]
abbrev dktJ19_vectorizedMismatch_7 : List UInt8 := dkwJ19_vectorizedMismatch_7 ++ dktJ19_vectorizedMismatch_8
def dkwJ19_vectorizedMismatch_6 : List UInt8 := [4, 178, 0, 51, 21, 7, 100, 120, 54, 11, 21, 10, 21, 11, 161, 0, 104, 21, 9, 133, 178, 0, 20, 121]
abbrev dktJ19_vectorizedMismatch_6 : List UInt8 := dkwJ19_vectorizedMismatch_6 ++ dktJ19_vectorizedMismatch_7
def dkwJ19_vectorizedMismatch_5 : List UInt8 := [132, 9, 1, 167, 255, 148, 21, 6, 21, 9, 21, 8, 120, 100, 54, 10, 21, 7, 178, 0, 51, 162, 0, 126]
abbrev dktJ19_vectorizedMismatch_5 : List UInt8 := dkwJ19_vectorizedMismatch_5 ++ dktJ19_vectorizedMismatch_6
def dkwJ19_vectorizedMismatch_4 : List UInt8 := [22, 16, 184, 0, 49, 178, 0, 46, 21, 7, 96, 122, 54, 18, 21, 9, 21, 8, 120, 21, 18, 96, 172]
abbrev dktJ19_vectorizedMismatch_4 : List UInt8 := dkwJ19_vectorizedMismatch_4 ++ dktJ19_vectorizedMismatch_5
def dkwJ19_vectorizedMismatch_3 : List UInt8 := [55, 16, 178, 0, 36, 153, 0, 18, 22, 16, 184, 0, 40, 178, 0, 46, 21, 7, 96, 122, 167, 0, 15]
abbrev dktJ19_vectorizedMismatch_3 : List UInt8 := dkwJ19_vectorizedMismatch_3 ++ dktJ19_vectorizedMismatch_4
def dkwJ19_vectorizedMismatch_2 : List UInt8 := [22, 4, 22, 10, 97, 182, 0, 30, 55, 14, 22, 12, 22, 14, 148, 153, 0, 54, 22, 12, 22, 14, 131]
abbrev dktJ19_vectorizedMismatch_2 : List UInt8 := dkwJ19_vectorizedMismatch_2 ++ dktJ19_vectorizedMismatch_3
def dkwJ19_vectorizedMismatch_1 : List UInt8 := [178, 0, 20, 121, 55, 10, 178, 0, 26, 42, 31, 22, 10, 97, 182, 0, 30, 55, 12, 178, 0, 26, 45]
abbrev dktJ19_vectorizedMismatch_1 : List UInt8 := dkwJ19_vectorizedMismatch_1 ++ dktJ19_vectorizedMismatch_2
def dkwJ19_vectorizedMismatch_0 : List UInt8 := [178, 0, 20, 21, 7, 100, 54, 8, 3, 54, 9, 21, 9, 21, 6, 21, 8, 122, 162, 0, 104, 21, 9, 133]
abbrev dktJ19_vectorizedMismatch_0 : List UInt8 := dkwJ19_vectorizedMismatch_0 ++ dktJ19_vectorizedMismatch_1
theorem dksJ19_vectorizedMismatch_0 : cJ19_vectorizedMismatch.data.toList.drop 0 = dktJ19_vectorizedMismatch_0 := by decide +kernel
theorem dksJ19_vectorizedMismatch_1 : cJ19_vectorizedMismatch.data.toList.drop 24 = dktJ19_vectorizedMismatch_1 := dk_seg dksJ19_vectorizedMismatch_0 24 rfl rfl
theorem dksJ19_vectorizedMismatch_2 : cJ19_vectorizedMismatch.data.toList.drop 47 = dktJ19_vectorizedMismatch_2 := dk_seg dksJ19_vectorizedMismatch_1 23 rfl rfl
theorem dksJ19_vectorizedMismatch_3 : cJ19_vectorizedMismatch.data.toList.drop 70 = dktJ19_vectorizedMismatch_3 := dk_seg dksJ19_vectorizedMismatch_2 23 rfl rfl
theorem dksJ19_vectorizedMismatch_4 : cJ19_vectorizedMismatch.data.toList.drop 93 = dktJ19_vectorizedMismatch_4 := dk_seg dksJ19_vectorizedMismatch_3 23 rfl rfl
theorem dksJ19_vectorizedMismatch_5 : cJ19_vectorizedMismatch.data.toList.drop 116 = dktJ19_vectorizedMismatch_5 := dk_seg dksJ19_vectorizedMismatch_4 23 rfl rfl
theorem dksJ19_vectorizedMismatch_6 : cJ19_vectorizedMismatch.data.toList.drop 140 = dktJ19_vectorizedMismatch_6 := dk_seg dksJ19_vectorizedMismatch_5 24 rfl rfl
theorem dksJ19_vectorizedMismatch_7 : cJ19_vectorizedMismatch.data.toList.drop 164 = dktJ19_vectorizedMismatch_7 := dk_seg dksJ19_vectorizedMismatch_6 24 rfl rfl
theorem dksJ19_vectorizedMismatch_8 : cJ19_vectorizedMismatch.data.toList.drop 188 = dktJ19_vectorizedMismatch_8 := dk_seg dksJ19_vectorizedMismatch_7 24 rfl rfl
theorem dksJ19_vectorizedMismatch_9 : cJ19_vectorizedMismatch.data.toList.drop 210 = dktJ19_vectorizedMismatch_9 := dk_seg dksJ19_vectorizedMismatch_8 22 rfl rfl
theorem dksJ19_vectorizedMismatch_10 : cJ19_vectorizedMismatch.data.toList.drop 233 = dktJ19_vectorizedMismatch_10 := dk_seg dksJ19_vectorizedMismatch_9 23 rfl rfl
theorem dksJ19_vectorizedMismatch_11 : cJ19_vectorizedMismatch.data.toList.drop 256 = dktJ19_vectorizedMismatch_11 := dk_seg dksJ19_vectorizedMismatch_10 23 rfl rfl
theorem dJ19_vectorizedMismatch_0 : decode cJ19_vectorizedMismatch 0 = .ok (.getstatic 20, 3) := dk_178 0 20 (dk_at dksJ19_vectorizedMismatch_0 0 rfl rfl)
theorem dJ19_vectorizedMismatch_3 : decode cJ19_vectorizedMismatch 3 = .ok (.iload 7, 2) := dk_21 7 (dk_at dksJ19_vectorizedMismatch_0 3 rfl rfl)
theorem dJ19_vectorizedMismatch_5 : decode cJ19_vectorizedMismatch 5 = .ok (.isub, 1) := dk_100 (dk_at dksJ19_vectorizedMismatch_0 5 rfl rfl)
theorem dJ19_vectorizedMismatch_6 : decode cJ19_vectorizedMismatch 6 = .ok (.istore 8, 2) := dk_54 8 (dk_at dksJ19_vectorizedMismatch_0 6 rfl rfl)
theorem dJ19_vectorizedMismatch_8 : decode cJ19_vectorizedMismatch 8 = .ok (.iconst 0, 1) := dk_3 (dk_at dksJ19_vectorizedMismatch_0 8 rfl rfl)
theorem dJ19_vectorizedMismatch_9 : decode cJ19_vectorizedMismatch 9 = .ok (.istore 9, 2) := dk_54 9 (dk_at dksJ19_vectorizedMismatch_0 9 rfl rfl)
theorem dJ19_vectorizedMismatch_11 : decode cJ19_vectorizedMismatch 11 = .ok (.iload 9, 2) := dk_21 9 (dk_at dksJ19_vectorizedMismatch_0 11 rfl rfl)
theorem dJ19_vectorizedMismatch_13 : decode cJ19_vectorizedMismatch 13 = .ok (.iload 6, 2) := dk_21 6 (dk_at dksJ19_vectorizedMismatch_0 13 rfl rfl)
theorem dJ19_vectorizedMismatch_15 : decode cJ19_vectorizedMismatch 15 = .ok (.iload 8, 2) := dk_21 8 (dk_at dksJ19_vectorizedMismatch_0 15 rfl rfl)
theorem dJ19_vectorizedMismatch_17 : decode cJ19_vectorizedMismatch 17 = .ok (.ishr, 1) := dk_122 (dk_at dksJ19_vectorizedMismatch_0 17 rfl rfl)
theorem dJ19_vectorizedMismatch_18 : decode cJ19_vectorizedMismatch 18 = .ok (.if_icmp .ge 104, 3) := dk_162 0 104 (dk_at dksJ19_vectorizedMismatch_0 18 rfl rfl)
theorem dJ19_vectorizedMismatch_21 : decode cJ19_vectorizedMismatch 21 = .ok (.iload 9, 2) := dk_21 9 (dk_at dksJ19_vectorizedMismatch_0 21 rfl rfl)
theorem dJ19_vectorizedMismatch_23 : decode cJ19_vectorizedMismatch 23 = .ok (.i2l, 1) := dk_133 (dk_at dksJ19_vectorizedMismatch_0 23 rfl rfl)
theorem dJ19_vectorizedMismatch_24 : decode cJ19_vectorizedMismatch 24 = .ok (.getstatic 20, 3) := dk_178 0 20 (dk_at dksJ19_vectorizedMismatch_1 0 rfl rfl)
theorem dJ19_vectorizedMismatch_27 : decode cJ19_vectorizedMismatch 27 = .ok (.lshl, 1) := dk_121 (dk_at dksJ19_vectorizedMismatch_1 3 rfl rfl)
theorem dJ19_vectorizedMismatch_28 : decode cJ19_vectorizedMismatch 28 = .ok (.lstore 10, 2) := dk_55 10 (dk_at dksJ19_vectorizedMismatch_1 4 rfl rfl)
theorem dJ19_vectorizedMismatch_30 : decode cJ19_vectorizedMismatch 30 = .ok (.getstatic 26, 3) := dk_178 0 26 (dk_at dksJ19_vectorizedMismatch_1 6 rfl rfl)
theorem dJ19_vectorizedMismatch_33 : decode cJ19_vectorizedMismatch 33 = .ok (.aload_n 0, 1) := dk_42 (dk_at dksJ19_vectorizedMismatch_1 9 rfl rfl)
theorem dJ19_vectorizedMismatch_34 : decode cJ19_vectorizedMismatch 34 = .ok (.lload_n 1, 1) := dk_31 (dk_at dksJ19_vectorizedMismatch_1 10 rfl rfl)
theorem dJ19_vectorizedMismatch_35 : decode cJ19_vectorizedMismatch 35 = .ok (.lload 10, 2) := dk_22 10 (dk_at dksJ19_vectorizedMismatch_1 11 rfl rfl)
theorem dJ19_vectorizedMismatch_37 : decode cJ19_vectorizedMismatch 37 = .ok (.ladd, 1) := dk_97 (dk_at dksJ19_vectorizedMismatch_1 13 rfl rfl)
theorem dJ19_vectorizedMismatch_38 : decode cJ19_vectorizedMismatch 38 = .ok (.invokevirtual 30, 3) := dk_182 0 30 (dk_at dksJ19_vectorizedMismatch_1 14 rfl rfl)
theorem dJ19_vectorizedMismatch_41 : decode cJ19_vectorizedMismatch 41 = .ok (.lstore 12, 2) := dk_55 12 (dk_at dksJ19_vectorizedMismatch_1 17 rfl rfl)
theorem dJ19_vectorizedMismatch_43 : decode cJ19_vectorizedMismatch 43 = .ok (.getstatic 26, 3) := dk_178 0 26 (dk_at dksJ19_vectorizedMismatch_1 19 rfl rfl)
theorem dJ19_vectorizedMismatch_46 : decode cJ19_vectorizedMismatch 46 = .ok (.aload_n 3, 1) := dk_45 (dk_at dksJ19_vectorizedMismatch_1 22 rfl rfl)
theorem dJ19_vectorizedMismatch_47 : decode cJ19_vectorizedMismatch 47 = .ok (.lload 4, 2) := dk_22 4 (dk_at dksJ19_vectorizedMismatch_2 0 rfl rfl)
theorem dJ19_vectorizedMismatch_49 : decode cJ19_vectorizedMismatch 49 = .ok (.lload 10, 2) := dk_22 10 (dk_at dksJ19_vectorizedMismatch_2 2 rfl rfl)
theorem dJ19_vectorizedMismatch_51 : decode cJ19_vectorizedMismatch 51 = .ok (.ladd, 1) := dk_97 (dk_at dksJ19_vectorizedMismatch_2 4 rfl rfl)
theorem dJ19_vectorizedMismatch_52 : decode cJ19_vectorizedMismatch 52 = .ok (.invokevirtual 30, 3) := dk_182 0 30 (dk_at dksJ19_vectorizedMismatch_2 5 rfl rfl)
theorem dJ19_vectorizedMismatch_55 : decode cJ19_vectorizedMismatch 55 = .ok (.lstore 14, 2) := dk_55 14 (dk_at dksJ19_vectorizedMismatch_2 8 rfl rfl)
theorem dJ19_vectorizedMismatch_57 : decode cJ19_vectorizedMismatch 57 = .ok (.lload 12, 2) := dk_22 12 (dk_at dksJ19_vectorizedMismatch_2 10 rfl rfl)
theorem dJ19_vectorizedMismatch_59 : decode cJ19_vectorizedMismatch 59 = .ok (.lload 14, 2) := dk_22 14 (dk_at dksJ19_vectorizedMismatch_2 12 rfl rfl)
theorem dJ19_vectorizedMismatch_61 : decode cJ19_vectorizedMismatch 61 = .ok (.lcmp, 1) := dk_148 (dk_at dksJ19_vectorizedMismatch_2 14 rfl rfl)
theorem dJ19_vectorizedMismatch_62 : decode cJ19_vectorizedMismatch 62 = .ok (.ifCond .eq 54, 3) := dk_153 0 54 (dk_at dksJ19_vectorizedMismatch_2 15 rfl rfl)
theorem dJ19_vectorizedMismatch_65 : decode cJ19_vectorizedMismatch 65 = .ok (.lload 12, 2) := dk_22 12 (dk_at dksJ19_vectorizedMismatch_2 18 rfl rfl)
theorem dJ19_vectorizedMismatch_67 : decode cJ19_vectorizedMismatch 67 = .ok (.lload 14, 2) := dk_22 14 (dk_at dksJ19_vectorizedMismatch_2 20 rfl rfl)
theorem dJ19_vectorizedMismatch_69 : decode cJ19_vectorizedMismatch 69 = .ok (.lxor, 1) := dk_131 (dk_at dksJ19_vectorizedMismatch_2 22 rfl rfl)
theorem dJ19_vectorizedMismatch_70 : decode cJ19_vectorizedMismatch 70 = .ok (.lstore 16, 2) := dk_55 16 (dk_at dksJ19_vectorizedMismatch_3 0 rfl rfl)
theorem dJ19_vectorizedMismatch_72 : decode cJ19_vectorizedMismatch 72 = .ok (.getstatic 36, 3) := dk_178 0 36 (dk_at dksJ19_vectorizedMismatch_3 2 rfl rfl)
theorem dJ19_vectorizedMismatch_75 : decode cJ19_vectorizedMismatch 75 = .ok (.ifCond .eq 18, 3) := dk_153 0 18 (dk_at dksJ19_vectorizedMismatch_3 5 rfl rfl)
theorem dJ19_vectorizedMismatch_78 : decode cJ19_vectorizedMismatch 78 = .ok (.lload 16, 2) := dk_22 16 (dk_at dksJ19_vectorizedMismatch_3 8 rfl rfl)
theorem dJ19_vectorizedMismatch_80 : decode cJ19_vectorizedMismatch 80 = .ok (.invokestatic 40, 3) := dk_184 0 40 (dk_at dksJ19_vectorizedMismatch_3 10 rfl rfl)
theorem dJ19_vectorizedMismatch_83 : decode cJ19_vectorizedMismatch 83 = .ok (.getstatic 46, 3) := dk_178 0 46 (dk_at dksJ19_vectorizedMismatch_3 13 rfl rfl)
theorem dJ19_vectorizedMismatch_86 : decode cJ19_vectorizedMismatch 86 = .ok (.iload 7, 2) := dk_21 7 (dk_at dksJ19_vectorizedMismatch_3 16 rfl rfl)
theorem dJ19_vectorizedMismatch_88 : decode cJ19_vectorizedMismatch 88 = .ok (.iadd, 1) := dk_96 (dk_at dksJ19_vectorizedMismatch_3 18 rfl rfl)
theorem dJ19_vectorizedMismatch_89 : decode cJ19_vectorizedMismatch 89 = .ok (.ishr, 1) := dk_122 (dk_at dksJ19_vectorizedMismatch_3 19 rfl rfl)
theorem dJ19_vectorizedMismatch_90 : decode cJ19_vectorizedMismatch 90 = .ok (.goto 15, 3) := dk_167 0 15 (dk_at dksJ19_vectorizedMismatch_3 20 rfl rfl)
theorem dJ19_vectorizedMismatch_93 : decode cJ19_vectorizedMismatch 93 = .ok (.lload 16, 2) := dk_22 16 (dk_at dksJ19_vectorizedMismatch_4 0 rfl rfl)
theorem dJ19_vectorizedMismatch_95 : decode cJ19_vectorizedMismatch 95 = .ok (.invokestatic 49, 3) := dk_184 0 49 (dk_at dksJ19_vectorizedMismatch_4 2 rfl rfl)
theorem dJ19_vectorizedMismatch_98 : decode cJ19_vectorizedMismatch 98 = .ok (.getstatic 46, 3) := dk_178 0 46 (dk_at dksJ19_vectorizedMismatch_4 5 rfl rfl)
theorem dJ19_vectorizedMismatch_101 : decode cJ19_vectorizedMismatch 101 = .ok (.iload 7, 2) := dk_21 7 (dk_at dksJ19_vectorizedMismatch_4 8 rfl rfl)
theorem dJ19_vectorizedMismatch_103 : decode cJ19_vectorizedMismatch 103 = .ok (.iadd, 1) := dk_96 (dk_at dksJ19_vectorizedMismatch_4 10 rfl rfl)
theorem dJ19_vectorizedMismatch_104 : decode cJ19_vectorizedMismatch 104 = .ok (.ishr, 1) := dk_122 (dk_at dksJ19_vectorizedMismatch_4 11 rfl rfl)
theorem dJ19_vectorizedMismatch_105 : decode cJ19_vectorizedMismatch 105 = .ok (.istore 18, 2) := dk_54 18 (dk_at dksJ19_vectorizedMismatch_4 12 rfl rfl)
theorem dJ19_vectorizedMismatch_107 : decode cJ19_vectorizedMismatch 107 = .ok (.iload 9, 2) := dk_21 9 (dk_at dksJ19_vectorizedMismatch_4 14 rfl rfl)
theorem dJ19_vectorizedMismatch_109 : decode cJ19_vectorizedMismatch 109 = .ok (.iload 8, 2) := dk_21 8 (dk_at dksJ19_vectorizedMismatch_4 16 rfl rfl)
theorem dJ19_vectorizedMismatch_111 : decode cJ19_vectorizedMismatch 111 = .ok (.ishl, 1) := dk_120 (dk_at dksJ19_vectorizedMismatch_4 18 rfl rfl)
theorem dJ19_vectorizedMismatch_112 : decode cJ19_vectorizedMismatch 112 = .ok (.iload 18, 2) := dk_21 18 (dk_at dksJ19_vectorizedMismatch_4 19 rfl rfl)
theorem dJ19_vectorizedMismatch_114 : decode cJ19_vectorizedMismatch 114 = .ok (.iadd, 1) := dk_96 (dk_at dksJ19_vectorizedMismatch_4 21 rfl rfl)
theorem dJ19_vectorizedMismatch_115 : decode cJ19_vectorizedMismatch 115 = .ok (.ireturn, 1) := dk_172 (dk_at dksJ19_vectorizedMismatch_4 22 rfl rfl)
theorem dJ19_vectorizedMismatch_116 : decode cJ19_vectorizedMismatch 116 = .ok (.iinc 9 1, 3) := dk_132 9 1 (dk_at dksJ19_vectorizedMismatch_5 0 rfl rfl)
theorem dJ19_vectorizedMismatch_119 : decode cJ19_vectorizedMismatch 119 = .ok (.goto (-108), 3) := dk_167 255 148 (dk_at dksJ19_vectorizedMismatch_5 3 rfl rfl)
theorem dJ19_vectorizedMismatch_122 : decode cJ19_vectorizedMismatch 122 = .ok (.iload 6, 2) := dk_21 6 (dk_at dksJ19_vectorizedMismatch_5 6 rfl rfl)
theorem dJ19_vectorizedMismatch_124 : decode cJ19_vectorizedMismatch 124 = .ok (.iload 9, 2) := dk_21 9 (dk_at dksJ19_vectorizedMismatch_5 8 rfl rfl)
theorem dJ19_vectorizedMismatch_126 : decode cJ19_vectorizedMismatch 126 = .ok (.iload 8, 2) := dk_21 8 (dk_at dksJ19_vectorizedMismatch_5 10 rfl rfl)
theorem dJ19_vectorizedMismatch_128 : decode cJ19_vectorizedMismatch 128 = .ok (.ishl, 1) := dk_120 (dk_at dksJ19_vectorizedMismatch_5 12 rfl rfl)
theorem dJ19_vectorizedMismatch_129 : decode cJ19_vectorizedMismatch 129 = .ok (.isub, 1) := dk_100 (dk_at dksJ19_vectorizedMismatch_5 13 rfl rfl)
theorem dJ19_vectorizedMismatch_130 : decode cJ19_vectorizedMismatch 130 = .ok (.istore 10, 2) := dk_54 10 (dk_at dksJ19_vectorizedMismatch_5 14 rfl rfl)
theorem dJ19_vectorizedMismatch_132 : decode cJ19_vectorizedMismatch 132 = .ok (.iload 7, 2) := dk_21 7 (dk_at dksJ19_vectorizedMismatch_5 16 rfl rfl)
theorem dJ19_vectorizedMismatch_134 : decode cJ19_vectorizedMismatch 134 = .ok (.getstatic 51, 3) := dk_178 0 51 (dk_at dksJ19_vectorizedMismatch_5 18 rfl rfl)
theorem dJ19_vectorizedMismatch_137 : decode cJ19_vectorizedMismatch 137 = .ok (.if_icmp .ge 126, 3) := dk_162 0 126 (dk_at dksJ19_vectorizedMismatch_5 21 rfl rfl)
theorem dJ19_vectorizedMismatch_140 : decode cJ19_vectorizedMismatch 140 = .ok (.iconst 1, 1) := dk_4 (dk_at dksJ19_vectorizedMismatch_6 0 rfl rfl)
theorem dJ19_vectorizedMismatch_141 : decode cJ19_vectorizedMismatch 141 = .ok (.getstatic 51, 3) := dk_178 0 51 (dk_at dksJ19_vectorizedMismatch_6 1 rfl rfl)
theorem dJ19_vectorizedMismatch_144 : decode cJ19_vectorizedMismatch 144 = .ok (.iload 7, 2) := dk_21 7 (dk_at dksJ19_vectorizedMismatch_6 4 rfl rfl)
theorem dJ19_vectorizedMismatch_146 : decode cJ19_vectorizedMismatch 146 = .ok (.isub, 1) := dk_100 (dk_at dksJ19_vectorizedMismatch_6 6 rfl rfl)
theorem dJ19_vectorizedMismatch_147 : decode cJ19_vectorizedMismatch 147 = .ok (.ishl, 1) := dk_120 (dk_at dksJ19_vectorizedMismatch_6 7 rfl rfl)
theorem dJ19_vectorizedMismatch_148 : decode cJ19_vectorizedMismatch 148 = .ok (.istore 11, 2) := dk_54 11 (dk_at dksJ19_vectorizedMismatch_6 8 rfl rfl)
theorem dJ19_vectorizedMismatch_150 : decode cJ19_vectorizedMismatch 150 = .ok (.iload 10, 2) := dk_21 10 (dk_at dksJ19_vectorizedMismatch_6 10 rfl rfl)
theorem dJ19_vectorizedMismatch_152 : decode cJ19_vectorizedMismatch 152 = .ok (.iload 11, 2) := dk_21 11 (dk_at dksJ19_vectorizedMismatch_6 12 rfl rfl)
theorem dJ19_vectorizedMismatch_154 : decode cJ19_vectorizedMismatch 154 = .ok (.if_icmp .lt 104, 3) := dk_161 0 104 (dk_at dksJ19_vectorizedMismatch_6 14 rfl rfl)
theorem dJ19_vectorizedMismatch_157 : decode cJ19_vectorizedMismatch 157 = .ok (.iload 9, 2) := dk_21 9 (dk_at dksJ19_vectorizedMismatch_6 17 rfl rfl)
theorem dJ19_vectorizedMismatch_159 : decode cJ19_vectorizedMismatch 159 = .ok (.i2l, 1) := dk_133 (dk_at dksJ19_vectorizedMismatch_6 19 rfl rfl)
theorem dJ19_vectorizedMismatch_160 : decode cJ19_vectorizedMismatch 160 = .ok (.getstatic 20, 3) := dk_178 0 20 (dk_at dksJ19_vectorizedMismatch_6 20 rfl rfl)
theorem dJ19_vectorizedMismatch_163 : decode cJ19_vectorizedMismatch 163 = .ok (.lshl, 1) := dk_121 (dk_at dksJ19_vectorizedMismatch_6 23 rfl rfl)
theorem dJ19_vectorizedMismatch_164 : decode cJ19_vectorizedMismatch 164 = .ok (.lstore 12, 2) := dk_55 12 (dk_at dksJ19_vectorizedMismatch_7 0 rfl rfl)
theorem dJ19_vectorizedMismatch_166 : decode cJ19_vectorizedMismatch 166 = .ok (.getstatic 26, 3) := dk_178 0 26 (dk_at dksJ19_vectorizedMismatch_7 2 rfl rfl)
theorem dJ19_vectorizedMismatch_169 : decode cJ19_vectorizedMismatch 169 = .ok (.aload_n 0, 1) := dk_42 (dk_at dksJ19_vectorizedMismatch_7 5 rfl rfl)
theorem dJ19_vectorizedMismatch_170 : decode cJ19_vectorizedMismatch 170 = .ok (.lload_n 1, 1) := dk_31 (dk_at dksJ19_vectorizedMismatch_7 6 rfl rfl)
theorem dJ19_vectorizedMismatch_171 : decode cJ19_vectorizedMismatch 171 = .ok (.lload 12, 2) := dk_22 12 (dk_at dksJ19_vectorizedMismatch_7 7 rfl rfl)
theorem dJ19_vectorizedMismatch_173 : decode cJ19_vectorizedMismatch 173 = .ok (.ladd, 1) := dk_97 (dk_at dksJ19_vectorizedMismatch_7 9 rfl rfl)
theorem dJ19_vectorizedMismatch_174 : decode cJ19_vectorizedMismatch 174 = .ok (.invokevirtual 54, 3) := dk_182 0 54 (dk_at dksJ19_vectorizedMismatch_7 10 rfl rfl)
theorem dJ19_vectorizedMismatch_177 : decode cJ19_vectorizedMismatch 177 = .ok (.istore 14, 2) := dk_54 14 (dk_at dksJ19_vectorizedMismatch_7 13 rfl rfl)
theorem dJ19_vectorizedMismatch_179 : decode cJ19_vectorizedMismatch 179 = .ok (.getstatic 26, 3) := dk_178 0 26 (dk_at dksJ19_vectorizedMismatch_7 15 rfl rfl)
theorem dJ19_vectorizedMismatch_182 : decode cJ19_vectorizedMismatch 182 = .ok (.aload_n 3, 1) := dk_45 (dk_at dksJ19_vectorizedMismatch_7 18 rfl rfl)
theorem dJ19_vectorizedMismatch_183 : decode cJ19_vectorizedMismatch 183 = .ok (.lload 4, 2) := dk_22 4 (dk_at dksJ19_vectorizedMismatch_7 19 rfl rfl)
theorem dJ19_vectorizedMismatch_185 : decode cJ19_vectorizedMismatch 185 = .ok (.lload 12, 2) := dk_22 12 (dk_at dksJ19_vectorizedMismatch_7 21 rfl rfl)
theorem dJ19_vectorizedMismatch_187 : decode cJ19_vectorizedMismatch 187 = .ok (.ladd, 1) := dk_97 (dk_at dksJ19_vectorizedMismatch_7 23 rfl rfl)
theorem dJ19_vectorizedMismatch_188 : decode cJ19_vectorizedMismatch 188 = .ok (.invokevirtual 54, 3) := dk_182 0 54 (dk_at dksJ19_vectorizedMismatch_8 0 rfl rfl)
theorem dJ19_vectorizedMismatch_191 : decode cJ19_vectorizedMismatch 191 = .ok (.istore 15, 2) := dk_54 15 (dk_at dksJ19_vectorizedMismatch_8 3 rfl rfl)
theorem dJ19_vectorizedMismatch_193 : decode cJ19_vectorizedMismatch 193 = .ok (.iload 14, 2) := dk_21 14 (dk_at dksJ19_vectorizedMismatch_8 5 rfl rfl)
theorem dJ19_vectorizedMismatch_195 : decode cJ19_vectorizedMismatch 195 = .ok (.iload 15, 2) := dk_21 15 (dk_at dksJ19_vectorizedMismatch_8 7 rfl rfl)
theorem dJ19_vectorizedMismatch_197 : decode cJ19_vectorizedMismatch 197 = .ok (.if_icmp .eq 54, 3) := dk_159 0 54 (dk_at dksJ19_vectorizedMismatch_8 9 rfl rfl)
theorem dJ19_vectorizedMismatch_200 : decode cJ19_vectorizedMismatch 200 = .ok (.iload 14, 2) := dk_21 14 (dk_at dksJ19_vectorizedMismatch_8 12 rfl rfl)
theorem dJ19_vectorizedMismatch_202 : decode cJ19_vectorizedMismatch 202 = .ok (.iload 15, 2) := dk_21 15 (dk_at dksJ19_vectorizedMismatch_8 14 rfl rfl)
theorem dJ19_vectorizedMismatch_204 : decode cJ19_vectorizedMismatch 204 = .ok (.ixor, 1) := dk_130 (dk_at dksJ19_vectorizedMismatch_8 16 rfl rfl)
theorem dJ19_vectorizedMismatch_205 : decode cJ19_vectorizedMismatch 205 = .ok (.istore 16, 2) := dk_54 16 (dk_at dksJ19_vectorizedMismatch_8 17 rfl rfl)
theorem dJ19_vectorizedMismatch_207 : decode cJ19_vectorizedMismatch 207 = .ok (.getstatic 36, 3) := dk_178 0 36 (dk_at dksJ19_vectorizedMismatch_8 19 rfl rfl)
theorem dJ19_vectorizedMismatch_210 : decode cJ19_vectorizedMismatch 210 = .ok (.ifCond .eq 18, 3) := dk_153 0 18 (dk_at dksJ19_vectorizedMismatch_9 0 rfl rfl)
theorem dJ19_vectorizedMismatch_213 : decode cJ19_vectorizedMismatch 213 = .ok (.iload 16, 2) := dk_21 16 (dk_at dksJ19_vectorizedMismatch_9 3 rfl rfl)
theorem dJ19_vectorizedMismatch_215 : decode cJ19_vectorizedMismatch 215 = .ok (.invokestatic 58, 3) := dk_184 0 58 (dk_at dksJ19_vectorizedMismatch_9 5 rfl rfl)
theorem dJ19_vectorizedMismatch_218 : decode cJ19_vectorizedMismatch 218 = .ok (.getstatic 46, 3) := dk_178 0 46 (dk_at dksJ19_vectorizedMismatch_9 8 rfl rfl)
theorem dJ19_vectorizedMismatch_221 : decode cJ19_vectorizedMismatch 221 = .ok (.iload 7, 2) := dk_21 7 (dk_at dksJ19_vectorizedMismatch_9 11 rfl rfl)
theorem dJ19_vectorizedMismatch_223 : decode cJ19_vectorizedMismatch 223 = .ok (.iadd, 1) := dk_96 (dk_at dksJ19_vectorizedMismatch_9 13 rfl rfl)
theorem dJ19_vectorizedMismatch_224 : decode cJ19_vectorizedMismatch 224 = .ok (.ishr, 1) := dk_122 (dk_at dksJ19_vectorizedMismatch_9 14 rfl rfl)
theorem dJ19_vectorizedMismatch_225 : decode cJ19_vectorizedMismatch 225 = .ok (.goto 15, 3) := dk_167 0 15 (dk_at dksJ19_vectorizedMismatch_9 15 rfl rfl)
theorem dJ19_vectorizedMismatch_228 : decode cJ19_vectorizedMismatch 228 = .ok (.iload 16, 2) := dk_21 16 (dk_at dksJ19_vectorizedMismatch_9 18 rfl rfl)
theorem dJ19_vectorizedMismatch_230 : decode cJ19_vectorizedMismatch 230 = .ok (.invokestatic 11, 3) := dk_184 0 11 (dk_at dksJ19_vectorizedMismatch_9 20 rfl rfl)
theorem dJ19_vectorizedMismatch_233 : decode cJ19_vectorizedMismatch 233 = .ok (.getstatic 46, 3) := dk_178 0 46 (dk_at dksJ19_vectorizedMismatch_10 0 rfl rfl)
theorem dJ19_vectorizedMismatch_236 : decode cJ19_vectorizedMismatch 236 = .ok (.iload 7, 2) := dk_21 7 (dk_at dksJ19_vectorizedMismatch_10 3 rfl rfl)
theorem dJ19_vectorizedMismatch_238 : decode cJ19_vectorizedMismatch 238 = .ok (.iadd, 1) := dk_96 (dk_at dksJ19_vectorizedMismatch_10 5 rfl rfl)
theorem dJ19_vectorizedMismatch_239 : decode cJ19_vectorizedMismatch 239 = .ok (.ishr, 1) := dk_122 (dk_at dksJ19_vectorizedMismatch_10 6 rfl rfl)
theorem dJ19_vectorizedMismatch_240 : decode cJ19_vectorizedMismatch 240 = .ok (.istore 17, 2) := dk_54 17 (dk_at dksJ19_vectorizedMismatch_10 7 rfl rfl)
theorem dJ19_vectorizedMismatch_242 : decode cJ19_vectorizedMismatch 242 = .ok (.iload 9, 2) := dk_21 9 (dk_at dksJ19_vectorizedMismatch_10 9 rfl rfl)
theorem dJ19_vectorizedMismatch_244 : decode cJ19_vectorizedMismatch 244 = .ok (.iload 8, 2) := dk_21 8 (dk_at dksJ19_vectorizedMismatch_10 11 rfl rfl)
theorem dJ19_vectorizedMismatch_246 : decode cJ19_vectorizedMismatch 246 = .ok (.ishl, 1) := dk_120 (dk_at dksJ19_vectorizedMismatch_10 13 rfl rfl)
theorem dJ19_vectorizedMismatch_247 : decode cJ19_vectorizedMismatch 247 = .ok (.iload 17, 2) := dk_21 17 (dk_at dksJ19_vectorizedMismatch_10 14 rfl rfl)
theorem dJ19_vectorizedMismatch_249 : decode cJ19_vectorizedMismatch 249 = .ok (.iadd, 1) := dk_96 (dk_at dksJ19_vectorizedMismatch_10 16 rfl rfl)
theorem dJ19_vectorizedMismatch_250 : decode cJ19_vectorizedMismatch 250 = .ok (.ireturn, 1) := dk_172 (dk_at dksJ19_vectorizedMismatch_10 17 rfl rfl)
theorem dJ19_vectorizedMismatch_251 : decode cJ19_vectorizedMismatch 251 = .ok (.iload 10, 2) := dk_21 10 (dk_at dksJ19_vectorizedMismatch_10 18 rfl rfl)
theorem dJ19_vectorizedMismatch_253 : decode cJ19_vectorizedMismatch 253 = .ok (.iload 11, 2) := dk_21 11 (dk_at dksJ19_vectorizedMismatch_10 20 rfl rfl)
theorem dJ19_vectorizedMismatch_255 : decode cJ19_vectorizedMismatch 255 = .ok (.isub, 1) := dk_100 (dk_at dksJ19_vectorizedMismatch_10 22 rfl rfl)
theorem dJ19_vectorizedMismatch_256 : decode cJ19_vectorizedMismatch 256 = .ok (.istore 10, 2) := dk_54 10 (dk_at dksJ19_vectorizedMismatch_11 0 rfl rfl)
theorem dJ19_vectorizedMismatch_258 : decode cJ19_vectorizedMismatch 258 = .ok (.iload 10, 2) := dk_21 10 (dk_at dksJ19_vectorizedMismatch_11 2 rfl rfl)
theorem dJ19_vectorizedMismatch_260 : decode cJ19_vectorizedMismatch 260 = .ok (.iconst (-1), 1) := dk_2 (dk_at dksJ19_vectorizedMismatch_11 4 rfl rfl)
theorem dJ19_vectorizedMismatch_261 : decode cJ19_vectorizedMismatch 261 = .ok (.ixor, 1) := dk_130 (dk_at dksJ19_vectorizedMismatch_11 5 rfl rfl)
theorem dJ19_vectorizedMismatch_262 : decode cJ19_vectorizedMismatch 262 = .ok (.ireturn, 1) := dk_172 (dk_at dksJ19_vectorizedMismatch_11 6 rfl rfl)
theorem dJ19_vectorizedMismatch_263 : decode cJ19_vectorizedMismatch 263 = .ok (.iload 10, 2) := dk_21 10 (dk_at dksJ19_vectorizedMismatch_11 7 rfl rfl)
theorem dJ19_vectorizedMismatch_265 : decode cJ19_vectorizedMismatch 265 = .ok (.iconst (-1), 1) := dk_2 (dk_at dksJ19_vectorizedMismatch_11 9 rfl rfl)
theorem dJ19_vectorizedMismatch_266 : decode cJ19_vectorizedMismatch 266 = .ok (.ixor, 1) := dk_130 (dk_at dksJ19_vectorizedMismatch_11 10 rfl rfl)
theorem dJ19_vectorizedMismatch_267 : decode cJ19_vectorizedMismatch 267 = .ok (.ireturn, 1) := dk_172 (dk_at dksJ19_vectorizedMismatch_11 11 rfl rfl)
theorem q144 : (Jvm.Cond.initialized "jdk/internal/util/ArraysSupport") ∈ lw_all := lw_g (lw_at lw_m1 22 rfl) rfl
theorem q383 : (Jvm.Cond.static ({ cls := "jdk/internal/util/ArraysSupport", name := "newLength", desc := "(III)I" } : Jvm.MethodName)) ∈ lw_all := lw_g (lw_at lw_m2 21 rfl) rfl
theorem q384 : (Jvm.Cond.code ({ cls := "jdk/internal/util/ArraysSupport", name := "newLength", desc := "(III)I" } : Jvm.MethodName) prog_92_method_27_code (4 : Nat) (Option.some Jvm.ClassFile.FieldType.int)) ∈ lw_all := lw_g (lw_at lw_m2 22 rfl) rfl
theorem q385 : (Jvm.Cond.methodLink "jdk/internal/util/ArraysSupport" (194 : Nat) ({ cls := "java/lang/Math", name := "max", desc := "(II)I" } : Jvm.MethodName)) ∈ lw_all := lw_g (lw_at lw_m2 23 rfl) rfl
theorem q388 : (Jvm.Cond.constant "jdk/internal/util/ArraysSupport" (200 : Nat) (2147483639 : Int32)) ∈ lw_all := lw_g (lw_at lw_m2 26 rfl) rfl
theorem q389 : (Jvm.Cond.methodLink "jdk/internal/util/ArraysSupport" (201 : Nat) ({ cls := "jdk/internal/util/ArraysSupport", name := "hugeLength", desc := "(II)I" } : Jvm.MethodName)) ∈ lw_all := lw_g (lw_at lw_m2 27 rfl) rfl
theorem q390 : (Jvm.Cond.static ({ cls := "jdk/internal/util/ArraysSupport", name := "hugeLength", desc := "(II)I" } : Jvm.MethodName)) ∈ lw_all := lw_g (lw_at lw_m2 28 rfl) rfl
theorem q391 : (Jvm.Cond.code ({ cls := "jdk/internal/util/ArraysSupport", name := "hugeLength", desc := "(II)I" } : Jvm.MethodName) prog_92_method_28_code (3 : Nat) (Option.some Jvm.ClassFile.FieldType.int)) ∈ lw_all := lw_g (lw_at lw_m2 29 rfl) rfl
theorem q1577 : (Jvm.Cond.static ({ cls := "jdk/internal/util/ArraysSupport", name := "mismatch", desc := "([B[BI)I" } : Jvm.MethodName)) ∈ lw_all := lw_g (lw_at lw_m7 15 rfl) rfl
theorem q1578 : (Jvm.Cond.code ({ cls := "jdk/internal/util/ArraysSupport", name := "mismatch", desc := "([B[BI)I" } : Jvm.MethodName) prog_92_method_13_code (4 : Nat) (Option.some Jvm.ClassFile.FieldType.int)) ∈ lw_all := lw_g (lw_at lw_m7 16 rfl) rfl
theorem q1579 : (Jvm.Cond.fieldLink "jdk/internal/util/ArraysSupport" (126 : Nat) "jdk/internal/misc/Unsafe" "ARRAY_BYTE_BASE_OFFSET" "I") ∈ lw_all := lw_g (lw_at lw_m7 17 rfl) rfl
theorem q1581 : (Jvm.Cond.fieldLink "jdk/internal/util/ArraysSupport" (129 : Nat) "jdk/internal/util/ArraysSupport" "LOG2_ARRAY_BYTE_INDEX_SCALE" "I") ∈ lw_all := lw_g (lw_at lw_m7 19 rfl) rfl
theorem q1582 : (Jvm.Cond.laysStatic "jdk/internal/util/ArraysSupport" "LOG2_ARRAY_BYTE_INDEX_SCALE" "I") ∈ lw_tbl := lw_at lw_m7 20 rfl
theorem q1583 : (Jvm.Cond.methodLink "jdk/internal/util/ArraysSupport" (122 : Nat) ({ cls := "jdk/internal/util/ArraysSupport", name := "vectorizedMismatch", desc := "(Ljava/lang/Object;JLjava/lang/Object;JII)I" } : Jvm.MethodName)) ∈ lw_all := lw_g (lw_at lw_m7 21 rfl) rfl
theorem q1584 : (Jvm.Cond.static ({ cls := "jdk/internal/util/ArraysSupport", name := "vectorizedMismatch", desc := "(Ljava/lang/Object;JLjava/lang/Object;JII)I" } : Jvm.MethodName)) ∈ lw_all := lw_g (lw_at lw_m7 22 rfl) rfl
theorem q1585 : (Jvm.Cond.code ({ cls := "jdk/internal/util/ArraysSupport", name := "vectorizedMismatch", desc := "(Ljava/lang/Object;JLjava/lang/Object;JII)I" } : Jvm.MethodName) prog_92_method_3_code (19 : Nat) (Option.some Jvm.ClassFile.FieldType.int)) ∈ lw_all := lw_g (lw_at lw_m7 23 rfl) rfl
theorem q1586 : (Jvm.Cond.fieldLink "jdk/internal/util/ArraysSupport" (20 : Nat) "jdk/internal/util/ArraysSupport" "LOG2_ARRAY_LONG_INDEX_SCALE" "I") ∈ lw_all := lw_g (lw_at lw_m7 24 rfl) rfl
theorem q1587 : (Jvm.Cond.laysStatic "jdk/internal/util/ArraysSupport" "LOG2_ARRAY_LONG_INDEX_SCALE" "I") ∈ lw_tbl := lw_at lw_m7 25 rfl
theorem q1588 : (Jvm.Cond.fieldLink "jdk/internal/util/ArraysSupport" (26 : Nat) "jdk/internal/util/ArraysSupport" "U" "Ljdk/internal/misc/Unsafe;") ∈ lw_all := lw_g (lw_at lw_m7 26 rfl) rfl
theorem q1589 : (Jvm.Cond.laysStatic "jdk/internal/util/ArraysSupport" "U" "Ljdk/internal/misc/Unsafe;") ∈ lw_tbl := lw_at lw_m7 27 rfl
theorem q1590 : (Jvm.Cond.methodLink "jdk/internal/util/ArraysSupport" (30 : Nat) ({ cls := "jdk/internal/misc/Unsafe", name := "getLongUnaligned", desc := "(Ljava/lang/Object;J)J" } : Jvm.MethodName)) ∈ lw_all := lw_g (lw_at lw_m7 28 rfl) rfl
theorem q1642 : (Jvm.Cond.fieldLink "jdk/internal/util/ArraysSupport" (36 : Nat) "jdk/internal/util/ArraysSupport" "BIG_ENDIAN" "Z") ∈ lw_all := lw_g (lw_at lw_m7 80 rfl) rfl
theorem q1643 : (Jvm.Cond.laysStatic "jdk/internal/util/ArraysSupport" "BIG_ENDIAN" "Z") ∈ lw_tbl := lw_at lw_m7 81 rfl
theorem q1644 : (Jvm.Cond.methodLink "jdk/internal/util/ArraysSupport" (40 : Nat) ({ cls := "java/lang/Long", name := "numberOfLeadingZeros", desc := "(J)I" } : Jvm.MethodName)) ∈ lw_all := lw_g (lw_at lw_m7 82 rfl) rfl
theorem q1650 : (Jvm.Cond.fieldLink "jdk/internal/util/ArraysSupport" (46 : Nat) "jdk/internal/util/ArraysSupport" "LOG2_BYTE_BIT_SIZE" "I") ∈ lw_all := lw_g (lw_at lw_m7 88 rfl) rfl
theorem q1651 : (Jvm.Cond.laysStatic "jdk/internal/util/ArraysSupport" "LOG2_BYTE_BIT_SIZE" "I") ∈ lw_tbl := lw_at lw_m7 89 rfl
theorem q1652 : (Jvm.Cond.methodLink "jdk/internal/util/ArraysSupport" (49 : Nat) ({ cls := "java/lang/Long", name := "numberOfTrailingZeros", desc := "(J)I" } : Jvm.MethodName)) ∈ lw_all := lw_g (lw_at lw_m7 90 rfl) rfl
theorem q1653 : (Jvm.Cond.fieldLink "jdk/internal/util/ArraysSupport" (51 : Nat) "jdk/internal/util/ArraysSupport" "LOG2_ARRAY_INT_INDEX_SCALE" "I") ∈ lw_all := lw_g (lw_at lw_m7 91 rfl) rfl
theorem q1654 : (Jvm.Cond.laysStatic "jdk/internal/util/ArraysSupport" "LOG2_ARRAY_INT_INDEX_SCALE" "I") ∈ lw_tbl := lw_at lw_m7 92 rfl
theorem q1655 : (Jvm.Cond.methodLink "jdk/internal/util/ArraysSupport" (54 : Nat) ({ cls := "jdk/internal/misc/Unsafe", name := "getIntUnaligned", desc := "(Ljava/lang/Object;J)I" } : Jvm.MethodName)) ∈ lw_all := lw_g (lw_at lw_m7 93 rfl) rfl
theorem q1672 : (Jvm.Cond.methodLink "jdk/internal/util/ArraysSupport" (58 : Nat) ({ cls := "java/lang/Integer", name := "numberOfLeadingZeros", desc := "(I)I" } : Jvm.MethodName)) ∈ lw_all := lw_g (lw_at lw_m7 110 rfl) rfl
theorem q1673 : (Jvm.Cond.methodLink "jdk/internal/util/ArraysSupport" (11 : Nat) ({ cls := "java/lang/Integer", name := "numberOfTrailingZeros", desc := "(I)I" } : Jvm.MethodName)) ∈ lw_all := lw_g (lw_at lw_m7 111 rfl) rfl
/-! java/util/Arrays -/
set_option maxRecDepth 100000
def RJ20 : String := "java/util/Arrays"
abbrev cJ20_copyOf : ByteArray := prog_57_method_121_code
def yJ20_copyOf : MethodName := ⟨RJ20, "copyOf", "([BI)[B"⟩
def dkwJ20_copyOf_1 : List UInt8 := [27, 184, 1, 48, 184, 0, 150, 44, 176]
abbrev dktJ20_copyOf_1 : List UInt8 := dkwJ20_copyOf_1 ++ []
def dkwJ20_copyOf_0 : List UInt8 := [27, 42, 190, 160, 0, 11, 42, 182, 1, 54, 192, 1, 55, 176, 27, 188, 8, 77, 42, 3, 44, 3, 42, 190]
abbrev dktJ20_copyOf_0 : List UInt8 := dkwJ20_copyOf_0 ++ dktJ20_copyOf_1
theorem dksJ20_copyOf_0 : cJ20_copyOf.data.toList.drop 0 = dktJ20_copyOf_0 := by decide +kernel
theorem dksJ20_copyOf_1 : cJ20_copyOf.data.toList.drop 24 = dktJ20_copyOf_1 := dk_seg dksJ20_copyOf_0 24 rfl rfl
theorem dJ20_copyOf_0 : decode cJ20_copyOf 0 = .ok (.iload_n 1, 1) := dk_27 (dk_at dksJ20_copyOf_0 0 rfl rfl)
theorem dJ20_copyOf_1 : decode cJ20_copyOf 1 = .ok (.aload_n 0, 1) := dk_42 (dk_at dksJ20_copyOf_0 1 rfl rfl)
theorem dJ20_copyOf_2 : decode cJ20_copyOf 2 = .ok (.arraylength, 1) := dk_190 (dk_at dksJ20_copyOf_0 2 rfl rfl)
theorem dJ20_copyOf_3 : decode cJ20_copyOf 3 = .ok (.if_icmp .ne 11, 3) := dk_160 0 11 (dk_at dksJ20_copyOf_0 3 rfl rfl)
theorem dJ20_copyOf_6 : decode cJ20_copyOf 6 = .ok (.aload_n 0, 1) := dk_42 (dk_at dksJ20_copyOf_0 6 rfl rfl)
theorem dJ20_copyOf_7 : decode cJ20_copyOf 7 = .ok (.invokevirtual 310, 3) := dk_182 1 54 (dk_at dksJ20_copyOf_0 7 rfl rfl)
theorem dJ20_copyOf_10 : decode cJ20_copyOf 10 = .ok (.checkcast 311, 3) := dk_192 1 55 (dk_at dksJ20_copyOf_0 10 rfl rfl)
theorem dJ20_copyOf_13 : decode cJ20_copyOf 13 = .ok (.areturn, 1) := dk_176 (dk_at dksJ20_copyOf_0 13 rfl rfl)
theorem dJ20_copyOf_14 : decode cJ20_copyOf 14 = .ok (.iload_n 1, 1) := dk_27 (dk_at dksJ20_copyOf_0 14 rfl rfl)
theorem dJ20_copyOf_15 : decode cJ20_copyOf 15 = .ok (.newarray .byte, 2) := dk_188_8 (dk_at dksJ20_copyOf_0 15 rfl rfl)
theorem dJ20_copyOf_17 : decode cJ20_copyOf 17 = .ok (.astore_n 2, 1) := dk_77 (dk_at dksJ20_copyOf_0 17 rfl rfl)
theorem dJ20_copyOf_18 : decode cJ20_copyOf 18 = .ok (.aload_n 0, 1) := dk_42 (dk_at dksJ20_copyOf_0 18 rfl rfl)
theorem dJ20_copyOf_19 : decode cJ20_copyOf 19 = .ok (.iconst 0, 1) := dk_3 (dk_at dksJ20_copyOf_0 19 rfl rfl)
theorem dJ20_copyOf_20 : decode cJ20_copyOf 20 = .ok (.aload_n 2, 1) := dk_44 (dk_at dksJ20_copyOf_0 20 rfl rfl)
theorem dJ20_copyOf_21 : decode cJ20_copyOf 21 = .ok (.iconst 0, 1) := dk_3 (dk_at dksJ20_copyOf_0 21 rfl rfl)
theorem dJ20_copyOf_22 : decode cJ20_copyOf 22 = .ok (.aload_n 0, 1) := dk_42 (dk_at dksJ20_copyOf_0 22 rfl rfl)
theorem dJ20_copyOf_23 : decode cJ20_copyOf 23 = .ok (.arraylength, 1) := dk_190 (dk_at dksJ20_copyOf_0 23 rfl rfl)
theorem dJ20_copyOf_24 : decode cJ20_copyOf 24 = .ok (.iload_n 1, 1) := dk_27 (dk_at dksJ20_copyOf_1 0 rfl rfl)
theorem dJ20_copyOf_25 : decode cJ20_copyOf 25 = .ok (.invokestatic 304, 3) := dk_184 1 48 (dk_at dksJ20_copyOf_1 1 rfl rfl)
theorem dJ20_copyOf_28 : decode cJ20_copyOf 28 = .ok (.invokestatic 150, 3) := dk_184 0 150 (dk_at dksJ20_copyOf_1 4 rfl rfl)
theorem dJ20_copyOf_31 : decode cJ20_copyOf 31 = .ok (.aload_n 2, 1) := dk_44 (dk_at dksJ20_copyOf_1 7 rfl rfl)
theorem dJ20_copyOf_32 : decode cJ20_copyOf 32 = .ok (.areturn, 1) := dk_176 (dk_at dksJ20_copyOf_1 8 rfl rfl)
abbrev cJ20_copyOfRange : ByteArray := prog_57_method_132_code
def yJ20_copyOfRange : MethodName := ⟨RJ20, "copyOfRange", "([BII)[B"⟩
def dkwJ20_copyOfRange_1 : List UInt8 := [176]
abbrev dktJ20_copyOfRange_1 : List UInt8 := dkwJ20_copyOfRange_1 ++ []
def dkwJ20_copyOfRange_0 : List UInt8 := [27, 154, 0, 9, 28, 42, 190, 159, 0, 10, 42, 27, 28, 184, 1, 83, 176, 42, 182, 1, 54, 192, 1, 55]
abbrev dktJ20_copyOfRange_0 : List UInt8 := dkwJ20_copyOfRange_0 ++ dktJ20_copyOfRange_1
theorem dksJ20_copyOfRange_0 : cJ20_copyOfRange.data.toList.drop 0 = dktJ20_copyOfRange_0 := by decide +kernel
theorem dksJ20_copyOfRange_1 : cJ20_copyOfRange.data.toList.drop 24 = dktJ20_copyOfRange_1 := dk_seg dksJ20_copyOfRange_0 24 rfl rfl
theorem dJ20_copyOfRange_0 : decode cJ20_copyOfRange 0 = .ok (.iload_n 1, 1) := dk_27 (dk_at dksJ20_copyOfRange_0 0 rfl rfl)
theorem dJ20_copyOfRange_1 : decode cJ20_copyOfRange 1 = .ok (.ifCond .ne 9, 3) := dk_154 0 9 (dk_at dksJ20_copyOfRange_0 1 rfl rfl)
theorem dJ20_copyOfRange_4 : decode cJ20_copyOfRange 4 = .ok (.iload_n 2, 1) := dk_28 (dk_at dksJ20_copyOfRange_0 4 rfl rfl)
theorem dJ20_copyOfRange_5 : decode cJ20_copyOfRange 5 = .ok (.aload_n 0, 1) := dk_42 (dk_at dksJ20_copyOfRange_0 5 rfl rfl)
theorem dJ20_copyOfRange_6 : decode cJ20_copyOfRange 6 = .ok (.arraylength, 1) := dk_190 (dk_at dksJ20_copyOfRange_0 6 rfl rfl)
theorem dJ20_copyOfRange_7 : decode cJ20_copyOfRange 7 = .ok (.if_icmp .eq 10, 3) := dk_159 0 10 (dk_at dksJ20_copyOfRange_0 7 rfl rfl)
theorem dJ20_copyOfRange_10 : decode cJ20_copyOfRange 10 = .ok (.aload_n 0, 1) := dk_42 (dk_at dksJ20_copyOfRange_0 10 rfl rfl)
theorem dJ20_copyOfRange_11 : decode cJ20_copyOfRange 11 = .ok (.iload_n 1, 1) := dk_27 (dk_at dksJ20_copyOfRange_0 11 rfl rfl)
theorem dJ20_copyOfRange_12 : decode cJ20_copyOfRange 12 = .ok (.iload_n 2, 1) := dk_28 (dk_at dksJ20_copyOfRange_0 12 rfl rfl)
theorem dJ20_copyOfRange_13 : decode cJ20_copyOfRange 13 = .ok (.invokestatic 339, 3) := dk_184 1 83 (dk_at dksJ20_copyOfRange_0 13 rfl rfl)
theorem dJ20_copyOfRange_16 : decode cJ20_copyOfRange 16 = .ok (.areturn, 1) := dk_176 (dk_at dksJ20_copyOfRange_0 16 rfl rfl)
theorem dJ20_copyOfRange_17 : decode cJ20_copyOfRange 17 = .ok (.aload_n 0, 1) := dk_42 (dk_at dksJ20_copyOfRange_0 17 rfl rfl)
theorem dJ20_copyOfRange_18 : decode cJ20_copyOfRange 18 = .ok (.invokevirtual 310, 3) := dk_182 1 54 (dk_at dksJ20_copyOfRange_0 18 rfl rfl)
theorem dJ20_copyOfRange_21 : decode cJ20_copyOfRange 21 = .ok (.checkcast 311, 3) := dk_192 1 55 (dk_at dksJ20_copyOfRange_0 21 rfl rfl)
theorem dJ20_copyOfRange_24 : decode cJ20_copyOfRange 24 = .ok (.areturn, 1) := dk_176 (dk_at dksJ20_copyOfRange_1 0 rfl rfl)
abbrev cJ20_copyOfRangeByte : ByteArray := prog_57_method_133_code
def yJ20_copyOfRangeByte : MethodName := ⟨RJ20, "copyOfRangeByte", "([BII)[B"⟩
def dkwJ20_copyOfRangeByte_1 : List UInt8 := [184, 1, 48, 184, 0, 150, 25, 4, 176]
abbrev dktJ20_copyOfRangeByte_1 : List UInt8 := dkwJ20_copyOfRangeByte_1 ++ []
def dkwJ20_copyOfRangeByte_0 : List UInt8 := [27, 28, 184, 1, 87, 28, 27, 100, 62, 29, 188, 8, 58, 4, 42, 27, 25, 4, 3, 42, 190, 27, 100, 29]
abbrev dktJ20_copyOfRangeByte_0 : List UInt8 := dkwJ20_copyOfRangeByte_0 ++ dktJ20_copyOfRangeByte_1
theorem dksJ20_copyOfRangeByte_0 : cJ20_copyOfRangeByte.data.toList.drop 0 = dktJ20_copyOfRangeByte_0 := by decide +kernel
theorem dksJ20_copyOfRangeByte_1 : cJ20_copyOfRangeByte.data.toList.drop 24 = dktJ20_copyOfRangeByte_1 := dk_seg dksJ20_copyOfRangeByte_0 24 rfl rfl
theorem dJ20_copyOfRangeByte_0 : decode cJ20_copyOfRangeByte 0 = .ok (.iload_n 1, 1) := dk_27 (dk_at dksJ20_copyOfRangeByte_0 0 rfl rfl)
theorem dJ20_copyOfRangeByte_1 : decode cJ20_copyOfRangeByte 1 = .ok (.iload_n 2, 1) := dk_28 (dk_at dksJ20_copyOfRangeByte_0 1 rfl rfl)
theorem dJ20_copyOfRangeByte_2 : decode cJ20_copyOfRangeByte 2 = .ok (.invokestatic 343, 3) := dk_184 1 87 (dk_at dksJ20_copyOfRangeByte_0 2 rfl rfl)
theorem dJ20_copyOfRangeByte_5 : decode cJ20_copyOfRangeByte 5 = .ok (.iload_n 2, 1) := dk_28 (dk_at dksJ20_copyOfRangeByte_0 5 rfl rfl)
theorem dJ20_copyOfRangeByte_6 : decode cJ20_copyOfRangeByte 6 = .ok (.iload_n 1, 1) := dk_27 (dk_at dksJ20_copyOfRangeByte_0 6 rfl rfl)
theorem dJ20_copyOfRangeByte_7 : decode cJ20_copyOfRangeByte 7 = .ok (.isub, 1) := dk_100 (dk_at dksJ20_copyOfRangeByte_0 7 rfl rfl)
theorem dJ20_copyOfRangeByte_8 : decode cJ20_copyOfRangeByte 8 = .ok (.istore_n 3, 1) := dk_62 (dk_at dksJ20_copyOfRangeByte_0 8 rfl rfl)
theorem dJ20_copyOfRangeByte_9 : decode cJ20_copyOfRangeByte 9 = .ok (.iload_n 3, 1) := dk_29 (dk_at dksJ20_copyOfRangeByte_0 9 rfl rfl)
theorem dJ20_copyOfRangeByte_10 : decode cJ20_copyOfRangeByte 10 = .ok (.newarray .byte, 2) := dk_188_8 (dk_at dksJ20_copyOfRangeByte_0 10 rfl rfl)
theorem dJ20_copyOfRangeByte_12 : decode cJ20_copyOfRangeByte 12 = .ok (.astore 4, 2) := dk_58 4 (dk_at dksJ20_copyOfRangeByte_0 12 rfl rfl)
theorem dJ20_copyOfRangeByte_14 : decode cJ20_copyOfRangeByte 14 = .ok (.aload_n 0, 1) := dk_42 (dk_at dksJ20_copyOfRangeByte_0 14 rfl rfl)
theorem dJ20_copyOfRangeByte_15 : decode cJ20_copyOfRangeByte 15 = .ok (.iload_n 1, 1) := dk_27 (dk_at dksJ20_copyOfRangeByte_0 15 rfl rfl)
theorem dJ20_copyOfRangeByte_16 : decode cJ20_copyOfRangeByte 16 = .ok (.aload 4, 2) := dk_25 4 (dk_at dksJ20_copyOfRangeByte_0 16 rfl rfl)
theorem dJ20_copyOfRangeByte_18 : decode cJ20_copyOfRangeByte 18 = .ok (.iconst 0, 1) := dk_3 (dk_at dksJ20_copyOfRangeByte_0 18 rfl rfl)
theorem dJ20_copyOfRangeByte_19 : decode cJ20_copyOfRangeByte 19 = .ok (.aload_n 0, 1) := dk_42 (dk_at dksJ20_copyOfRangeByte_0 19 rfl rfl)
theorem dJ20_copyOfRangeByte_20 : decode cJ20_copyOfRangeByte 20 = .ok (.arraylength, 1) := dk_190 (dk_at dksJ20_copyOfRangeByte_0 20 rfl rfl)
theorem dJ20_copyOfRangeByte_21 : decode cJ20_copyOfRangeByte 21 = .ok (.iload_n 1, 1) := dk_27 (dk_at dksJ20_copyOfRangeByte_0 21 rfl rfl)
theorem dJ20_copyOfRangeByte_22 : decode cJ20_copyOfRangeByte 22 = .ok (.isub, 1) := dk_100 (dk_at dksJ20_copyOfRangeByte_0 22 rfl rfl)
theorem dJ20_copyOfRangeByte_23 : decode cJ20_copyOfRangeByte 23 = .ok (.iload_n 3, 1) := dk_29 (dk_at dksJ20_copyOfRangeByte_0 23 rfl rfl)
theorem dJ20_copyOfRangeByte_24 : decode cJ20_copyOfRangeByte 24 = .ok (.invokestatic 304, 3) := dk_184 1 48 (dk_at dksJ20_copyOfRangeByte_1 0 rfl rfl)
theorem dJ20_copyOfRangeByte_27 : decode cJ20_copyOfRangeByte 27 = .ok (.invokestatic 150, 3) := dk_184 0 150 (dk_at dksJ20_copyOfRangeByte_1 3 rfl rfl)
theorem dJ20_copyOfRangeByte_30 : decode cJ20_copyOfRangeByte 30 = .ok (.aload 4, 2) := dk_25 4 (dk_at dksJ20_copyOfRangeByte_1 6 rfl rfl)
theorem dJ20_copyOfRangeByte_32 : decode cJ20_copyOfRangeByte 32 = .ok (.areturn, 1) := dk_176 (dk_at dksJ20_copyOfRangeByte_1 8 rfl rfl)
abbrev cJ20_checkLength : ByteArray := prog_57_method_131_code
def yJ20_checkLength : MethodName := ⟨RJ20, "checkLength", "(II)V"⟩
def dkwJ20_checkLength_1 : List UInt8 := [182, 0, 50, 27, 182, 0, 54, 182, 0, 61, 183, 0, 65, 191, 177]
abbrev dktJ20_checkLength_1 : List UInt8 := dkwJ20_checkLength_1 ++ []
def dkwJ20_checkLength_0 : List UInt8 := [27, 26, 162, 0, 35, 187, 0, 43, 89, 187, 0, 45, 89, 183, 0, 47, 26, 182, 0, 54, 19, 1, 81]
abbrev dktJ20_checkLength_0 : List UInt8 := dkwJ20_checkLength_0 ++ dktJ20_checkLength_1
theorem dksJ20_checkLength_0 : cJ20_checkLength.data.toList.drop 0 = dktJ20_checkLength_0 := by decide +kernel
theorem dksJ20_checkLength_1 : cJ20_checkLength.data.toList.drop 23 = dktJ20_checkLength_1 := dk_seg dksJ20_checkLength_0 23 rfl rfl
theorem dJ20_checkLength_0 : decode cJ20_checkLength 0 = .ok (.iload_n 1, 1) := dk_27 (dk_at dksJ20_checkLength_0 0 rfl rfl)
theorem dJ20_checkLength_1 : decode cJ20_checkLength 1 = .ok (.iload_n 0, 1) := dk_26 (dk_at dksJ20_checkLength_0 1 rfl rfl)
theorem dJ20_checkLength_2 : decode cJ20_checkLength 2 = .ok (.if_icmp .ge 35, 3) := dk_162 0 35 (dk_at dksJ20_checkLength_0 2 rfl rfl)
theorem dJ20_checkLength_5 : decode cJ20_checkLength 5 = .ok (.new 43, 3) := dk_187 0 43 (dk_at dksJ20_checkLength_0 5 rfl rfl)
theorem dJ20_checkLength_8 : decode cJ20_checkLength 8 = .ok (.dup, 1) := dk_89 (dk_at dksJ20_checkLength_0 8 rfl rfl)
theorem dJ20_checkLength_9 : decode cJ20_checkLength 9 = .ok (.new 45, 3) := dk_187 0 45 (dk_at dksJ20_checkLength_0 9 rfl rfl)
theorem dJ20_checkLength_12 : decode cJ20_checkLength 12 = .ok (.dup, 1) := dk_89 (dk_at dksJ20_checkLength_0 12 rfl rfl)
theorem dJ20_checkLength_13 : decode cJ20_checkLength 13 = .ok (.invokespecial 47, 3) := dk_183 0 47 (dk_at dksJ20_checkLength_0 13 rfl rfl)
theorem dJ20_checkLength_16 : decode cJ20_checkLength 16 = .ok (.iload_n 0, 1) := dk_26 (dk_at dksJ20_checkLength_0 16 rfl rfl)
theorem dJ20_checkLength_17 : decode cJ20_checkLength 17 = .ok (.invokevirtual 54, 3) := dk_182 0 54 (dk_at dksJ20_checkLength_0 17 rfl rfl)
theorem dJ20_checkLength_20 : decode cJ20_checkLength 20 = .ok (.ldc_w 337, 3) := dk_19 1 81 (dk_at dksJ20_checkLength_0 20 rfl rfl)
theorem dJ20_checkLength_23 : decode cJ20_checkLength 23 = .ok (.invokevirtual 50, 3) := dk_182 0 50 (dk_at dksJ20_checkLength_1 0 rfl rfl)
theorem dJ20_checkLength_26 : decode cJ20_checkLength 26 = .ok (.iload_n 1, 1) := dk_27 (dk_at dksJ20_checkLength_1 3 rfl rfl)
theorem dJ20_checkLength_27 : decode cJ20_checkLength 27 = .ok (.invokevirtual 54, 3) := dk_182 0 54 (dk_at dksJ20_checkLength_1 4 rfl rfl)
theorem dJ20_checkLength_30 : decode cJ20_checkLength 30 = .ok (.invokevirtual 61, 3) := dk_182 0 61 (dk_at dksJ20_checkLength_1 7 rfl rfl)
theorem dJ20_checkLength_33 : decode cJ20_checkLength 33 = .ok (.invokespecial 65, 3) := dk_183 0 65 (dk_at dksJ20_checkLength_1 10 rfl rfl)
theorem dJ20_checkLength_36 : decode cJ20_checkLength 36 = .ok (.athrow, 1) := dk_191 (dk_at dksJ20_checkLength_1 13 rfl rfl)
theorem dJ20_checkLength_37 : decode cJ20_checkLength 37 = .ok (.return_, 1) := dk_177 (dk_at dksJ20_checkLength_1 14 rfl rfl)
abbrev cJ20_fill : ByteArray := prog_57_method_110_code
def yJ20_fill : MethodName := ⟨RJ20, "fill", "([BIIB)V"⟩
def dkwJ20_fill_1 : List UInt8 := [167, 255, 242, 177]
abbrev dktJ20_fill_1 : List UInt8 := dkwJ20_fill_1 ++ []
def dkwJ20_fill_0 : List UInt8 := [42, 190, 27, 28, 184, 0, 13, 27, 54, 4, 21, 4, 28, 162, 0, 14, 42, 21, 4, 29, 84, 132, 4, 1]
abbrev dktJ20_fill_0 : List UInt8 := dkwJ20_fill_0 ++ dktJ20_fill_1
theorem dksJ20_fill_0 : cJ20_fill.data.toList.drop 0 = dktJ20_fill_0 := by decide +kernel
theorem dksJ20_fill_1 : cJ20_fill.data.toList.drop 24 = dktJ20_fill_1 := dk_seg dksJ20_fill_0 24 rfl rfl
theorem dJ20_fill_0 : decode cJ20_fill 0 = .ok (.aload_n 0, 1) := dk_42 (dk_at dksJ20_fill_0 0 rfl rfl)
theorem dJ20_fill_1 : decode cJ20_fill 1 = .ok (.arraylength, 1) := dk_190 (dk_at dksJ20_fill_0 1 rfl rfl)
theorem dJ20_fill_2 : decode cJ20_fill 2 = .ok (.iload_n 1, 1) := dk_27 (dk_at dksJ20_fill_0 2 rfl rfl)
theorem dJ20_fill_3 : decode cJ20_fill 3 = .ok (.iload_n 2, 1) := dk_28 (dk_at dksJ20_fill_0 3 rfl rfl)
theorem dJ20_fill_4 : decode cJ20_fill 4 = .ok (.invokestatic 13, 3) := dk_184 0 13 (dk_at dksJ20_fill_0 4 rfl rfl)
theorem dJ20_fill_7 : decode cJ20_fill 7 = .ok (.iload_n 1, 1) := dk_27 (dk_at dksJ20_fill_0 7 rfl rfl)
theorem dJ20_fill_8 : decode cJ20_fill 8 = .ok (.istore 4, 2) := dk_54 4 (dk_at dksJ20_fill_0 8 rfl rfl)
theorem dJ20_fill_10 : decode cJ20_fill 10 = .ok (.iload 4, 2) := dk_21 4 (dk_at dksJ20_fill_0 10 rfl rfl)
theorem dJ20_fill_12 : decode cJ20_fill 12 = .ok (.iload_n 2, 1) := dk_28 (dk_at dksJ20_fill_0 12 rfl rfl)
theorem dJ20_fill_13 : decode cJ20_fill 13 = .ok (.if_icmp .ge 14, 3) := dk_162 0 14 (dk_at dksJ20_fill_0 13 rfl rfl)
theorem dJ20_fill_16 : decode cJ20_fill 16 = .ok (.aload_n 0, 1) := dk_42 (dk_at dksJ20_fill_0 16 rfl rfl)
theorem dJ20_fill_17 : decode cJ20_fill 17 = .ok (.iload 4, 2) := dk_21 4 (dk_at dksJ20_fill_0 17 rfl rfl)
theorem dJ20_fill_19 : decode cJ20_fill 19 = .ok (.iload_n 3, 1) := dk_29 (dk_at dksJ20_fill_0 19 rfl rfl)
theorem dJ20_fill_20 : decode cJ20_fill 20 = .ok (.bastore, 1) := dk_84 (dk_at dksJ20_fill_0 20 rfl rfl)
theorem dJ20_fill_21 : decode cJ20_fill 21 = .ok (.iinc 4 1, 3) := dk_132 4 1 (dk_at dksJ20_fill_0 21 rfl rfl)
theorem dJ20_fill_24 : decode cJ20_fill 24 = .ok (.goto (-14), 3) := dk_167 255 242 (dk_at dksJ20_fill_1 0 rfl rfl)
theorem dJ20_fill_27 : decode cJ20_fill 27 = .ok (.return_, 1) := dk_177 (dk_at dksJ20_fill_1 3 rfl rfl)
abbrev cJ20_rangeCheck : ByteArray := prog_57_method_30_code
def yJ20_rangeCheck : MethodName := ⟨RJ20, "rangeCheck", "(III)V"⟩
def dkwJ20_rangeCheck_3 : List UInt8 := [183, 0, 70, 191, 177]
abbrev dktJ20_rangeCheck_3 : List UInt8 := dkwJ20_rangeCheck_3 ++ []
def dkwJ20_rangeCheck_2 : List UInt8 := [27, 156, 0, 12, 187, 0, 68, 89, 27, 183, 0, 70, 191, 28, 26, 164, 0, 12, 187, 0, 68, 89, 28]
abbrev dktJ20_rangeCheck_2 : List UInt8 := dkwJ20_rangeCheck_2 ++ dktJ20_rangeCheck_3
def dkwJ20_rangeCheck_1 : List UInt8 := [182, 0, 54, 18, 57, 182, 0, 50, 28, 182, 0, 54, 18, 59, 182, 0, 50, 182, 0, 61, 183, 0, 65, 191]
abbrev dktJ20_rangeCheck_1 : List UInt8 := dkwJ20_rangeCheck_1 ++ dktJ20_rangeCheck_2
def dkwJ20_rangeCheck_0 : List UInt8 := [27, 28, 164, 0, 44, 187, 0, 43, 89, 187, 0, 45, 89, 183, 0, 47, 18, 48, 182, 0, 50, 27]
abbrev dktJ20_rangeCheck_0 : List UInt8 := dkwJ20_rangeCheck_0 ++ dktJ20_rangeCheck_1
theorem dksJ20_rangeCheck_0 : cJ20_rangeCheck.data.toList.drop 0 = dktJ20_rangeCheck_0 := by decide +kernel
theorem dksJ20_rangeCheck_1 : cJ20_rangeCheck.data.toList.drop 22 = dktJ20_rangeCheck_1 := dk_seg dksJ20_rangeCheck_0 22 rfl rfl
theorem dksJ20_rangeCheck_2 : cJ20_rangeCheck.data.toList.drop 46 = dktJ20_rangeCheck_2 := dk_seg dksJ20_rangeCheck_1 24 rfl rfl
theorem dksJ20_rangeCheck_3 : cJ20_rangeCheck.data.toList.drop 69 = dktJ20_rangeCheck_3 := dk_seg dksJ20_rangeCheck_2 23 rfl rfl
theorem dJ20_rangeCheck_0 : decode cJ20_rangeCheck 0 = .ok (.iload_n 1, 1) := dk_27 (dk_at dksJ20_rangeCheck_0 0 rfl rfl)
theorem dJ20_rangeCheck_1 : decode cJ20_rangeCheck 1 = .ok (.iload_n 2, 1) := dk_28 (dk_at dksJ20_rangeCheck_0 1 rfl rfl)
theorem dJ20_rangeCheck_2 : decode cJ20_rangeCheck 2 = .ok (.if_icmp .le 44, 3) := dk_164 0 44 (dk_at dksJ20_rangeCheck_0 2 rfl rfl)
theorem dJ20_rangeCheck_5 : decode cJ20_rangeCheck 5 = .ok (.new 43, 3) := dk_187 0 43 (dk_at dksJ20_rangeCheck_0 5 rfl rfl)
theorem dJ20_rangeCheck_8 : decode cJ20_rangeCheck 8 = .ok (.dup, 1) := dk_89 (dk_at dksJ20_rangeCheck_0 8 rfl rfl)
theorem dJ20_rangeCheck_9 : decode cJ20_rangeCheck 9 = .ok (.new 45, 3) := dk_187 0 45 (dk_at dksJ20_rangeCheck_0 9 rfl rfl)
theorem dJ20_rangeCheck_12 : decode cJ20_rangeCheck 12 = .ok (.dup, 1) := dk_89 (dk_at dksJ20_rangeCheck_0 12 rfl rfl)
theorem dJ20_rangeCheck_13 : decode cJ20_rangeCheck 13 = .ok (.invokespecial 47, 3) := dk_183 0 47 (dk_at dksJ20_rangeCheck_0 13 rfl rfl)
theorem dJ20_rangeCheck_16 : decode cJ20_rangeCheck 16 = .ok (.ldc 48, 2) := dk_18 48 (dk_at dksJ20_rangeCheck_0 16 rfl rfl)
theorem dJ20_rangeCheck_18 : decode cJ20_rangeCheck 18 = .ok (.invokevirtual 50, 3) := dk_182 0 50 (dk_at dksJ20_rangeCheck_0 18 rfl rfl)
theorem dJ20_rangeCheck_21 : decode cJ20_rangeCheck 21 = .ok (.iload_n 1, 1) := dk_27 (dk_at dksJ20_rangeCheck_0 21 rfl rfl)
theorem dJ20_rangeCheck_22 : decode cJ20_rangeCheck 22 = .ok (.invokevirtual 54, 3) := dk_182 0 54 (dk_at dksJ20_rangeCheck_1 0 rfl rfl)
theorem dJ20_rangeCheck_25 : decode cJ20_rangeCheck 25 = .ok (.ldc 57, 2) := dk_18 57 (dk_at dksJ20_rangeCheck_1 3 rfl rfl)
theorem dJ20_rangeCheck_27 : decode cJ20_rangeCheck 27 = .ok (.invokevirtual 50, 3) := dk_182 0 50 (dk_at dksJ20_rangeCheck_1 5 rfl rfl)
theorem dJ20_rangeCheck_30 : decode cJ20_rangeCheck 30 = .ok (.iload_n 2, 1) := dk_28 (dk_at dksJ20_rangeCheck_1 8 rfl rfl)
theorem dJ20_rangeCheck_31 : decode cJ20_rangeCheck 31 = .ok (.invokevirtual 54, 3) := dk_182 0 54 (dk_at dksJ20_rangeCheck_1 9 rfl rfl)
theorem dJ20_rangeCheck_34 : decode cJ20_rangeCheck 34 = .ok (.ldc 59, 2) := dk_18 59 (dk_at dksJ20_rangeCheck_1 12 rfl rfl)
theorem dJ20_rangeCheck_36 : decode cJ20_rangeCheck 36 = .ok (.invokevirtual 50, 3) := dk_182 0 50 (dk_at dksJ20_rangeCheck_1 14 rfl rfl)
theorem dJ20_rangeCheck_39 : decode cJ20_rangeCheck 39 = .ok (.invokevirtual 61, 3) := dk_182 0 61 (dk_at dksJ20_rangeCheck_1 17 rfl rfl)
theorem dJ20_rangeCheck_42 : decode cJ20_rangeCheck 42 = .ok (.invokespecial 65, 3) := dk_183 0 65 (dk_at dksJ20_rangeCheck_1 20 rfl rfl)
theorem dJ20_rangeCheck_45 : decode cJ20_rangeCheck 45 = .ok (.athrow, 1) := dk_191 (dk_at dksJ20_rangeCheck_1 23 rfl rfl)
theorem dJ20_rangeCheck_46 : decode cJ20_rangeCheck 46 = .ok (.iload_n 1, 1) := dk_27 (dk_at dksJ20_rangeCheck_2 0 rfl rfl)
theorem dJ20_rangeCheck_47 : decode cJ20_rangeCheck 47 = .ok (.ifCond .ge 12, 3) := dk_156 0 12 (dk_at dksJ20_rangeCheck_2 1 rfl rfl)
theorem dJ20_rangeCheck_50 : decode cJ20_rangeCheck 50 = .ok (.new 68, 3) := dk_187 0 68 (dk_at dksJ20_rangeCheck_2 4 rfl rfl)
theorem dJ20_rangeCheck_53 : decode cJ20_rangeCheck 53 = .ok (.dup, 1) := dk_89 (dk_at dksJ20_rangeCheck_2 7 rfl rfl)
theorem dJ20_rangeCheck_54 : decode cJ20_rangeCheck 54 = .ok (.iload_n 1, 1) := dk_27 (dk_at dksJ20_rangeCheck_2 8 rfl rfl)
theorem dJ20_rangeCheck_55 : decode cJ20_rangeCheck 55 = .ok (.invokespecial 70, 3) := dk_183 0 70 (dk_at dksJ20_rangeCheck_2 9 rfl rfl)
theorem dJ20_rangeCheck_58 : decode cJ20_rangeCheck 58 = .ok (.athrow, 1) := dk_191 (dk_at dksJ20_rangeCheck_2 12 rfl rfl)
theorem dJ20_rangeCheck_59 : decode cJ20_rangeCheck 59 = .ok (.iload_n 2, 1) := dk_28 (dk_at dksJ20_rangeCheck_2 13 rfl rfl)
theorem dJ20_rangeCheck_60 : decode cJ20_rangeCheck 60 = .ok (.iload_n 0, 1) := dk_26 (dk_at dksJ20_rangeCheck_2 14 rfl rfl)
theorem dJ20_rangeCheck_61 : decode cJ20_rangeCheck 61 = .ok (.if_icmp .le 12, 3) := dk_164 0 12 (dk_at dksJ20_rangeCheck_2 15 rfl rfl)
theorem dJ20_rangeCheck_64 : decode cJ20_rangeCheck 64 = .ok (.new 68, 3) := dk_187 0 68 (dk_at dksJ20_rangeCheck_2 18 rfl rfl)
theorem dJ20_rangeCheck_67 : decode cJ20_rangeCheck 67 = .ok (.dup, 1) := dk_89 (dk_at dksJ20_rangeCheck_2 21 rfl rfl)
theorem dJ20_rangeCheck_68 : decode cJ20_rangeCheck 68 = .ok (.iload_n 2, 1) := dk_28 (dk_at dksJ20_rangeCheck_2 22 rfl rfl)
theorem dJ20_rangeCheck_69 : decode cJ20_rangeCheck 69 = .ok (.invokespecial 70, 3) := dk_183 0 70 (dk_at dksJ20_rangeCheck_3 0 rfl rfl)
theorem dJ20_rangeCheck_72 : decode cJ20_rangeCheck 72 = .ok (.athrow, 1) := dk_191 (dk_at dksJ20_rangeCheck_3 3 rfl rfl)
theorem dJ20_rangeCheck_73 : decode cJ20_rangeCheck 73 = .ok (.return_, 1) := dk_177 (dk_at dksJ20_rangeCheck_3 4 rfl rfl)
abbrev cJ20_copyOf_2 : ByteArray := prog_57_method_119_code
def yJ20_copyOf_2 : MethodName := ⟨RJ20, "copyOf", "([Ljava/lang/Object;I)[Ljava/lang/Object;"⟩
def dkwJ20_copyOf_2_0 : List UInt8 := [42, 27, 42, 182, 0, 86, 184, 1, 44, 176]
abbrev dktJ20_copyOf_2_0 : List UInt8 := dkwJ20_copyOf_2_0 ++ []
theorem dksJ20_copyOf_2_0 : cJ20_copyOf_2.data.toList.drop 0 = dktJ20_copyOf_2_0 := by decide +kernel
theorem dJ20_copyOf_2_0 : decode cJ20_copyOf_2 0 = .ok (.aload_n 0, 1) := dk_42 (dk_at dksJ20_copyOf_2_0 0 rfl rfl)
theorem dJ20_copyOf_2_1 : decode cJ20_copyOf_2 1 = .ok (.iload_n 1, 1) := dk_27 (dk_at dksJ20_copyOf_2_0 1 rfl rfl)
theorem dJ20_copyOf_2_2 : decode cJ20_copyOf_2 2 = .ok (.aload_n 0, 1) := dk_42 (dk_at dksJ20_copyOf_2_0 2 rfl rfl)
theorem dJ20_copyOf_2_3 : decode cJ20_copyOf_2 3 = .ok (.invokevirtual 86, 3) := dk_182 0 86 (dk_at dksJ20_copyOf_2_0 3 rfl rfl)
theorem dJ20_copyOf_2_6 : decode cJ20_copyOf_2 6 = .ok (.invokestatic 300, 3) := dk_184 1 44 (dk_at dksJ20_copyOf_2_0 6 rfl rfl)
theorem dJ20_copyOf_2_9 : decode cJ20_copyOf_2 9 = .ok (.areturn, 1) := dk_176 (dk_at dksJ20_copyOf_2_0 9 rfl rfl)
abbrev cJ20_copyOf_3 : ByteArray := prog_57_method_120_code
def yJ20_copyOf_3 : MethodName := ⟨RJ20, "copyOf", "([Ljava/lang/Object;ILjava/lang/Class;)[Ljava/lang/Object;"⟩
def dkwJ20_copyOf_3_1 : List UInt8 := [78, 42, 3, 45, 3, 42, 190, 27, 184, 1, 48, 184, 0, 150, 45, 176]
abbrev dktJ20_copyOf_3_1 : List UInt8 := dkwJ20_copyOf_3_1 ++ []
def dkwJ20_copyOf_3_0 : List UInt8 := [44, 18, 110, 166, 0, 10, 27, 189, 0, 2, 167, 0, 14, 44, 182, 0, 90, 27, 184, 0, 95, 192, 0, 110]
abbrev dktJ20_copyOf_3_0 : List UInt8 := dkwJ20_copyOf_3_0 ++ dktJ20_copyOf_3_1
theorem dksJ20_copyOf_3_0 : cJ20_copyOf_3.data.toList.drop 0 = dktJ20_copyOf_3_0 := by decide +kernel
theorem dksJ20_copyOf_3_1 : cJ20_copyOf_3.data.toList.drop 24 = dktJ20_copyOf_3_1 := dk_seg dksJ20_copyOf_3_0 24 rfl rfl
theorem dJ20_copyOf_3_0 : decode cJ20_copyOf_3 0 = .ok (.aload_n 2, 1) := dk_44 (dk_at dksJ20_copyOf_3_0 0 rfl rfl)
theorem dJ20_copyOf_3_1 : decode cJ20_copyOf_3 1 = .ok (.ldc 110, 2) := dk_18 110 (dk_at dksJ20_copyOf_3_0 1 rfl rfl)
theorem dJ20_copyOf_3_3 : decode cJ20_copyOf_3 3 = .ok (.if_acmp .ne 10, 3) := dk_166 0 10 (dk_at dksJ20_copyOf_3_0 3 rfl rfl)
theorem dJ20_copyOf_3_6 : decode cJ20_copyOf_3 6 = .ok (.iload_n 1, 1) := dk_27 (dk_at dksJ20_copyOf_3_0 6 rfl rfl)
theorem dJ20_copyOf_3_7 : decode cJ20_copyOf_3 7 = .ok (.anewarray 2, 3) := dk_189 0 2 (dk_at dksJ20_copyOf_3_0 7 rfl rfl)
theorem dJ20_copyOf_3_10 : decode cJ20_copyOf_3 10 = .ok (.goto 14, 3) := dk_167 0 14 (dk_at dksJ20_copyOf_3_0 10 rfl rfl)
theorem dJ20_copyOf_3_13 : decode cJ20_copyOf_3 13 = .ok (.aload_n 2, 1) := dk_44 (dk_at dksJ20_copyOf_3_0 13 rfl rfl)
theorem dJ20_copyOf_3_14 : decode cJ20_copyOf_3 14 = .ok (.invokevirtual 90, 3) := dk_182 0 90 (dk_at dksJ20_copyOf_3_0 14 rfl rfl)
theorem dJ20_copyOf_3_17 : decode cJ20_copyOf_3 17 = .ok (.iload_n 1, 1) := dk_27 (dk_at dksJ20_copyOf_3_0 17 rfl rfl)
theorem dJ20_copyOf_3_18 : decode cJ20_copyOf_3 18 = .ok (.invokestatic 95, 3) := dk_184 0 95 (dk_at dksJ20_copyOf_3_0 18 rfl rfl)
theorem dJ20_copyOf_3_21 : decode cJ20_copyOf_3 21 = .ok (.checkcast 110, 3) := dk_192 0 110 (dk_at dksJ20_copyOf_3_0 21 rfl rfl)
theorem dJ20_copyOf_3_24 : decode cJ20_copyOf_3 24 = .ok (.astore_n 3, 1) := dk_78 (dk_at dksJ20_copyOf_3_1 0 rfl rfl)
theorem dJ20_copyOf_3_25 : decode cJ20_copyOf_3 25 = .ok (.aload_n 0, 1) := dk_42 (dk_at dksJ20_copyOf_3_1 1 rfl rfl)
theorem dJ20_copyOf_3_26 : decode cJ20_copyOf_3 26 = .ok (.iconst 0, 1) := dk_3 (dk_at dksJ20_copyOf_3_1 2 rfl rfl)
theorem dJ20_copyOf_3_27 : decode cJ20_copyOf_3 27 = .ok (.aload_n 3, 1) := dk_45 (dk_at dksJ20_copyOf_3_1 3 rfl rfl)
theorem dJ20_copyOf_3_28 : decode cJ20_copyOf_3 28 = .ok (.iconst 0, 1) := dk_3 (dk_at dksJ20_copyOf_3_1 4 rfl rfl)
theorem dJ20_copyOf_3_29 : decode cJ20_copyOf_3 29 = .ok (.aload_n 0, 1) := dk_42 (dk_at dksJ20_copyOf_3_1 5 rfl rfl)
theorem dJ20_copyOf_3_30 : decode cJ20_copyOf_3 30 = .ok (.arraylength, 1) := dk_190 (dk_at dksJ20_copyOf_3_1 6 rfl rfl)
theorem dJ20_copyOf_3_31 : decode cJ20_copyOf_3 31 = .ok (.iload_n 1, 1) := dk_27 (dk_at dksJ20_copyOf_3_1 7 rfl rfl)
theorem dJ20_copyOf_3_32 : decode cJ20_copyOf_3 32 = .ok (.invokestatic 304, 3) := dk_184 1 48 (dk_at dksJ20_copyOf_3_1 8 rfl rfl)
theorem dJ20_copyOf_3_35 : decode cJ20_copyOf_3 35 = .ok (.invokestatic 150, 3) := dk_184 0 150 (dk_at dksJ20_copyOf_3_1 11 rfl rfl)
theorem dJ20_copyOf_3_38 : decode cJ20_copyOf_3 38 = .ok (.aload_n 3, 1) := dk_45 (dk_at dksJ20_copyOf_3_1 14 rfl rfl)
theorem dJ20_copyOf_3_39 : decode cJ20_copyOf_3 39 = .ok (.areturn, 1) := dk_176 (dk_at dksJ20_copyOf_3_1 15 rfl rfl)
abbrev cJ20_copyOf_4 : ByteArray := prog_57_method_124_code
def yJ20_copyOf_4 : MethodName := ⟨RJ20, "copyOf", "([JI)[J"⟩
def dkwJ20_copyOf_4_1 : List UInt8 := [27, 184, 1, 48, 184, 0, 150, 44, 176]
abbrev dktJ20_copyOf_4_1 : List UInt8 := dkwJ20_copyOf_4_1 ++ []
def dkwJ20_copyOf_4_0 : List UInt8 := [27, 42, 190, 160, 0, 11, 42, 182, 1, 63, 192, 1, 64, 176, 27, 188, 11, 77, 42, 3, 44, 3, 42, 190]
abbrev dktJ20_copyOf_4_0 : List UInt8 := dkwJ20_copyOf_4_0 ++ dktJ20_copyOf_4_1
theorem dksJ20_copyOf_4_0 : cJ20_copyOf_4.data.toList.drop 0 = dktJ20_copyOf_4_0 := by decide +kernel
theorem dksJ20_copyOf_4_1 : cJ20_copyOf_4.data.toList.drop 24 = dktJ20_copyOf_4_1 := dk_seg dksJ20_copyOf_4_0 24 rfl rfl
theorem dJ20_copyOf_4_0 : decode cJ20_copyOf_4 0 = .ok (.iload_n 1, 1) := dk_27 (dk_at dksJ20_copyOf_4_0 0 rfl rfl)
theorem dJ20_copyOf_4_1 : decode cJ20_copyOf_4 1 = .ok (.aload_n 0, 1) := dk_42 (dk_at dksJ20_copyOf_4_0 1 rfl rfl)
theorem dJ20_copyOf_4_2 : decode cJ20_copyOf_4 2 = .ok (.arraylength, 1) := dk_190 (dk_at dksJ20_copyOf_4_0 2 rfl rfl)
theorem dJ20_copyOf_4_3 : decode cJ20_copyOf_4 3 = .ok (.if_icmp .ne 11, 3) := dk_160 0 11 (dk_at dksJ20_copyOf_4_0 3 rfl rfl)
theorem dJ20_copyOf_4_6 : decode cJ20_copyOf_4 6 = .ok (.aload_n 0, 1) := dk_42 (dk_at dksJ20_copyOf_4_0 6 rfl rfl)
theorem dJ20_copyOf_4_7 : decode cJ20_copyOf_4 7 = .ok (.invokevirtual 319, 3) := dk_182 1 63 (dk_at dksJ20_copyOf_4_0 7 rfl rfl)
theorem dJ20_copyOf_4_10 : decode cJ20_copyOf_4 10 = .ok (.checkcast 320, 3) := dk_192 1 64 (dk_at dksJ20_copyOf_4_0 10 rfl rfl)
theorem dJ20_copyOf_4_13 : decode cJ20_copyOf_4 13 = .ok (.areturn, 1) := dk_176 (dk_at dksJ20_copyOf_4_0 13 rfl rfl)
theorem dJ20_copyOf_4_14 : decode cJ20_copyOf_4 14 = .ok (.iload_n 1, 1) := dk_27 (dk_at dksJ20_copyOf_4_0 14 rfl rfl)
theorem dJ20_copyOf_4_15 : decode cJ20_copyOf_4 15 = .ok (.newarray .long, 2) := dk_188_11 (dk_at dksJ20_copyOf_4_0 15 rfl rfl)
theorem dJ20_copyOf_4_17 : decode cJ20_copyOf_4 17 = .ok (.astore_n 2, 1) := dk_77 (dk_at dksJ20_copyOf_4_0 17 rfl rfl)
theorem dJ20_copyOf_4_18 : decode cJ20_copyOf_4 18 = .ok (.aload_n 0, 1) := dk_42 (dk_at dksJ20_copyOf_4_0 18 rfl rfl)
theorem dJ20_copyOf_4_19 : decode cJ20_copyOf_4 19 = .ok (.iconst 0, 1) := dk_3 (dk_at dksJ20_copyOf_4_0 19 rfl rfl)
theorem dJ20_copyOf_4_20 : decode cJ20_copyOf_4 20 = .ok (.aload_n 2, 1) := dk_44 (dk_at dksJ20_copyOf_4_0 20 rfl rfl)
theorem dJ20_copyOf_4_21 : decode cJ20_copyOf_4 21 = .ok (.iconst 0, 1) := dk_3 (dk_at dksJ20_copyOf_4_0 21 rfl rfl)
theorem dJ20_copyOf_4_22 : decode cJ20_copyOf_4 22 = .ok (.aload_n 0, 1) := dk_42 (dk_at dksJ20_copyOf_4_0 22 rfl rfl)
theorem dJ20_copyOf_4_23 : decode cJ20_copyOf_4 23 = .ok (.arraylength, 1) := dk_190 (dk_at dksJ20_copyOf_4_0 23 rfl rfl)
theorem dJ20_copyOf_4_24 : decode cJ20_copyOf_4 24 = .ok (.iload_n 1, 1) := dk_27 (dk_at dksJ20_copyOf_4_1 0 rfl rfl)
theorem dJ20_copyOf_4_25 : decode cJ20_copyOf_4 25 = .ok (.invokestatic 304, 3) := dk_184 1 48 (dk_at dksJ20_copyOf_4_1 1 rfl rfl)
theorem dJ20_copyOf_4_28 : decode cJ20_copyOf_4 28 = .ok (.invokestatic 150, 3) := dk_184 0 150 (dk_at dksJ20_copyOf_4_1 4 rfl rfl)
theorem dJ20_copyOf_4_31 : decode cJ20_copyOf_4 31 = .ok (.aload_n 2, 1) := dk_44 (dk_at dksJ20_copyOf_4_1 7 rfl rfl)
theorem dJ20_copyOf_4_32 : decode cJ20_copyOf_4 32 = .ok (.areturn, 1) := dk_176 (dk_at dksJ20_copyOf_4_1 8 rfl rfl)
abbrev cJ20_sort : ByteArray := prog_57_method_43_code
def yJ20_sort : MethodName := ⟨RJ20, "sort", "([Ljava/lang/Object;IILjava/util/Comparator;)V"⟩
def dkwJ20_sort_1 : List UInt8 := [153, 0, 13, 42, 27, 28, 45, 184, 0, 166, 167, 0, 13, 42, 27, 28, 45, 1, 3, 3, 184, 0, 79, 177]
abbrev dktJ20_sort_1 : List UInt8 := dkwJ20_sort_1 ++ []
def dkwJ20_sort_0 : List UInt8 := [45, 199, 0, 12, 42, 27, 28, 184, 0, 164, 167, 0, 36, 42, 190, 27, 28, 184, 0, 13, 178, 0, 112]
abbrev dktJ20_sort_0 : List UInt8 := dkwJ20_sort_0 ++ dktJ20_sort_1
theorem dksJ20_sort_0 : cJ20_sort.data.toList.drop 0 = dktJ20_sort_0 := by decide +kernel
theorem dksJ20_sort_1 : cJ20_sort.data.toList.drop 23 = dktJ20_sort_1 := dk_seg dksJ20_sort_0 23 rfl rfl
theorem dJ20_sort_0 : decode cJ20_sort 0 = .ok (.aload_n 3, 1) := dk_45 (dk_at dksJ20_sort_0 0 rfl rfl)
theorem dJ20_sort_1 : decode cJ20_sort 1 = .ok (.ifnonnull 12, 3) := dk_199 0 12 (dk_at dksJ20_sort_0 1 rfl rfl)
theorem dJ20_sort_4 : decode cJ20_sort 4 = .ok (.aload_n 0, 1) := dk_42 (dk_at dksJ20_sort_0 4 rfl rfl)
theorem dJ20_sort_5 : decode cJ20_sort 5 = .ok (.iload_n 1, 1) := dk_27 (dk_at dksJ20_sort_0 5 rfl rfl)
theorem dJ20_sort_6 : decode cJ20_sort 6 = .ok (.iload_n 2, 1) := dk_28 (dk_at dksJ20_sort_0 6 rfl rfl)
theorem dJ20_sort_7 : decode cJ20_sort 7 = .ok (.invokestatic 164, 3) := dk_184 0 164 (dk_at dksJ20_sort_0 7 rfl rfl)
theorem dJ20_sort_10 : decode cJ20_sort 10 = .ok (.goto 36, 3) := dk_167 0 36 (dk_at dksJ20_sort_0 10 rfl rfl)
theorem dJ20_sort_13 : decode cJ20_sort 13 = .ok (.aload_n 0, 1) := dk_42 (dk_at dksJ20_sort_0 13 rfl rfl)
theorem dJ20_sort_14 : decode cJ20_sort 14 = .ok (.arraylength, 1) := dk_190 (dk_at dksJ20_sort_0 14 rfl rfl)
theorem dJ20_sort_15 : decode cJ20_sort 15 = .ok (.iload_n 1, 1) := dk_27 (dk_at dksJ20_sort_0 15 rfl rfl)
theorem dJ20_sort_16 : decode cJ20_sort 16 = .ok (.iload_n 2, 1) := dk_28 (dk_at dksJ20_sort_0 16 rfl rfl)
theorem dJ20_sort_17 : decode cJ20_sort 17 = .ok (.invokestatic 13, 3) := dk_184 0 13 (dk_at dksJ20_sort_0 17 rfl rfl)
theorem dJ20_sort_20 : decode cJ20_sort 20 = .ok (.getstatic 112, 3) := dk_178 0 112 (dk_at dksJ20_sort_0 20 rfl rfl)
theorem dJ20_sort_23 : decode cJ20_sort 23 = .ok (.ifCond .eq 13, 3) := dk_153 0 13 (dk_at dksJ20_sort_1 0 rfl rfl)
theorem dJ20_sort_26 : decode cJ20_sort 26 = .ok (.aload_n 0, 1) := dk_42 (dk_at dksJ20_sort_1 3 rfl rfl)
theorem dJ20_sort_27 : decode cJ20_sort 27 = .ok (.iload_n 1, 1) := dk_27 (dk_at dksJ20_sort_1 4 rfl rfl)
theorem dJ20_sort_28 : decode cJ20_sort 28 = .ok (.iload_n 2, 1) := dk_28 (dk_at dksJ20_sort_1 5 rfl rfl)
theorem dJ20_sort_29 : decode cJ20_sort 29 = .ok (.aload_n 3, 1) := dk_45 (dk_at dksJ20_sort_1 6 rfl rfl)
theorem dJ20_sort_30 : decode cJ20_sort 30 = .ok (.invokestatic 166, 3) := dk_184 0 166 (dk_at dksJ20_sort_1 7 rfl rfl)
theorem dJ20_sort_33 : decode cJ20_sort 33 = .ok (.goto 13, 3) := dk_167 0 13 (dk_at dksJ20_sort_1 10 rfl rfl)
theorem dJ20_sort_36 : decode cJ20_sort 36 = .ok (.aload_n 0, 1) := dk_42 (dk_at dksJ20_sort_1 13 rfl rfl)
theorem dJ20_sort_37 : decode cJ20_sort 37 = .ok (.iload_n 1, 1) := dk_27 (dk_at dksJ20_sort_1 14 rfl rfl)
theorem dJ20_sort_38 : decode cJ20_sort 38 = .ok (.iload_n 2, 1) := dk_28 (dk_at dksJ20_sort_1 15 rfl rfl)
theorem dJ20_sort_39 : decode cJ20_sort 39 = .ok (.aload_n 3, 1) := dk_45 (dk_at dksJ20_sort_1 16 rfl rfl)
theorem dJ20_sort_40 : decode cJ20_sort 40 = .ok (.aconst_null, 1) := dk_1 (dk_at dksJ20_sort_1 17 rfl rfl)
theorem dJ20_sort_41 : decode cJ20_sort 41 = .ok (.iconst 0, 1) := dk_3 (dk_at dksJ20_sort_1 18 rfl rfl)
theorem dJ20_sort_42 : decode cJ20_sort 42 = .ok (.iconst 0, 1) := dk_3 (dk_at dksJ20_sort_1 19 rfl rfl)
theorem dJ20_sort_43 : decode cJ20_sort 43 = .ok (.invokestatic 79, 3) := dk_184 0 79 (dk_at dksJ20_sort_1 20 rfl rfl)
theorem dJ20_sort_46 : decode cJ20_sort 46 = .ok (.return_, 1) := dk_177 (dk_at dksJ20_sort_1 23 rfl rfl)
abbrev cJ20_sort_2 : ByteArray := prog_57_method_37_code
def yJ20_sort_2 : MethodName := ⟨RJ20, "sort", "([Ljava/lang/Object;II)V"⟩
def dkwJ20_sort_2_1 : List UInt8 := [28, 1, 3, 3, 184, 0, 122, 177]
abbrev dktJ20_sort_2_1 : List UInt8 := dkwJ20_sort_2_1 ++ []
def dkwJ20_sort_2_0 : List UInt8 := [42, 190, 27, 28, 184, 0, 13, 178, 0, 112, 153, 0, 12, 42, 27, 28, 184, 0, 134, 167, 0, 12, 42, 27]
abbrev dktJ20_sort_2_0 : List UInt8 := dkwJ20_sort_2_0 ++ dktJ20_sort_2_1
theorem dksJ20_sort_2_0 : cJ20_sort_2.data.toList.drop 0 = dktJ20_sort_2_0 := by decide +kernel
theorem dksJ20_sort_2_1 : cJ20_sort_2.data.toList.drop 24 = dktJ20_sort_2_1 := dk_seg dksJ20_sort_2_0 24 rfl rfl
theorem dJ20_sort_2_0 : decode cJ20_sort_2 0 = .ok (.aload_n 0, 1) := dk_42 (dk_at dksJ20_sort_2_0 0 rfl rfl)
theorem dJ20_sort_2_1 : decode cJ20_sort_2 1 = .ok (.arraylength, 1) := dk_190 (dk_at dksJ20_sort_2_0 1 rfl rfl)
theorem dJ20_sort_2_2 : decode cJ20_sort_2 2 = .ok (.iload_n 1, 1) := dk_27 (dk_at dksJ20_sort_2_0 2 rfl rfl)
theorem dJ20_sort_2_3 : decode cJ20_sort_2 3 = .ok (.iload_n 2, 1) := dk_28 (dk_at dksJ20_sort_2_0 3 rfl rfl)
theorem dJ20_sort_2_4 : decode cJ20_sort_2 4 = .ok (.invokestatic 13, 3) := dk_184 0 13 (dk_at dksJ20_sort_2_0 4 rfl rfl)
theorem dJ20_sort_2_7 : decode cJ20_sort_2 7 = .ok (.getstatic 112, 3) := dk_178 0 112 (dk_at dksJ20_sort_2_0 7 rfl rfl)
theorem dJ20_sort_2_10 : decode cJ20_sort_2 10 = .ok (.ifCond .eq 12, 3) := dk_153 0 12 (dk_at dksJ20_sort_2_0 10 rfl rfl)
theorem dJ20_sort_2_13 : decode cJ20_sort_2 13 = .ok (.aload_n 0, 1) := dk_42 (dk_at dksJ20_sort_2_0 13 rfl rfl)
theorem dJ20_sort_2_14 : decode cJ20_sort_2 14 = .ok (.iload_n 1, 1) := dk_27 (dk_at dksJ20_sort_2_0 14 rfl rfl)
theorem dJ20_sort_2_15 : decode cJ20_sort_2 15 = .ok (.iload_n 2, 1) := dk_28 (dk_at dksJ20_sort_2_0 15 rfl rfl)
theorem dJ20_sort_2_16 : decode cJ20_sort_2 16 = .ok (.invokestatic 134, 3) := dk_184 0 134 (dk_at dksJ20_sort_2_0 16 rfl rfl)
theorem dJ20_sort_2_19 : decode cJ20_sort_2 19 = .ok (.goto 12, 3) := dk_167 0 12 (dk_at dksJ20_sort_2_0 19 rfl rfl)
theorem dJ20_sort_2_22 : decode cJ20_sort_2 22 = .ok (.aload_n 0, 1) := dk_42 (dk_at dksJ20_sort_2_0 22 rfl rfl)
theorem dJ20_sort_2_23 : decode cJ20_sort_2 23 = .ok (.iload_n 1, 1) := dk_27 (dk_at dksJ20_sort_2_0 23 rfl rfl)
theorem dJ20_sort_2_24 : decode cJ20_sort_2 24 = .ok (.iload_n 2, 1) := dk_28 (dk_at dksJ20_sort_2_1 0 rfl rfl)
theorem dJ20_sort_2_25 : decode cJ20_sort_2 25 = .ok (.aconst_null, 1) := dk_1 (dk_at dksJ20_sort_2_1 1 rfl rfl)
theorem dJ20_sort_2_26 : decode cJ20_sort_2 26 = .ok (.iconst 0, 1) := dk_3 (dk_at dksJ20_sort_2_1 2 rfl rfl)
theorem dJ20_sort_2_27 : decode cJ20_sort_2 27 = .ok (.iconst 0, 1) := dk_3 (dk_at dksJ20_sort_2_1 3 rfl rfl)
theorem dJ20_sort_2_28 : decode cJ20_sort_2 28 = .ok (.invokestatic 122, 3) := dk_184 0 122 (dk_at dksJ20_sort_2_1 4 rfl rfl)
theorem dJ20_sort_2_31 : decode cJ20_sort_2 31 = .ok (.return_, 1) := dk_177 (dk_at dksJ20_sort_2_1 7 rfl rfl)
abbrev cJ20_fill_2 : ByteArray := prog_57_method_103_code
def yJ20_fill_2 : MethodName := ⟨RJ20, "fill", "([II)V"⟩
def dkwJ20_fill_2_0 : List UInt8 := [3, 61, 42, 190, 62, 28, 29, 162, 0, 13, 42, 28, 27, 79, 132, 2, 1, 167, 255, 244, 177]
abbrev dktJ20_fill_2_0 : List UInt8 := dkwJ20_fill_2_0 ++ []
theorem dksJ20_fill_2_0 : cJ20_fill_2.data.toList.drop 0 = dktJ20_fill_2_0 := by decide +kernel
theorem dJ20_fill_2_0 : decode cJ20_fill_2 0 = .ok (.iconst 0, 1) := dk_3 (dk_at dksJ20_fill_2_0 0 rfl rfl)
theorem dJ20_fill_2_1 : decode cJ20_fill_2 1 = .ok (.istore_n 2, 1) := dk_61 (dk_at dksJ20_fill_2_0 1 rfl rfl)
theorem dJ20_fill_2_2 : decode cJ20_fill_2 2 = .ok (.aload_n 0, 1) := dk_42 (dk_at dksJ20_fill_2_0 2 rfl rfl)
theorem dJ20_fill_2_3 : decode cJ20_fill_2 3 = .ok (.arraylength, 1) := dk_190 (dk_at dksJ20_fill_2_0 3 rfl rfl)
theorem dJ20_fill_2_4 : decode cJ20_fill_2 4 = .ok (.istore_n 3, 1) := dk_62 (dk_at dksJ20_fill_2_0 4 rfl rfl)
theorem dJ20_fill_2_5 : decode cJ20_fill_2 5 = .ok (.iload_n 2, 1) := dk_28 (dk_at dksJ20_fill_2_0 5 rfl rfl)
theorem dJ20_fill_2_6 : decode cJ20_fill_2 6 = .ok (.iload_n 3, 1) := dk_29 (dk_at dksJ20_fill_2_0 6 rfl rfl)
theorem dJ20_fill_2_7 : decode cJ20_fill_2 7 = .ok (.if_icmp .ge 13, 3) := dk_162 0 13 (dk_at dksJ20_fill_2_0 7 rfl rfl)
theorem dJ20_fill_2_10 : decode cJ20_fill_2 10 = .ok (.aload_n 0, 1) := dk_42 (dk_at dksJ20_fill_2_0 10 rfl rfl)
theorem dJ20_fill_2_11 : decode cJ20_fill_2 11 = .ok (.iload_n 2, 1) := dk_28 (dk_at dksJ20_fill_2_0 11 rfl rfl)
theorem dJ20_fill_2_12 : decode cJ20_fill_2 12 = .ok (.iload_n 1, 1) := dk_27 (dk_at dksJ20_fill_2_0 12 rfl rfl)
theorem dJ20_fill_2_13 : decode cJ20_fill_2 13 = .ok (.iastore, 1) := dk_79 (dk_at dksJ20_fill_2_0 13 rfl rfl)
theorem dJ20_fill_2_14 : decode cJ20_fill_2 14 = .ok (.iinc 2 1, 3) := dk_132 2 1 (dk_at dksJ20_fill_2_0 14 rfl rfl)
theorem dJ20_fill_2_17 : decode cJ20_fill_2 17 = .ok (.goto (-12), 3) := dk_167 255 244 (dk_at dksJ20_fill_2_0 17 rfl rfl)
theorem dJ20_fill_2_20 : decode cJ20_fill_2 20 = .ok (.return_, 1) := dk_177 (dk_at dksJ20_fill_2_0 20 rfl rfl)
abbrev cJ20_sort_3 : ByteArray := prog_57_method_2_code
def yJ20_sort_3 : MethodName := ⟨RJ20, "sort", "([I)V"⟩
def dkwJ20_sort_3_0 : List UInt8 := [42, 3, 3, 42, 190, 184, 0, 7, 177]
abbrev dktJ20_sort_3_0 : List UInt8 := dkwJ20_sort_3_0 ++ []
theorem dksJ20_sort_3_0 : cJ20_sort_3.data.toList.drop 0 = dktJ20_sort_3_0 := by decide +kernel
theorem dJ20_sort_3_0 : decode cJ20_sort_3 0 = .ok (.aload_n 0, 1) := dk_42 (dk_at dksJ20_sort_3_0 0 rfl rfl)
theorem dJ20_sort_3_1 : decode cJ20_sort_3 1 = .ok (.iconst 0, 1) := dk_3 (dk_at dksJ20_sort_3_0 1 rfl rfl)
theorem dJ20_sort_3_2 : decode cJ20_sort_3 2 = .ok (.iconst 0, 1) := dk_3 (dk_at dksJ20_sort_3_0 2 rfl rfl)
theorem dJ20_sort_3_3 : decode cJ20_sort_3 3 = .ok (.aload_n 0, 1) := dk_42 (dk_at dksJ20_sort_3_0 3 rfl rfl)
theorem dJ20_sort_3_4 : decode cJ20_sort_3 4 = .ok (.arraylength, 1) := dk_190 (dk_at dksJ20_sort_3_0 4 rfl rfl)
theorem dJ20_sort_3_5 : decode cJ20_sort_3 5 = .ok (.invokestatic 7, 3) := dk_184 0 7 (dk_at dksJ20_sort_3_0 5 rfl rfl)
theorem dJ20_sort_3_8 : decode cJ20_sort_3 8 = .ok (.return_, 1) := dk_177 (dk_at dksJ20_sort_3_0 8 rfl rfl)
abbrev cJ20_copyOf_5 : ByteArray := prog_57_method_123_code
def yJ20_copyOf_5 : MethodName := ⟨RJ20, "copyOf", "([II)[I"⟩
def dkwJ20_copyOf_5_1 : List UInt8 := [27, 184, 1, 48, 184, 0, 150, 44, 176]
abbrev dktJ20_copyOf_5_1 : List UInt8 := dkwJ20_copyOf_5_1 ++ []
def dkwJ20_copyOf_5_0 : List UInt8 := [27, 42, 190, 160, 0, 11, 42, 182, 1, 60, 192, 1, 61, 176, 27, 188, 10, 77, 42, 3, 44, 3, 42, 190]
abbrev dktJ20_copyOf_5_0 : List UInt8 := dkwJ20_copyOf_5_0 ++ dktJ20_copyOf_5_1
theorem dksJ20_copyOf_5_0 : cJ20_copyOf_5.data.toList.drop 0 = dktJ20_copyOf_5_0 := by decide +kernel
theorem dksJ20_copyOf_5_1 : cJ20_copyOf_5.data.toList.drop 24 = dktJ20_copyOf_5_1 := dk_seg dksJ20_copyOf_5_0 24 rfl rfl
theorem dJ20_copyOf_5_0 : decode cJ20_copyOf_5 0 = .ok (.iload_n 1, 1) := dk_27 (dk_at dksJ20_copyOf_5_0 0 rfl rfl)
theorem dJ20_copyOf_5_1 : decode cJ20_copyOf_5 1 = .ok (.aload_n 0, 1) := dk_42 (dk_at dksJ20_copyOf_5_0 1 rfl rfl)
theorem dJ20_copyOf_5_2 : decode cJ20_copyOf_5 2 = .ok (.arraylength, 1) := dk_190 (dk_at dksJ20_copyOf_5_0 2 rfl rfl)
theorem dJ20_copyOf_5_3 : decode cJ20_copyOf_5 3 = .ok (.if_icmp .ne 11, 3) := dk_160 0 11 (dk_at dksJ20_copyOf_5_0 3 rfl rfl)
theorem dJ20_copyOf_5_6 : decode cJ20_copyOf_5 6 = .ok (.aload_n 0, 1) := dk_42 (dk_at dksJ20_copyOf_5_0 6 rfl rfl)
theorem dJ20_copyOf_5_7 : decode cJ20_copyOf_5 7 = .ok (.invokevirtual 316, 3) := dk_182 1 60 (dk_at dksJ20_copyOf_5_0 7 rfl rfl)
theorem dJ20_copyOf_5_10 : decode cJ20_copyOf_5 10 = .ok (.checkcast 317, 3) := dk_192 1 61 (dk_at dksJ20_copyOf_5_0 10 rfl rfl)
theorem dJ20_copyOf_5_13 : decode cJ20_copyOf_5 13 = .ok (.areturn, 1) := dk_176 (dk_at dksJ20_copyOf_5_0 13 rfl rfl)
theorem dJ20_copyOf_5_14 : decode cJ20_copyOf_5 14 = .ok (.iload_n 1, 1) := dk_27 (dk_at dksJ20_copyOf_5_0 14 rfl rfl)
theorem dJ20_copyOf_5_15 : decode cJ20_copyOf_5 15 = .ok (.newarray .int, 2) := dk_188_10 (dk_at dksJ20_copyOf_5_0 15 rfl rfl)
theorem dJ20_copyOf_5_17 : decode cJ20_copyOf_5 17 = .ok (.astore_n 2, 1) := dk_77 (dk_at dksJ20_copyOf_5_0 17 rfl rfl)
theorem dJ20_copyOf_5_18 : decode cJ20_copyOf_5 18 = .ok (.aload_n 0, 1) := dk_42 (dk_at dksJ20_copyOf_5_0 18 rfl rfl)
theorem dJ20_copyOf_5_19 : decode cJ20_copyOf_5 19 = .ok (.iconst 0, 1) := dk_3 (dk_at dksJ20_copyOf_5_0 19 rfl rfl)
theorem dJ20_copyOf_5_20 : decode cJ20_copyOf_5 20 = .ok (.aload_n 2, 1) := dk_44 (dk_at dksJ20_copyOf_5_0 20 rfl rfl)
theorem dJ20_copyOf_5_21 : decode cJ20_copyOf_5 21 = .ok (.iconst 0, 1) := dk_3 (dk_at dksJ20_copyOf_5_0 21 rfl rfl)
theorem dJ20_copyOf_5_22 : decode cJ20_copyOf_5 22 = .ok (.aload_n 0, 1) := dk_42 (dk_at dksJ20_copyOf_5_0 22 rfl rfl)
theorem dJ20_copyOf_5_23 : decode cJ20_copyOf_5 23 = .ok (.arraylength, 1) := dk_190 (dk_at dksJ20_copyOf_5_0 23 rfl rfl)
theorem dJ20_copyOf_5_24 : decode cJ20_copyOf_5 24 = .ok (.iload_n 1, 1) := dk_27 (dk_at dksJ20_copyOf_5_1 0 rfl rfl)
theorem dJ20_copyOf_5_25 : decode cJ20_copyOf_5 25 = .ok (.invokestatic 304, 3) := dk_184 1 48 (dk_at dksJ20_copyOf_5_1 1 rfl rfl)
theorem dJ20_copyOf_5_28 : decode cJ20_copyOf_5 28 = .ok (.invokestatic 150, 3) := dk_184 0 150 (dk_at dksJ20_copyOf_5_1 4 rfl rfl)
theorem dJ20_copyOf_5_31 : decode cJ20_copyOf_5 31 = .ok (.aload_n 2, 1) := dk_44 (dk_at dksJ20_copyOf_5_1 7 rfl rfl)
theorem dJ20_copyOf_5_32 : decode cJ20_copyOf_5 32 = .ok (.areturn, 1) := dk_176 (dk_at dksJ20_copyOf_5_1 8 rfl rfl)
theorem q145 : (Jvm.Cond.initialized "java/util/Arrays") ∈ lw_all := lw_g (lw_at lw_m1 23 rfl) rfl
theorem q394 : (Jvm.Cond.static ({ cls := "java/util/Arrays", name := "copyOf", desc := "([BI)[B" } : Jvm.MethodName)) ∈ lw_all := lw_g (lw_at lw_m2 32 rfl) rfl
theorem q395 : (Jvm.Cond.code ({ cls := "java/util/Arrays", name := "copyOf", desc := "([BI)[B" } : Jvm.MethodName) prog_57_method_121_code (3 : Nat) (Option.some (Jvm.ClassFile.FieldType.array Jvm.ClassFile.FieldType.byte))) ∈ lw_all := lw_g (lw_at lw_m2 33 rfl) rfl
theorem q396 : (Jvm.Cond.methodLink "java/util/Arrays" (310 : Nat) ({ cls := "[B", name := "clone", desc := "()Ljava/lang/Object;" } : Jvm.MethodName)) ∈ lw_all := lw_g (lw_at lw_m2 34 rfl) rfl
theorem q402 : (Jvm.Cond.classLink "java/util/Arrays" (311 : Nat) "[B") ∈ lw_all := lw_g (lw_at lw_m2 40 rfl) rfl
theorem q403 : (Jvm.Cond.methodLink "java/util/Arrays" (304 : Nat) ({ cls := "java/lang/Math", name := "min", desc := "(II)I" } : Jvm.MethodName)) ∈ lw_all := lw_g (lw_at lw_m2 41 rfl) rfl
theorem q406 : (Jvm.Cond.methodLink "java/util/Arrays" (150 : Nat) ({ cls := "java/lang/System", name := "arraycopy", desc := "(Ljava/lang/Object;ILjava/lang/Object;II)V" } : Jvm.MethodName)) ∈ lw_all := lw_g (lw_at lw_m2 44 rfl) rfl
theorem q529 : (Jvm.Cond.static ({ cls := "java/util/Arrays", name := "copyOfRange", desc := "([BII)[B" } : Jvm.MethodName)) ∈ lw_all := lw_g (lw_at lw_m2 167 rfl) rfl
theorem q530 : (Jvm.Cond.code ({ cls := "java/util/Arrays", name := "copyOfRange", desc := "([BII)[B" } : Jvm.MethodName) prog_57_method_132_code (3 : Nat) (Option.some (Jvm.ClassFile.FieldType.array Jvm.ClassFile.FieldType.byte))) ∈ lw_all := lw_g (lw_at lw_m2 168 rfl) rfl
theorem q531 : (Jvm.Cond.methodLink "java/util/Arrays" (339 : Nat) ({ cls := "java/util/Arrays", name := "copyOfRangeByte", desc := "([BII)[B" } : Jvm.MethodName)) ∈ lw_all := lw_g (lw_at lw_m2 169 rfl) rfl
theorem q532 : (Jvm.Cond.static ({ cls := "java/util/Arrays", name := "copyOfRangeByte", desc := "([BII)[B" } : Jvm.MethodName)) ∈ lw_all := lw_g (lw_at lw_m2 170 rfl) rfl
theorem q533 : (Jvm.Cond.code ({ cls := "java/util/Arrays", name := "copyOfRangeByte", desc := "([BII)[B" } : Jvm.MethodName) prog_57_method_133_code (5 : Nat) (Option.some (Jvm.ClassFile.FieldType.array Jvm.ClassFile.FieldType.byte))) ∈ lw_all := lw_g (lw_at lw_m2 171 rfl) rfl
theorem q534 : (Jvm.Cond.methodLink "java/util/Arrays" (343 : Nat) ({ cls := "java/util/Arrays", name := "checkLength", desc := "(II)V" } : Jvm.MethodName)) ∈ lw_all := lw_g (lw_at lw_m2 172 rfl) rfl
theorem q535 : (Jvm.Cond.static ({ cls := "java/util/Arrays", name := "checkLength", desc := "(II)V" } : Jvm.MethodName)) ∈ lw_all := lw_g (lw_at lw_m2 173 rfl) rfl
theorem q536 : (Jvm.Cond.code ({ cls := "java/util/Arrays", name := "checkLength", desc := "(II)V" } : Jvm.MethodName) prog_57_method_131_code (2 : Nat) (Option.none : Option Jvm.ClassFile.FieldType)) ∈ lw_all := lw_g (lw_at lw_m2 174 rfl) rfl
theorem q537 : (Jvm.Cond.classLink "java/util/Arrays" (43 : Nat) "java/lang/IllegalArgumentException") ∈ lw_all := lw_g (lw_at lw_m2 175 rfl) rfl
theorem q585 : (Jvm.Cond.classLink "java/util/Arrays" (45 : Nat) "java/lang/StringBuilder") ∈ lw_all := lw_g (lw_at lw_m2 223 rfl) rfl
theorem q586 : (Jvm.Cond.methodLink "java/util/Arrays" (47 : Nat) ({ cls := "java/lang/StringBuilder", name := "<init>", desc := "()V" } : Jvm.MethodName)) ∈ lw_all := lw_g (lw_at lw_m2 224 rfl) rfl
theorem q587 : (Jvm.Cond.methodLink "java/util/Arrays" (54 : Nat) ({ cls := "java/lang/StringBuilder", name := "append", desc := "(I)Ljava/lang/StringBuilder;" } : Jvm.MethodName)) ∈ lw_all := lw_g (lw_at lw_m2 225 rfl) rfl
theorem q588 : (Jvm.Cond.stringRef "java/util/Arrays" (337 : Nat) " > ") ∈ lw_tbl := lw_at lw_m2 226 rfl
theorem q589 : (Jvm.Cond.methodLink "java/util/Arrays" (50 : Nat) ({ cls := "java/lang/StringBuilder", name := "append", desc := "(Ljava/lang/String;)Ljava/lang/StringBuilder;" } : Jvm.MethodName)) ∈ lw_all := lw_g (lw_at lw_m2 227 rfl) rfl
theorem q590 : (Jvm.Cond.methodLink "java/util/Arrays" (61 : Nat) ({ cls := "java/lang/StringBuilder", name := "toString", desc := "()Ljava/lang/String;" } : Jvm.MethodName)) ∈ lw_all := lw_g (lw_at lw_m2 228 rfl) rfl
theorem q591 : (Jvm.Cond.methodLink "java/util/Arrays" (65 : Nat) ({ cls := "java/lang/IllegalArgumentException", name := "<init>", desc := "(Ljava/lang/String;)V" } : Jvm.MethodName)) ∈ lw_all := lw_g (lw_at lw_m2 229 rfl) rfl
theorem q655 : (Jvm.Cond.static ({ cls := "java/util/Arrays", name := "fill", desc := "([BIIB)V" } : Jvm.MethodName)) ∈ lw_all := lw_g (lw_at lw_m3 53 rfl) rfl
theorem q656 : (Jvm.Cond.code ({ cls := "java/util/Arrays", name := "fill", desc := "([BIIB)V" } : Jvm.MethodName) prog_57_method_110_code (5 : Nat) (Option.none : Option Jvm.ClassFile.FieldType)) ∈ lw_all := lw_g (lw_at lw_m3 54 rfl) rfl
theorem q657 : (Jvm.Cond.methodLink "java/util/Arrays" (13 : Nat) ({ cls := "java/util/Arrays", name := "rangeCheck", desc := "(III)V" } : Jvm.MethodName)) ∈ lw_all := lw_g (lw_at lw_m3 55 rfl) rfl
theorem q658 : (Jvm.Cond.static ({ cls := "java/util/Arrays", name := "rangeCheck", desc := "(III)V" } : Jvm.MethodName)) ∈ lw_all := lw_g (lw_at lw_m3 56 rfl) rfl
theorem q659 : (Jvm.Cond.code ({ cls := "java/util/Arrays", name := "rangeCheck", desc := "(III)V" } : Jvm.MethodName) prog_57_method_30_code (3 : Nat) (Option.none : Option Jvm.ClassFile.FieldType)) ∈ lw_all := lw_g (lw_at lw_m3 57 rfl) rfl
theorem q660 : (Jvm.Cond.stringRef "java/util/Arrays" (48 : Nat) "fromIndex(") ∈ lw_tbl := lw_at lw_m3 58 rfl
theorem q661 : (Jvm.Cond.stringRef "java/util/Arrays" (57 : Nat) ") > toIndex(") ∈ lw_tbl := lw_at lw_m3 59 rfl
theorem q662 : (Jvm.Cond.stringRef "java/util/Arrays" (59 : Nat) ")") ∈ lw_tbl := lw_at lw_m3 60 rfl
theorem q663 : (Jvm.Cond.classLink "java/util/Arrays" (68 : Nat) "java/lang/ArrayIndexOutOfBoundsException") ∈ lw_all := lw_g (lw_at lw_m3 61 rfl) rfl
theorem q674 : (Jvm.Cond.methodLink "java/util/Arrays" (70 : Nat) ({ cls := "java/lang/ArrayIndexOutOfBoundsException", name := "<init>", desc := "(I)V" } : Jvm.MethodName)) ∈ lw_all := lw_g (lw_at lw_m3 72 rfl) rfl
theorem q971 : (Jvm.Cond.static ({ cls := "java/util/Arrays", name := "copyOf", desc := "([Ljava/lang/Object;I)[Ljava/lang/Object;" } : Jvm.MethodName)) ∈ lw_all := lw_g (lw_at lw_m4 129 rfl) rfl
theorem q972 : (Jvm.Cond.code ({ cls := "java/util/Arrays", name := "copyOf", desc := "([Ljava/lang/Object;I)[Ljava/lang/Object;" } : Jvm.MethodName) prog_57_method_119_code (2 : Nat) (Option.some (Jvm.ClassFile.FieldType.array (Jvm.ClassFile.FieldType.object "java/lang/Object")))) ∈ lw_all := lw_g (lw_at lw_m4 130 rfl) rfl
theorem q973 : (Jvm.Cond.methodLink "java/util/Arrays" (86 : Nat) ({ cls := "java/lang/Object", name := "getClass", desc := "()Ljava/lang/Class;" } : Jvm.MethodName)) ∈ lw_all := lw_g (lw_at lw_m4 131 rfl) rfl
theorem q1016 : (Jvm.Cond.methodLink "java/util/Arrays" (300 : Nat) ({ cls := "java/util/Arrays", name := "copyOf", desc := "([Ljava/lang/Object;ILjava/lang/Class;)[Ljava/lang/Object;" } : Jvm.MethodName)) ∈ lw_all := lw_g (lw_at lw_m4 174 rfl) rfl
theorem q1017 : (Jvm.Cond.static ({ cls := "java/util/Arrays", name := "copyOf", desc := "([Ljava/lang/Object;ILjava/lang/Class;)[Ljava/lang/Object;" } : Jvm.MethodName)) ∈ lw_all := lw_g (lw_at lw_m4 175 rfl) rfl
theorem q1018 : (Jvm.Cond.code ({ cls := "java/util/Arrays", name := "copyOf", desc := "([Ljava/lang/Object;ILjava/lang/Class;)[Ljava/lang/Object;" } : Jvm.MethodName) prog_57_method_120_code (4 : Nat) (Option.some (Jvm.ClassFile.FieldType.array (Jvm.ClassFile.FieldType.object "java/lang/Object")))) ∈ lw_all := lw_g (lw_at lw_m4 176 rfl) rfl
theorem q1019 : (Jvm.Cond.classLink "java/util/Arrays" (110 : Nat) "[Ljava/lang/Object;") ∈ lw_all := lw_g (lw_at lw_m4 177 rfl) rfl
theorem q1021 : (Jvm.Cond.classLink "java/util/Arrays" (2 : Nat) "java/lang/Object") ∈ lw_all := lw_g (lw_at lw_m4 179 rfl) rfl
theorem q1066 : (Jvm.Cond.static ({ cls := "java/util/Arrays", name := "copyOf", desc := "([JI)[J" } : Jvm.MethodName)) ∈ lw_all := lw_g (lw_at lw_m4 224 rfl) rfl
theorem q1067 : (Jvm.Cond.code ({ cls := "java/util/Arrays", name := "copyOf", desc := "([JI)[J" } : Jvm.MethodName) prog_57_method_124_code (3 : Nat) (Option.some (Jvm.ClassFile.FieldType.array Jvm.ClassFile.FieldType.long))) ∈ lw_all := lw_g (lw_at lw_m4 225 rfl) rfl
theorem q1068 : (Jvm.Cond.methodLink "java/util/Arrays" (319 : Nat) ({ cls := "[J", name := "clone", desc := "()Ljava/lang/Object;" } : Jvm.MethodName)) ∈ lw_all := lw_g (lw_at lw_m4 226 rfl) rfl
theorem q1072 : (Jvm.Cond.classLink "java/util/Arrays" (320 : Nat) "[J") ∈ lw_all := lw_g (lw_at lw_m4 230 rfl) rfl
theorem q1979 : (Jvm.Cond.static ({ cls := "java/util/Arrays", name := "sort", desc := "([Ljava/lang/Object;IILjava/util/Comparator;)V" } : Jvm.MethodName)) ∈ lw_all := lw_g (lw_at lw_m8 177 rfl) rfl
theorem q1980 : (Jvm.Cond.code ({ cls := "java/util/Arrays", name := "sort", desc := "([Ljava/lang/Object;IILjava/util/Comparator;)V" } : Jvm.MethodName) prog_57_method_43_code (4 : Nat) (Option.none : Option Jvm.ClassFile.FieldType)) ∈ lw_all := lw_g (lw_at lw_m8 178 rfl) rfl
theorem q1981 : (Jvm.Cond.methodLink "java/util/Arrays" (164 : Nat) ({ cls := "java/util/Arrays", name := "sort", desc := "([Ljava/lang/Object;II)V" } : Jvm.MethodName)) ∈ lw_all := lw_g (lw_at lw_m8 179 rfl) rfl
theorem q1982 : (Jvm.Cond.static ({ cls := "java/util/Arrays", name := "sort", desc := "([Ljava/lang/Object;II)V" } : Jvm.MethodName)) ∈ lw_all := lw_g (lw_at lw_m8 180 rfl) rfl
theorem q1983 : (Jvm.Cond.code ({ cls := "java/util/Arrays", name := "sort", desc := "([Ljava/lang/Object;II)V" } : Jvm.MethodName) prog_57_method_37_code (3 : Nat) (Option.none : Option Jvm.ClassFile.FieldType)) ∈ lw_all := lw_g (lw_at lw_m8 181 rfl) rfl
theorem q1984 : (Jvm.Cond.fieldLinkNest "java/util/Arrays" (112 : Nat) "java/util/Arrays$LegacyMergeSort" "userRequested" "Z" "java/util/Arrays") ∈ lw_tbl := lw_at lw_m8 182 rfl
theorem q1986 : (Jvm.Cond.methodLink "java/util/Arrays" (122 : Nat) ({ cls := "java/util/ComparableTimSort", name := "sort", desc := "([Ljava/lang/Object;II[Ljava/lang/Object;II)V" } : Jvm.MethodName)) ∈ lw_all := lw_g (lw_at lw_m8 184 rfl) rfl
theorem q2079 : (Jvm.Cond.methodLink "java/util/Arrays" (79 : Nat) ({ cls := "java/util/TimSort", name := "sort", desc := "([Ljava/lang/Object;IILjava/util/Comparator;[Ljava/lang/Object;II)V" } : Jvm.MethodName)) ∈ lw_all := lw_g (lw_at lw_m9 37 rfl) rfl
theorem q2108 : (Jvm.Cond.static ({ cls := "java/util/Arrays", name := "fill", desc := "([II)V" } : Jvm.MethodName)) ∈ lw_all := lw_g (lw_at lw_m9 66 rfl) rfl
theorem q2109 : (Jvm.Cond.code ({ cls := "java/util/Arrays", name := "fill", desc := "([II)V" } : Jvm.MethodName) prog_57_method_103_code (4 : Nat) (Option.none : Option Jvm.ClassFile.FieldType)) ∈ lw_all := lw_g (lw_at lw_m9 67 rfl) rfl
theorem q2960 : (Jvm.Cond.static ({ cls := "java/util/Arrays", name := "sort", desc := "([I)V" } : Jvm.MethodName)) ∈ lw_all := lw_g (lw_at lw_m12 198 rfl) rfl
theorem q2961 : (Jvm.Cond.code ({ cls := "java/util/Arrays", name := "sort", desc := "([I)V" } : Jvm.MethodName) prog_57_method_2_code (1 : Nat) (Option.none : Option Jvm.ClassFile.FieldType)) ∈ lw_all := lw_g (lw_at lw_m12 199 rfl) rfl
theorem q2962 : (Jvm.Cond.methodLink "java/util/Arrays" (7 : Nat) ({ cls := "java/util/DualPivotQuicksort", name := "sort", desc := "([IIII)V" } : Jvm.MethodName)) ∈ lw_all := lw_g (lw_at lw_m12 200 rfl) rfl
theorem q2978 : (Jvm.Cond.static ({ cls := "java/util/Arrays", name := "copyOf", desc := "([II)[I" } : Jvm.MethodName)) ∈ lw_all := lw_g (lw_at lw_m12 216 rfl) rfl
theorem q2979 : (Jvm.Cond.code ({ cls := "java/util/Arrays", name := "copyOf", desc := "([II)[I" } : Jvm.MethodName) prog_57_method_123_code (3 : Nat) (Option.some (Jvm.ClassFile.FieldType.array Jvm.ClassFile.FieldType.int))) ∈ lw_all := lw_g (lw_at lw_m12 217 rfl) rfl
theorem q2980 : (Jvm.Cond.methodLink "java/util/Arrays" (316 : Nat) ({ cls := "[I", name := "clone", desc := "()Ljava/lang/Object;" } : Jvm.MethodName)) ∈ lw_all := lw_g (lw_at lw_m12 218 rfl) rfl
theorem q2984 : (Jvm.Cond.classLink "java/util/Arrays" (317 : Nat) "[I") ∈ lw_all := lw_g (lw_at lw_m12 222 rfl) rfl
/-! java/util/Objects -/
set_option maxRecDepth 100000
def RJ21 : String := "java/util/Objects"
abbrev cJ21_checkIndex : ByteArray := prog_75_method_17_code
def yJ21_checkIndex : MethodName := ⟨RJ21, "checkIndex", "(II)I"⟩
def dkwJ21_checkIndex_0 : List UInt8 := [26, 27, 1, 184, 0, 105, 172]
abbrev dktJ21_checkIndex_0 : List UInt8 := dkwJ21_checkIndex_0 ++ []
theorem dksJ21_checkIndex_0 : cJ21_checkIndex.data.toList.drop 0 = dktJ21_checkIndex_0 := by decide +kernel
theorem dJ21_checkIndex_0 : decode cJ21_checkIndex 0 = .ok (.iload_n 0, 1) := dk_26 (dk_at dksJ21_checkIndex_0 0 rfl rfl)
theorem dJ21_checkIndex_1 : decode cJ21_checkIndex 1 = .ok (.iload_n 1, 1) := dk_27 (dk_at dksJ21_checkIndex_0 1 rfl rfl)
theorem dJ21_checkIndex_2 : decode cJ21_checkIndex 2 = .ok (.aconst_null, 1) := dk_1 (dk_at dksJ21_checkIndex_0 2 rfl rfl)
theorem dJ21_checkIndex_3 : decode cJ21_checkIndex 3 = .ok (.invokestatic 105, 3) := dk_184 0 105 (dk_at dksJ21_checkIndex_0 3 rfl rfl)
theorem dJ21_checkIndex_6 : decode cJ21_checkIndex 6 = .ok (.ireturn, 1) := dk_172 (dk_at dksJ21_checkIndex_0 6 rfl rfl)
abbrev cJ21_requireNonNull : ByteArray := prog_75_method_10_code
def yJ21_requireNonNull : MethodName := ⟨RJ21, "requireNonNull", "(Ljava/lang/Object;)Ljava/lang/Object;"⟩
def dkwJ21_requireNonNull_0 : List UInt8 := [42, 199, 0, 11, 187, 0, 84, 89, 183, 0, 86, 191, 42, 176]
abbrev dktJ21_requireNonNull_0 : List UInt8 := dkwJ21_requireNonNull_0 ++ []
theorem dksJ21_requireNonNull_0 : cJ21_requireNonNull.data.toList.drop 0 = dktJ21_requireNonNull_0 := by decide +kernel
theorem dJ21_requireNonNull_0 : decode cJ21_requireNonNull 0 = .ok (.aload_n 0, 1) := dk_42 (dk_at dksJ21_requireNonNull_0 0 rfl rfl)
theorem dJ21_requireNonNull_1 : decode cJ21_requireNonNull 1 = .ok (.ifnonnull 11, 3) := dk_199 0 11 (dk_at dksJ21_requireNonNull_0 1 rfl rfl)
theorem dJ21_requireNonNull_4 : decode cJ21_requireNonNull 4 = .ok (.new 84, 3) := dk_187 0 84 (dk_at dksJ21_requireNonNull_0 4 rfl rfl)
theorem dJ21_requireNonNull_7 : decode cJ21_requireNonNull 7 = .ok (.dup, 1) := dk_89 (dk_at dksJ21_requireNonNull_0 7 rfl rfl)
theorem dJ21_requireNonNull_8 : decode cJ21_requireNonNull 8 = .ok (.invokespecial 86, 3) := dk_183 0 86 (dk_at dksJ21_requireNonNull_0 8 rfl rfl)
theorem dJ21_requireNonNull_11 : decode cJ21_requireNonNull 11 = .ok (.athrow, 1) := dk_191 (dk_at dksJ21_requireNonNull_0 11 rfl rfl)
theorem dJ21_requireNonNull_12 : decode cJ21_requireNonNull 12 = .ok (.aload_n 0, 1) := dk_42 (dk_at dksJ21_requireNonNull_0 12 rfl rfl)
theorem dJ21_requireNonNull_13 : decode cJ21_requireNonNull 13 = .ok (.areturn, 1) := dk_176 (dk_at dksJ21_requireNonNull_0 13 rfl rfl)
theorem q147 : (Jvm.Cond.initialized "java/util/Objects") ∈ lw_all := lw_g (lw_at lw_m1 25 rfl) rfl
theorem q1040 : (Jvm.Cond.static ({ cls := "java/util/Objects", name := "checkIndex", desc := "(II)I" } : Jvm.MethodName)) ∈ lw_all := lw_g (lw_at lw_m4 198 rfl) rfl
theorem q1041 : (Jvm.Cond.code ({ cls := "java/util/Objects", name := "checkIndex", desc := "(II)I" } : Jvm.MethodName) prog_75_method_17_code (2 : Nat) (Option.some Jvm.ClassFile.FieldType.int)) ∈ lw_all := lw_g (lw_at lw_m4 199 rfl) rfl
theorem q1042 : (Jvm.Cond.methodLink "java/util/Objects" (105 : Nat) ({ cls := "jdk/internal/util/Preconditions", name := "checkIndex", desc := "(IILjava/util/function/BiFunction;)I" } : Jvm.MethodName)) ∈ lw_all := lw_g (lw_at lw_m4 200 rfl) rfl
theorem q1511 : (Jvm.Cond.static ({ cls := "java/util/Objects", name := "requireNonNull", desc := "(Ljava/lang/Object;)Ljava/lang/Object;" } : Jvm.MethodName)) ∈ lw_all := lw_g (lw_at lw_m6 189 rfl) rfl
theorem q1512 : (Jvm.Cond.code ({ cls := "java/util/Objects", name := "requireNonNull", desc := "(Ljava/lang/Object;)Ljava/lang/Object;" } : Jvm.MethodName) prog_75_method_10_code (1 : Nat) (Option.some (Jvm.ClassFile.FieldType.object "java/lang/Object"))) ∈ lw_all := lw_g (lw_at lw_m6 190 rfl) rfl
/-! jdk/internal/util/Preconditions -/
set_option maxRecDepth 100000
def RJ22 : String := "jdk/internal/util/Preconditions"
abbrev cJ22_checkFromToIndex : ByteArray := prog_93_method_12_code
def yJ22_checkFromToIndex : MethodName := ⟨RJ22, "checkFromToIndex", "(IIILjava/util/function/BiFunction;)I"⟩
def dkwJ22_checkFromToIndex_0 : List UInt8 := [26, 155, 0, 13, 26, 27, 163, 0, 8, 27, 28, 164, 0, 11, 45, 26, 27, 28, 184, 0, 99, 191, 26, 172]
abbrev dktJ22_checkFromToIndex_0 : List UInt8 := dkwJ22_checkFromToIndex_0 ++ []
theorem dksJ22_checkFromToIndex_0 : cJ22_checkFromToIndex.data.toList.drop 0 = dktJ22_checkFromToIndex_0 := by decide +kernel
theorem dJ22_checkFromToIndex_0 : decode cJ22_checkFromToIndex 0 = .ok (.iload_n 0, 1) := dk_26 (dk_at dksJ22_checkFromToIndex_0 0 rfl rfl)
theorem dJ22_checkFromToIndex_1 : decode cJ22_checkFromToIndex 1 = .ok (.ifCond .lt 13, 3) := dk_155 0 13 (dk_at dksJ22_checkFromToIndex_0 1 rfl rfl)
theorem dJ22_checkFromToIndex_4 : decode cJ22_checkFromToIndex 4 = .ok (.iload_n 0, 1) := dk_26 (dk_at dksJ22_checkFromToIndex_0 4 rfl rfl)
theorem dJ22_checkFromToIndex_5 : decode cJ22_checkFromToIndex 5 = .ok (.iload_n 1, 1) := dk_27 (dk_at dksJ22_checkFromToIndex_0 5 rfl rfl)
theorem dJ22_checkFromToIndex_6 : decode cJ22_checkFromToIndex 6 = .ok (.if_icmp .gt 8, 3) := dk_163 0 8 (dk_at dksJ22_checkFromToIndex_0 6 rfl rfl)
theorem dJ22_checkFromToIndex_9 : decode cJ22_checkFromToIndex 9 = .ok (.iload_n 1, 1) := dk_27 (dk_at dksJ22_checkFromToIndex_0 9 rfl rfl)
theorem dJ22_checkFromToIndex_10 : decode cJ22_checkFromToIndex 10 = .ok (.iload_n 2, 1) := dk_28 (dk_at dksJ22_checkFromToIndex_0 10 rfl rfl)
theorem dJ22_checkFromToIndex_11 : decode cJ22_checkFromToIndex 11 = .ok (.if_icmp .le 11, 3) := dk_164 0 11 (dk_at dksJ22_checkFromToIndex_0 11 rfl rfl)
theorem dJ22_checkFromToIndex_14 : decode cJ22_checkFromToIndex 14 = .ok (.aload_n 3, 1) := dk_45 (dk_at dksJ22_checkFromToIndex_0 14 rfl rfl)
theorem dJ22_checkFromToIndex_15 : decode cJ22_checkFromToIndex 15 = .ok (.iload_n 0, 1) := dk_26 (dk_at dksJ22_checkFromToIndex_0 15 rfl rfl)
theorem dJ22_checkFromToIndex_16 : decode cJ22_checkFromToIndex 16 = .ok (.iload_n 1, 1) := dk_27 (dk_at dksJ22_checkFromToIndex_0 16 rfl rfl)
theorem dJ22_checkFromToIndex_17 : decode cJ22_checkFromToIndex 17 = .ok (.iload_n 2, 1) := dk_28 (dk_at dksJ22_checkFromToIndex_0 17 rfl rfl)
theorem dJ22_checkFromToIndex_18 : decode cJ22_checkFromToIndex 18 = .ok (.invokestatic 99, 3) := dk_184 0 99 (dk_at dksJ22_checkFromToIndex_0 18 rfl rfl)
theorem dJ22_checkFromToIndex_21 : decode cJ22_checkFromToIndex 21 = .ok (.athrow, 1) := dk_191 (dk_at dksJ22_checkFromToIndex_0 21 rfl rfl)
theorem dJ22_checkFromToIndex_22 : decode cJ22_checkFromToIndex 22 = .ok (.iload_n 0, 1) := dk_26 (dk_at dksJ22_checkFromToIndex_0 22 rfl rfl)
theorem dJ22_checkFromToIndex_23 : decode cJ22_checkFromToIndex 23 = .ok (.ireturn, 1) := dk_172 (dk_at dksJ22_checkFromToIndex_0 23 rfl rfl)
abbrev cJ22_checkFromIndexSize : ByteArray := prog_93_method_13_code
def yJ22_checkFromIndexSize : MethodName := ⟨RJ22, "checkFromIndexSize", "(IIILjava/util/function/BiFunction;)I"⟩
def dkwJ22_checkFromIndexSize_1 : List UInt8 := [172]
abbrev dktJ22_checkFromIndexSize_1 : List UInt8 := dkwJ22_checkFromIndexSize_1 ++ []
def dkwJ22_checkFromIndexSize_0 : List UInt8 := [28, 26, 128, 27, 128, 155, 0, 10, 27, 28, 26, 100, 164, 0, 11, 45, 26, 27, 28, 184, 0, 103, 191, 26]
abbrev dktJ22_checkFromIndexSize_0 : List UInt8 := dkwJ22_checkFromIndexSize_0 ++ dktJ22_checkFromIndexSize_1
theorem dksJ22_checkFromIndexSize_0 : cJ22_checkFromIndexSize.data.toList.drop 0 = dktJ22_checkFromIndexSize_0 := by decide +kernel
theorem dksJ22_checkFromIndexSize_1 : cJ22_checkFromIndexSize.data.toList.drop 24 = dktJ22_checkFromIndexSize_1 := dk_seg dksJ22_checkFromIndexSize_0 24 rfl rfl
theorem dJ22_checkFromIndexSize_0 : decode cJ22_checkFromIndexSize 0 = .ok (.iload_n 2, 1) := dk_28 (dk_at dksJ22_checkFromIndexSize_0 0 rfl rfl)
theorem dJ22_checkFromIndexSize_1 : decode cJ22_checkFromIndexSize 1 = .ok (.iload_n 0, 1) := dk_26 (dk_at dksJ22_checkFromIndexSize_0 1 rfl rfl)
theorem dJ22_checkFromIndexSize_2 : decode cJ22_checkFromIndexSize 2 = .ok (.ior, 1) := dk_128 (dk_at dksJ22_checkFromIndexSize_0 2 rfl rfl)
theorem dJ22_checkFromIndexSize_3 : decode cJ22_checkFromIndexSize 3 = .ok (.iload_n 1, 1) := dk_27 (dk_at dksJ22_checkFromIndexSize_0 3 rfl rfl)
theorem dJ22_checkFromIndexSize_4 : decode cJ22_checkFromIndexSize 4 = .ok (.ior, 1) := dk_128 (dk_at dksJ22_checkFromIndexSize_0 4 rfl rfl)
theorem dJ22_checkFromIndexSize_5 : decode cJ22_checkFromIndexSize 5 = .ok (.ifCond .lt 10, 3) := dk_155 0 10 (dk_at dksJ22_checkFromIndexSize_0 5 rfl rfl)
theorem dJ22_checkFromIndexSize_8 : decode cJ22_checkFromIndexSize 8 = .ok (.iload_n 1, 1) := dk_27 (dk_at dksJ22_checkFromIndexSize_0 8 rfl rfl)
theorem dJ22_checkFromIndexSize_9 : decode cJ22_checkFromIndexSize 9 = .ok (.iload_n 2, 1) := dk_28 (dk_at dksJ22_checkFromIndexSize_0 9 rfl rfl)
theorem dJ22_checkFromIndexSize_10 : decode cJ22_checkFromIndexSize 10 = .ok (.iload_n 0, 1) := dk_26 (dk_at dksJ22_checkFromIndexSize_0 10 rfl rfl)
theorem dJ22_checkFromIndexSize_11 : decode cJ22_checkFromIndexSize 11 = .ok (.isub, 1) := dk_100 (dk_at dksJ22_checkFromIndexSize_0 11 rfl rfl)
theorem dJ22_checkFromIndexSize_12 : decode cJ22_checkFromIndexSize 12 = .ok (.if_icmp .le 11, 3) := dk_164 0 11 (dk_at dksJ22_checkFromIndexSize_0 12 rfl rfl)
theorem dJ22_checkFromIndexSize_15 : decode cJ22_checkFromIndexSize 15 = .ok (.aload_n 3, 1) := dk_45 (dk_at dksJ22_checkFromIndexSize_0 15 rfl rfl)
theorem dJ22_checkFromIndexSize_16 : decode cJ22_checkFromIndexSize 16 = .ok (.iload_n 0, 1) := dk_26 (dk_at dksJ22_checkFromIndexSize_0 16 rfl rfl)
theorem dJ22_checkFromIndexSize_17 : decode cJ22_checkFromIndexSize 17 = .ok (.iload_n 1, 1) := dk_27 (dk_at dksJ22_checkFromIndexSize_0 17 rfl rfl)
theorem dJ22_checkFromIndexSize_18 : decode cJ22_checkFromIndexSize 18 = .ok (.iload_n 2, 1) := dk_28 (dk_at dksJ22_checkFromIndexSize_0 18 rfl rfl)
theorem dJ22_checkFromIndexSize_19 : decode cJ22_checkFromIndexSize 19 = .ok (.invokestatic 103, 3) := dk_184 0 103 (dk_at dksJ22_checkFromIndexSize_0 19 rfl rfl)
theorem dJ22_checkFromIndexSize_22 : decode cJ22_checkFromIndexSize 22 = .ok (.athrow, 1) := dk_191 (dk_at dksJ22_checkFromIndexSize_0 22 rfl rfl)
theorem dJ22_checkFromIndexSize_23 : decode cJ22_checkFromIndexSize 23 = .ok (.iload_n 0, 1) := dk_26 (dk_at dksJ22_checkFromIndexSize_0 23 rfl rfl)
theorem dJ22_checkFromIndexSize_24 : decode cJ22_checkFromIndexSize 24 = .ok (.ireturn, 1) := dk_172 (dk_at dksJ22_checkFromIndexSize_1 0 rfl rfl)
abbrev cJ22_checkIndex : ByteArray := prog_93_method_11_code
def yJ22_checkIndex : MethodName := ⟨RJ22, "checkIndex", "(IILjava/util/function/BiFunction;)I"⟩
def dkwJ22_checkIndex_0 : List UInt8 := [26, 155, 0, 8, 26, 27, 161, 0, 10, 44, 26, 27, 184, 0, 95, 191, 26, 172]
abbrev dktJ22_checkIndex_0 : List UInt8 := dkwJ22_checkIndex_0 ++ []
theorem dksJ22_checkIndex_0 : cJ22_checkIndex.data.toList.drop 0 = dktJ22_checkIndex_0 := by decide +kernel
theorem dJ22_checkIndex_0 : decode cJ22_checkIndex 0 = .ok (.iload_n 0, 1) := dk_26 (dk_at dksJ22_checkIndex_0 0 rfl rfl)
theorem dJ22_checkIndex_1 : decode cJ22_checkIndex 1 = .ok (.ifCond .lt 8, 3) := dk_155 0 8 (dk_at dksJ22_checkIndex_0 1 rfl rfl)
theorem dJ22_checkIndex_4 : decode cJ22_checkIndex 4 = .ok (.iload_n 0, 1) := dk_26 (dk_at dksJ22_checkIndex_0 4 rfl rfl)
theorem dJ22_checkIndex_5 : decode cJ22_checkIndex 5 = .ok (.iload_n 1, 1) := dk_27 (dk_at dksJ22_checkIndex_0 5 rfl rfl)
theorem dJ22_checkIndex_6 : decode cJ22_checkIndex 6 = .ok (.if_icmp .lt 10, 3) := dk_161 0 10 (dk_at dksJ22_checkIndex_0 6 rfl rfl)
theorem dJ22_checkIndex_9 : decode cJ22_checkIndex 9 = .ok (.aload_n 2, 1) := dk_44 (dk_at dksJ22_checkIndex_0 9 rfl rfl)
theorem dJ22_checkIndex_10 : decode cJ22_checkIndex 10 = .ok (.iload_n 0, 1) := dk_26 (dk_at dksJ22_checkIndex_0 10 rfl rfl)
theorem dJ22_checkIndex_11 : decode cJ22_checkIndex 11 = .ok (.iload_n 1, 1) := dk_27 (dk_at dksJ22_checkIndex_0 11 rfl rfl)
theorem dJ22_checkIndex_12 : decode cJ22_checkIndex 12 = .ok (.invokestatic 95, 3) := dk_184 0 95 (dk_at dksJ22_checkIndex_0 12 rfl rfl)
theorem dJ22_checkIndex_15 : decode cJ22_checkIndex 15 = .ok (.athrow, 1) := dk_191 (dk_at dksJ22_checkIndex_0 15 rfl rfl)
theorem dJ22_checkIndex_16 : decode cJ22_checkIndex 16 = .ok (.iload_n 0, 1) := dk_26 (dk_at dksJ22_checkIndex_0 16 rfl rfl)
theorem dJ22_checkIndex_17 : decode cJ22_checkIndex 17 = .ok (.ireturn, 1) := dk_172 (dk_at dksJ22_checkIndex_0 17 rfl rfl)
theorem q148 : (Jvm.Cond.initialized "jdk/internal/util/Preconditions") ∈ lw_all := lw_g (lw_at lw_m1 26 rfl) rfl
theorem q427 : (Jvm.Cond.laysStatic "jdk/internal/util/Preconditions" "SIOOBE_FORMATTER" "Ljava/util/function/BiFunction;") ∈ lw_tbl := lw_at lw_m2 65 rfl
theorem q429 : (Jvm.Cond.static ({ cls := "jdk/internal/util/Preconditions", name := "checkFromToIndex", desc := "(IIILjava/util/function/BiFunction;)I" } : Jvm.MethodName)) ∈ lw_all := lw_g (lw_at lw_m2 67 rfl) rfl
theorem q430 : (Jvm.Cond.code ({ cls := "jdk/internal/util/Preconditions", name := "checkFromToIndex", desc := "(IIILjava/util/function/BiFunction;)I" } : Jvm.MethodName) prog_93_method_12_code (4 : Nat) (Option.some Jvm.ClassFile.FieldType.int)) ∈ lw_all := lw_g (lw_at lw_m2 68 rfl) rfl
theorem q475 : (Jvm.Cond.static ({ cls := "jdk/internal/util/Preconditions", name := "checkFromIndexSize", desc := "(IIILjava/util/function/BiFunction;)I" } : Jvm.MethodName)) ∈ lw_all := lw_g (lw_at lw_m2 113 rfl) rfl
theorem q476 : (Jvm.Cond.code ({ cls := "jdk/internal/util/Preconditions", name := "checkFromIndexSize", desc := "(IIILjava/util/function/BiFunction;)I" } : Jvm.MethodName) prog_93_method_13_code (4 : Nat) (Option.some Jvm.ClassFile.FieldType.int)) ∈ lw_all := lw_g (lw_at lw_m2 114 rfl) rfl
theorem q1043 : (Jvm.Cond.static ({ cls := "jdk/internal/util/Preconditions", name := "checkIndex", desc := "(IILjava/util/function/BiFunction;)I" } : Jvm.MethodName)) ∈ lw_all := lw_g (lw_at lw_m4 201 rfl) rfl
theorem q1044 : (Jvm.Cond.code ({ cls := "jdk/internal/util/Preconditions", name := "checkIndex", desc := "(IILjava/util/function/BiFunction;)I" } : Jvm.MethodName) prog_93_method_11_code (3 : Nat) (Option.some Jvm.ClassFile.FieldType.int)) ∈ lw_all := lw_g (lw_at lw_m4 202 rfl) rfl
/-! java/lang/StringLatin1 -/
set_option maxRecDepth 100000
def RJ23 : String := "java/lang/StringLatin1"
abbrev cJ23_inflate : ByteArray := prog_40_method_50_code
def yJ23_inflate : MethodName := ⟨RJ23, "inflate", "([BI[BII)V"⟩
def dkwJ23_inflate_0 : List UInt8 := [42, 27, 44, 29, 21, 4, 184, 0, 240, 177]
abbrev dktJ23_inflate_0 : List UInt8 := dkwJ23_inflate_0 ++ []
theorem dksJ23_inflate_0 : cJ23_inflate.data.toList.drop 0 = dktJ23_inflate_0 := by decide +kernel
theorem dJ23_inflate_0 : decode cJ23_inflate 0 = .ok (.aload_n 0, 1) := dk_42 (dk_at dksJ23_inflate_0 0 rfl rfl)
theorem dJ23_inflate_1 : decode cJ23_inflate 1 = .ok (.iload_n 1, 1) := dk_27 (dk_at dksJ23_inflate_0 1 rfl rfl)
theorem dJ23_inflate_2 : decode cJ23_inflate 2 = .ok (.aload_n 2, 1) := dk_44 (dk_at dksJ23_inflate_0 2 rfl rfl)
theorem dJ23_inflate_3 : decode cJ23_inflate 3 = .ok (.iload_n 3, 1) := dk_29 (dk_at dksJ23_inflate_0 3 rfl rfl)
theorem dJ23_inflate_4 : decode cJ23_inflate 4 = .ok (.iload 4, 2) := dk_21 4 (dk_at dksJ23_inflate_0 4 rfl rfl)
theorem dJ23_inflate_6 : decode cJ23_inflate 6 = .ok (.invokestatic 240, 3) := dk_184 0 240 (dk_at dksJ23_inflate_0 6 rfl rfl)
theorem dJ23_inflate_9 : decode cJ23_inflate 9 = .ok (.return_, 1) := dk_177 (dk_at dksJ23_inflate_0 9 rfl rfl)
abbrev cJ23_fillNull : ByteArray := prog_40_method_48_code
def yJ23_fillNull : MethodName := ⟨RJ23, "fillNull", "([BII)V"⟩
def dkwJ23_fillNull_0 : List UInt8 := [42, 27, 28, 3, 184, 0, 236, 177]
abbrev dktJ23_fillNull_0 : List UInt8 := dkwJ23_fillNull_0 ++ []
theorem dksJ23_fillNull_0 : cJ23_fillNull.data.toList.drop 0 = dktJ23_fillNull_0 := by decide +kernel
theorem dJ23_fillNull_0 : decode cJ23_fillNull 0 = .ok (.aload_n 0, 1) := dk_42 (dk_at dksJ23_fillNull_0 0 rfl rfl)
theorem dJ23_fillNull_1 : decode cJ23_fillNull 1 = .ok (.iload_n 1, 1) := dk_27 (dk_at dksJ23_fillNull_0 1 rfl rfl)
theorem dJ23_fillNull_2 : decode cJ23_fillNull 2 = .ok (.iload_n 2, 1) := dk_28 (dk_at dksJ23_fillNull_0 2 rfl rfl)
theorem dJ23_fillNull_3 : decode cJ23_fillNull 3 = .ok (.iconst 0, 1) := dk_3 (dk_at dksJ23_fillNull_0 3 rfl rfl)
theorem dJ23_fillNull_4 : decode cJ23_fillNull 4 = .ok (.invokestatic 236, 3) := dk_184 0 236 (dk_at dksJ23_fillNull_0 4 rfl rfl)
theorem dJ23_fillNull_7 : decode cJ23_fillNull 7 = .ok (.return_, 1) := dk_177 (dk_at dksJ23_fillNull_0 7 rfl rfl)
abbrev cJ23_canEncode : ByteArray := prog_40_method_3_code
def yJ23_canEncode : MethodName := ⟨RJ23, "canEncode", "(C)Z"⟩
def dkwJ23_canEncode_0 : List UInt8 := [26, 17, 0, 255, 163, 0, 7, 4, 167, 0, 4, 3, 172]
abbrev dktJ23_canEncode_0 : List UInt8 := dkwJ23_canEncode_0 ++ []
theorem dksJ23_canEncode_0 : cJ23_canEncode.data.toList.drop 0 = dktJ23_canEncode_0 := by decide +kernel
theorem dJ23_canEncode_0 : decode cJ23_canEncode 0 = .ok (.iload_n 0, 1) := dk_26 (dk_at dksJ23_canEncode_0 0 rfl rfl)
theorem dJ23_canEncode_1 : decode cJ23_canEncode 1 = .ok (.sipush 255, 3) := dk_17 0 255 (dk_at dksJ23_canEncode_0 1 rfl rfl)
theorem dJ23_canEncode_4 : decode cJ23_canEncode 4 = .ok (.if_icmp .gt 7, 3) := dk_163 0 7 (dk_at dksJ23_canEncode_0 4 rfl rfl)
theorem dJ23_canEncode_7 : decode cJ23_canEncode 7 = .ok (.iconst 1, 1) := dk_4 (dk_at dksJ23_canEncode_0 7 rfl rfl)
theorem dJ23_canEncode_8 : decode cJ23_canEncode 8 = .ok (.goto 4, 3) := dk_167 0 4 (dk_at dksJ23_canEncode_0 8 rfl rfl)
theorem dJ23_canEncode_11 : decode cJ23_canEncode 11 = .ok (.iconst 0, 1) := dk_3 (dk_at dksJ23_canEncode_0 11 rfl rfl)
theorem dJ23_canEncode_12 : decode cJ23_canEncode 12 = .ok (.ireturn, 1) := dk_172 (dk_at dksJ23_canEncode_0 12 rfl rfl)
abbrev cJ23_charAt : ByteArray := prog_40_method_2_code
def yJ23_charAt : MethodName := ⟨RJ23, "charAt", "([BI)C"⟩
def dkwJ23_charAt_0 : List UInt8 := [27, 42, 190, 184, 0, 9, 42, 27, 51, 17, 0, 255, 126, 146, 172]
abbrev dktJ23_charAt_0 : List UInt8 := dkwJ23_charAt_0 ++ []
theorem dksJ23_charAt_0 : cJ23_charAt.data.toList.drop 0 = dktJ23_charAt_0 := by decide +kernel
theorem dJ23_charAt_0 : decode cJ23_charAt 0 = .ok (.iload_n 1, 1) := dk_27 (dk_at dksJ23_charAt_0 0 rfl rfl)
theorem dJ23_charAt_1 : decode cJ23_charAt 1 = .ok (.aload_n 0, 1) := dk_42 (dk_at dksJ23_charAt_0 1 rfl rfl)
theorem dJ23_charAt_2 : decode cJ23_charAt 2 = .ok (.arraylength, 1) := dk_190 (dk_at dksJ23_charAt_0 2 rfl rfl)
theorem dJ23_charAt_3 : decode cJ23_charAt 3 = .ok (.invokestatic 9, 3) := dk_184 0 9 (dk_at dksJ23_charAt_0 3 rfl rfl)
theorem dJ23_charAt_6 : decode cJ23_charAt 6 = .ok (.aload_n 0, 1) := dk_42 (dk_at dksJ23_charAt_0 6 rfl rfl)
theorem dJ23_charAt_7 : decode cJ23_charAt 7 = .ok (.iload_n 1, 1) := dk_27 (dk_at dksJ23_charAt_0 7 rfl rfl)
theorem dJ23_charAt_8 : decode cJ23_charAt 8 = .ok (.baload, 1) := dk_51 (dk_at dksJ23_charAt_0 8 rfl rfl)
theorem dJ23_charAt_9 : decode cJ23_charAt 9 = .ok (.sipush 255, 3) := dk_17 0 255 (dk_at dksJ23_charAt_0 9 rfl rfl)
theorem dJ23_charAt_12 : decode cJ23_charAt 12 = .ok (.iand, 1) := dk_126 (dk_at dksJ23_charAt_0 12 rfl rfl)
theorem dJ23_charAt_13 : decode cJ23_charAt 13 = .ok (.i2c, 1) := dk_146 (dk_at dksJ23_charAt_0 13 rfl rfl)
theorem dJ23_charAt_14 : decode cJ23_charAt 14 = .ok (.ireturn, 1) := dk_172 (dk_at dksJ23_charAt_0 14 rfl rfl)
abbrev cJ23_compareTo : ByteArray := prog_40_method_14_code
def yJ23_compareTo : MethodName := ⟨RJ23, "compareTo", "([B[B)I"⟩
def dkwJ23_compareTo_0 : List UInt8 := [42, 190, 61, 43, 190, 62, 42, 43, 28, 29, 184, 0, 34, 172]
abbrev dktJ23_compareTo_0 : List UInt8 := dkwJ23_compareTo_0 ++ []
theorem dksJ23_compareTo_0 : cJ23_compareTo.data.toList.drop 0 = dktJ23_compareTo_0 := by decide +kernel
theorem dJ23_compareTo_0 : decode cJ23_compareTo 0 = .ok (.aload_n 0, 1) := dk_42 (dk_at dksJ23_compareTo_0 0 rfl rfl)
theorem dJ23_compareTo_1 : decode cJ23_compareTo 1 = .ok (.arraylength, 1) := dk_190 (dk_at dksJ23_compareTo_0 1 rfl rfl)
theorem dJ23_compareTo_2 : decode cJ23_compareTo 2 = .ok (.istore_n 2, 1) := dk_61 (dk_at dksJ23_compareTo_0 2 rfl rfl)
theorem dJ23_compareTo_3 : decode cJ23_compareTo 3 = .ok (.aload_n 1, 1) := dk_43 (dk_at dksJ23_compareTo_0 3 rfl rfl)
theorem dJ23_compareTo_4 : decode cJ23_compareTo 4 = .ok (.arraylength, 1) := dk_190 (dk_at dksJ23_compareTo_0 4 rfl rfl)
theorem dJ23_compareTo_5 : decode cJ23_compareTo 5 = .ok (.istore_n 3, 1) := dk_62 (dk_at dksJ23_compareTo_0 5 rfl rfl)
theorem dJ23_compareTo_6 : decode cJ23_compareTo 6 = .ok (.aload_n 0, 1) := dk_42 (dk_at dksJ23_compareTo_0 6 rfl rfl)
theorem dJ23_compareTo_7 : decode cJ23_compareTo 7 = .ok (.aload_n 1, 1) := dk_43 (dk_at dksJ23_compareTo_0 7 rfl rfl)
theorem dJ23_compareTo_8 : decode cJ23_compareTo 8 = .ok (.iload_n 2, 1) := dk_28 (dk_at dksJ23_compareTo_0 8 rfl rfl)
theorem dJ23_compareTo_9 : decode cJ23_compareTo 9 = .ok (.iload_n 3, 1) := dk_29 (dk_at dksJ23_compareTo_0 9 rfl rfl)
theorem dJ23_compareTo_10 : decode cJ23_compareTo 10 = .ok (.invokestatic 34, 3) := dk_184 0 34 (dk_at dksJ23_compareTo_0 10 rfl rfl)
theorem dJ23_compareTo_13 : decode cJ23_compareTo 13 = .ok (.ireturn, 1) := dk_172 (dk_at dksJ23_compareTo_0 13 rfl rfl)
abbrev cJ23_compareTo_2 : ByteArray := prog_40_method_15_code
def yJ23_compareTo_2 : MethodName := ⟨RJ23, "compareTo", "([B[BII)I"⟩
def dkwJ23_compareTo_2_1 : List UInt8 := [167, 0, 16, 42, 21, 5, 184, 0, 50, 43, 21, 5, 184, 0, 50, 100, 172]
abbrev dktJ23_compareTo_2_1 : List UInt8 := dkwJ23_compareTo_2_1 ++ []
def dkwJ23_compareTo_2_0 : List UInt8 := [28, 29, 184, 0, 38, 54, 4, 42, 43, 21, 4, 184, 0, 44, 54, 5, 21, 5, 156, 0, 9, 28, 29, 100]
abbrev dktJ23_compareTo_2_0 : List UInt8 := dkwJ23_compareTo_2_0 ++ dktJ23_compareTo_2_1
theorem dksJ23_compareTo_2_0 : cJ23_compareTo_2.data.toList.drop 0 = dktJ23_compareTo_2_0 := by decide +kernel
theorem dksJ23_compareTo_2_1 : cJ23_compareTo_2.data.toList.drop 24 = dktJ23_compareTo_2_1 := dk_seg dksJ23_compareTo_2_0 24 rfl rfl
theorem dJ23_compareTo_2_0 : decode cJ23_compareTo_2 0 = .ok (.iload_n 2, 1) := dk_28 (dk_at dksJ23_compareTo_2_0 0 rfl rfl)
theorem dJ23_compareTo_2_1 : decode cJ23_compareTo_2 1 = .ok (.iload_n 3, 1) := dk_29 (dk_at dksJ23_compareTo_2_0 1 rfl rfl)
theorem dJ23_compareTo_2_2 : decode cJ23_compareTo_2 2 = .ok (.invokestatic 38, 3) := dk_184 0 38 (dk_at dksJ23_compareTo_2_0 2 rfl rfl)
theorem dJ23_compareTo_2_5 : decode cJ23_compareTo_2 5 = .ok (.istore 4, 2) := dk_54 4 (dk_at dksJ23_compareTo_2_0 5 rfl rfl)
theorem dJ23_compareTo_2_7 : decode cJ23_compareTo_2 7 = .ok (.aload_n 0, 1) := dk_42 (dk_at dksJ23_compareTo_2_0 7 rfl rfl)
theorem dJ23_compareTo_2_8 : decode cJ23_compareTo_2 8 = .ok (.aload_n 1, 1) := dk_43 (dk_at dksJ23_compareTo_2_0 8 rfl rfl)
theorem dJ23_compareTo_2_9 : decode cJ23_compareTo_2 9 = .ok (.iload 4, 2) := dk_21 4 (dk_at dksJ23_compareTo_2_0 9 rfl rfl)
theorem dJ23_compareTo_2_11 : decode cJ23_compareTo_2 11 = .ok (.invokestatic 44, 3) := dk_184 0 44 (dk_at dksJ23_compareTo_2_0 11 rfl rfl)
theorem dJ23_compareTo_2_14 : decode cJ23_compareTo_2 14 = .ok (.istore 5, 2) := dk_54 5 (dk_at dksJ23_compareTo_2_0 14 rfl rfl)
theorem dJ23_compareTo_2_16 : decode cJ23_compareTo_2 16 = .ok (.iload 5, 2) := dk_21 5 (dk_at dksJ23_compareTo_2_0 16 rfl rfl)
theorem dJ23_compareTo_2_18 : decode cJ23_compareTo_2 18 = .ok (.ifCond .ge 9, 3) := dk_156 0 9 (dk_at dksJ23_compareTo_2_0 18 rfl rfl)
theorem dJ23_compareTo_2_21 : decode cJ23_compareTo_2 21 = .ok (.iload_n 2, 1) := dk_28 (dk_at dksJ23_compareTo_2_0 21 rfl rfl)
theorem dJ23_compareTo_2_22 : decode cJ23_compareTo_2 22 = .ok (.iload_n 3, 1) := dk_29 (dk_at dksJ23_compareTo_2_0 22 rfl rfl)
theorem dJ23_compareTo_2_23 : decode cJ23_compareTo_2 23 = .ok (.isub, 1) := dk_100 (dk_at dksJ23_compareTo_2_0 23 rfl rfl)
theorem dJ23_compareTo_2_24 : decode cJ23_compareTo_2 24 = .ok (.goto 16, 3) := dk_167 0 16 (dk_at dksJ23_compareTo_2_1 0 rfl rfl)
theorem dJ23_compareTo_2_27 : decode cJ23_compareTo_2 27 = .ok (.aload_n 0, 1) := dk_42 (dk_at dksJ23_compareTo_2_1 3 rfl rfl)
theorem dJ23_compareTo_2_28 : decode cJ23_compareTo_2 28 = .ok (.iload 5, 2) := dk_21 5 (dk_at dksJ23_compareTo_2_1 4 rfl rfl)
theorem dJ23_compareTo_2_30 : decode cJ23_compareTo_2 30 = .ok (.invokestatic 50, 3) := dk_184 0 50 (dk_at dksJ23_compareTo_2_1 6 rfl rfl)
theorem dJ23_compareTo_2_33 : decode cJ23_compareTo_2 33 = .ok (.aload_n 1, 1) := dk_43 (dk_at dksJ23_compareTo_2_1 9 rfl rfl)
theorem dJ23_compareTo_2_34 : decode cJ23_compareTo_2 34 = .ok (.iload 5, 2) := dk_21 5 (dk_at dksJ23_compareTo_2_1 10 rfl rfl)
theorem dJ23_compareTo_2_36 : decode cJ23_compareTo_2 36 = .ok (.invokestatic 50, 3) := dk_184 0 50 (dk_at dksJ23_compareTo_2_1 12 rfl rfl)
theorem dJ23_compareTo_2_39 : decode cJ23_compareTo_2 39 = .ok (.isub, 1) := dk_100 (dk_at dksJ23_compareTo_2_1 15 rfl rfl)
theorem dJ23_compareTo_2_40 : decode cJ23_compareTo_2 40 = .ok (.ireturn, 1) := dk_172 (dk_at dksJ23_compareTo_2_1 16 rfl rfl)
abbrev cJ23_getChar : ByteArray := prog_40_method_44_code
def yJ23_getChar : MethodName := ⟨RJ23, "getChar", "([BI)C"⟩
def dkwJ23_getChar_0 : List UInt8 := [42, 27, 51, 17, 0, 255, 126, 146, 172]
abbrev dktJ23_getChar_0 : List UInt8 := dkwJ23_getChar_0 ++ []
theorem dksJ23_getChar_0 : cJ23_getChar.data.toList.drop 0 = dktJ23_getChar_0 := by decide +kernel
theorem dJ23_getChar_0 : decode cJ23_getChar 0 = .ok (.aload_n 0, 1) := dk_42 (dk_at dksJ23_getChar_0 0 rfl rfl)
theorem dJ23_getChar_1 : decode cJ23_getChar 1 = .ok (.iload_n 1, 1) := dk_27 (dk_at dksJ23_getChar_0 1 rfl rfl)
theorem dJ23_getChar_2 : decode cJ23_getChar 2 = .ok (.baload, 1) := dk_51 (dk_at dksJ23_getChar_0 2 rfl rfl)
theorem dJ23_getChar_3 : decode cJ23_getChar 3 = .ok (.sipush 255, 3) := dk_17 0 255 (dk_at dksJ23_getChar_0 3 rfl rfl)
theorem dJ23_getChar_6 : decode cJ23_getChar 6 = .ok (.iand, 1) := dk_126 (dk_at dksJ23_getChar_0 6 rfl rfl)
theorem dJ23_getChar_7 : decode cJ23_getChar 7 = .ok (.i2c, 1) := dk_146 (dk_at dksJ23_getChar_0 7 rfl rfl)
theorem dJ23_getChar_8 : decode cJ23_getChar 8 = .ok (.ireturn, 1) := dk_172 (dk_at dksJ23_getChar_0 8 rfl rfl)
abbrev cJ23_compareToUTF16 : ByteArray := prog_40_method_16_code
def yJ23_compareToUTF16 : MethodName := ⟨RJ23, "compareToUTF16", "([B[B)I"⟩
def dkwJ23_compareToUTF16_0 : List UInt8 := [42, 184, 0, 54, 61, 43, 184, 0, 58, 62, 42, 43, 28, 29, 184, 0, 59, 172]
abbrev dktJ23_compareToUTF16_0 : List UInt8 := dkwJ23_compareToUTF16_0 ++ []
theorem dksJ23_compareToUTF16_0 : cJ23_compareToUTF16.data.toList.drop 0 = dktJ23_compareToUTF16_0 := by decide +kernel
theorem dJ23_compareToUTF16_0 : decode cJ23_compareToUTF16 0 = .ok (.aload_n 0, 1) := dk_42 (dk_at dksJ23_compareToUTF16_0 0 rfl rfl)
theorem dJ23_compareToUTF16_1 : decode cJ23_compareToUTF16 1 = .ok (.invokestatic 54, 3) := dk_184 0 54 (dk_at dksJ23_compareToUTF16_0 1 rfl rfl)
theorem dJ23_compareToUTF16_4 : decode cJ23_compareToUTF16 4 = .ok (.istore_n 2, 1) := dk_61 (dk_at dksJ23_compareToUTF16_0 4 rfl rfl)
theorem dJ23_compareToUTF16_5 : decode cJ23_compareToUTF16 5 = .ok (.aload_n 1, 1) := dk_43 (dk_at dksJ23_compareToUTF16_0 5 rfl rfl)
theorem dJ23_compareToUTF16_6 : decode cJ23_compareToUTF16 6 = .ok (.invokestatic 58, 3) := dk_184 0 58 (dk_at dksJ23_compareToUTF16_0 6 rfl rfl)
theorem dJ23_compareToUTF16_9 : decode cJ23_compareToUTF16 9 = .ok (.istore_n 3, 1) := dk_62 (dk_at dksJ23_compareToUTF16_0 9 rfl rfl)
theorem dJ23_compareToUTF16_10 : decode cJ23_compareToUTF16 10 = .ok (.aload_n 0, 1) := dk_42 (dk_at dksJ23_compareToUTF16_0 10 rfl rfl)
theorem dJ23_compareToUTF16_11 : decode cJ23_compareToUTF16 11 = .ok (.aload_n 1, 1) := dk_43 (dk_at dksJ23_compareToUTF16_0 11 rfl rfl)
theorem dJ23_compareToUTF16_12 : decode cJ23_compareToUTF16 12 = .ok (.iload_n 2, 1) := dk_28 (dk_at dksJ23_compareToUTF16_0 12 rfl rfl)
theorem dJ23_compareToUTF16_13 : decode cJ23_compareToUTF16 13 = .ok (.iload_n 3, 1) := dk_29 (dk_at dksJ23_compareToUTF16_0 13 rfl rfl)
theorem dJ23_compareToUTF16_14 : decode cJ23_compareToUTF16 14 = .ok (.invokestatic 59, 3) := dk_184 0 59 (dk_at dksJ23_compareToUTF16_0 14 rfl rfl)
theorem dJ23_compareToUTF16_17 : decode cJ23_compareToUTF16 17 = .ok (.ireturn, 1) := dk_172 (dk_at dksJ23_compareToUTF16_0 17 rfl rfl)
abbrev cJ23_length : ByteArray := prog_40_method_5_code
def yJ23_length : MethodName := ⟨RJ23, "length", "([B)I"⟩
theorem dJ23_length_0 : decode cJ23_length 0 = .ok (.aload_n 0, 1) := by decide +kernel
theorem dJ23_length_1 : decode cJ23_length 1 = .ok (.arraylength, 1) := by decide +kernel
theorem dJ23_length_2 : decode cJ23_length 2 = .ok (.ireturn, 1) := by decide +kernel
abbrev cJ23_compareToUTF16Values : ByteArray := prog_40_method_18_code
def yJ23_compareToUTF16Values : MethodName := ⟨RJ23, "compareToUTF16Values", "([B[BII)I"⟩
def dkwJ23_compareToUTF16Values_2 : List UInt8 := [132, 5, 1, 167, 255, 217, 28, 29, 100, 172]
abbrev dktJ23_compareToUTF16Values_2 : List UInt8 := dkwJ23_compareToUTF16Values_2 ++ []
def dkwJ23_compareToUTF16Values_1 : List UInt8 := [54, 6, 43, 21, 5, 184, 0, 65, 54, 7, 21, 6, 21, 7, 159, 0, 9, 21, 6, 21, 7, 100, 172]
abbrev dktJ23_compareToUTF16Values_1 : List UInt8 := dkwJ23_compareToUTF16Values_1 ++ dktJ23_compareToUTF16Values_2
def dkwJ23_compareToUTF16Values_0 : List UInt8 := [28, 29, 184, 0, 38, 54, 4, 3, 54, 5, 21, 5, 21, 4, 162, 0, 38, 42, 21, 5, 184, 0, 50]
abbrev dktJ23_compareToUTF16Values_0 : List UInt8 := dkwJ23_compareToUTF16Values_0 ++ dktJ23_compareToUTF16Values_1
theorem dksJ23_compareToUTF16Values_0 : cJ23_compareToUTF16Values.data.toList.drop 0 = dktJ23_compareToUTF16Values_0 := by decide +kernel
theorem dksJ23_compareToUTF16Values_1 : cJ23_compareToUTF16Values.data.toList.drop 23 = dktJ23_compareToUTF16Values_1 := dk_seg dksJ23_compareToUTF16Values_0 23 rfl rfl
theorem dksJ23_compareToUTF16Values_2 : cJ23_compareToUTF16Values.data.toList.drop 46 = dktJ23_compareToUTF16Values_2 := dk_seg dksJ23_compareToUTF16Values_1 23 rfl rfl
theorem dJ23_compareToUTF16Values_0 : decode cJ23_compareToUTF16Values 0 = .ok (.iload_n 2, 1) := dk_28 (dk_at dksJ23_compareToUTF16Values_0 0 rfl rfl)
theorem dJ23_compareToUTF16Values_1 : decode cJ23_compareToUTF16Values 1 = .ok (.iload_n 3, 1) := dk_29 (dk_at dksJ23_compareToUTF16Values_0 1 rfl rfl)
theorem dJ23_compareToUTF16Values_2 : decode cJ23_compareToUTF16Values 2 = .ok (.invokestatic 38, 3) := dk_184 0 38 (dk_at dksJ23_compareToUTF16Values_0 2 rfl rfl)
theorem dJ23_compareToUTF16Values_5 : decode cJ23_compareToUTF16Values 5 = .ok (.istore 4, 2) := dk_54 4 (dk_at dksJ23_compareToUTF16Values_0 5 rfl rfl)
theorem dJ23_compareToUTF16Values_7 : decode cJ23_compareToUTF16Values 7 = .ok (.iconst 0, 1) := dk_3 (dk_at dksJ23_compareToUTF16Values_0 7 rfl rfl)
theorem dJ23_compareToUTF16Values_8 : decode cJ23_compareToUTF16Values 8 = .ok (.istore 5, 2) := dk_54 5 (dk_at dksJ23_compareToUTF16Values_0 8 rfl rfl)
theorem dJ23_compareToUTF16Values_10 : decode cJ23_compareToUTF16Values 10 = .ok (.iload 5, 2) := dk_21 5 (dk_at dksJ23_compareToUTF16Values_0 10 rfl rfl)
theorem dJ23_compareToUTF16Values_12 : decode cJ23_compareToUTF16Values 12 = .ok (.iload 4, 2) := dk_21 4 (dk_at dksJ23_compareToUTF16Values_0 12 rfl rfl)
theorem dJ23_compareToUTF16Values_14 : decode cJ23_compareToUTF16Values 14 = .ok (.if_icmp .ge 38, 3) := dk_162 0 38 (dk_at dksJ23_compareToUTF16Values_0 14 rfl rfl)
theorem dJ23_compareToUTF16Values_17 : decode cJ23_compareToUTF16Values 17 = .ok (.aload_n 0, 1) := dk_42 (dk_at dksJ23_compareToUTF16Values_0 17 rfl rfl)
theorem dJ23_compareToUTF16Values_18 : decode cJ23_compareToUTF16Values 18 = .ok (.iload 5, 2) := dk_21 5 (dk_at dksJ23_compareToUTF16Values_0 18 rfl rfl)
theorem dJ23_compareToUTF16Values_20 : decode cJ23_compareToUTF16Values 20 = .ok (.invokestatic 50, 3) := dk_184 0 50 (dk_at dksJ23_compareToUTF16Values_0 20 rfl rfl)
theorem dJ23_compareToUTF16Values_23 : decode cJ23_compareToUTF16Values 23 = .ok (.istore 6, 2) := dk_54 6 (dk_at dksJ23_compareToUTF16Values_1 0 rfl rfl)
theorem dJ23_compareToUTF16Values_25 : decode cJ23_compareToUTF16Values 25 = .ok (.aload_n 1, 1) := dk_43 (dk_at dksJ23_compareToUTF16Values_1 2 rfl rfl)
theorem dJ23_compareToUTF16Values_26 : decode cJ23_compareToUTF16Values 26 = .ok (.iload 5, 2) := dk_21 5 (dk_at dksJ23_compareToUTF16Values_1 3 rfl rfl)
theorem dJ23_compareToUTF16Values_28 : decode cJ23_compareToUTF16Values 28 = .ok (.invokestatic 65, 3) := dk_184 0 65 (dk_at dksJ23_compareToUTF16Values_1 5 rfl rfl)
theorem dJ23_compareToUTF16Values_31 : decode cJ23_compareToUTF16Values 31 = .ok (.istore 7, 2) := dk_54 7 (dk_at dksJ23_compareToUTF16Values_1 8 rfl rfl)
theorem dJ23_compareToUTF16Values_33 : decode cJ23_compareToUTF16Values 33 = .ok (.iload 6, 2) := dk_21 6 (dk_at dksJ23_compareToUTF16Values_1 10 rfl rfl)
theorem dJ23_compareToUTF16Values_35 : decode cJ23_compareToUTF16Values 35 = .ok (.iload 7, 2) := dk_21 7 (dk_at dksJ23_compareToUTF16Values_1 12 rfl rfl)
theorem dJ23_compareToUTF16Values_37 : decode cJ23_compareToUTF16Values 37 = .ok (.if_icmp .eq 9, 3) := dk_159 0 9 (dk_at dksJ23_compareToUTF16Values_1 14 rfl rfl)
theorem dJ23_compareToUTF16Values_40 : decode cJ23_compareToUTF16Values 40 = .ok (.iload 6, 2) := dk_21 6 (dk_at dksJ23_compareToUTF16Values_1 17 rfl rfl)
theorem dJ23_compareToUTF16Values_42 : decode cJ23_compareToUTF16Values 42 = .ok (.iload 7, 2) := dk_21 7 (dk_at dksJ23_compareToUTF16Values_1 19 rfl rfl)
theorem dJ23_compareToUTF16Values_44 : decode cJ23_compareToUTF16Values 44 = .ok (.isub, 1) := dk_100 (dk_at dksJ23_compareToUTF16Values_1 21 rfl rfl)
theorem dJ23_compareToUTF16Values_45 : decode cJ23_compareToUTF16Values 45 = .ok (.ireturn, 1) := dk_172 (dk_at dksJ23_compareToUTF16Values_1 22 rfl rfl)
theorem dJ23_compareToUTF16Values_46 : decode cJ23_compareToUTF16Values 46 = .ok (.iinc 5 1, 3) := dk_132 5 1 (dk_at dksJ23_compareToUTF16Values_2 0 rfl rfl)
theorem dJ23_compareToUTF16Values_49 : decode cJ23_compareToUTF16Values 49 = .ok (.goto (-39), 3) := dk_167 255 217 (dk_at dksJ23_compareToUTF16Values_2 3 rfl rfl)
theorem dJ23_compareToUTF16Values_52 : decode cJ23_compareToUTF16Values 52 = .ok (.iload_n 2, 1) := dk_28 (dk_at dksJ23_compareToUTF16Values_2 6 rfl rfl)
theorem dJ23_compareToUTF16Values_53 : decode cJ23_compareToUTF16Values 53 = .ok (.iload_n 3, 1) := dk_29 (dk_at dksJ23_compareToUTF16Values_2 7 rfl rfl)
theorem dJ23_compareToUTF16Values_54 : decode cJ23_compareToUTF16Values 54 = .ok (.isub, 1) := dk_100 (dk_at dksJ23_compareToUTF16Values_2 8 rfl rfl)
theorem dJ23_compareToUTF16Values_55 : decode cJ23_compareToUTF16Values 55 = .ok (.ireturn, 1) := dk_172 (dk_at dksJ23_compareToUTF16Values_2 9 rfl rfl)
abbrev cJ23_compareToUTF16_2 : ByteArray := prog_40_method_17_code
def yJ23_compareToUTF16_2 : MethodName := ⟨RJ23, "compareToUTF16", "([B[BII)I"⟩
def dkwJ23_compareToUTF16_2_0 : List UInt8 := [28, 42, 184, 0, 54, 184, 0, 62, 29, 43, 184, 0, 58, 184, 0, 62, 42, 43, 28, 29, 184, 0, 59, 172]
abbrev dktJ23_compareToUTF16_2_0 : List UInt8 := dkwJ23_compareToUTF16_2_0 ++ []
theorem dksJ23_compareToUTF16_2_0 : cJ23_compareToUTF16_2.data.toList.drop 0 = dktJ23_compareToUTF16_2_0 := by decide +kernel
theorem dJ23_compareToUTF16_2_0 : decode cJ23_compareToUTF16_2 0 = .ok (.iload_n 2, 1) := dk_28 (dk_at dksJ23_compareToUTF16_2_0 0 rfl rfl)
theorem dJ23_compareToUTF16_2_1 : decode cJ23_compareToUTF16_2 1 = .ok (.aload_n 0, 1) := dk_42 (dk_at dksJ23_compareToUTF16_2_0 1 rfl rfl)
theorem dJ23_compareToUTF16_2_2 : decode cJ23_compareToUTF16_2 2 = .ok (.invokestatic 54, 3) := dk_184 0 54 (dk_at dksJ23_compareToUTF16_2_0 2 rfl rfl)
theorem dJ23_compareToUTF16_2_5 : decode cJ23_compareToUTF16_2 5 = .ok (.invokestatic 62, 3) := dk_184 0 62 (dk_at dksJ23_compareToUTF16_2_0 5 rfl rfl)
theorem dJ23_compareToUTF16_2_8 : decode cJ23_compareToUTF16_2 8 = .ok (.iload_n 3, 1) := dk_29 (dk_at dksJ23_compareToUTF16_2_0 8 rfl rfl)
theorem dJ23_compareToUTF16_2_9 : decode cJ23_compareToUTF16_2 9 = .ok (.aload_n 1, 1) := dk_43 (dk_at dksJ23_compareToUTF16_2_0 9 rfl rfl)
theorem dJ23_compareToUTF16_2_10 : decode cJ23_compareToUTF16_2 10 = .ok (.invokestatic 58, 3) := dk_184 0 58 (dk_at dksJ23_compareToUTF16_2_0 10 rfl rfl)
theorem dJ23_compareToUTF16_2_13 : decode cJ23_compareToUTF16_2 13 = .ok (.invokestatic 62, 3) := dk_184 0 62 (dk_at dksJ23_compareToUTF16_2_0 13 rfl rfl)
theorem dJ23_compareToUTF16_2_16 : decode cJ23_compareToUTF16_2 16 = .ok (.aload_n 0, 1) := dk_42 (dk_at dksJ23_compareToUTF16_2_0 16 rfl rfl)
theorem dJ23_compareToUTF16_2_17 : decode cJ23_compareToUTF16_2 17 = .ok (.aload_n 1, 1) := dk_43 (dk_at dksJ23_compareToUTF16_2_0 17 rfl rfl)
theorem dJ23_compareToUTF16_2_18 : decode cJ23_compareToUTF16_2 18 = .ok (.iload_n 2, 1) := dk_28 (dk_at dksJ23_compareToUTF16_2_0 18 rfl rfl)
theorem dJ23_compareToUTF16_2_19 : decode cJ23_compareToUTF16_2 19 = .ok (.iload_n 3, 1) := dk_29 (dk_at dksJ23_compareToUTF16_2_0 19 rfl rfl)
theorem dJ23_compareToUTF16_2_20 : decode cJ23_compareToUTF16_2 20 = .ok (.invokestatic 59, 3) := dk_184 0 59 (dk_at dksJ23_compareToUTF16_2_0 20 rfl rfl)
theorem dJ23_compareToUTF16_2_23 : decode cJ23_compareToUTF16_2 23 = .ok (.ireturn, 1) := dk_172 (dk_at dksJ23_compareToUTF16_2_0 23 rfl rfl)
abbrev cJ23_indexOf : ByteArray := prog_40_method_22_code
def yJ23_indexOf : MethodName := ⟨RJ23, "indexOf", "([BIII)I"⟩
def dkwJ23_indexOf_1 : List UInt8 := [161, 0, 5, 2, 172, 42, 27, 28, 29, 184, 0, 95, 172]
abbrev dktJ23_indexOf_1 : List UInt8 := dkwJ23_indexOf_1 ++ []
def dkwJ23_indexOf_0 : List UInt8 := [27, 184, 0, 88, 154, 0, 5, 2, 172, 28, 3, 184, 0, 92, 61, 29, 42, 190, 184, 0, 38, 62, 28, 29]
abbrev dktJ23_indexOf_0 : List UInt8 := dkwJ23_indexOf_0 ++ dktJ23_indexOf_1
theorem dksJ23_indexOf_0 : cJ23_indexOf.data.toList.drop 0 = dktJ23_indexOf_0 := by decide +kernel
theorem dksJ23_indexOf_1 : cJ23_indexOf.data.toList.drop 24 = dktJ23_indexOf_1 := dk_seg dksJ23_indexOf_0 24 rfl rfl
theorem dJ23_indexOf_0 : decode cJ23_indexOf 0 = .ok (.iload_n 1, 1) := dk_27 (dk_at dksJ23_indexOf_0 0 rfl rfl)
theorem dJ23_indexOf_1 : decode cJ23_indexOf 1 = .ok (.invokestatic 88, 3) := dk_184 0 88 (dk_at dksJ23_indexOf_0 1 rfl rfl)
theorem dJ23_indexOf_4 : decode cJ23_indexOf 4 = .ok (.ifCond .ne 5, 3) := dk_154 0 5 (dk_at dksJ23_indexOf_0 4 rfl rfl)
theorem dJ23_indexOf_7 : decode cJ23_indexOf 7 = .ok (.iconst (-1), 1) := dk_2 (dk_at dksJ23_indexOf_0 7 rfl rfl)
theorem dJ23_indexOf_8 : decode cJ23_indexOf 8 = .ok (.ireturn, 1) := dk_172 (dk_at dksJ23_indexOf_0 8 rfl rfl)
theorem dJ23_indexOf_9 : decode cJ23_indexOf 9 = .ok (.iload_n 2, 1) := dk_28 (dk_at dksJ23_indexOf_0 9 rfl rfl)
theorem dJ23_indexOf_10 : decode cJ23_indexOf 10 = .ok (.iconst 0, 1) := dk_3 (dk_at dksJ23_indexOf_0 10 rfl rfl)
theorem dJ23_indexOf_11 : decode cJ23_indexOf 11 = .ok (.invokestatic 92, 3) := dk_184 0 92 (dk_at dksJ23_indexOf_0 11 rfl rfl)
theorem dJ23_indexOf_14 : decode cJ23_indexOf 14 = .ok (.istore_n 2, 1) := dk_61 (dk_at dksJ23_indexOf_0 14 rfl rfl)
theorem dJ23_indexOf_15 : decode cJ23_indexOf 15 = .ok (.iload_n 3, 1) := dk_29 (dk_at dksJ23_indexOf_0 15 rfl rfl)
theorem dJ23_indexOf_16 : decode cJ23_indexOf 16 = .ok (.aload_n 0, 1) := dk_42 (dk_at dksJ23_indexOf_0 16 rfl rfl)
theorem dJ23_indexOf_17 : decode cJ23_indexOf 17 = .ok (.arraylength, 1) := dk_190 (dk_at dksJ23_indexOf_0 17 rfl rfl)
theorem dJ23_indexOf_18 : decode cJ23_indexOf 18 = .ok (.invokestatic 38, 3) := dk_184 0 38 (dk_at dksJ23_indexOf_0 18 rfl rfl)
theorem dJ23_indexOf_21 : decode cJ23_indexOf 21 = .ok (.istore_n 3, 1) := dk_62 (dk_at dksJ23_indexOf_0 21 rfl rfl)
theorem dJ23_indexOf_22 : decode cJ23_indexOf 22 = .ok (.iload_n 2, 1) := dk_28 (dk_at dksJ23_indexOf_0 22 rfl rfl)
theorem dJ23_indexOf_23 : decode cJ23_indexOf 23 = .ok (.iload_n 3, 1) := dk_29 (dk_at dksJ23_indexOf_0 23 rfl rfl)
theorem dJ23_indexOf_24 : decode cJ23_indexOf 24 = .ok (.if_icmp .lt 5, 3) := dk_161 0 5 (dk_at dksJ23_indexOf_1 0 rfl rfl)
theorem dJ23_indexOf_27 : decode cJ23_indexOf 27 = .ok (.iconst (-1), 1) := dk_2 (dk_at dksJ23_indexOf_1 3 rfl rfl)
theorem dJ23_indexOf_28 : decode cJ23_indexOf 28 = .ok (.ireturn, 1) := dk_172 (dk_at dksJ23_indexOf_1 4 rfl rfl)
theorem dJ23_indexOf_29 : decode cJ23_indexOf 29 = .ok (.aload_n 0, 1) := dk_42 (dk_at dksJ23_indexOf_1 5 rfl rfl)
theorem dJ23_indexOf_30 : decode cJ23_indexOf 30 = .ok (.iload_n 1, 1) := dk_27 (dk_at dksJ23_indexOf_1 6 rfl rfl)
theorem dJ23_indexOf_31 : decode cJ23_indexOf 31 = .ok (.iload_n 2, 1) := dk_28 (dk_at dksJ23_indexOf_1 7 rfl rfl)
theorem dJ23_indexOf_32 : decode cJ23_indexOf 32 = .ok (.iload_n 3, 1) := dk_29 (dk_at dksJ23_indexOf_1 8 rfl rfl)
theorem dJ23_indexOf_33 : decode cJ23_indexOf 33 = .ok (.invokestatic 95, 3) := dk_184 0 95 (dk_at dksJ23_indexOf_1 9 rfl rfl)
theorem dJ23_indexOf_36 : decode cJ23_indexOf 36 = .ok (.ireturn, 1) := dk_172 (dk_at dksJ23_indexOf_1 12 rfl rfl)
abbrev cJ23_canEncode_2 : ByteArray := prog_40_method_4_code
def yJ23_canEncode_2 : MethodName := ⟨RJ23, "canEncode", "(I)Z"⟩
def dkwJ23_canEncode_2_0 : List UInt8 := [26, 155, 0, 14, 26, 17, 0, 255, 163, 0, 7, 4, 167, 0, 4, 3, 172]
abbrev dktJ23_canEncode_2_0 : List UInt8 := dkwJ23_canEncode_2_0 ++ []
theorem dksJ23_canEncode_2_0 : cJ23_canEncode_2.data.toList.drop 0 = dktJ23_canEncode_2_0 := by decide +kernel
theorem dJ23_canEncode_2_0 : decode cJ23_canEncode_2 0 = .ok (.iload_n 0, 1) := dk_26 (dk_at dksJ23_canEncode_2_0 0 rfl rfl)
theorem dJ23_canEncode_2_1 : decode cJ23_canEncode_2 1 = .ok (.ifCond .lt 14, 3) := dk_155 0 14 (dk_at dksJ23_canEncode_2_0 1 rfl rfl)
theorem dJ23_canEncode_2_4 : decode cJ23_canEncode_2 4 = .ok (.iload_n 0, 1) := dk_26 (dk_at dksJ23_canEncode_2_0 4 rfl rfl)
theorem dJ23_canEncode_2_5 : decode cJ23_canEncode_2 5 = .ok (.sipush 255, 3) := dk_17 0 255 (dk_at dksJ23_canEncode_2_0 5 rfl rfl)
theorem dJ23_canEncode_2_8 : decode cJ23_canEncode_2 8 = .ok (.if_icmp .gt 7, 3) := dk_163 0 7 (dk_at dksJ23_canEncode_2_0 8 rfl rfl)
theorem dJ23_canEncode_2_11 : decode cJ23_canEncode_2 11 = .ok (.iconst 1, 1) := dk_4 (dk_at dksJ23_canEncode_2_0 11 rfl rfl)
theorem dJ23_canEncode_2_12 : decode cJ23_canEncode_2 12 = .ok (.goto 4, 3) := dk_167 0 4 (dk_at dksJ23_canEncode_2_0 12 rfl rfl)
theorem dJ23_canEncode_2_15 : decode cJ23_canEncode_2 15 = .ok (.iconst 0, 1) := dk_3 (dk_at dksJ23_canEncode_2_0 15 rfl rfl)
theorem dJ23_canEncode_2_16 : decode cJ23_canEncode_2 16 = .ok (.ireturn, 1) := dk_172 (dk_at dksJ23_canEncode_2_0 16 rfl rfl)
abbrev cJ23_indexOfChar : ByteArray := prog_40_method_23_code
def yJ23_indexOfChar : MethodName := ⟨RJ23, "indexOfChar", "([BIII)I"⟩
def dkwJ23_indexOfChar_1 : List UInt8 := [172, 132, 5, 1, 167, 255, 235, 2, 172]
abbrev dktJ23_indexOfChar_1 : List UInt8 := dkwJ23_indexOfChar_1 ++ []
def dkwJ23_indexOfChar_0 : List UInt8 := [27, 145, 54, 4, 28, 54, 5, 21, 5, 29, 162, 0, 21, 42, 21, 5, 51, 21, 4, 160, 0, 6, 21, 5]
abbrev dktJ23_indexOfChar_0 : List UInt8 := dkwJ23_indexOfChar_0 ++ dktJ23_indexOfChar_1
theorem dksJ23_indexOfChar_0 : cJ23_indexOfChar.data.toList.drop 0 = dktJ23_indexOfChar_0 := by decide +kernel
theorem dksJ23_indexOfChar_1 : cJ23_indexOfChar.data.toList.drop 24 = dktJ23_indexOfChar_1 := dk_seg dksJ23_indexOfChar_0 24 rfl rfl
theorem dJ23_indexOfChar_0 : decode cJ23_indexOfChar 0 = .ok (.iload_n 1, 1) := dk_27 (dk_at dksJ23_indexOfChar_0 0 rfl rfl)
theorem dJ23_indexOfChar_1 : decode cJ23_indexOfChar 1 = .ok (.i2b, 1) := dk_145 (dk_at dksJ23_indexOfChar_0 1 rfl rfl)
theorem dJ23_indexOfChar_2 : decode cJ23_indexOfChar 2 = .ok (.istore 4, 2) := dk_54 4 (dk_at dksJ23_indexOfChar_0 2 rfl rfl)
theorem dJ23_indexOfChar_4 : decode cJ23_indexOfChar 4 = .ok (.iload_n 2, 1) := dk_28 (dk_at dksJ23_indexOfChar_0 4 rfl rfl)
theorem dJ23_indexOfChar_5 : decode cJ23_indexOfChar 5 = .ok (.istore 5, 2) := dk_54 5 (dk_at dksJ23_indexOfChar_0 5 rfl rfl)
theorem dJ23_indexOfChar_7 : decode cJ23_indexOfChar 7 = .ok (.iload 5, 2) := dk_21 5 (dk_at dksJ23_indexOfChar_0 7 rfl rfl)
theorem dJ23_indexOfChar_9 : decode cJ23_indexOfChar 9 = .ok (.iload_n 3, 1) := dk_29 (dk_at dksJ23_indexOfChar_0 9 rfl rfl)
theorem dJ23_indexOfChar_10 : decode cJ23_indexOfChar 10 = .ok (.if_icmp .ge 21, 3) := dk_162 0 21 (dk_at dksJ23_indexOfChar_0 10 rfl rfl)
theorem dJ23_indexOfChar_13 : decode cJ23_indexOfChar 13 = .ok (.aload_n 0, 1) := dk_42 (dk_at dksJ23_indexOfChar_0 13 rfl rfl)
theorem dJ23_indexOfChar_14 : decode cJ23_indexOfChar 14 = .ok (.iload 5, 2) := dk_21 5 (dk_at dksJ23_indexOfChar_0 14 rfl rfl)
theorem dJ23_indexOfChar_16 : decode cJ23_indexOfChar 16 = .ok (.baload, 1) := dk_51 (dk_at dksJ23_indexOfChar_0 16 rfl rfl)
theorem dJ23_indexOfChar_17 : decode cJ23_indexOfChar 17 = .ok (.iload 4, 2) := dk_21 4 (dk_at dksJ23_indexOfChar_0 17 rfl rfl)
theorem dJ23_indexOfChar_19 : decode cJ23_indexOfChar 19 = .ok (.if_icmp .ne 6, 3) := dk_160 0 6 (dk_at dksJ23_indexOfChar_0 19 rfl rfl)
theorem dJ23_indexOfChar_22 : decode cJ23_indexOfChar 22 = .ok (.iload 5, 2) := dk_21 5 (dk_at dksJ23_indexOfChar_0 22 rfl rfl)
theorem dJ23_indexOfChar_24 : decode cJ23_indexOfChar 24 = .ok (.ireturn, 1) := dk_172 (dk_at dksJ23_indexOfChar_1 0 rfl rfl)
theorem dJ23_indexOfChar_25 : decode cJ23_indexOfChar 25 = .ok (.iinc 5 1, 3) := dk_132 5 1 (dk_at dksJ23_indexOfChar_1 1 rfl rfl)
theorem dJ23_indexOfChar_28 : decode cJ23_indexOfChar 28 = .ok (.goto (-21), 3) := dk_167 255 235 (dk_at dksJ23_indexOfChar_1 4 rfl rfl)
theorem dJ23_indexOfChar_31 : decode cJ23_indexOfChar 31 = .ok (.iconst (-1), 1) := dk_2 (dk_at dksJ23_indexOfChar_1 7 rfl rfl)
theorem dJ23_indexOfChar_32 : decode cJ23_indexOfChar 32 = .ok (.ireturn, 1) := dk_172 (dk_at dksJ23_indexOfChar_1 8 rfl rfl)
theorem q149 : (Jvm.Cond.initialized "java/lang/StringLatin1") ∈ lw_all := lw_g (lw_at lw_m1 27 rfl) rfl
theorem q463 : (Jvm.Cond.static ({ cls := "java/lang/StringLatin1", name := "inflate", desc := "([BI[BII)V" } : Jvm.MethodName)) ∈ lw_all := lw_g (lw_at lw_m2 101 rfl) rfl
theorem q464 : (Jvm.Cond.code ({ cls := "java/lang/StringLatin1", name := "inflate", desc := "([BI[BII)V" } : Jvm.MethodName) prog_40_method_50_code (5 : Nat) (Option.none : Option Jvm.ClassFile.FieldType)) ∈ lw_all := lw_g (lw_at lw_m2 102 rfl) rfl
theorem q465 : (Jvm.Cond.methodLink "java/lang/StringLatin1" (240 : Nat) ({ cls := "java/lang/StringUTF16", name := "inflate", desc := "([BI[BII)V" } : Jvm.MethodName)) ∈ lw_all := lw_g (lw_at lw_m2 103 rfl) rfl
theorem q652 : (Jvm.Cond.static ({ cls := "java/lang/StringLatin1", name := "fillNull", desc := "([BII)V" } : Jvm.MethodName)) ∈ lw_all := lw_g (lw_at lw_m3 50 rfl) rfl
theorem q653 : (Jvm.Cond.code ({ cls := "java/lang/StringLatin1", name := "fillNull", desc := "([BII)V" } : Jvm.MethodName) prog_40_method_48_code (3 : Nat) (Option.none : Option Jvm.ClassFile.FieldType)) ∈ lw_all := lw_g (lw_at lw_m3 51 rfl) rfl
theorem q654 : (Jvm.Cond.methodLink "java/lang/StringLatin1" (236 : Nat) ({ cls := "java/util/Arrays", name := "fill", desc := "([BIIB)V" } : Jvm.MethodName)) ∈ lw_all := lw_g (lw_at lw_m3 52 rfl) rfl
theorem q1267 : (Jvm.Cond.static ({ cls := "java/lang/StringLatin1", name := "canEncode", desc := "(C)Z" } : Jvm.MethodName)) ∈ lw_all := lw_g (lw_at lw_m5 185 rfl) rfl
theorem q1268 : (Jvm.Cond.code ({ cls := "java/lang/StringLatin1", name := "canEncode", desc := "(C)Z" } : Jvm.MethodName) prog_40_method_3_code (1 : Nat) (Option.some Jvm.ClassFile.FieldType.boolean)) ∈ lw_all := lw_g (lw_at lw_m5 186 rfl) rfl
theorem q1352 : (Jvm.Cond.static ({ cls := "java/lang/StringLatin1", name := "charAt", desc := "([BI)C" } : Jvm.MethodName)) ∈ lw_all := lw_g (lw_at lw_m6 30 rfl) rfl
theorem q1353 : (Jvm.Cond.code ({ cls := "java/lang/StringLatin1", name := "charAt", desc := "([BI)C" } : Jvm.MethodName) prog_40_method_2_code (2 : Nat) (Option.some Jvm.ClassFile.FieldType.char)) ∈ lw_all := lw_g (lw_at lw_m6 31 rfl) rfl
theorem q1354 : (Jvm.Cond.methodLink "java/lang/StringLatin1" (9 : Nat) ({ cls := "java/lang/String", name := "checkIndex", desc := "(II)V" } : Jvm.MethodName)) ∈ lw_all := lw_g (lw_at lw_m6 32 rfl) rfl
theorem q1570 : (Jvm.Cond.static ({ cls := "java/lang/StringLatin1", name := "compareTo", desc := "([B[B)I" } : Jvm.MethodName)) ∈ lw_all := lw_g (lw_at lw_m7 8 rfl) rfl
theorem q1571 : (Jvm.Cond.code ({ cls := "java/lang/StringLatin1", name := "compareTo", desc := "([B[B)I" } : Jvm.MethodName) prog_40_method_14_code (4 : Nat) (Option.some Jvm.ClassFile.FieldType.int)) ∈ lw_all := lw_g (lw_at lw_m7 9 rfl) rfl
theorem q1572 : (Jvm.Cond.methodLink "java/lang/StringLatin1" (34 : Nat) ({ cls := "java/lang/StringLatin1", name := "compareTo", desc := "([B[BII)I" } : Jvm.MethodName)) ∈ lw_all := lw_g (lw_at lw_m7 10 rfl) rfl
theorem q1573 : (Jvm.Cond.static ({ cls := "java/lang/StringLatin1", name := "compareTo", desc := "([B[BII)I" } : Jvm.MethodName)) ∈ lw_all := lw_g (lw_at lw_m7 11 rfl) rfl
theorem q1574 : (Jvm.Cond.code ({ cls := "java/lang/StringLatin1", name := "compareTo", desc := "([B[BII)I" } : Jvm.MethodName) prog_40_method_15_code (6 : Nat) (Option.some Jvm.ClassFile.FieldType.int)) ∈ lw_all := lw_g (lw_at lw_m7 12 rfl) rfl
theorem q1575 : (Jvm.Cond.methodLink "java/lang/StringLatin1" (38 : Nat) ({ cls := "java/lang/Math", name := "min", desc := "(II)I" } : Jvm.MethodName)) ∈ lw_all := lw_g (lw_at lw_m7 13 rfl) rfl
theorem q1576 : (Jvm.Cond.methodLink "java/lang/StringLatin1" (44 : Nat) ({ cls := "jdk/internal/util/ArraysSupport", name := "mismatch", desc := "([B[BI)I" } : Jvm.MethodName)) ∈ lw_all := lw_g (lw_at lw_m7 14 rfl) rfl
theorem q1674 : (Jvm.Cond.methodLink "java/lang/StringLatin1" (50 : Nat) ({ cls := "java/lang/StringLatin1", name := "getChar", desc := "([BI)C" } : Jvm.MethodName)) ∈ lw_all := lw_g (lw_at lw_m7 112 rfl) rfl
theorem q1675 : (Jvm.Cond.static ({ cls := "java/lang/StringLatin1", name := "getChar", desc := "([BI)C" } : Jvm.MethodName)) ∈ lw_all := lw_g (lw_at lw_m7 113 rfl) rfl
theorem q1676 : (Jvm.Cond.code ({ cls := "java/lang/StringLatin1", name := "getChar", desc := "([BI)C" } : Jvm.MethodName) prog_40_method_44_code (2 : Nat) (Option.some Jvm.ClassFile.FieldType.char)) ∈ lw_all := lw_g (lw_at lw_m7 114 rfl) rfl
theorem q1685 : (Jvm.Cond.static ({ cls := "java/lang/StringLatin1", name := "compareToUTF16", desc := "([B[B)I" } : Jvm.MethodName)) ∈ lw_all := lw_g (lw_at lw_m7 123 rfl) rfl
theorem q1686 : (Jvm.Cond.code ({ cls := "java/lang/StringLatin1", name := "compareToUTF16", desc := "([B[B)I" } : Jvm.MethodName) prog_40_method_16_code (4 : Nat) (Option.some Jvm.ClassFile.FieldType.int)) ∈ lw_all := lw_g (lw_at lw_m7 124 rfl) rfl
theorem q1687 : (Jvm.Cond.methodLink "java/lang/StringLatin1" (54 : Nat) ({ cls := "java/lang/StringLatin1", name := "length", desc := "([B)I" } : Jvm.MethodName)) ∈ lw_all := lw_g (lw_at lw_m7 125 rfl) rfl
theorem q1688 : (Jvm.Cond.static ({ cls := "java/lang/StringLatin1", name := "length", desc := "([B)I" } : Jvm.MethodName)) ∈ lw_all := lw_g (lw_at lw_m7 126 rfl) rfl
theorem q1689 : (Jvm.Cond.code ({ cls := "java/lang/StringLatin1", name := "length", desc := "([B)I" } : Jvm.MethodName) prog_40_method_5_code (1 : Nat) (Option.some Jvm.ClassFile.FieldType.int)) ∈ lw_all := lw_g (lw_at lw_m7 127 rfl) rfl
theorem q1690 : (Jvm.Cond.methodLink "java/lang/StringLatin1" (58 : Nat) ({ cls := "java/lang/StringUTF16", name := "length", desc := "([B)I" } : Jvm.MethodName)) ∈ lw_all := lw_g (lw_at lw_m7 128 rfl) rfl
theorem q1691 : (Jvm.Cond.methodLink "java/lang/StringLatin1" (59 : Nat) ({ cls := "java/lang/StringLatin1", name := "compareToUTF16Values", desc := "([B[BII)I" } : Jvm.MethodName)) ∈ lw_all := lw_g (lw_at lw_m7 129 rfl) rfl
theorem q1692 : (Jvm.Cond.static ({ cls := "java/lang/StringLatin1", name := "compareToUTF16Values", desc := "([B[BII)I" } : Jvm.MethodName)) ∈ lw_all := lw_g (lw_at lw_m7 130 rfl) rfl
theorem q1693 : (Jvm.Cond.code ({ cls := "java/lang/StringLatin1", name := "compareToUTF16Values", desc := "([B[BII)I" } : Jvm.MethodName) prog_40_method_18_code (8 : Nat) (Option.some Jvm.ClassFile.FieldType.int)) ∈ lw_all := lw_g (lw_at lw_m7 131 rfl) rfl
theorem q1694 : (Jvm.Cond.methodLink "java/lang/StringLatin1" (65 : Nat) ({ cls := "java/lang/StringUTF16", name := "getChar", desc := "([BI)C" } : Jvm.MethodName)) ∈ lw_all := lw_g (lw_at lw_m7 132 rfl) rfl
theorem q1724 : (Jvm.Cond.static ({ cls := "java/lang/StringLatin1", name := "compareToUTF16", desc := "([B[BII)I" } : Jvm.MethodName)) ∈ lw_all := lw_g (lw_at lw_m7 162 rfl) rfl
theorem q1725 : (Jvm.Cond.code ({ cls := "java/lang/StringLatin1", name := "compareToUTF16", desc := "([B[BII)I" } : Jvm.MethodName) prog_40_method_17_code (4 : Nat) (Option.some Jvm.ClassFile.FieldType.int)) ∈ lw_all := lw_g (lw_at lw_m7 163 rfl) rfl
theorem q1726 : (Jvm.Cond.methodLink "java/lang/StringLatin1" (62 : Nat) ({ cls := "java/lang/String", name := "checkOffset", desc := "(II)V" } : Jvm.MethodName)) ∈ lw_all := lw_g (lw_at lw_m7 164 rfl) rfl
theorem q2446 : (Jvm.Cond.static ({ cls := "java/lang/StringLatin1", name := "indexOf", desc := "([BIII)I" } : Jvm.MethodName)) ∈ lw_all := lw_g (lw_at lw_m10 164 rfl) rfl
theorem q2447 : (Jvm.Cond.code ({ cls := "java/lang/StringLatin1", name := "indexOf", desc := "([BIII)I" } : Jvm.MethodName) prog_40_method_22_code (4 : Nat) (Option.some Jvm.ClassFile.FieldType.int)) ∈ lw_all := lw_g (lw_at lw_m10 165 rfl) rfl
theorem q2448 : (Jvm.Cond.methodLink "java/lang/StringLatin1" (88 : Nat) ({ cls := "java/lang/StringLatin1", name := "canEncode", desc := "(I)Z" } : Jvm.MethodName)) ∈ lw_all := lw_g (lw_at lw_m10 166 rfl) rfl
theorem q2449 : (Jvm.Cond.static ({ cls := "java/lang/StringLatin1", name := "canEncode", desc := "(I)Z" } : Jvm.MethodName)) ∈ lw_all := lw_g (lw_at lw_m10 167 rfl) rfl
theorem q2450 : (Jvm.Cond.code ({ cls := "java/lang/StringLatin1", name := "canEncode", desc := "(I)Z" } : Jvm.MethodName) prog_40_method_4_code (1 : Nat) (Option.some Jvm.ClassFile.FieldType.boolean)) ∈ lw_all := lw_g (lw_at lw_m10 168 rfl) rfl
theorem q2451 : (Jvm.Cond.methodLink "java/lang/StringLatin1" (92 : Nat) ({ cls := "java/lang/Math", name := "max", desc := "(II)I" } : Jvm.MethodName)) ∈ lw_all := lw_g (lw_at lw_m10 169 rfl) rfl
theorem q2452 : (Jvm.Cond.methodLink "java/lang/StringLatin1" (95 : Nat) ({ cls := "java/lang/StringLatin1", name := "indexOfChar", desc := "([BIII)I" } : Jvm.MethodName)) ∈ lw_all := lw_g (lw_at lw_m10 170 rfl) rfl
theorem q2453 : (Jvm.Cond.static ({ cls := "java/lang/StringLatin1", name := "indexOfChar", desc := "([BIII)I" } : Jvm.MethodName)) ∈ lw_all := lw_g (lw_at lw_m10 171 rfl) rfl
theorem q2454 : (Jvm.Cond.code ({ cls := "java/lang/StringLatin1", name := "indexOfChar", desc := "([BIII)I" } : Jvm.MethodName) prog_40_method_23_code (6 : Nat) (Option.some Jvm.ClassFile.FieldType.int)) ∈ lw_all := lw_g (lw_at lw_m10 172 rfl) rfl
/-! java/lang/Number -/
set_option maxRecDepth 100000
def RJ24 : String := "java/lang/Number"
abbrev cJ24_init : ByteArray := prog_34_method_1_code
def yJ24_init : MethodName := ⟨RJ24, "<init>", "()V"⟩
theorem dJ24_init_0 : decode cJ24_init 0 = .ok (.aload_n 0, 1) := by decide +kernel
theorem dJ24_init_1 : decode cJ24_init 1 = .ok (.invokespecial 1, 3) := by decide +kernel
theorem dJ24_init_4 : decode cJ24_init 4 = .ok (.return_, 1) := by decide +kernel
theorem q150 : (Jvm.Cond.initialized "java/lang/Number") ∈ lw_all := lw_g (lw_at lw_m1 28 rfl) rfl
theorem q1391 : (Jvm.Cond.instanceMethod ({ cls := "java/lang/Number", name := "<init>", desc := "()V" } : Jvm.MethodName)) ∈ lw_all := lw_g (lw_at lw_m6 69 rfl) rfl
theorem q1392 : (Jvm.Cond.code ({ cls := "java/lang/Number", name := "<init>", desc := "()V" } : Jvm.MethodName) prog_34_method_1_code (1 : Nat) (Option.none : Option Jvm.ClassFile.FieldType)) ∈ lw_all := lw_g (lw_at lw_m6 70 rfl) rfl
theorem q1393 : (Jvm.Cond.methodLink "java/lang/Number" (1 : Nat) ({ cls := "java/lang/Object", name := "<init>", desc := "()V" } : Jvm.MethodName)) ∈ lw_all := lw_g (lw_at lw_m6 71 rfl) rfl
/-! java/lang/Integer -/
set_option maxRecDepth 100000
def RJ25 : String := "java/lang/Integer"
def TJ25 : u_T := fun k => match k with
  | _ => ("java/lang/Integer", "value", "I", true)
def tyJ25 : Nat → FieldType := fun k => match k with
  | _ => .int
abbrev wsJ250 : List Cond := u_ws RJ25 TJ25 1
theorem nmJ25 : ∀ a, a < 1 → ∀ b, b < 1 → a ≠ b → (TJ25 a).2.1 ≠ (TJ25 b).2.1 := by decide +kernel
theorem tyJ25_ok : ∀ k, k < 1 → parseFieldDescriptor (TJ25 k).2.2.1 = some (tyJ25 k) := by decide +kernel
abbrev cJ25_stringSize : ByteArray := prog_29_method_13_code
def yJ25_stringSize : MethodName := ⟨RJ25, "stringSize", "(I)I"⟩
def dkwJ25_stringSize_1 : List UInt8 := [164, 0, 7, 29, 27, 96, 172, 16, 10, 28, 104, 61, 132, 3, 1, 167, 255, 233, 16, 10, 27, 96, 172]
abbrev dktJ25_stringSize_1 : List UInt8 := dkwJ25_stringSize_1 ++ []
def dkwJ25_stringSize_0 : List UInt8 := [4, 60, 26, 155, 0, 8, 3, 60, 26, 116, 59, 16, 246, 61, 4, 62, 29, 16, 10, 162, 0, 23, 26, 28]
abbrev dktJ25_stringSize_0 : List UInt8 := dkwJ25_stringSize_0 ++ dktJ25_stringSize_1
theorem dksJ25_stringSize_0 : cJ25_stringSize.data.toList.drop 0 = dktJ25_stringSize_0 := by decide +kernel
theorem dksJ25_stringSize_1 : cJ25_stringSize.data.toList.drop 24 = dktJ25_stringSize_1 := dk_seg dksJ25_stringSize_0 24 rfl rfl
theorem dJ25_stringSize_0 : decode cJ25_stringSize 0 = .ok (.iconst 1, 1) := dk_4 (dk_at dksJ25_stringSize_0 0 rfl rfl)
theorem dJ25_stringSize_1 : decode cJ25_stringSize 1 = .ok (.istore_n 1, 1) := dk_60 (dk_at dksJ25_stringSize_0 1 rfl rfl)
theorem dJ25_stringSize_2 : decode cJ25_stringSize 2 = .ok (.iload_n 0, 1) := dk_26 (dk_at dksJ25_stringSize_0 2 rfl rfl)
theorem dJ25_stringSize_3 : decode cJ25_stringSize 3 = .ok (.ifCond .lt 8, 3) := dk_155 0 8 (dk_at dksJ25_stringSize_0 3 rfl rfl)
theorem dJ25_stringSize_6 : decode cJ25_stringSize 6 = .ok (.iconst 0, 1) := dk_3 (dk_at dksJ25_stringSize_0 6 rfl rfl)
theorem dJ25_stringSize_7 : decode cJ25_stringSize 7 = .ok (.istore_n 1, 1) := dk_60 (dk_at dksJ25_stringSize_0 7 rfl rfl)
theorem dJ25_stringSize_8 : decode cJ25_stringSize 8 = .ok (.iload_n 0, 1) := dk_26 (dk_at dksJ25_stringSize_0 8 rfl rfl)
theorem dJ25_stringSize_9 : decode cJ25_stringSize 9 = .ok (.ineg, 1) := dk_116 (dk_at dksJ25_stringSize_0 9 rfl rfl)
theorem dJ25_stringSize_10 : decode cJ25_stringSize 10 = .ok (.istore_n 0, 1) := dk_59 (dk_at dksJ25_stringSize_0 10 rfl rfl)
theorem dJ25_stringSize_11 : decode cJ25_stringSize 11 = .ok (.bipush (-10), 2) := dk_16 246 (dk_at dksJ25_stringSize_0 11 rfl rfl)
theorem dJ25_stringSize_13 : decode cJ25_stringSize 13 = .ok (.istore_n 2, 1) := dk_61 (dk_at dksJ25_stringSize_0 13 rfl rfl)
theorem dJ25_stringSize_14 : decode cJ25_stringSize 14 = .ok (.iconst 1, 1) := dk_4 (dk_at dksJ25_stringSize_0 14 rfl rfl)
theorem dJ25_stringSize_15 : decode cJ25_stringSize 15 = .ok (.istore_n 3, 1) := dk_62 (dk_at dksJ25_stringSize_0 15 rfl rfl)
theorem dJ25_stringSize_16 : decode cJ25_stringSize 16 = .ok (.iload_n 3, 1) := dk_29 (dk_at dksJ25_stringSize_0 16 rfl rfl)
theorem dJ25_stringSize_17 : decode cJ25_stringSize 17 = .ok (.bipush 10, 2) := dk_16 10 (dk_at dksJ25_stringSize_0 17 rfl rfl)
theorem dJ25_stringSize_19 : decode cJ25_stringSize 19 = .ok (.if_icmp .ge 23, 3) := dk_162 0 23 (dk_at dksJ25_stringSize_0 19 rfl rfl)
theorem dJ25_stringSize_22 : decode cJ25_stringSize 22 = .ok (.iload_n 0, 1) := dk_26 (dk_at dksJ25_stringSize_0 22 rfl rfl)
theorem dJ25_stringSize_23 : decode cJ25_stringSize 23 = .ok (.iload_n 2, 1) := dk_28 (dk_at dksJ25_stringSize_0 23 rfl rfl)
theorem dJ25_stringSize_24 : decode cJ25_stringSize 24 = .ok (.if_icmp .le 7, 3) := dk_164 0 7 (dk_at dksJ25_stringSize_1 0 rfl rfl)
theorem dJ25_stringSize_27 : decode cJ25_stringSize 27 = .ok (.iload_n 3, 1) := dk_29 (dk_at dksJ25_stringSize_1 3 rfl rfl)
theorem dJ25_stringSize_28 : decode cJ25_stringSize 28 = .ok (.iload_n 1, 1) := dk_27 (dk_at dksJ25_stringSize_1 4 rfl rfl)
theorem dJ25_stringSize_29 : decode cJ25_stringSize 29 = .ok (.iadd, 1) := dk_96 (dk_at dksJ25_stringSize_1 5 rfl rfl)
theorem dJ25_stringSize_30 : decode cJ25_stringSize 30 = .ok (.ireturn, 1) := dk_172 (dk_at dksJ25_stringSize_1 6 rfl rfl)
theorem dJ25_stringSize_31 : decode cJ25_stringSize 31 = .ok (.bipush 10, 2) := dk_16 10 (dk_at dksJ25_stringSize_1 7 rfl rfl)
theorem dJ25_stringSize_33 : decode cJ25_stringSize 33 = .ok (.iload_n 2, 1) := dk_28 (dk_at dksJ25_stringSize_1 9 rfl rfl)
theorem dJ25_stringSize_34 : decode cJ25_stringSize 34 = .ok (.imul, 1) := dk_104 (dk_at dksJ25_stringSize_1 10 rfl rfl)
theorem dJ25_stringSize_35 : decode cJ25_stringSize 35 = .ok (.istore_n 2, 1) := dk_61 (dk_at dksJ25_stringSize_1 11 rfl rfl)
theorem dJ25_stringSize_36 : decode cJ25_stringSize 36 = .ok (.iinc 3 1, 3) := dk_132 3 1 (dk_at dksJ25_stringSize_1 12 rfl rfl)
theorem dJ25_stringSize_39 : decode cJ25_stringSize 39 = .ok (.goto (-23), 3) := dk_167 255 233 (dk_at dksJ25_stringSize_1 15 rfl rfl)
theorem dJ25_stringSize_42 : decode cJ25_stringSize 42 = .ok (.bipush 10, 2) := dk_16 10 (dk_at dksJ25_stringSize_1 18 rfl rfl)
theorem dJ25_stringSize_44 : decode cJ25_stringSize 44 = .ok (.iload_n 1, 1) := dk_27 (dk_at dksJ25_stringSize_1 20 rfl rfl)
theorem dJ25_stringSize_45 : decode cJ25_stringSize 45 = .ok (.iadd, 1) := dk_96 (dk_at dksJ25_stringSize_1 21 rfl rfl)
theorem dJ25_stringSize_46 : decode cJ25_stringSize 46 = .ok (.ireturn, 1) := dk_172 (dk_at dksJ25_stringSize_1 22 rfl rfl)
abbrev cJ25_getChars : ByteArray := prog_29_method_12_code
def yJ25_getChars : MethodName := ⟨RJ25, "getChars", "(II[B)I"⟩
def dkwJ25_getChars_5 : List UInt8 := [16, 45, 84, 21, 5, 172]
abbrev dktJ25_getChars_5 : List UInt8 := dkwJ25_getChars_5 ++ []
def dkwJ25_getChars_4 : List UInt8 := [132, 5, 255, 21, 5, 178, 0, 87, 26, 116, 51, 84, 21, 6, 153, 0, 12, 44, 132, 5, 255, 21, 5]
abbrev dktJ25_getChars_4 : List UInt8 := dkwJ25_getChars_4 ++ dktJ25_getChars_5
def dkwJ25_getChars_3 : List UInt8 := [167, 255, 209, 44, 132, 5, 255, 21, 5, 178, 0, 83, 26, 116, 51, 84, 26, 16, 247, 162, 0, 16, 44]
abbrev dktJ25_getChars_3 : List UInt8 := dkwJ25_getChars_3 ++ dktJ25_getChars_4
def dkwJ25_getChars_2 : List UInt8 := [21, 5, 178, 0, 83, 21, 4, 51, 84, 44, 132, 5, 255, 21, 5, 178, 0, 87, 21, 4, 51, 84]
abbrev dktJ25_getChars_2 : List UInt8 := dkwJ25_getChars_2 ++ dktJ25_getChars_3
def dkwJ25_getChars_1 : List UInt8 := [16, 156, 163, 0, 47, 26, 16, 100, 108, 62, 29, 16, 100, 104, 26, 100, 54, 4, 29, 59, 44, 132, 5, 255]
abbrev dktJ25_getChars_1 : List UInt8 := dkwJ25_getChars_1 ++ dktJ25_getChars_2
def dkwJ25_getChars_0 : List UInt8 := [27, 54, 5, 26, 156, 0, 7, 4, 167, 0, 4, 3, 54, 6, 21, 6, 154, 0, 6, 26, 116, 59, 26]
abbrev dktJ25_getChars_0 : List UInt8 := dkwJ25_getChars_0 ++ dktJ25_getChars_1
theorem dksJ25_getChars_0 : cJ25_getChars.data.toList.drop 0 = dktJ25_getChars_0 := by decide +kernel
theorem dksJ25_getChars_1 : cJ25_getChars.data.toList.drop 23 = dktJ25_getChars_1 := dk_seg dksJ25_getChars_0 23 rfl rfl
theorem dksJ25_getChars_2 : cJ25_getChars.data.toList.drop 47 = dktJ25_getChars_2 := dk_seg dksJ25_getChars_1 24 rfl rfl
theorem dksJ25_getChars_3 : cJ25_getChars.data.toList.drop 69 = dktJ25_getChars_3 := dk_seg dksJ25_getChars_2 22 rfl rfl
theorem dksJ25_getChars_4 : cJ25_getChars.data.toList.drop 92 = dktJ25_getChars_4 := dk_seg dksJ25_getChars_3 23 rfl rfl
theorem dksJ25_getChars_5 : cJ25_getChars.data.toList.drop 115 = dktJ25_getChars_5 := dk_seg dksJ25_getChars_4 23 rfl rfl
theorem dJ25_getChars_0 : decode cJ25_getChars 0 = .ok (.iload_n 1, 1) := dk_27 (dk_at dksJ25_getChars_0 0 rfl rfl)
theorem dJ25_getChars_1 : decode cJ25_getChars 1 = .ok (.istore 5, 2) := dk_54 5 (dk_at dksJ25_getChars_0 1 rfl rfl)
theorem dJ25_getChars_3 : decode cJ25_getChars 3 = .ok (.iload_n 0, 1) := dk_26 (dk_at dksJ25_getChars_0 3 rfl rfl)
theorem dJ25_getChars_4 : decode cJ25_getChars 4 = .ok (.ifCond .ge 7, 3) := dk_156 0 7 (dk_at dksJ25_getChars_0 4 rfl rfl)
theorem dJ25_getChars_7 : decode cJ25_getChars 7 = .ok (.iconst 1, 1) := dk_4 (dk_at dksJ25_getChars_0 7 rfl rfl)
theorem dJ25_getChars_8 : decode cJ25_getChars 8 = .ok (.goto 4, 3) := dk_167 0 4 (dk_at dksJ25_getChars_0 8 rfl rfl)
theorem dJ25_getChars_11 : decode cJ25_getChars 11 = .ok (.iconst 0, 1) := dk_3 (dk_at dksJ25_getChars_0 11 rfl rfl)
theorem dJ25_getChars_12 : decode cJ25_getChars 12 = .ok (.istore 6, 2) := dk_54 6 (dk_at dksJ25_getChars_0 12 rfl rfl)
theorem dJ25_getChars_14 : decode cJ25_getChars 14 = .ok (.iload 6, 2) := dk_21 6 (dk_at dksJ25_getChars_0 14 rfl rfl)
theorem dJ25_getChars_16 : decode cJ25_getChars 16 = .ok (.ifCond .ne 6, 3) := dk_154 0 6 (dk_at dksJ25_getChars_0 16 rfl rfl)
theorem dJ25_getChars_19 : decode cJ25_getChars 19 = .ok (.iload_n 0, 1) := dk_26 (dk_at dksJ25_getChars_0 19 rfl rfl)
theorem dJ25_getChars_20 : decode cJ25_getChars 20 = .ok (.ineg, 1) := dk_116 (dk_at dksJ25_getChars_0 20 rfl rfl)
theorem dJ25_getChars_21 : decode cJ25_getChars 21 = .ok (.istore_n 0, 1) := dk_59 (dk_at dksJ25_getChars_0 21 rfl rfl)
theorem dJ25_getChars_22 : decode cJ25_getChars 22 = .ok (.iload_n 0, 1) := dk_26 (dk_at dksJ25_getChars_0 22 rfl rfl)
theorem dJ25_getChars_23 : decode cJ25_getChars 23 = .ok (.bipush (-100), 2) := dk_16 156 (dk_at dksJ25_getChars_1 0 rfl rfl)
theorem dJ25_getChars_25 : decode cJ25_getChars 25 = .ok (.if_icmp .gt 47, 3) := dk_163 0 47 (dk_at dksJ25_getChars_1 2 rfl rfl)
theorem dJ25_getChars_28 : decode cJ25_getChars 28 = .ok (.iload_n 0, 1) := dk_26 (dk_at dksJ25_getChars_1 5 rfl rfl)
theorem dJ25_getChars_29 : decode cJ25_getChars 29 = .ok (.bipush 100, 2) := dk_16 100 (dk_at dksJ25_getChars_1 6 rfl rfl)
theorem dJ25_getChars_31 : decode cJ25_getChars 31 = .ok (.idiv, 1) := dk_108 (dk_at dksJ25_getChars_1 8 rfl rfl)
theorem dJ25_getChars_32 : decode cJ25_getChars 32 = .ok (.istore_n 3, 1) := dk_62 (dk_at dksJ25_getChars_1 9 rfl rfl)
theorem dJ25_getChars_33 : decode cJ25_getChars 33 = .ok (.iload_n 3, 1) := dk_29 (dk_at dksJ25_getChars_1 10 rfl rfl)
theorem dJ25_getChars_34 : decode cJ25_getChars 34 = .ok (.bipush 100, 2) := dk_16 100 (dk_at dksJ25_getChars_1 11 rfl rfl)
theorem dJ25_getChars_36 : decode cJ25_getChars 36 = .ok (.imul, 1) := dk_104 (dk_at dksJ25_getChars_1 13 rfl rfl)
theorem dJ25_getChars_37 : decode cJ25_getChars 37 = .ok (.iload_n 0, 1) := dk_26 (dk_at dksJ25_getChars_1 14 rfl rfl)
theorem dJ25_getChars_38 : decode cJ25_getChars 38 = .ok (.isub, 1) := dk_100 (dk_at dksJ25_getChars_1 15 rfl rfl)
theorem dJ25_getChars_39 : decode cJ25_getChars 39 = .ok (.istore 4, 2) := dk_54 4 (dk_at dksJ25_getChars_1 16 rfl rfl)
theorem dJ25_getChars_41 : decode cJ25_getChars 41 = .ok (.iload_n 3, 1) := dk_29 (dk_at dksJ25_getChars_1 18 rfl rfl)
theorem dJ25_getChars_42 : decode cJ25_getChars 42 = .ok (.istore_n 0, 1) := dk_59 (dk_at dksJ25_getChars_1 19 rfl rfl)
theorem dJ25_getChars_43 : decode cJ25_getChars 43 = .ok (.aload_n 2, 1) := dk_44 (dk_at dksJ25_getChars_1 20 rfl rfl)
theorem dJ25_getChars_44 : decode cJ25_getChars 44 = .ok (.iinc 5 (-1), 3) := dk_132 5 255 (dk_at dksJ25_getChars_1 21 rfl rfl)
theorem dJ25_getChars_47 : decode cJ25_getChars 47 = .ok (.iload 5, 2) := dk_21 5 (dk_at dksJ25_getChars_2 0 rfl rfl)
theorem dJ25_getChars_49 : decode cJ25_getChars 49 = .ok (.getstatic 83, 3) := dk_178 0 83 (dk_at dksJ25_getChars_2 2 rfl rfl)
theorem dJ25_getChars_52 : decode cJ25_getChars 52 = .ok (.iload 4, 2) := dk_21 4 (dk_at dksJ25_getChars_2 5 rfl rfl)
theorem dJ25_getChars_54 : decode cJ25_getChars 54 = .ok (.baload, 1) := dk_51 (dk_at dksJ25_getChars_2 7 rfl rfl)
theorem dJ25_getChars_55 : decode cJ25_getChars 55 = .ok (.bastore, 1) := dk_84 (dk_at dksJ25_getChars_2 8 rfl rfl)
theorem dJ25_getChars_56 : decode cJ25_getChars 56 = .ok (.aload_n 2, 1) := dk_44 (dk_at dksJ25_getChars_2 9 rfl rfl)
theorem dJ25_getChars_57 : decode cJ25_getChars 57 = .ok (.iinc 5 (-1), 3) := dk_132 5 255 (dk_at dksJ25_getChars_2 10 rfl rfl)
theorem dJ25_getChars_60 : decode cJ25_getChars 60 = .ok (.iload 5, 2) := dk_21 5 (dk_at dksJ25_getChars_2 13 rfl rfl)
theorem dJ25_getChars_62 : decode cJ25_getChars 62 = .ok (.getstatic 87, 3) := dk_178 0 87 (dk_at dksJ25_getChars_2 15 rfl rfl)
theorem dJ25_getChars_65 : decode cJ25_getChars 65 = .ok (.iload 4, 2) := dk_21 4 (dk_at dksJ25_getChars_2 18 rfl rfl)
theorem dJ25_getChars_67 : decode cJ25_getChars 67 = .ok (.baload, 1) := dk_51 (dk_at dksJ25_getChars_2 20 rfl rfl)
theorem dJ25_getChars_68 : decode cJ25_getChars 68 = .ok (.bastore, 1) := dk_84 (dk_at dksJ25_getChars_2 21 rfl rfl)
theorem dJ25_getChars_69 : decode cJ25_getChars 69 = .ok (.goto (-47), 3) := dk_167 255 209 (dk_at dksJ25_getChars_3 0 rfl rfl)
theorem dJ25_getChars_72 : decode cJ25_getChars 72 = .ok (.aload_n 2, 1) := dk_44 (dk_at dksJ25_getChars_3 3 rfl rfl)
theorem dJ25_getChars_73 : decode cJ25_getChars 73 = .ok (.iinc 5 (-1), 3) := dk_132 5 255 (dk_at dksJ25_getChars_3 4 rfl rfl)
theorem dJ25_getChars_76 : decode cJ25_getChars 76 = .ok (.iload 5, 2) := dk_21 5 (dk_at dksJ25_getChars_3 7 rfl rfl)
theorem dJ25_getChars_78 : decode cJ25_getChars 78 = .ok (.getstatic 83, 3) := dk_178 0 83 (dk_at dksJ25_getChars_3 9 rfl rfl)
theorem dJ25_getChars_81 : decode cJ25_getChars 81 = .ok (.iload_n 0, 1) := dk_26 (dk_at dksJ25_getChars_3 12 rfl rfl)
theorem dJ25_getChars_82 : decode cJ25_getChars 82 = .ok (.ineg, 1) := dk_116 (dk_at dksJ25_getChars_3 13 rfl rfl)
theorem dJ25_getChars_83 : decode cJ25_getChars 83 = .ok (.baload, 1) := dk_51 (dk_at dksJ25_getChars_3 14 rfl rfl)
theorem dJ25_getChars_84 : decode cJ25_getChars 84 = .ok (.bastore, 1) := dk_84 (dk_at dksJ25_getChars_3 15 rfl rfl)
theorem dJ25_getChars_85 : decode cJ25_getChars 85 = .ok (.iload_n 0, 1) := dk_26 (dk_at dksJ25_getChars_3 16 rfl rfl)
theorem dJ25_getChars_86 : decode cJ25_getChars 86 = .ok (.bipush (-9), 2) := dk_16 247 (dk_at dksJ25_getChars_3 17 rfl rfl)
theorem dJ25_getChars_88 : decode cJ25_getChars 88 = .ok (.if_icmp .ge 16, 3) := dk_162 0 16 (dk_at dksJ25_getChars_3 19 rfl rfl)
theorem dJ25_getChars_91 : decode cJ25_getChars 91 = .ok (.aload_n 2, 1) := dk_44 (dk_at dksJ25_getChars_3 22 rfl rfl)
theorem dJ25_getChars_92 : decode cJ25_getChars 92 = .ok (.iinc 5 (-1), 3) := dk_132 5 255 (dk_at dksJ25_getChars_4 0 rfl rfl)
theorem dJ25_getChars_95 : decode cJ25_getChars 95 = .ok (.iload 5, 2) := dk_21 5 (dk_at dksJ25_getChars_4 3 rfl rfl)
theorem dJ25_getChars_97 : decode cJ25_getChars 97 = .ok (.getstatic 87, 3) := dk_178 0 87 (dk_at dksJ25_getChars_4 5 rfl rfl)
theorem dJ25_getChars_100 : decode cJ25_getChars 100 = .ok (.iload_n 0, 1) := dk_26 (dk_at dksJ25_getChars_4 8 rfl rfl)
theorem dJ25_getChars_101 : decode cJ25_getChars 101 = .ok (.ineg, 1) := dk_116 (dk_at dksJ25_getChars_4 9 rfl rfl)
theorem dJ25_getChars_102 : decode cJ25_getChars 102 = .ok (.baload, 1) := dk_51 (dk_at dksJ25_getChars_4 10 rfl rfl)
theorem dJ25_getChars_103 : decode cJ25_getChars 103 = .ok (.bastore, 1) := dk_84 (dk_at dksJ25_getChars_4 11 rfl rfl)
theorem dJ25_getChars_104 : decode cJ25_getChars 104 = .ok (.iload 6, 2) := dk_21 6 (dk_at dksJ25_getChars_4 12 rfl rfl)
theorem dJ25_getChars_106 : decode cJ25_getChars 106 = .ok (.ifCond .eq 12, 3) := dk_153 0 12 (dk_at dksJ25_getChars_4 14 rfl rfl)
theorem dJ25_getChars_109 : decode cJ25_getChars 109 = .ok (.aload_n 2, 1) := dk_44 (dk_at dksJ25_getChars_4 17 rfl rfl)
theorem dJ25_getChars_110 : decode cJ25_getChars 110 = .ok (.iinc 5 (-1), 3) := dk_132 5 255 (dk_at dksJ25_getChars_4 18 rfl rfl)
theorem dJ25_getChars_113 : decode cJ25_getChars 113 = .ok (.iload 5, 2) := dk_21 5 (dk_at dksJ25_getChars_4 21 rfl rfl)
theorem dJ25_getChars_115 : decode cJ25_getChars 115 = .ok (.bipush 45, 2) := dk_16 45 (dk_at dksJ25_getChars_5 0 rfl rfl)
theorem dJ25_getChars_117 : decode cJ25_getChars 117 = .ok (.bastore, 1) := dk_84 (dk_at dksJ25_getChars_5 2 rfl rfl)
theorem dJ25_getChars_118 : decode cJ25_getChars 118 = .ok (.iload 5, 2) := dk_21 5 (dk_at dksJ25_getChars_5 3 rfl rfl)
theorem dJ25_getChars_120 : decode cJ25_getChars 120 = .ok (.ireturn, 1) := dk_172 (dk_at dksJ25_getChars_5 5 rfl rfl)
abbrev cJ25_numberOfTrailingZeros : ByteArray := prog_29_method_48_code
def yJ25_numberOfTrailingZeros : MethodName := ⟨RJ25, "numberOfTrailingZeros", "(I)I"⟩
def dkwJ25_numberOfTrailingZeros_3 : List UInt8 := [5, 124, 59, 27, 26, 4, 124, 96, 172]
abbrev dktJ25_numberOfTrailingZeros_3 : List UInt8 := dkwJ25_numberOfTrailingZeros_3 ++ []
def dkwJ25_numberOfTrailingZeros_2 : List UInt8 := [124, 59, 26, 16, 16, 164, 0, 10, 132, 1, 4, 26, 7, 124, 59, 26, 7, 164, 0, 10, 132, 1, 2, 26]
abbrev dktJ25_numberOfTrailingZeros_2 : List UInt8 := dkwJ25_numberOfTrailingZeros_2 ++ dktJ25_numberOfTrailingZeros_3
def dkwJ25_numberOfTrailingZeros_1 : List UInt8 := [164, 0, 11, 132, 1, 16, 26, 16, 16, 124, 59, 26, 17, 1, 0, 164, 0, 11, 132, 1, 8, 26, 16, 8]
abbrev dktJ25_numberOfTrailingZeros_1 : List UInt8 := dkwJ25_numberOfTrailingZeros_1 ++ dktJ25_numberOfTrailingZeros_2
def dkwJ25_numberOfTrailingZeros_0 : List UInt8 := [26, 2, 130, 26, 4, 100, 126, 59, 26, 157, 0, 8, 26, 16, 32, 126, 172, 4, 60, 26, 19, 1, 8]
abbrev dktJ25_numberOfTrailingZeros_0 : List UInt8 := dkwJ25_numberOfTrailingZeros_0 ++ dktJ25_numberOfTrailingZeros_1
theorem dksJ25_numberOfTrailingZeros_0 : cJ25_numberOfTrailingZeros.data.toList.drop 0 = dktJ25_numberOfTrailingZeros_0 := by decide +kernel
theorem dksJ25_numberOfTrailingZeros_1 : cJ25_numberOfTrailingZeros.data.toList.drop 23 = dktJ25_numberOfTrailingZeros_1 := dk_seg dksJ25_numberOfTrailingZeros_0 23 rfl rfl
theorem dksJ25_numberOfTrailingZeros_2 : cJ25_numberOfTrailingZeros.data.toList.drop 47 = dktJ25_numberOfTrailingZeros_2 := dk_seg dksJ25_numberOfTrailingZeros_1 24 rfl rfl
theorem dksJ25_numberOfTrailingZeros_3 : cJ25_numberOfTrailingZeros.data.toList.drop 71 = dktJ25_numberOfTrailingZeros_3 := dk_seg dksJ25_numberOfTrailingZeros_2 24 rfl rfl
theorem dJ25_numberOfTrailingZeros_0 : decode cJ25_numberOfTrailingZeros 0 = .ok (.iload_n 0, 1) := dk_26 (dk_at dksJ25_numberOfTrailingZeros_0 0 rfl rfl)
theorem dJ25_numberOfTrailingZeros_1 : decode cJ25_numberOfTrailingZeros 1 = .ok (.iconst (-1), 1) := dk_2 (dk_at dksJ25_numberOfTrailingZeros_0 1 rfl rfl)
theorem dJ25_numberOfTrailingZeros_2 : decode cJ25_numberOfTrailingZeros 2 = .ok (.ixor, 1) := dk_130 (dk_at dksJ25_numberOfTrailingZeros_0 2 rfl rfl)
theorem dJ25_numberOfTrailingZeros_3 : decode cJ25_numberOfTrailingZeros 3 = .ok (.iload_n 0, 1) := dk_26 (dk_at dksJ25_numberOfTrailingZeros_0 3 rfl rfl)
theorem dJ25_numberOfTrailingZeros_4 : decode cJ25_numberOfTrailingZeros 4 = .ok (.iconst 1, 1) := dk_4 (dk_at dksJ25_numberOfTrailingZeros_0 4 rfl rfl)
theorem dJ25_numberOfTrailingZeros_5 : decode cJ25_numberOfTrailingZeros 5 = .ok (.isub, 1) := dk_100 (dk_at dksJ25_numberOfTrailingZeros_0 5 rfl rfl)
theorem dJ25_numberOfTrailingZeros_6 : decode cJ25_numberOfTrailingZeros 6 = .ok (.iand, 1) := dk_126 (dk_at dksJ25_numberOfTrailingZeros_0 6 rfl rfl)
theorem dJ25_numberOfTrailingZeros_7 : decode cJ25_numberOfTrailingZeros 7 = .ok (.istore_n 0, 1) := dk_59 (dk_at dksJ25_numberOfTrailingZeros_0 7 rfl rfl)
theorem dJ25_numberOfTrailingZeros_8 : decode cJ25_numberOfTrailingZeros 8 = .ok (.iload_n 0, 1) := dk_26 (dk_at dksJ25_numberOfTrailingZeros_0 8 rfl rfl)
theorem dJ25_numberOfTrailingZeros_9 : decode cJ25_numberOfTrailingZeros 9 = .ok (.ifCond .gt 8, 3) := dk_157 0 8 (dk_at dksJ25_numberOfTrailingZeros_0 9 rfl rfl)
theorem dJ25_numberOfTrailingZeros_12 : decode cJ25_numberOfTrailingZeros 12 = .ok (.iload_n 0, 1) := dk_26 (dk_at dksJ25_numberOfTrailingZeros_0 12 rfl rfl)
theorem dJ25_numberOfTrailingZeros_13 : decode cJ25_numberOfTrailingZeros 13 = .ok (.bipush 32, 2) := dk_16 32 (dk_at dksJ25_numberOfTrailingZeros_0 13 rfl rfl)
theorem dJ25_numberOfTrailingZeros_15 : decode cJ25_numberOfTrailingZeros 15 = .ok (.iand, 1) := dk_126 (dk_at dksJ25_numberOfTrailingZeros_0 15 rfl rfl)
theorem dJ25_numberOfTrailingZeros_16 : decode cJ25_numberOfTrailingZeros 16 = .ok (.ireturn, 1) := dk_172 (dk_at dksJ25_numberOfTrailingZeros_0 16 rfl rfl)
theorem dJ25_numberOfTrailingZeros_17 : decode cJ25_numberOfTrailingZeros 17 = .ok (.iconst 1, 1) := dk_4 (dk_at dksJ25_numberOfTrailingZeros_0 17 rfl rfl)
theorem dJ25_numberOfTrailingZeros_18 : decode cJ25_numberOfTrailingZeros 18 = .ok (.istore_n 1, 1) := dk_60 (dk_at dksJ25_numberOfTrailingZeros_0 18 rfl rfl)
theorem dJ25_numberOfTrailingZeros_19 : decode cJ25_numberOfTrailingZeros 19 = .ok (.iload_n 0, 1) := dk_26 (dk_at dksJ25_numberOfTrailingZeros_0 19 rfl rfl)
theorem dJ25_numberOfTrailingZeros_20 : decode cJ25_numberOfTrailingZeros 20 = .ok (.ldc_w 264, 3) := dk_19 1 8 (dk_at dksJ25_numberOfTrailingZeros_0 20 rfl rfl)
theorem dJ25_numberOfTrailingZeros_23 : decode cJ25_numberOfTrailingZeros 23 = .ok (.if_icmp .le 11, 3) := dk_164 0 11 (dk_at dksJ25_numberOfTrailingZeros_1 0 rfl rfl)
theorem dJ25_numberOfTrailingZeros_26 : decode cJ25_numberOfTrailingZeros 26 = .ok (.iinc 1 16, 3) := dk_132 1 16 (dk_at dksJ25_numberOfTrailingZeros_1 3 rfl rfl)
theorem dJ25_numberOfTrailingZeros_29 : decode cJ25_numberOfTrailingZeros 29 = .ok (.iload_n 0, 1) := dk_26 (dk_at dksJ25_numberOfTrailingZeros_1 6 rfl rfl)
theorem dJ25_numberOfTrailingZeros_30 : decode cJ25_numberOfTrailingZeros 30 = .ok (.bipush 16, 2) := dk_16 16 (dk_at dksJ25_numberOfTrailingZeros_1 7 rfl rfl)
theorem dJ25_numberOfTrailingZeros_32 : decode cJ25_numberOfTrailingZeros 32 = .ok (.iushr, 1) := dk_124 (dk_at dksJ25_numberOfTrailingZeros_1 9 rfl rfl)
theorem dJ25_numberOfTrailingZeros_33 : decode cJ25_numberOfTrailingZeros 33 = .ok (.istore_n 0, 1) := dk_59 (dk_at dksJ25_numberOfTrailingZeros_1 10 rfl rfl)
theorem dJ25_numberOfTrailingZeros_34 : decode cJ25_numberOfTrailingZeros 34 = .ok (.iload_n 0, 1) := dk_26 (dk_at dksJ25_numberOfTrailingZeros_1 11 rfl rfl)
theorem dJ25_numberOfTrailingZeros_35 : decode cJ25_numberOfTrailingZeros 35 = .ok (.sipush 256, 3) := dk_17 1 0 (dk_at dksJ25_numberOfTrailingZeros_1 12 rfl rfl)
theorem dJ25_numberOfTrailingZeros_38 : decode cJ25_numberOfTrailingZeros 38 = .ok (.if_icmp .le 11, 3) := dk_164 0 11 (dk_at dksJ25_numberOfTrailingZeros_1 15 rfl rfl)
theorem dJ25_numberOfTrailingZeros_41 : decode cJ25_numberOfTrailingZeros 41 = .ok (.iinc 1 8, 3) := dk_132 1 8 (dk_at dksJ25_numberOfTrailingZeros_1 18 rfl rfl)
theorem dJ25_numberOfTrailingZeros_44 : decode cJ25_numberOfTrailingZeros 44 = .ok (.iload_n 0, 1) := dk_26 (dk_at dksJ25_numberOfTrailingZeros_1 21 rfl rfl)
theorem dJ25_numberOfTrailingZeros_45 : decode cJ25_numberOfTrailingZeros 45 = .ok (.bipush 8, 2) := dk_16 8 (dk_at dksJ25_numberOfTrailingZeros_1 22 rfl rfl)
theorem dJ25_numberOfTrailingZeros_47 : decode cJ25_numberOfTrailingZeros 47 = .ok (.iushr, 1) := dk_124 (dk_at dksJ25_numberOfTrailingZeros_2 0 rfl rfl)
theorem dJ25_numberOfTrailingZeros_48 : decode cJ25_numberOfTrailingZeros 48 = .ok (.istore_n 0, 1) := dk_59 (dk_at dksJ25_numberOfTrailingZeros_2 1 rfl rfl)
theorem dJ25_numberOfTrailingZeros_49 : decode cJ25_numberOfTrailingZeros 49 = .ok (.iload_n 0, 1) := dk_26 (dk_at dksJ25_numberOfTrailingZeros_2 2 rfl rfl)
theorem dJ25_numberOfTrailingZeros_50 : decode cJ25_numberOfTrailingZeros 50 = .ok (.bipush 16, 2) := dk_16 16 (dk_at dksJ25_numberOfTrailingZeros_2 3 rfl rfl)
theorem dJ25_numberOfTrailingZeros_52 : decode cJ25_numberOfTrailingZeros 52 = .ok (.if_icmp .le 10, 3) := dk_164 0 10 (dk_at dksJ25_numberOfTrailingZeros_2 5 rfl rfl)
theorem dJ25_numberOfTrailingZeros_55 : decode cJ25_numberOfTrailingZeros 55 = .ok (.iinc 1 4, 3) := dk_132 1 4 (dk_at dksJ25_numberOfTrailingZeros_2 8 rfl rfl)
theorem dJ25_numberOfTrailingZeros_58 : decode cJ25_numberOfTrailingZeros 58 = .ok (.iload_n 0, 1) := dk_26 (dk_at dksJ25_numberOfTrailingZeros_2 11 rfl rfl)
theorem dJ25_numberOfTrailingZeros_59 : decode cJ25_numberOfTrailingZeros 59 = .ok (.iconst 4, 1) := dk_7 (dk_at dksJ25_numberOfTrailingZeros_2 12 rfl rfl)
theorem dJ25_numberOfTrailingZeros_60 : decode cJ25_numberOfTrailingZeros 60 = .ok (.iushr, 1) := dk_124 (dk_at dksJ25_numberOfTrailingZeros_2 13 rfl rfl)
theorem dJ25_numberOfTrailingZeros_61 : decode cJ25_numberOfTrailingZeros 61 = .ok (.istore_n 0, 1) := dk_59 (dk_at dksJ25_numberOfTrailingZeros_2 14 rfl rfl)
theorem dJ25_numberOfTrailingZeros_62 : decode cJ25_numberOfTrailingZeros 62 = .ok (.iload_n 0, 1) := dk_26 (dk_at dksJ25_numberOfTrailingZeros_2 15 rfl rfl)
theorem dJ25_numberOfTrailingZeros_63 : decode cJ25_numberOfTrailingZeros 63 = .ok (.iconst 4, 1) := dk_7 (dk_at dksJ25_numberOfTrailingZeros_2 16 rfl rfl)
theorem dJ25_numberOfTrailingZeros_64 : decode cJ25_numberOfTrailingZeros 64 = .ok (.if_icmp .le 10, 3) := dk_164 0 10 (dk_at dksJ25_numberOfTrailingZeros_2 17 rfl rfl)
theorem dJ25_numberOfTrailingZeros_67 : decode cJ25_numberOfTrailingZeros 67 = .ok (.iinc 1 2, 3) := dk_132 1 2 (dk_at dksJ25_numberOfTrailingZeros_2 20 rfl rfl)
theorem dJ25_numberOfTrailingZeros_70 : decode cJ25_numberOfTrailingZeros 70 = .ok (.iload_n 0, 1) := dk_26 (dk_at dksJ25_numberOfTrailingZeros_2 23 rfl rfl)
theorem dJ25_numberOfTrailingZeros_71 : decode cJ25_numberOfTrailingZeros 71 = .ok (.iconst 2, 1) := dk_5 (dk_at dksJ25_numberOfTrailingZeros_3 0 rfl rfl)
theorem dJ25_numberOfTrailingZeros_72 : decode cJ25_numberOfTrailingZeros 72 = .ok (.iushr, 1) := dk_124 (dk_at dksJ25_numberOfTrailingZeros_3 1 rfl rfl)
theorem dJ25_numberOfTrailingZeros_73 : decode cJ25_numberOfTrailingZeros 73 = .ok (.istore_n 0, 1) := dk_59 (dk_at dksJ25_numberOfTrailingZeros_3 2 rfl rfl)
theorem dJ25_numberOfTrailingZeros_74 : decode cJ25_numberOfTrailingZeros 74 = .ok (.iload_n 1, 1) := dk_27 (dk_at dksJ25_numberOfTrailingZeros_3 3 rfl rfl)
theorem dJ25_numberOfTrailingZeros_75 : decode cJ25_numberOfTrailingZeros 75 = .ok (.iload_n 0, 1) := dk_26 (dk_at dksJ25_numberOfTrailingZeros_3 4 rfl rfl)
theorem dJ25_numberOfTrailingZeros_76 : decode cJ25_numberOfTrailingZeros 76 = .ok (.iconst 1, 1) := dk_4 (dk_at dksJ25_numberOfTrailingZeros_3 5 rfl rfl)
theorem dJ25_numberOfTrailingZeros_77 : decode cJ25_numberOfTrailingZeros 77 = .ok (.iushr, 1) := dk_124 (dk_at dksJ25_numberOfTrailingZeros_3 6 rfl rfl)
theorem dJ25_numberOfTrailingZeros_78 : decode cJ25_numberOfTrailingZeros 78 = .ok (.iadd, 1) := dk_96 (dk_at dksJ25_numberOfTrailingZeros_3 7 rfl rfl)
theorem dJ25_numberOfTrailingZeros_79 : decode cJ25_numberOfTrailingZeros 79 = .ok (.ireturn, 1) := dk_172 (dk_at dksJ25_numberOfTrailingZeros_3 8 rfl rfl)
abbrev cJ25_valueOf : ByteArray := prog_29_method_22_code
def yJ25_valueOf : MethodName := ⟨RJ25, "valueOf", "(I)Ljava/lang/Integer;"⟩
def dkwJ25_valueOf_1 : List UInt8 := [187, 0, 1, 89, 26, 183, 0, 199, 176]
abbrev dktJ25_valueOf_1 : List UInt8 := dkwJ25_valueOf_1 ++ []
def dkwJ25_valueOf_0 : List UInt8 := [26, 16, 128, 161, 0, 20, 26, 178, 0, 191, 163, 0, 13, 178, 0, 195, 26, 17, 0, 128, 96, 50, 176]
abbrev dktJ25_valueOf_0 : List UInt8 := dkwJ25_valueOf_0 ++ dktJ25_valueOf_1
theorem dksJ25_valueOf_0 : cJ25_valueOf.data.toList.drop 0 = dktJ25_valueOf_0 := by decide +kernel
theorem dksJ25_valueOf_1 : cJ25_valueOf.data.toList.drop 23 = dktJ25_valueOf_1 := dk_seg dksJ25_valueOf_0 23 rfl rfl
theorem dJ25_valueOf_0 : decode cJ25_valueOf 0 = .ok (.iload_n 0, 1) := dk_26 (dk_at dksJ25_valueOf_0 0 rfl rfl)
theorem dJ25_valueOf_1 : decode cJ25_valueOf 1 = .ok (.bipush (-128), 2) := dk_16 128 (dk_at dksJ25_valueOf_0 1 rfl rfl)
theorem dJ25_valueOf_3 : decode cJ25_valueOf 3 = .ok (.if_icmp .lt 20, 3) := dk_161 0 20 (dk_at dksJ25_valueOf_0 3 rfl rfl)
theorem dJ25_valueOf_6 : decode cJ25_valueOf 6 = .ok (.iload_n 0, 1) := dk_26 (dk_at dksJ25_valueOf_0 6 rfl rfl)
theorem dJ25_valueOf_7 : decode cJ25_valueOf 7 = .ok (.getstatic 191, 3) := dk_178 0 191 (dk_at dksJ25_valueOf_0 7 rfl rfl)
theorem dJ25_valueOf_10 : decode cJ25_valueOf 10 = .ok (.if_icmp .gt 13, 3) := dk_163 0 13 (dk_at dksJ25_valueOf_0 10 rfl rfl)
theorem dJ25_valueOf_13 : decode cJ25_valueOf 13 = .ok (.getstatic 195, 3) := dk_178 0 195 (dk_at dksJ25_valueOf_0 13 rfl rfl)
theorem dJ25_valueOf_16 : decode cJ25_valueOf 16 = .ok (.iload_n 0, 1) := dk_26 (dk_at dksJ25_valueOf_0 16 rfl rfl)
theorem dJ25_valueOf_17 : decode cJ25_valueOf 17 = .ok (.sipush 128, 3) := dk_17 0 128 (dk_at dksJ25_valueOf_0 17 rfl rfl)
theorem dJ25_valueOf_20 : decode cJ25_valueOf 20 = .ok (.iadd, 1) := dk_96 (dk_at dksJ25_valueOf_0 20 rfl rfl)
theorem dJ25_valueOf_21 : decode cJ25_valueOf 21 = .ok (.aaload, 1) := dk_50 (dk_at dksJ25_valueOf_0 21 rfl rfl)
theorem dJ25_valueOf_22 : decode cJ25_valueOf 22 = .ok (.areturn, 1) := dk_176 (dk_at dksJ25_valueOf_0 22 rfl rfl)
theorem dJ25_valueOf_23 : decode cJ25_valueOf 23 = .ok (.new 1, 3) := dk_187 0 1 (dk_at dksJ25_valueOf_1 0 rfl rfl)
theorem dJ25_valueOf_26 : decode cJ25_valueOf 26 = .ok (.dup, 1) := dk_89 (dk_at dksJ25_valueOf_1 3 rfl rfl)
theorem dJ25_valueOf_27 : decode cJ25_valueOf 27 = .ok (.iload_n 0, 1) := dk_26 (dk_at dksJ25_valueOf_1 4 rfl rfl)
theorem dJ25_valueOf_28 : decode cJ25_valueOf 28 = .ok (.invokespecial 199, 3) := dk_183 0 199 (dk_at dksJ25_valueOf_1 5 rfl rfl)
theorem dJ25_valueOf_31 : decode cJ25_valueOf 31 = .ok (.areturn, 1) := dk_176 (dk_at dksJ25_valueOf_1 8 rfl rfl)
abbrev cJ25_init : ByteArray := prog_29_method_23_code
def yJ25_init : MethodName := ⟨RJ25, "<init>", "(I)V"⟩
def dkwJ25_init_0 : List UInt8 := [42, 183, 0, 202, 42, 27, 181, 0, 205, 177]
abbrev dktJ25_init_0 : List UInt8 := dkwJ25_init_0 ++ []
theorem dksJ25_init_0 : cJ25_init.data.toList.drop 0 = dktJ25_init_0 := by decide +kernel
theorem dJ25_init_0 : decode cJ25_init 0 = .ok (.aload_n 0, 1) := dk_42 (dk_at dksJ25_init_0 0 rfl rfl)
theorem dJ25_init_1 : decode cJ25_init 1 = .ok (.invokespecial 202, 3) := dk_183 0 202 (dk_at dksJ25_init_0 1 rfl rfl)
theorem dJ25_init_4 : decode cJ25_init 4 = .ok (.aload_n 0, 1) := dk_42 (dk_at dksJ25_init_0 4 rfl rfl)
theorem dJ25_init_5 : decode cJ25_init 5 = .ok (.iload_n 1, 1) := dk_27 (dk_at dksJ25_init_0 5 rfl rfl)
theorem dJ25_init_6 : decode cJ25_init 6 = .ok (.putfield 205, 3) := dk_181 0 205 (dk_at dksJ25_init_0 6 rfl rfl)
theorem dJ25_init_9 : decode cJ25_init 9 = .ok (.return_, 1) := dk_177 (dk_at dksJ25_init_0 9 rfl rfl)
abbrev cJ25_intValue : ByteArray := prog_29_method_27_code
def yJ25_intValue : MethodName := ⟨RJ25, "intValue", "()I"⟩
theorem dJ25_intValue_0 : decode cJ25_intValue 0 = .ok (.aload_n 0, 1) := by decide +kernel
theorem dJ25_intValue_1 : decode cJ25_intValue 1 = .ok (.getfield 205, 3) := by decide +kernel
theorem dJ25_intValue_4 : decode cJ25_intValue 4 = .ok (.ireturn, 1) := by decide +kernel
abbrev cJ25_compareTo : ByteArray := prog_29_method_63_code
def yJ25_compareTo : MethodName := ⟨RJ25, "compareTo", "(Ljava/lang/Object;)I"⟩
def dkwJ25_compareTo_0 : List UInt8 := [42, 43, 192, 0, 1, 182, 1, 28, 172]
abbrev dktJ25_compareTo_0 : List UInt8 := dkwJ25_compareTo_0 ++ []
theorem dksJ25_compareTo_0 : cJ25_compareTo.data.toList.drop 0 = dktJ25_compareTo_0 := by decide +kernel
theorem dJ25_compareTo_0 : decode cJ25_compareTo 0 = .ok (.aload_n 0, 1) := dk_42 (dk_at dksJ25_compareTo_0 0 rfl rfl)
theorem dJ25_compareTo_1 : decode cJ25_compareTo 1 = .ok (.aload_n 1, 1) := dk_43 (dk_at dksJ25_compareTo_0 1 rfl rfl)
theorem dJ25_compareTo_2 : decode cJ25_compareTo 2 = .ok (.checkcast 1, 3) := dk_192 0 1 (dk_at dksJ25_compareTo_0 2 rfl rfl)
theorem dJ25_compareTo_5 : decode cJ25_compareTo 5 = .ok (.invokevirtual 284, 3) := dk_182 1 28 (dk_at dksJ25_compareTo_0 5 rfl rfl)
theorem dJ25_compareTo_8 : decode cJ25_compareTo 8 = .ok (.ireturn, 1) := dk_172 (dk_at dksJ25_compareTo_0 8 rfl rfl)
abbrev cJ25_compareTo_2 : ByteArray := prog_29_method_39_code
def yJ25_compareTo_2 : MethodName := ⟨RJ25, "compareTo", "(Ljava/lang/Integer;)I"⟩
def dkwJ25_compareTo_2_0 : List UInt8 := [42, 180, 0, 205, 43, 180, 0, 205, 184, 1, 3, 172]
abbrev dktJ25_compareTo_2_0 : List UInt8 := dkwJ25_compareTo_2_0 ++ []
theorem dksJ25_compareTo_2_0 : cJ25_compareTo_2.data.toList.drop 0 = dktJ25_compareTo_2_0 := by decide +kernel
theorem dJ25_compareTo_2_0 : decode cJ25_compareTo_2 0 = .ok (.aload_n 0, 1) := dk_42 (dk_at dksJ25_compareTo_2_0 0 rfl rfl)
theorem dJ25_compareTo_2_1 : decode cJ25_compareTo_2 1 = .ok (.getfield 205, 3) := dk_180 0 205 (dk_at dksJ25_compareTo_2_0 1 rfl rfl)
theorem dJ25_compareTo_2_4 : decode cJ25_compareTo_2 4 = .ok (.aload_n 1, 1) := dk_43 (dk_at dksJ25_compareTo_2_0 4 rfl rfl)
theorem dJ25_compareTo_2_5 : decode cJ25_compareTo_2 5 = .ok (.getfield 205, 3) := dk_180 0 205 (dk_at dksJ25_compareTo_2_0 5 rfl rfl)
theorem dJ25_compareTo_2_8 : decode cJ25_compareTo_2 8 = .ok (.invokestatic 259, 3) := dk_184 1 3 (dk_at dksJ25_compareTo_2_0 8 rfl rfl)
theorem dJ25_compareTo_2_11 : decode cJ25_compareTo_2 11 = .ok (.ireturn, 1) := dk_172 (dk_at dksJ25_compareTo_2_0 11 rfl rfl)
abbrev cJ25_compare : ByteArray := prog_29_method_40_code
def yJ25_compare : MethodName := ⟨RJ25, "compare", "(II)I"⟩
def dkwJ25_compare_0 : List UInt8 := [26, 27, 162, 0, 7, 2, 167, 0, 13, 26, 27, 160, 0, 7, 3, 167, 0, 4, 4, 172]
abbrev dktJ25_compare_0 : List UInt8 := dkwJ25_compare_0 ++ []
theorem dksJ25_compare_0 : cJ25_compare.data.toList.drop 0 = dktJ25_compare_0 := by decide +kernel
theorem dJ25_compare_0 : decode cJ25_compare 0 = .ok (.iload_n 0, 1) := dk_26 (dk_at dksJ25_compare_0 0 rfl rfl)
theorem dJ25_compare_1 : decode cJ25_compare 1 = .ok (.iload_n 1, 1) := dk_27 (dk_at dksJ25_compare_0 1 rfl rfl)
theorem dJ25_compare_2 : decode cJ25_compare 2 = .ok (.if_icmp .ge 7, 3) := dk_162 0 7 (dk_at dksJ25_compare_0 2 rfl rfl)
theorem dJ25_compare_5 : decode cJ25_compare 5 = .ok (.iconst (-1), 1) := dk_2 (dk_at dksJ25_compare_0 5 rfl rfl)
theorem dJ25_compare_6 : decode cJ25_compare 6 = .ok (.goto 13, 3) := dk_167 0 13 (dk_at dksJ25_compare_0 6 rfl rfl)
theorem dJ25_compare_9 : decode cJ25_compare 9 = .ok (.iload_n 0, 1) := dk_26 (dk_at dksJ25_compare_0 9 rfl rfl)
theorem dJ25_compare_10 : decode cJ25_compare 10 = .ok (.iload_n 1, 1) := dk_27 (dk_at dksJ25_compare_0 10 rfl rfl)
theorem dJ25_compare_11 : decode cJ25_compare 11 = .ok (.if_icmp .ne 7, 3) := dk_160 0 7 (dk_at dksJ25_compare_0 11 rfl rfl)
theorem dJ25_compare_14 : decode cJ25_compare 14 = .ok (.iconst 0, 1) := dk_3 (dk_at dksJ25_compare_0 14 rfl rfl)
theorem dJ25_compare_15 : decode cJ25_compare 15 = .ok (.goto 4, 3) := dk_167 0 4 (dk_at dksJ25_compare_0 15 rfl rfl)
theorem dJ25_compare_18 : decode cJ25_compare 18 = .ok (.iconst 1, 1) := dk_4 (dk_at dksJ25_compare_0 18 rfl rfl)
theorem dJ25_compare_19 : decode cJ25_compare 19 = .ok (.ireturn, 1) := dk_172 (dk_at dksJ25_compare_0 19 rfl rfl)
abbrev cJ25_numberOfLeadingZeros : ByteArray := prog_29_method_47_code
def yJ25_numberOfLeadingZeros : MethodName := ⟨RJ25, "numberOfLeadingZeros", "(I)I"⟩
def dkwJ25_numberOfLeadingZeros_3 : List UInt8 := [5, 124, 59, 27, 26, 4, 124, 100, 172]
abbrev dktJ25_numberOfLeadingZeros_3 : List UInt8 := dkwJ25_numberOfLeadingZeros_3 ++ []
def dkwJ25_numberOfLeadingZeros_2 : List UInt8 := [124, 59, 26, 16, 16, 161, 0, 10, 132, 1, 252, 26, 7, 124, 59, 26, 7, 161, 0, 10, 132, 1, 254, 26]
abbrev dktJ25_numberOfLeadingZeros_2 : List UInt8 := dkwJ25_numberOfLeadingZeros_2 ++ dktJ25_numberOfLeadingZeros_3
def dkwJ25_numberOfLeadingZeros_1 : List UInt8 := [161, 0, 11, 132, 1, 240, 26, 16, 16, 124, 59, 26, 17, 1, 0, 161, 0, 11, 132, 1, 248, 26, 16, 8]
abbrev dktJ25_numberOfLeadingZeros_1 : List UInt8 := dkwJ25_numberOfLeadingZeros_1 ++ dktJ25_numberOfLeadingZeros_2
def dkwJ25_numberOfLeadingZeros_0 : List UInt8 := [26, 157, 0, 14, 26, 154, 0, 8, 16, 32, 167, 0, 4, 3, 172, 16, 31, 60, 26, 19, 1, 8]
abbrev dktJ25_numberOfLeadingZeros_0 : List UInt8 := dkwJ25_numberOfLeadingZeros_0 ++ dktJ25_numberOfLeadingZeros_1
theorem dksJ25_numberOfLeadingZeros_0 : cJ25_numberOfLeadingZeros.data.toList.drop 0 = dktJ25_numberOfLeadingZeros_0 := by decide +kernel
theorem dksJ25_numberOfLeadingZeros_1 : cJ25_numberOfLeadingZeros.data.toList.drop 22 = dktJ25_numberOfLeadingZeros_1 := dk_seg dksJ25_numberOfLeadingZeros_0 22 rfl rfl
theorem dksJ25_numberOfLeadingZeros_2 : cJ25_numberOfLeadingZeros.data.toList.drop 46 = dktJ25_numberOfLeadingZeros_2 := dk_seg dksJ25_numberOfLeadingZeros_1 24 rfl rfl
theorem dksJ25_numberOfLeadingZeros_3 : cJ25_numberOfLeadingZeros.data.toList.drop 70 = dktJ25_numberOfLeadingZeros_3 := dk_seg dksJ25_numberOfLeadingZeros_2 24 rfl rfl
theorem dJ25_numberOfLeadingZeros_0 : decode cJ25_numberOfLeadingZeros 0 = .ok (.iload_n 0, 1) := dk_26 (dk_at dksJ25_numberOfLeadingZeros_0 0 rfl rfl)
theorem dJ25_numberOfLeadingZeros_1 : decode cJ25_numberOfLeadingZeros 1 = .ok (.ifCond .gt 14, 3) := dk_157 0 14 (dk_at dksJ25_numberOfLeadingZeros_0 1 rfl rfl)
theorem dJ25_numberOfLeadingZeros_4 : decode cJ25_numberOfLeadingZeros 4 = .ok (.iload_n 0, 1) := dk_26 (dk_at dksJ25_numberOfLeadingZeros_0 4 rfl rfl)
theorem dJ25_numberOfLeadingZeros_5 : decode cJ25_numberOfLeadingZeros 5 = .ok (.ifCond .ne 8, 3) := dk_154 0 8 (dk_at dksJ25_numberOfLeadingZeros_0 5 rfl rfl)
theorem dJ25_numberOfLeadingZeros_8 : decode cJ25_numberOfLeadingZeros 8 = .ok (.bipush 32, 2) := dk_16 32 (dk_at dksJ25_numberOfLeadingZeros_0 8 rfl rfl)
theorem dJ25_numberOfLeadingZeros_10 : decode cJ25_numberOfLeadingZeros 10 = .ok (.goto 4, 3) := dk_167 0 4 (dk_at dksJ25_numberOfLeadingZeros_0 10 rfl rfl)
theorem dJ25_numberOfLeadingZeros_13 : decode cJ25_numberOfLeadingZeros 13 = .ok (.iconst 0, 1) := dk_3 (dk_at dksJ25_numberOfLeadingZeros_0 13 rfl rfl)
theorem dJ25_numberOfLeadingZeros_14 : decode cJ25_numberOfLeadingZeros 14 = .ok (.ireturn, 1) := dk_172 (dk_at dksJ25_numberOfLeadingZeros_0 14 rfl rfl)
theorem dJ25_numberOfLeadingZeros_15 : decode cJ25_numberOfLeadingZeros 15 = .ok (.bipush 31, 2) := dk_16 31 (dk_at dksJ25_numberOfLeadingZeros_0 15 rfl rfl)
theorem dJ25_numberOfLeadingZeros_17 : decode cJ25_numberOfLeadingZeros 17 = .ok (.istore_n 1, 1) := dk_60 (dk_at dksJ25_numberOfLeadingZeros_0 17 rfl rfl)
theorem dJ25_numberOfLeadingZeros_18 : decode cJ25_numberOfLeadingZeros 18 = .ok (.iload_n 0, 1) := dk_26 (dk_at dksJ25_numberOfLeadingZeros_0 18 rfl rfl)
theorem dJ25_numberOfLeadingZeros_19 : decode cJ25_numberOfLeadingZeros 19 = .ok (.ldc_w 264, 3) := dk_19 1 8 (dk_at dksJ25_numberOfLeadingZeros_0 19 rfl rfl)
theorem dJ25_numberOfLeadingZeros_22 : decode cJ25_numberOfLeadingZeros 22 = .ok (.if_icmp .lt 11, 3) := dk_161 0 11 (dk_at dksJ25_numberOfLeadingZeros_1 0 rfl rfl)
theorem dJ25_numberOfLeadingZeros_25 : decode cJ25_numberOfLeadingZeros 25 = .ok (.iinc 1 (-16), 3) := dk_132 1 240 (dk_at dksJ25_numberOfLeadingZeros_1 3 rfl rfl)
theorem dJ25_numberOfLeadingZeros_28 : decode cJ25_numberOfLeadingZeros 28 = .ok (.iload_n 0, 1) := dk_26 (dk_at dksJ25_numberOfLeadingZeros_1 6 rfl rfl)
theorem dJ25_numberOfLeadingZeros_29 : decode cJ25_numberOfLeadingZeros 29 = .ok (.bipush 16, 2) := dk_16 16 (dk_at dksJ25_numberOfLeadingZeros_1 7 rfl rfl)
theorem dJ25_numberOfLeadingZeros_31 : decode cJ25_numberOfLeadingZeros 31 = .ok (.iushr, 1) := dk_124 (dk_at dksJ25_numberOfLeadingZeros_1 9 rfl rfl)
theorem dJ25_numberOfLeadingZeros_32 : decode cJ25_numberOfLeadingZeros 32 = .ok (.istore_n 0, 1) := dk_59 (dk_at dksJ25_numberOfLeadingZeros_1 10 rfl rfl)
theorem dJ25_numberOfLeadingZeros_33 : decode cJ25_numberOfLeadingZeros 33 = .ok (.iload_n 0, 1) := dk_26 (dk_at dksJ25_numberOfLeadingZeros_1 11 rfl rfl)
theorem dJ25_numberOfLeadingZeros_34 : decode cJ25_numberOfLeadingZeros 34 = .ok (.sipush 256, 3) := dk_17 1 0 (dk_at dksJ25_numberOfLeadingZeros_1 12 rfl rfl)
theorem dJ25_numberOfLeadingZeros_37 : decode cJ25_numberOfLeadingZeros 37 = .ok (.if_icmp .lt 11, 3) := dk_161 0 11 (dk_at dksJ25_numberOfLeadingZeros_1 15 rfl rfl)
theorem dJ25_numberOfLeadingZeros_40 : decode cJ25_numberOfLeadingZeros 40 = .ok (.iinc 1 (-8), 3) := dk_132 1 248 (dk_at dksJ25_numberOfLeadingZeros_1 18 rfl rfl)
theorem dJ25_numberOfLeadingZeros_43 : decode cJ25_numberOfLeadingZeros 43 = .ok (.iload_n 0, 1) := dk_26 (dk_at dksJ25_numberOfLeadingZeros_1 21 rfl rfl)
theorem dJ25_numberOfLeadingZeros_44 : decode cJ25_numberOfLeadingZeros 44 = .ok (.bipush 8, 2) := dk_16 8 (dk_at dksJ25_numberOfLeadingZeros_1 22 rfl rfl)
theorem dJ25_numberOfLeadingZeros_46 : decode cJ25_numberOfLeadingZeros 46 = .ok (.iushr, 1) := dk_124 (dk_at dksJ25_numberOfLeadingZeros_2 0 rfl rfl)
theorem dJ25_numberOfLeadingZeros_47 : decode cJ25_numberOfLeadingZeros 47 = .ok (.istore_n 0, 1) := dk_59 (dk_at dksJ25_numberOfLeadingZeros_2 1 rfl rfl)
theorem dJ25_numberOfLeadingZeros_48 : decode cJ25_numberOfLeadingZeros 48 = .ok (.iload_n 0, 1) := dk_26 (dk_at dksJ25_numberOfLeadingZeros_2 2 rfl rfl)
theorem dJ25_numberOfLeadingZeros_49 : decode cJ25_numberOfLeadingZeros 49 = .ok (.bipush 16, 2) := dk_16 16 (dk_at dksJ25_numberOfLeadingZeros_2 3 rfl rfl)
theorem dJ25_numberOfLeadingZeros_51 : decode cJ25_numberOfLeadingZeros 51 = .ok (.if_icmp .lt 10, 3) := dk_161 0 10 (dk_at dksJ25_numberOfLeadingZeros_2 5 rfl rfl)
theorem dJ25_numberOfLeadingZeros_54 : decode cJ25_numberOfLeadingZeros 54 = .ok (.iinc 1 (-4), 3) := dk_132 1 252 (dk_at dksJ25_numberOfLeadingZeros_2 8 rfl rfl)
theorem dJ25_numberOfLeadingZeros_57 : decode cJ25_numberOfLeadingZeros 57 = .ok (.iload_n 0, 1) := dk_26 (dk_at dksJ25_numberOfLeadingZeros_2 11 rfl rfl)
theorem dJ25_numberOfLeadingZeros_58 : decode cJ25_numberOfLeadingZeros 58 = .ok (.iconst 4, 1) := dk_7 (dk_at dksJ25_numberOfLeadingZeros_2 12 rfl rfl)
theorem dJ25_numberOfLeadingZeros_59 : decode cJ25_numberOfLeadingZeros 59 = .ok (.iushr, 1) := dk_124 (dk_at dksJ25_numberOfLeadingZeros_2 13 rfl rfl)
theorem dJ25_numberOfLeadingZeros_60 : decode cJ25_numberOfLeadingZeros 60 = .ok (.istore_n 0, 1) := dk_59 (dk_at dksJ25_numberOfLeadingZeros_2 14 rfl rfl)
theorem dJ25_numberOfLeadingZeros_61 : decode cJ25_numberOfLeadingZeros 61 = .ok (.iload_n 0, 1) := dk_26 (dk_at dksJ25_numberOfLeadingZeros_2 15 rfl rfl)
theorem dJ25_numberOfLeadingZeros_62 : decode cJ25_numberOfLeadingZeros 62 = .ok (.iconst 4, 1) := dk_7 (dk_at dksJ25_numberOfLeadingZeros_2 16 rfl rfl)
theorem dJ25_numberOfLeadingZeros_63 : decode cJ25_numberOfLeadingZeros 63 = .ok (.if_icmp .lt 10, 3) := dk_161 0 10 (dk_at dksJ25_numberOfLeadingZeros_2 17 rfl rfl)
theorem dJ25_numberOfLeadingZeros_66 : decode cJ25_numberOfLeadingZeros 66 = .ok (.iinc 1 (-2), 3) := dk_132 1 254 (dk_at dksJ25_numberOfLeadingZeros_2 20 rfl rfl)
theorem dJ25_numberOfLeadingZeros_69 : decode cJ25_numberOfLeadingZeros 69 = .ok (.iload_n 0, 1) := dk_26 (dk_at dksJ25_numberOfLeadingZeros_2 23 rfl rfl)
theorem dJ25_numberOfLeadingZeros_70 : decode cJ25_numberOfLeadingZeros 70 = .ok (.iconst 2, 1) := dk_5 (dk_at dksJ25_numberOfLeadingZeros_3 0 rfl rfl)
theorem dJ25_numberOfLeadingZeros_71 : decode cJ25_numberOfLeadingZeros 71 = .ok (.iushr, 1) := dk_124 (dk_at dksJ25_numberOfLeadingZeros_3 1 rfl rfl)
theorem dJ25_numberOfLeadingZeros_72 : decode cJ25_numberOfLeadingZeros 72 = .ok (.istore_n 0, 1) := dk_59 (dk_at dksJ25_numberOfLeadingZeros_3 2 rfl rfl)
theorem dJ25_numberOfLeadingZeros_73 : decode cJ25_numberOfLeadingZeros 73 = .ok (.iload_n 1, 1) := dk_27 (dk_at dksJ25_numberOfLeadingZeros_3 3 rfl rfl)
theorem dJ25_numberOfLeadingZeros_74 : decode cJ25_numberOfLeadingZeros 74 = .ok (.iload_n 0, 1) := dk_26 (dk_at dksJ25_numberOfLeadingZeros_3 4 rfl rfl)
theorem dJ25_numberOfLeadingZeros_75 : decode cJ25_numberOfLeadingZeros 75 = .ok (.iconst 1, 1) := dk_4 (dk_at dksJ25_numberOfLeadingZeros_3 5 rfl rfl)
theorem dJ25_numberOfLeadingZeros_76 : decode cJ25_numberOfLeadingZeros 76 = .ok (.iushr, 1) := dk_124 (dk_at dksJ25_numberOfLeadingZeros_3 6 rfl rfl)
theorem dJ25_numberOfLeadingZeros_77 : decode cJ25_numberOfLeadingZeros 77 = .ok (.isub, 1) := dk_100 (dk_at dksJ25_numberOfLeadingZeros_3 7 rfl rfl)
theorem dJ25_numberOfLeadingZeros_78 : decode cJ25_numberOfLeadingZeros 78 = .ok (.ireturn, 1) := dk_172 (dk_at dksJ25_numberOfLeadingZeros_3 8 rfl rfl)
theorem q151 : (Jvm.Cond.initialized "java/lang/Integer") ∈ lw_all := lw_g (lw_at lw_m1 29 rfl) rfl
theorem q491 : (Jvm.Cond.static ({ cls := "java/lang/Integer", name := "stringSize", desc := "(I)I" } : Jvm.MethodName)) ∈ lw_all := lw_g (lw_at lw_m2 129 rfl) rfl
theorem q492 : (Jvm.Cond.code ({ cls := "java/lang/Integer", name := "stringSize", desc := "(I)I" } : Jvm.MethodName) prog_29_method_13_code (4 : Nat) (Option.some Jvm.ClassFile.FieldType.int)) ∈ lw_all := lw_g (lw_at lw_m2 130 rfl) rfl
theorem q494 : (Jvm.Cond.static ({ cls := "java/lang/Integer", name := "getChars", desc := "(II[B)I" } : Jvm.MethodName)) ∈ lw_all := lw_g (lw_at lw_m2 132 rfl) rfl
theorem q495 : (Jvm.Cond.code ({ cls := "java/lang/Integer", name := "getChars", desc := "(II[B)I" } : Jvm.MethodName) prog_29_method_12_code (7 : Nat) (Option.some Jvm.ClassFile.FieldType.int)) ∈ lw_all := lw_g (lw_at lw_m2 133 rfl) rfl
theorem q496 : (Jvm.Cond.fieldLink "java/lang/Integer" (83 : Nat) "java/lang/Integer" "DigitOnes" "[B") ∈ lw_all := lw_g (lw_at lw_m2 134 rfl) rfl
theorem q497 : (Jvm.Cond.laysStatic "java/lang/Integer" "DigitOnes" "[B") ∈ lw_tbl := lw_at lw_m2 135 rfl
theorem q498 : (Jvm.Cond.fieldLink "java/lang/Integer" (87 : Nat) "java/lang/Integer" "DigitTens" "[B") ∈ lw_all := lw_g (lw_at lw_m2 136 rfl) rfl
theorem q499 : (Jvm.Cond.laysStatic "java/lang/Integer" "DigitTens" "[B") ∈ lw_tbl := lw_at lw_m2 137 rfl
theorem q995 : (Jvm.Cond.selects "java/lang/Integer" ({ cls := "java/lang/Object", name := "getClass", desc := "()Ljava/lang/Class;" } : Jvm.MethodName) ({ cls := "java/lang/Object", name := "getClass", desc := "()Ljava/lang/Class;" } : Jvm.MethodName)) ∈ lw_all := lw_g (lw_at lw_m4 153 rfl) rfl
theorem q1122 : (Jvm.Cond.static ({ cls := "java/lang/Integer", name := "numberOfTrailingZeros", desc := "(I)I" } : Jvm.MethodName)) ∈ lw_all := lw_g (lw_at lw_m5 40 rfl) rfl
theorem q1123 : (Jvm.Cond.code ({ cls := "java/lang/Integer", name := "numberOfTrailingZeros", desc := "(I)I" } : Jvm.MethodName) prog_29_method_48_code (2 : Nat) (Option.some Jvm.ClassFile.FieldType.int)) ∈ lw_all := lw_g (lw_at lw_m5 41 rfl) rfl
theorem q1124 : (Jvm.Cond.constant "java/lang/Integer" (264 : Nat) (65536 : Int32)) ∈ lw_all := lw_g (lw_at lw_m5 42 rfl) rfl
theorem q1379 : (Jvm.Cond.static ({ cls := "java/lang/Integer", name := "valueOf", desc := "(I)Ljava/lang/Integer;" } : Jvm.MethodName)) ∈ lw_all := lw_g (lw_at lw_m6 57 rfl) rfl
theorem q1380 : (Jvm.Cond.code ({ cls := "java/lang/Integer", name := "valueOf", desc := "(I)Ljava/lang/Integer;" } : Jvm.MethodName) prog_29_method_22_code (1 : Nat) (Option.some (Jvm.ClassFile.FieldType.object "java/lang/Integer"))) ∈ lw_all := lw_g (lw_at lw_m6 58 rfl) rfl
theorem q1381 : (Jvm.Cond.fieldLink "java/lang/Integer" (191 : Nat) "java/lang/Integer$IntegerCache" "high" "I") ∈ lw_all := lw_g (lw_at lw_m6 59 rfl) rfl
theorem q1383 : (Jvm.Cond.fieldLink "java/lang/Integer" (195 : Nat) "java/lang/Integer$IntegerCache" "cache" "[Ljava/lang/Integer;") ∈ lw_all := lw_g (lw_at lw_m6 61 rfl) rfl
theorem q1385 : (Jvm.Cond.classLink "java/lang/Integer" (1 : Nat) "java/lang/Integer") ∈ lw_all := lw_g (lw_at lw_m6 63 rfl) rfl
theorem q1386 : (Jvm.Cond.instantiable "java/lang/Integer" (1 : Nat)) ∈ lw_all := lw_g (lw_at lw_m6 64 rfl) rfl
theorem q1387 : (Jvm.Cond.methodLink "java/lang/Integer" (199 : Nat) ({ cls := "java/lang/Integer", name := "<init>", desc := "(I)V" } : Jvm.MethodName)) ∈ lw_all := lw_g (lw_at lw_m6 65 rfl) rfl
theorem q1388 : (Jvm.Cond.instanceMethod ({ cls := "java/lang/Integer", name := "<init>", desc := "(I)V" } : Jvm.MethodName)) ∈ lw_all := lw_g (lw_at lw_m6 66 rfl) rfl
theorem q1389 : (Jvm.Cond.code ({ cls := "java/lang/Integer", name := "<init>", desc := "(I)V" } : Jvm.MethodName) prog_29_method_23_code (2 : Nat) (Option.none : Option Jvm.ClassFile.FieldType)) ∈ lw_all := lw_g (lw_at lw_m6 67 rfl) rfl
theorem q1390 : (Jvm.Cond.methodLink "java/lang/Integer" (202 : Nat) ({ cls := "java/lang/Number", name := "<init>", desc := "()V" } : Jvm.MethodName)) ∈ lw_all := lw_g (lw_at lw_m6 68 rfl) rfl
theorem q1394 : (Jvm.Cond.fieldLink "java/lang/Integer" (205 : Nat) "java/lang/Integer" "value" "I") ∈ lw_all := lw_g (lw_at lw_m6 72 rfl) rfl
theorem q1395 : (Jvm.Cond.laysFinal "java/lang/Integer" "java/lang/Integer" "value" "I") ∈ lw_all := lw_g (lw_at lw_m6 73 rfl) rfl
theorem q1396 : (Jvm.Cond.soleField "java/lang/Integer" "value") ∈ lw_all := lw_g (lw_at lw_m6 74 rfl) rfl
theorem q1397 : (Jvm.Cond.superclass "java/lang/Integer" "java/lang/Number") ∈ lw_all := lw_g (lw_at lw_m6 75 rfl) rfl
theorem q1446 : (Jvm.Cond.instanceMethod ({ cls := "java/lang/Integer", name := "intValue", desc := "()I" } : Jvm.MethodName)) ∈ lw_all := lw_g (lw_at lw_m6 124 rfl) rfl
theorem q1447 : (Jvm.Cond.selects "java/lang/Integer" ({ cls := "java/lang/Integer", name := "intValue", desc := "()I" } : Jvm.MethodName) ({ cls := "java/lang/Integer", name := "intValue", desc := "()I" } : Jvm.MethodName)) ∈ lw_all := lw_g (lw_at lw_m6 125 rfl) rfl
theorem q1448 : (Jvm.Cond.code ({ cls := "java/lang/Integer", name := "intValue", desc := "()I" } : Jvm.MethodName) prog_29_method_27_code (1 : Nat) (Option.some Jvm.ClassFile.FieldType.int)) ∈ lw_all := lw_g (lw_at lw_m6 126 rfl) rfl
theorem q1545 : (Jvm.Cond.castable "java/lang/Integer" "java/lang/Comparable") ∈ lw_tbl := lw_at lw_m6 223 rfl
theorem q1546 : (Jvm.Cond.selects "java/lang/Integer" ({ cls := "java/lang/Comparable", name := "compareTo", desc := "(Ljava/lang/Object;)I" } : Jvm.MethodName) ({ cls := "java/lang/Integer", name := "compareTo", desc := "(Ljava/lang/Object;)I" } : Jvm.MethodName)) ∈ lw_all := lw_g (lw_at lw_m6 224 rfl) rfl
theorem q1547 : (Jvm.Cond.unhidden "java/lang/Integer" "compareTo" "(Ljava/lang/Object;)I") ∈ lw_tbl := lw_at lw_m6 225 rfl
theorem q1548 : (Jvm.Cond.instanceMethod ({ cls := "java/lang/Integer", name := "compareTo", desc := "(Ljava/lang/Object;)I" } : Jvm.MethodName)) ∈ lw_all := lw_g (lw_at lw_m6 226 rfl) rfl
theorem q1549 : (Jvm.Cond.publicMethod ({ cls := "java/lang/Integer", name := "compareTo", desc := "(Ljava/lang/Object;)I" } : Jvm.MethodName)) ∈ lw_tbl := lw_at lw_m6 227 rfl
theorem q1550 : (Jvm.Cond.code ({ cls := "java/lang/Integer", name := "compareTo", desc := "(Ljava/lang/Object;)I" } : Jvm.MethodName) prog_29_method_63_code (2 : Nat) (Option.some Jvm.ClassFile.FieldType.int)) ∈ lw_all := lw_g (lw_at lw_m6 228 rfl) rfl
theorem q1551 : (Jvm.Cond.methodLink "java/lang/Integer" (284 : Nat) ({ cls := "java/lang/Integer", name := "compareTo", desc := "(Ljava/lang/Integer;)I" } : Jvm.MethodName)) ∈ lw_all := lw_g (lw_at lw_m6 229 rfl) rfl
theorem q1552 : (Jvm.Cond.instanceMethod ({ cls := "java/lang/Integer", name := "compareTo", desc := "(Ljava/lang/Integer;)I" } : Jvm.MethodName)) ∈ lw_all := lw_g (lw_at lw_m6 230 rfl) rfl
theorem q1553 : (Jvm.Cond.selects "java/lang/Integer" ({ cls := "java/lang/Integer", name := "compareTo", desc := "(Ljava/lang/Integer;)I" } : Jvm.MethodName) ({ cls := "java/lang/Integer", name := "compareTo", desc := "(Ljava/lang/Integer;)I" } : Jvm.MethodName)) ∈ lw_all := lw_g (lw_at lw_m6 231 rfl) rfl
theorem q1554 : (Jvm.Cond.code ({ cls := "java/lang/Integer", name := "compareTo", desc := "(Ljava/lang/Integer;)I" } : Jvm.MethodName) prog_29_method_39_code (2 : Nat) (Option.some Jvm.ClassFile.FieldType.int)) ∈ lw_all := lw_g (lw_at lw_m6 232 rfl) rfl
theorem q1555 : (Jvm.Cond.methodLink "java/lang/Integer" (259 : Nat) ({ cls := "java/lang/Integer", name := "compare", desc := "(II)I" } : Jvm.MethodName)) ∈ lw_all := lw_g (lw_at lw_m6 233 rfl) rfl
theorem q1556 : (Jvm.Cond.static ({ cls := "java/lang/Integer", name := "compare", desc := "(II)I" } : Jvm.MethodName)) ∈ lw_all := lw_g (lw_at lw_m6 234 rfl) rfl
theorem q1557 : (Jvm.Cond.code ({ cls := "java/lang/Integer", name := "compare", desc := "(II)I" } : Jvm.MethodName) prog_29_method_40_code (2 : Nat) (Option.some Jvm.ClassFile.FieldType.int)) ∈ lw_all := lw_g (lw_at lw_m6 235 rfl) rfl
theorem q1648 : (Jvm.Cond.static ({ cls := "java/lang/Integer", name := "numberOfLeadingZeros", desc := "(I)I" } : Jvm.MethodName)) ∈ lw_all := lw_g (lw_at lw_m7 86 rfl) rfl
theorem q1649 : (Jvm.Cond.code ({ cls := "java/lang/Integer", name := "numberOfLeadingZeros", desc := "(I)I" } : Jvm.MethodName) prog_29_method_47_code (2 : Nat) (Option.some Jvm.ClassFile.FieldType.int)) ∈ lw_all := lw_g (lw_at lw_m7 87 rfl) rfl
theorem q3690 : (Jvm.Cond.castable "java/lang/Integer" "java/lang/Object") ∈ lw_tbl := lw_at lw_m15 208 rfl
theorem in_J25 : ∀ w ∈ wsJ250, w ∈ lw_all := lw_in wsJ250 [1395] (by decide +kernel) (by decide +kernel)
/-! java/lang/Long -/
set_option maxRecDepth 100000
def RJ26 : String := "java/lang/Long"
abbrev cJ26_bitCount : ByteArray := prog_32_method_50_code
def yJ26_bitCount : MethodName := ⟨RJ26, "bitCount", "(J)I"⟩
def dkwJ26_bitCount_2 : List UInt8 := [30, 30, 16, 32, 125, 97, 63, 30, 136, 16, 127, 126, 172]
abbrev dktJ26_bitCount_2 : List UInt8 := dkwJ26_bitCount_2 ++ []
def dkwJ26_bitCount_1 : List UInt8 := [30, 30, 7, 125, 97, 20, 1, 62, 127, 63, 30, 30, 16, 8, 125, 97, 63, 30, 30, 16, 16, 125, 97, 63]
abbrev dktJ26_bitCount_1 : List UInt8 := dkwJ26_bitCount_1 ++ dktJ26_bitCount_2
def dkwJ26_bitCount_0 : List UInt8 := [30, 30, 4, 125, 20, 1, 58, 127, 101, 63, 30, 20, 1, 60, 127, 30, 5, 125, 20, 1, 60, 127, 97, 63]
abbrev dktJ26_bitCount_0 : List UInt8 := dkwJ26_bitCount_0 ++ dktJ26_bitCount_1
theorem dksJ26_bitCount_0 : cJ26_bitCount.data.toList.drop 0 = dktJ26_bitCount_0 := by decide +kernel
theorem dksJ26_bitCount_1 : cJ26_bitCount.data.toList.drop 24 = dktJ26_bitCount_1 := dk_seg dksJ26_bitCount_0 24 rfl rfl
theorem dksJ26_bitCount_2 : cJ26_bitCount.data.toList.drop 48 = dktJ26_bitCount_2 := dk_seg dksJ26_bitCount_1 24 rfl rfl
theorem dJ26_bitCount_0 : decode cJ26_bitCount 0 = .ok (.lload_n 0, 1) := dk_30 (dk_at dksJ26_bitCount_0 0 rfl rfl)
theorem dJ26_bitCount_1 : decode cJ26_bitCount 1 = .ok (.lload_n 0, 1) := dk_30 (dk_at dksJ26_bitCount_0 1 rfl rfl)
theorem dJ26_bitCount_2 : decode cJ26_bitCount 2 = .ok (.iconst 1, 1) := dk_4 (dk_at dksJ26_bitCount_0 2 rfl rfl)
theorem dJ26_bitCount_3 : decode cJ26_bitCount 3 = .ok (.lushr, 1) := dk_125 (dk_at dksJ26_bitCount_0 3 rfl rfl)
theorem dJ26_bitCount_4 : decode cJ26_bitCount 4 = .ok (.ldc2_w 314, 3) := dk_20 1 58 (dk_at dksJ26_bitCount_0 4 rfl rfl)
theorem dJ26_bitCount_7 : decode cJ26_bitCount 7 = .ok (.land, 1) := dk_127 (dk_at dksJ26_bitCount_0 7 rfl rfl)
theorem dJ26_bitCount_8 : decode cJ26_bitCount 8 = .ok (.lsub, 1) := dk_101 (dk_at dksJ26_bitCount_0 8 rfl rfl)
theorem dJ26_bitCount_9 : decode cJ26_bitCount 9 = .ok (.lstore_n 0, 1) := dk_63 (dk_at dksJ26_bitCount_0 9 rfl rfl)
theorem dJ26_bitCount_10 : decode cJ26_bitCount 10 = .ok (.lload_n 0, 1) := dk_30 (dk_at dksJ26_bitCount_0 10 rfl rfl)
theorem dJ26_bitCount_11 : decode cJ26_bitCount 11 = .ok (.ldc2_w 316, 3) := dk_20 1 60 (dk_at dksJ26_bitCount_0 11 rfl rfl)
theorem dJ26_bitCount_14 : decode cJ26_bitCount 14 = .ok (.land, 1) := dk_127 (dk_at dksJ26_bitCount_0 14 rfl rfl)
theorem dJ26_bitCount_15 : decode cJ26_bitCount 15 = .ok (.lload_n 0, 1) := dk_30 (dk_at dksJ26_bitCount_0 15 rfl rfl)
theorem dJ26_bitCount_16 : decode cJ26_bitCount 16 = .ok (.iconst 2, 1) := dk_5 (dk_at dksJ26_bitCount_0 16 rfl rfl)
theorem dJ26_bitCount_17 : decode cJ26_bitCount 17 = .ok (.lushr, 1) := dk_125 (dk_at dksJ26_bitCount_0 17 rfl rfl)
theorem dJ26_bitCount_18 : decode cJ26_bitCount 18 = .ok (.ldc2_w 316, 3) := dk_20 1 60 (dk_at dksJ26_bitCount_0 18 rfl rfl)
theorem dJ26_bitCount_21 : decode cJ26_bitCount 21 = .ok (.land, 1) := dk_127 (dk_at dksJ26_bitCount_0 21 rfl rfl)
theorem dJ26_bitCount_22 : decode cJ26_bitCount 22 = .ok (.ladd, 1) := dk_97 (dk_at dksJ26_bitCount_0 22 rfl rfl)
theorem dJ26_bitCount_23 : decode cJ26_bitCount 23 = .ok (.lstore_n 0, 1) := dk_63 (dk_at dksJ26_bitCount_0 23 rfl rfl)
theorem dJ26_bitCount_24 : decode cJ26_bitCount 24 = .ok (.lload_n 0, 1) := dk_30 (dk_at dksJ26_bitCount_1 0 rfl rfl)
theorem dJ26_bitCount_25 : decode cJ26_bitCount 25 = .ok (.lload_n 0, 1) := dk_30 (dk_at dksJ26_bitCount_1 1 rfl rfl)
theorem dJ26_bitCount_26 : decode cJ26_bitCount 26 = .ok (.iconst 4, 1) := dk_7 (dk_at dksJ26_bitCount_1 2 rfl rfl)
theorem dJ26_bitCount_27 : decode cJ26_bitCount 27 = .ok (.lushr, 1) := dk_125 (dk_at dksJ26_bitCount_1 3 rfl rfl)
theorem dJ26_bitCount_28 : decode cJ26_bitCount 28 = .ok (.ladd, 1) := dk_97 (dk_at dksJ26_bitCount_1 4 rfl rfl)
theorem dJ26_bitCount_29 : decode cJ26_bitCount 29 = .ok (.ldc2_w 318, 3) := dk_20 1 62 (dk_at dksJ26_bitCount_1 5 rfl rfl)
theorem dJ26_bitCount_32 : decode cJ26_bitCount 32 = .ok (.land, 1) := dk_127 (dk_at dksJ26_bitCount_1 8 rfl rfl)
theorem dJ26_bitCount_33 : decode cJ26_bitCount 33 = .ok (.lstore_n 0, 1) := dk_63 (dk_at dksJ26_bitCount_1 9 rfl rfl)
theorem dJ26_bitCount_34 : decode cJ26_bitCount 34 = .ok (.lload_n 0, 1) := dk_30 (dk_at dksJ26_bitCount_1 10 rfl rfl)
theorem dJ26_bitCount_35 : decode cJ26_bitCount 35 = .ok (.lload_n 0, 1) := dk_30 (dk_at dksJ26_bitCount_1 11 rfl rfl)
theorem dJ26_bitCount_36 : decode cJ26_bitCount 36 = .ok (.bipush 8, 2) := dk_16 8 (dk_at dksJ26_bitCount_1 12 rfl rfl)
theorem dJ26_bitCount_38 : decode cJ26_bitCount 38 = .ok (.lushr, 1) := dk_125 (dk_at dksJ26_bitCount_1 14 rfl rfl)
theorem dJ26_bitCount_39 : decode cJ26_bitCount 39 = .ok (.ladd, 1) := dk_97 (dk_at dksJ26_bitCount_1 15 rfl rfl)
theorem dJ26_bitCount_40 : decode cJ26_bitCount 40 = .ok (.lstore_n 0, 1) := dk_63 (dk_at dksJ26_bitCount_1 16 rfl rfl)
theorem dJ26_bitCount_41 : decode cJ26_bitCount 41 = .ok (.lload_n 0, 1) := dk_30 (dk_at dksJ26_bitCount_1 17 rfl rfl)
theorem dJ26_bitCount_42 : decode cJ26_bitCount 42 = .ok (.lload_n 0, 1) := dk_30 (dk_at dksJ26_bitCount_1 18 rfl rfl)
theorem dJ26_bitCount_43 : decode cJ26_bitCount 43 = .ok (.bipush 16, 2) := dk_16 16 (dk_at dksJ26_bitCount_1 19 rfl rfl)
theorem dJ26_bitCount_45 : decode cJ26_bitCount 45 = .ok (.lushr, 1) := dk_125 (dk_at dksJ26_bitCount_1 21 rfl rfl)
theorem dJ26_bitCount_46 : decode cJ26_bitCount 46 = .ok (.ladd, 1) := dk_97 (dk_at dksJ26_bitCount_1 22 rfl rfl)
theorem dJ26_bitCount_47 : decode cJ26_bitCount 47 = .ok (.lstore_n 0, 1) := dk_63 (dk_at dksJ26_bitCount_1 23 rfl rfl)
theorem dJ26_bitCount_48 : decode cJ26_bitCount 48 = .ok (.lload_n 0, 1) := dk_30 (dk_at dksJ26_bitCount_2 0 rfl rfl)
theorem dJ26_bitCount_49 : decode cJ26_bitCount 49 = .ok (.lload_n 0, 1) := dk_30 (dk_at dksJ26_bitCount_2 1 rfl rfl)
theorem dJ26_bitCount_50 : decode cJ26_bitCount 50 = .ok (.bipush 32, 2) := dk_16 32 (dk_at dksJ26_bitCount_2 2 rfl rfl)
theorem dJ26_bitCount_52 : decode cJ26_bitCount 52 = .ok (.lushr, 1) := dk_125 (dk_at dksJ26_bitCount_2 4 rfl rfl)
theorem dJ26_bitCount_53 : decode cJ26_bitCount 53 = .ok (.ladd, 1) := dk_97 (dk_at dksJ26_bitCount_2 5 rfl rfl)
theorem dJ26_bitCount_54 : decode cJ26_bitCount 54 = .ok (.lstore_n 0, 1) := dk_63 (dk_at dksJ26_bitCount_2 6 rfl rfl)
theorem dJ26_bitCount_55 : decode cJ26_bitCount 55 = .ok (.lload_n 0, 1) := dk_30 (dk_at dksJ26_bitCount_2 7 rfl rfl)
theorem dJ26_bitCount_56 : decode cJ26_bitCount 56 = .ok (.l2i, 1) := dk_136 (dk_at dksJ26_bitCount_2 8 rfl rfl)
theorem dJ26_bitCount_57 : decode cJ26_bitCount 57 = .ok (.bipush 127, 2) := dk_16 127 (dk_at dksJ26_bitCount_2 9 rfl rfl)
theorem dJ26_bitCount_59 : decode cJ26_bitCount 59 = .ok (.iand, 1) := dk_126 (dk_at dksJ26_bitCount_2 11 rfl rfl)
theorem dJ26_bitCount_60 : decode cJ26_bitCount 60 = .ok (.ireturn, 1) := dk_172 (dk_at dksJ26_bitCount_2 12 rfl rfl)
abbrev cJ26_numberOfTrailingZeros : ByteArray := prog_32_method_49_code
def yJ26_numberOfTrailingZeros : MethodName := ⟨RJ26, "numberOfTrailingZeros", "(J)I"⟩
def dkwJ26_numberOfTrailingZeros_1 : List UInt8 := [184, 1, 55, 172]
abbrev dktJ26_numberOfTrailingZeros_1 : List UInt8 := dkwJ26_numberOfTrailingZeros_1 ++ []
def dkwJ26_numberOfTrailingZeros_0 : List UInt8 := [30, 136, 61, 28, 154, 0, 17, 16, 32, 30, 16, 32, 125, 136, 184, 1, 55, 96, 167, 0, 7, 28]
abbrev dktJ26_numberOfTrailingZeros_0 : List UInt8 := dkwJ26_numberOfTrailingZeros_0 ++ dktJ26_numberOfTrailingZeros_1
theorem dksJ26_numberOfTrailingZeros_0 : cJ26_numberOfTrailingZeros.data.toList.drop 0 = dktJ26_numberOfTrailingZeros_0 := by decide +kernel
theorem dksJ26_numberOfTrailingZeros_1 : cJ26_numberOfTrailingZeros.data.toList.drop 22 = dktJ26_numberOfTrailingZeros_1 := dk_seg dksJ26_numberOfTrailingZeros_0 22 rfl rfl
theorem dJ26_numberOfTrailingZeros_0 : decode cJ26_numberOfTrailingZeros 0 = .ok (.lload_n 0, 1) := dk_30 (dk_at dksJ26_numberOfTrailingZeros_0 0 rfl rfl)
theorem dJ26_numberOfTrailingZeros_1 : decode cJ26_numberOfTrailingZeros 1 = .ok (.l2i, 1) := dk_136 (dk_at dksJ26_numberOfTrailingZeros_0 1 rfl rfl)
theorem dJ26_numberOfTrailingZeros_2 : decode cJ26_numberOfTrailingZeros 2 = .ok (.istore_n 2, 1) := dk_61 (dk_at dksJ26_numberOfTrailingZeros_0 2 rfl rfl)
theorem dJ26_numberOfTrailingZeros_3 : decode cJ26_numberOfTrailingZeros 3 = .ok (.iload_n 2, 1) := dk_28 (dk_at dksJ26_numberOfTrailingZeros_0 3 rfl rfl)
theorem dJ26_numberOfTrailingZeros_4 : decode cJ26_numberOfTrailingZeros 4 = .ok (.ifCond .ne 17, 3) := dk_154 0 17 (dk_at dksJ26_numberOfTrailingZeros_0 4 rfl rfl)
theorem dJ26_numberOfTrailingZeros_7 : decode cJ26_numberOfTrailingZeros 7 = .ok (.bipush 32, 2) := dk_16 32 (dk_at dksJ26_numberOfTrailingZeros_0 7 rfl rfl)
theorem dJ26_numberOfTrailingZeros_9 : decode cJ26_numberOfTrailingZeros 9 = .ok (.lload_n 0, 1) := dk_30 (dk_at dksJ26_numberOfTrailingZeros_0 9 rfl rfl)
theorem dJ26_numberOfTrailingZeros_10 : decode cJ26_numberOfTrailingZeros 10 = .ok (.bipush 32, 2) := dk_16 32 (dk_at dksJ26_numberOfTrailingZeros_0 10 rfl rfl)
theorem dJ26_numberOfTrailingZeros_12 : decode cJ26_numberOfTrailingZeros 12 = .ok (.lushr, 1) := dk_125 (dk_at dksJ26_numberOfTrailingZeros_0 12 rfl rfl)
theorem dJ26_numberOfTrailingZeros_13 : decode cJ26_numberOfTrailingZeros 13 = .ok (.l2i, 1) := dk_136 (dk_at dksJ26_numberOfTrailingZeros_0 13 rfl rfl)
theorem dJ26_numberOfTrailingZeros_14 : decode cJ26_numberOfTrailingZeros 14 = .ok (.invokestatic 311, 3) := dk_184 1 55 (dk_at dksJ26_numberOfTrailingZeros_0 14 rfl rfl)
theorem dJ26_numberOfTrailingZeros_17 : decode cJ26_numberOfTrailingZeros 17 = .ok (.iadd, 1) := dk_96 (dk_at dksJ26_numberOfTrailingZeros_0 17 rfl rfl)
theorem dJ26_numberOfTrailingZeros_18 : decode cJ26_numberOfTrailingZeros 18 = .ok (.goto 7, 3) := dk_167 0 7 (dk_at dksJ26_numberOfTrailingZeros_0 18 rfl rfl)
theorem dJ26_numberOfTrailingZeros_21 : decode cJ26_numberOfTrailingZeros 21 = .ok (.iload_n 2, 1) := dk_28 (dk_at dksJ26_numberOfTrailingZeros_0 21 rfl rfl)
theorem dJ26_numberOfTrailingZeros_22 : decode cJ26_numberOfTrailingZeros 22 = .ok (.invokestatic 311, 3) := dk_184 1 55 (dk_at dksJ26_numberOfTrailingZeros_1 0 rfl rfl)
theorem dJ26_numberOfTrailingZeros_25 : decode cJ26_numberOfTrailingZeros 25 = .ok (.ireturn, 1) := dk_172 (dk_at dksJ26_numberOfTrailingZeros_1 3 rfl rfl)
abbrev cJ26_numberOfLeadingZeros : ByteArray := prog_32_method_48_code
def yJ26_numberOfLeadingZeros : MethodName := ⟨RJ26, "numberOfLeadingZeros", "(J)I"⟩
def dkwJ26_numberOfLeadingZeros_1 : List UInt8 := [184, 1, 52, 172]
abbrev dktJ26_numberOfLeadingZeros_1 : List UInt8 := dkwJ26_numberOfLeadingZeros_1 ++ []
def dkwJ26_numberOfLeadingZeros_0 : List UInt8 := [30, 16, 32, 125, 136, 61, 28, 154, 0, 14, 16, 32, 30, 136, 184, 1, 52, 96, 167, 0, 7, 28]
abbrev dktJ26_numberOfLeadingZeros_0 : List UInt8 := dkwJ26_numberOfLeadingZeros_0 ++ dktJ26_numberOfLeadingZeros_1
theorem dksJ26_numberOfLeadingZeros_0 : cJ26_numberOfLeadingZeros.data.toList.drop 0 = dktJ26_numberOfLeadingZeros_0 := by decide +kernel
theorem dksJ26_numberOfLeadingZeros_1 : cJ26_numberOfLeadingZeros.data.toList.drop 22 = dktJ26_numberOfLeadingZeros_1 := dk_seg dksJ26_numberOfLeadingZeros_0 22 rfl rfl
theorem dJ26_numberOfLeadingZeros_0 : decode cJ26_numberOfLeadingZeros 0 = .ok (.lload_n 0, 1) := dk_30 (dk_at dksJ26_numberOfLeadingZeros_0 0 rfl rfl)
theorem dJ26_numberOfLeadingZeros_1 : decode cJ26_numberOfLeadingZeros 1 = .ok (.bipush 32, 2) := dk_16 32 (dk_at dksJ26_numberOfLeadingZeros_0 1 rfl rfl)
theorem dJ26_numberOfLeadingZeros_3 : decode cJ26_numberOfLeadingZeros 3 = .ok (.lushr, 1) := dk_125 (dk_at dksJ26_numberOfLeadingZeros_0 3 rfl rfl)
theorem dJ26_numberOfLeadingZeros_4 : decode cJ26_numberOfLeadingZeros 4 = .ok (.l2i, 1) := dk_136 (dk_at dksJ26_numberOfLeadingZeros_0 4 rfl rfl)
theorem dJ26_numberOfLeadingZeros_5 : decode cJ26_numberOfLeadingZeros 5 = .ok (.istore_n 2, 1) := dk_61 (dk_at dksJ26_numberOfLeadingZeros_0 5 rfl rfl)
theorem dJ26_numberOfLeadingZeros_6 : decode cJ26_numberOfLeadingZeros 6 = .ok (.iload_n 2, 1) := dk_28 (dk_at dksJ26_numberOfLeadingZeros_0 6 rfl rfl)
theorem dJ26_numberOfLeadingZeros_7 : decode cJ26_numberOfLeadingZeros 7 = .ok (.ifCond .ne 14, 3) := dk_154 0 14 (dk_at dksJ26_numberOfLeadingZeros_0 7 rfl rfl)
theorem dJ26_numberOfLeadingZeros_10 : decode cJ26_numberOfLeadingZeros 10 = .ok (.bipush 32, 2) := dk_16 32 (dk_at dksJ26_numberOfLeadingZeros_0 10 rfl rfl)
theorem dJ26_numberOfLeadingZeros_12 : decode cJ26_numberOfLeadingZeros 12 = .ok (.lload_n 0, 1) := dk_30 (dk_at dksJ26_numberOfLeadingZeros_0 12 rfl rfl)
theorem dJ26_numberOfLeadingZeros_13 : decode cJ26_numberOfLeadingZeros 13 = .ok (.l2i, 1) := dk_136 (dk_at dksJ26_numberOfLeadingZeros_0 13 rfl rfl)
theorem dJ26_numberOfLeadingZeros_14 : decode cJ26_numberOfLeadingZeros 14 = .ok (.invokestatic 308, 3) := dk_184 1 52 (dk_at dksJ26_numberOfLeadingZeros_0 14 rfl rfl)
theorem dJ26_numberOfLeadingZeros_17 : decode cJ26_numberOfLeadingZeros 17 = .ok (.iadd, 1) := dk_96 (dk_at dksJ26_numberOfLeadingZeros_0 17 rfl rfl)
theorem dJ26_numberOfLeadingZeros_18 : decode cJ26_numberOfLeadingZeros 18 = .ok (.goto 7, 3) := dk_167 0 7 (dk_at dksJ26_numberOfLeadingZeros_0 18 rfl rfl)
theorem dJ26_numberOfLeadingZeros_21 : decode cJ26_numberOfLeadingZeros 21 = .ok (.iload_n 2, 1) := dk_28 (dk_at dksJ26_numberOfLeadingZeros_0 21 rfl rfl)
theorem dJ26_numberOfLeadingZeros_22 : decode cJ26_numberOfLeadingZeros 22 = .ok (.invokestatic 308, 3) := dk_184 1 52 (dk_at dksJ26_numberOfLeadingZeros_1 0 rfl rfl)
theorem dJ26_numberOfLeadingZeros_25 : decode cJ26_numberOfLeadingZeros 25 = .ok (.ireturn, 1) := dk_172 (dk_at dksJ26_numberOfLeadingZeros_1 3 rfl rfl)
theorem q152 : (Jvm.Cond.initialized "java/lang/Long") ∈ lw_all := lw_g (lw_at lw_m1 30 rfl) rfl
theorem q1078 : (Jvm.Cond.static ({ cls := "java/lang/Long", name := "bitCount", desc := "(J)I" } : Jvm.MethodName)) ∈ lw_all := lw_g (lw_at lw_m4 236 rfl) rfl
theorem q1079 : (Jvm.Cond.code ({ cls := "java/lang/Long", name := "bitCount", desc := "(J)I" } : Jvm.MethodName) prog_32_method_50_code (2 : Nat) (Option.some Jvm.ClassFile.FieldType.int)) ∈ lw_all := lw_g (lw_at lw_m4 237 rfl) rfl
theorem q1080 : (Jvm.Cond.constantLong "java/lang/Long" (314 : Nat) (6148914691236517205 : Int64)) ∈ lw_all := lw_g (lw_at lw_m4 238 rfl) rfl
theorem q1081 : (Jvm.Cond.constantLong "java/lang/Long" (316 : Nat) (3689348814741910323 : Int64)) ∈ lw_all := lw_g (lw_at lw_m4 239 rfl) rfl
theorem q1082 : (Jvm.Cond.constantLong "java/lang/Long" (318 : Nat) (1085102592571150095 : Int64)) ∈ lw_all := lw_g (lw_at lw_m5 0 rfl) rfl
theorem q1119 : (Jvm.Cond.static ({ cls := "java/lang/Long", name := "numberOfTrailingZeros", desc := "(J)I" } : Jvm.MethodName)) ∈ lw_all := lw_g (lw_at lw_m5 37 rfl) rfl
theorem q1120 : (Jvm.Cond.code ({ cls := "java/lang/Long", name := "numberOfTrailingZeros", desc := "(J)I" } : Jvm.MethodName) prog_32_method_49_code (3 : Nat) (Option.some Jvm.ClassFile.FieldType.int)) ∈ lw_all := lw_g (lw_at lw_m5 38 rfl) rfl
theorem q1121 : (Jvm.Cond.methodLink "java/lang/Long" (311 : Nat) ({ cls := "java/lang/Integer", name := "numberOfTrailingZeros", desc := "(I)I" } : Jvm.MethodName)) ∈ lw_all := lw_g (lw_at lw_m5 39 rfl) rfl
theorem q1645 : (Jvm.Cond.static ({ cls := "java/lang/Long", name := "numberOfLeadingZeros", desc := "(J)I" } : Jvm.MethodName)) ∈ lw_all := lw_g (lw_at lw_m7 83 rfl) rfl
theorem q1646 : (Jvm.Cond.code ({ cls := "java/lang/Long", name := "numberOfLeadingZeros", desc := "(J)I" } : Jvm.MethodName) prog_32_method_48_code (3 : Nat) (Option.some Jvm.ClassFile.FieldType.int)) ∈ lw_all := lw_g (lw_at lw_m7 84 rfl) rfl
theorem q1647 : (Jvm.Cond.methodLink "java/lang/Long" (308 : Nat) ({ cls := "java/lang/Integer", name := "numberOfLeadingZeros", desc := "(I)I" } : Jvm.MethodName)) ∈ lw_all := lw_g (lw_at lw_m7 85 rfl) rfl
/-! java/lang/Record -/
set_option maxRecDepth 100000
def RJ27 : String := "java/lang/Record"
abbrev cJ27_init : ByteArray := prog_35_method_1_code
def yJ27_init : MethodName := ⟨RJ27, "<init>", "()V"⟩
theorem dJ27_init_0 : decode cJ27_init 0 = .ok (.aload_n 0, 1) := by decide +kernel
theorem dJ27_init_1 : decode cJ27_init 1 = .ok (.invokespecial 1, 3) := by decide +kernel
theorem dJ27_init_4 : decode cJ27_init 4 = .ok (.return_, 1) := by decide +kernel
theorem q154 : (Jvm.Cond.initialized "java/lang/Record") ∈ lw_all := lw_g (lw_at lw_m1 32 rfl) rfl
theorem q1157 : (Jvm.Cond.instanceMethod ({ cls := "java/lang/Record", name := "<init>", desc := "()V" } : Jvm.MethodName)) ∈ lw_all := lw_g (lw_at lw_m5 75 rfl) rfl
theorem q1158 : (Jvm.Cond.code ({ cls := "java/lang/Record", name := "<init>", desc := "()V" } : Jvm.MethodName) prog_35_method_1_code (1 : Nat) (Option.none : Option Jvm.ClassFile.FieldType)) ∈ lw_all := lw_g (lw_at lw_m5 76 rfl) rfl
theorem q1159 : (Jvm.Cond.methodLink "java/lang/Record" (1 : Nat) ({ cls := "java/lang/Object", name := "<init>", desc := "()V" } : Jvm.MethodName)) ∈ lw_all := lw_g (lw_at lw_m5 77 rfl) rfl
/-! java/util/ArrayList$Itr -/
set_option maxRecDepth 100000
def RJ28 : String := "java/util/ArrayList$Itr"
def TJ28 : u_T := fun k => match k with
  | 0 => ("java/util/ArrayList$Itr", "cursor", "I", false)
  | 1 => ("java/util/ArrayList$Itr", "lastRet", "I", false)
  | 2 => ("java/util/ArrayList$Itr", "expectedModCount", "I", false)
  | _ => ("java/util/ArrayList$Itr", "this$0", "Ljava/util/ArrayList;", true)
def tyJ28 : Nat → FieldType := fun k => match k with
  | 0 => .int
  | 1 => .int
  | 2 => .int
  | _ => .object "java/util/ArrayList"
abbrev wsJ280 : List Cond := u_ws RJ28 TJ28 4
theorem nmJ28 : ∀ a, a < 4 → ∀ b, b < 4 → a ≠ b → (TJ28 a).2.1 ≠ (TJ28 b).2.1 := by decide +kernel
theorem tyJ28_ok : ∀ k, k < 4 → parseFieldDescriptor (TJ28 k).2.2.1 = some (tyJ28 k) := by decide +kernel
abbrev cJ28_init : ByteArray := prog_55_method_1_code
def yJ28_init : MethodName := ⟨RJ28, "<init>", "(Ljava/util/ArrayList;)V"⟩
def dkwJ28_init_1 : List UInt8 := [181, 0, 22, 177]
abbrev dktJ28_init_1 : List UInt8 := dkwJ28_init_1 ++ []
def dkwJ28_init_0 : List UInt8 := [42, 43, 181, 0, 1, 42, 183, 0, 7, 42, 2, 181, 0, 13, 42, 42, 180, 0, 1, 180, 0, 17]
abbrev dktJ28_init_0 : List UInt8 := dkwJ28_init_0 ++ dktJ28_init_1
theorem dksJ28_init_0 : cJ28_init.data.toList.drop 0 = dktJ28_init_0 := by decide +kernel
theorem dksJ28_init_1 : cJ28_init.data.toList.drop 22 = dktJ28_init_1 := dk_seg dksJ28_init_0 22 rfl rfl
theorem dJ28_init_0 : decode cJ28_init 0 = .ok (.aload_n 0, 1) := dk_42 (dk_at dksJ28_init_0 0 rfl rfl)
theorem dJ28_init_1 : decode cJ28_init 1 = .ok (.aload_n 1, 1) := dk_43 (dk_at dksJ28_init_0 1 rfl rfl)
theorem dJ28_init_2 : decode cJ28_init 2 = .ok (.putfield 1, 3) := dk_181 0 1 (dk_at dksJ28_init_0 2 rfl rfl)
theorem dJ28_init_5 : decode cJ28_init 5 = .ok (.aload_n 0, 1) := dk_42 (dk_at dksJ28_init_0 5 rfl rfl)
theorem dJ28_init_6 : decode cJ28_init 6 = .ok (.invokespecial 7, 3) := dk_183 0 7 (dk_at dksJ28_init_0 6 rfl rfl)
theorem dJ28_init_9 : decode cJ28_init 9 = .ok (.aload_n 0, 1) := dk_42 (dk_at dksJ28_init_0 9 rfl rfl)
theorem dJ28_init_10 : decode cJ28_init 10 = .ok (.iconst (-1), 1) := dk_2 (dk_at dksJ28_init_0 10 rfl rfl)
theorem dJ28_init_11 : decode cJ28_init 11 = .ok (.putfield 13, 3) := dk_181 0 13 (dk_at dksJ28_init_0 11 rfl rfl)
theorem dJ28_init_14 : decode cJ28_init 14 = .ok (.aload_n 0, 1) := dk_42 (dk_at dksJ28_init_0 14 rfl rfl)
theorem dJ28_init_15 : decode cJ28_init 15 = .ok (.aload_n 0, 1) := dk_42 (dk_at dksJ28_init_0 15 rfl rfl)
theorem dJ28_init_16 : decode cJ28_init 16 = .ok (.getfield 1, 3) := dk_180 0 1 (dk_at dksJ28_init_0 16 rfl rfl)
theorem dJ28_init_19 : decode cJ28_init 19 = .ok (.getfield 17, 3) := dk_180 0 17 (dk_at dksJ28_init_0 19 rfl rfl)
theorem dJ28_init_22 : decode cJ28_init 22 = .ok (.putfield 22, 3) := dk_181 0 22 (dk_at dksJ28_init_1 0 rfl rfl)
theorem dJ28_init_25 : decode cJ28_init 25 = .ok (.return_, 1) := dk_177 (dk_at dksJ28_init_1 3 rfl rfl)
abbrev cJ28_hasNext : ByteArray := prog_55_method_2_code
def yJ28_hasNext : MethodName := ⟨RJ28, "hasNext", "()Z"⟩
def dkwJ28_hasNext_0 : List UInt8 := [42, 180, 0, 25, 42, 180, 0, 1, 180, 0, 28, 159, 0, 7, 4, 167, 0, 4, 3, 172]
abbrev dktJ28_hasNext_0 : List UInt8 := dkwJ28_hasNext_0 ++ []
theorem dksJ28_hasNext_0 : cJ28_hasNext.data.toList.drop 0 = dktJ28_hasNext_0 := by decide +kernel
theorem dJ28_hasNext_0 : decode cJ28_hasNext 0 = .ok (.aload_n 0, 1) := dk_42 (dk_at dksJ28_hasNext_0 0 rfl rfl)
theorem dJ28_hasNext_1 : decode cJ28_hasNext 1 = .ok (.getfield 25, 3) := dk_180 0 25 (dk_at dksJ28_hasNext_0 1 rfl rfl)
theorem dJ28_hasNext_4 : decode cJ28_hasNext 4 = .ok (.aload_n 0, 1) := dk_42 (dk_at dksJ28_hasNext_0 4 rfl rfl)
theorem dJ28_hasNext_5 : decode cJ28_hasNext 5 = .ok (.getfield 1, 3) := dk_180 0 1 (dk_at dksJ28_hasNext_0 5 rfl rfl)
theorem dJ28_hasNext_8 : decode cJ28_hasNext 8 = .ok (.getfield 28, 3) := dk_180 0 28 (dk_at dksJ28_hasNext_0 8 rfl rfl)
theorem dJ28_hasNext_11 : decode cJ28_hasNext 11 = .ok (.if_icmp .eq 7, 3) := dk_159 0 7 (dk_at dksJ28_hasNext_0 11 rfl rfl)
theorem dJ28_hasNext_14 : decode cJ28_hasNext 14 = .ok (.iconst 1, 1) := dk_4 (dk_at dksJ28_hasNext_0 14 rfl rfl)
theorem dJ28_hasNext_15 : decode cJ28_hasNext 15 = .ok (.goto 4, 3) := dk_167 0 4 (dk_at dksJ28_hasNext_0 15 rfl rfl)
theorem dJ28_hasNext_18 : decode cJ28_hasNext 18 = .ok (.iconst 0, 1) := dk_3 (dk_at dksJ28_hasNext_0 18 rfl rfl)
theorem dJ28_hasNext_19 : decode cJ28_hasNext 19 = .ok (.ireturn, 1) := dk_172 (dk_at dksJ28_hasNext_0 19 rfl rfl)
abbrev cJ28_next : ByteArray := prog_55_method_3_code
def yJ28_next : MethodName := ⟨RJ28, "next", "()Ljava/lang/Object;"⟩
def dkwJ28_next_2 : List UInt8 := [183, 0, 43, 191, 42, 27, 4, 96, 181, 0, 25, 44, 42, 27, 90, 181, 0, 13, 50, 176]
abbrev dktJ28_next_2 : List UInt8 := dkwJ28_next_2 ++ []
def dkwJ28_next_1 : List UInt8 := [183, 0, 36, 191, 42, 180, 0, 1, 180, 0, 37, 77, 27, 44, 190, 161, 0, 11, 187, 0, 41, 89]
abbrev dktJ28_next_1 : List UInt8 := dkwJ28_next_1 ++ dktJ28_next_2
def dkwJ28_next_0 : List UInt8 := [42, 182, 0, 31, 42, 180, 0, 25, 60, 27, 42, 180, 0, 1, 180, 0, 28, 161, 0, 11, 187, 0, 34, 89]
abbrev dktJ28_next_0 : List UInt8 := dkwJ28_next_0 ++ dktJ28_next_1
theorem dksJ28_next_0 : cJ28_next.data.toList.drop 0 = dktJ28_next_0 := by decide +kernel
theorem dksJ28_next_1 : cJ28_next.data.toList.drop 24 = dktJ28_next_1 := dk_seg dksJ28_next_0 24 rfl rfl
theorem dksJ28_next_2 : cJ28_next.data.toList.drop 46 = dktJ28_next_2 := dk_seg dksJ28_next_1 22 rfl rfl
theorem dJ28_next_0 : decode cJ28_next 0 = .ok (.aload_n 0, 1) := dk_42 (dk_at dksJ28_next_0 0 rfl rfl)
theorem dJ28_next_1 : decode cJ28_next 1 = .ok (.invokevirtual 31, 3) := dk_182 0 31 (dk_at dksJ28_next_0 1 rfl rfl)
theorem dJ28_next_4 : decode cJ28_next 4 = .ok (.aload_n 0, 1) := dk_42 (dk_at dksJ28_next_0 4 rfl rfl)
theorem dJ28_next_5 : decode cJ28_next 5 = .ok (.getfield 25, 3) := dk_180 0 25 (dk_at dksJ28_next_0 5 rfl rfl)
theorem dJ28_next_8 : decode cJ28_next 8 = .ok (.istore_n 1, 1) := dk_60 (dk_at dksJ28_next_0 8 rfl rfl)
theorem dJ28_next_9 : decode cJ28_next 9 = .ok (.iload_n 1, 1) := dk_27 (dk_at dksJ28_next_0 9 rfl rfl)
theorem dJ28_next_10 : decode cJ28_next 10 = .ok (.aload_n 0, 1) := dk_42 (dk_at dksJ28_next_0 10 rfl rfl)
theorem dJ28_next_11 : decode cJ28_next 11 = .ok (.getfield 1, 3) := dk_180 0 1 (dk_at dksJ28_next_0 11 rfl rfl)
theorem dJ28_next_14 : decode cJ28_next 14 = .ok (.getfield 28, 3) := dk_180 0 28 (dk_at dksJ28_next_0 14 rfl rfl)
theorem dJ28_next_17 : decode cJ28_next 17 = .ok (.if_icmp .lt 11, 3) := dk_161 0 11 (dk_at dksJ28_next_0 17 rfl rfl)
theorem dJ28_next_20 : decode cJ28_next 20 = .ok (.new 34, 3) := dk_187 0 34 (dk_at dksJ28_next_0 20 rfl rfl)
theorem dJ28_next_23 : decode cJ28_next 23 = .ok (.dup, 1) := dk_89 (dk_at dksJ28_next_0 23 rfl rfl)
theorem dJ28_next_24 : decode cJ28_next 24 = .ok (.invokespecial 36, 3) := dk_183 0 36 (dk_at dksJ28_next_1 0 rfl rfl)
theorem dJ28_next_27 : decode cJ28_next 27 = .ok (.athrow, 1) := dk_191 (dk_at dksJ28_next_1 3 rfl rfl)
theorem dJ28_next_28 : decode cJ28_next 28 = .ok (.aload_n 0, 1) := dk_42 (dk_at dksJ28_next_1 4 rfl rfl)
theorem dJ28_next_29 : decode cJ28_next 29 = .ok (.getfield 1, 3) := dk_180 0 1 (dk_at dksJ28_next_1 5 rfl rfl)
theorem dJ28_next_32 : decode cJ28_next 32 = .ok (.getfield 37, 3) := dk_180 0 37 (dk_at dksJ28_next_1 8 rfl rfl)
theorem dJ28_next_35 : decode cJ28_next 35 = .ok (.astore_n 2, 1) := dk_77 (dk_at dksJ28_next_1 11 rfl rfl)
theorem dJ28_next_36 : decode cJ28_next 36 = .ok (.iload_n 1, 1) := dk_27 (dk_at dksJ28_next_1 12 rfl rfl)
theorem dJ28_next_37 : decode cJ28_next 37 = .ok (.aload_n 2, 1) := dk_44 (dk_at dksJ28_next_1 13 rfl rfl)
theorem dJ28_next_38 : decode cJ28_next 38 = .ok (.arraylength, 1) := dk_190 (dk_at dksJ28_next_1 14 rfl rfl)
theorem dJ28_next_39 : decode cJ28_next 39 = .ok (.if_icmp .lt 11, 3) := dk_161 0 11 (dk_at dksJ28_next_1 15 rfl rfl)
theorem dJ28_next_42 : decode cJ28_next 42 = .ok (.new 41, 3) := dk_187 0 41 (dk_at dksJ28_next_1 18 rfl rfl)
theorem dJ28_next_45 : decode cJ28_next 45 = .ok (.dup, 1) := dk_89 (dk_at dksJ28_next_1 21 rfl rfl)
theorem dJ28_next_46 : decode cJ28_next 46 = .ok (.invokespecial 43, 3) := dk_183 0 43 (dk_at dksJ28_next_2 0 rfl rfl)
theorem dJ28_next_49 : decode cJ28_next 49 = .ok (.athrow, 1) := dk_191 (dk_at dksJ28_next_2 3 rfl rfl)
theorem dJ28_next_50 : decode cJ28_next 50 = .ok (.aload_n 0, 1) := dk_42 (dk_at dksJ28_next_2 4 rfl rfl)
theorem dJ28_next_51 : decode cJ28_next 51 = .ok (.iload_n 1, 1) := dk_27 (dk_at dksJ28_next_2 5 rfl rfl)
theorem dJ28_next_52 : decode cJ28_next 52 = .ok (.iconst 1, 1) := dk_4 (dk_at dksJ28_next_2 6 rfl rfl)
theorem dJ28_next_53 : decode cJ28_next 53 = .ok (.iadd, 1) := dk_96 (dk_at dksJ28_next_2 7 rfl rfl)
theorem dJ28_next_54 : decode cJ28_next 54 = .ok (.putfield 25, 3) := dk_181 0 25 (dk_at dksJ28_next_2 8 rfl rfl)
theorem dJ28_next_57 : decode cJ28_next 57 = .ok (.aload_n 2, 1) := dk_44 (dk_at dksJ28_next_2 11 rfl rfl)
theorem dJ28_next_58 : decode cJ28_next 58 = .ok (.aload_n 0, 1) := dk_42 (dk_at dksJ28_next_2 12 rfl rfl)
theorem dJ28_next_59 : decode cJ28_next 59 = .ok (.iload_n 1, 1) := dk_27 (dk_at dksJ28_next_2 13 rfl rfl)
theorem dJ28_next_60 : decode cJ28_next 60 = .ok (.dup_x1, 1) := dk_90 (dk_at dksJ28_next_2 14 rfl rfl)
theorem dJ28_next_61 : decode cJ28_next 61 = .ok (.putfield 13, 3) := dk_181 0 13 (dk_at dksJ28_next_2 15 rfl rfl)
theorem dJ28_next_64 : decode cJ28_next 64 = .ok (.aaload, 1) := dk_50 (dk_at dksJ28_next_2 18 rfl rfl)
theorem dJ28_next_65 : decode cJ28_next 65 = .ok (.areturn, 1) := dk_176 (dk_at dksJ28_next_2 19 rfl rfl)
abbrev cJ28_checkForComodification : ByteArray := prog_55_method_6_code
def yJ28_checkForComodification : MethodName := ⟨RJ28, "checkForComodification", "()V"⟩
def dkwJ28_checkForComodification_0 : List UInt8 := [42, 180, 0, 1, 180, 0, 17, 42, 180, 0, 22, 159, 0, 11, 187, 0, 41, 89, 183, 0, 43, 191, 177]
abbrev dktJ28_checkForComodification_0 : List UInt8 := dkwJ28_checkForComodification_0 ++ []
theorem dksJ28_checkForComodification_0 : cJ28_checkForComodification.data.toList.drop 0 = dktJ28_checkForComodification_0 := by decide +kernel
theorem dJ28_checkForComodification_0 : decode cJ28_checkForComodification 0 = .ok (.aload_n 0, 1) := dk_42 (dk_at dksJ28_checkForComodification_0 0 rfl rfl)
theorem dJ28_checkForComodification_1 : decode cJ28_checkForComodification 1 = .ok (.getfield 1, 3) := dk_180 0 1 (dk_at dksJ28_checkForComodification_0 1 rfl rfl)
theorem dJ28_checkForComodification_4 : decode cJ28_checkForComodification 4 = .ok (.getfield 17, 3) := dk_180 0 17 (dk_at dksJ28_checkForComodification_0 4 rfl rfl)
theorem dJ28_checkForComodification_7 : decode cJ28_checkForComodification 7 = .ok (.aload_n 0, 1) := dk_42 (dk_at dksJ28_checkForComodification_0 7 rfl rfl)
theorem dJ28_checkForComodification_8 : decode cJ28_checkForComodification 8 = .ok (.getfield 22, 3) := dk_180 0 22 (dk_at dksJ28_checkForComodification_0 8 rfl rfl)
theorem dJ28_checkForComodification_11 : decode cJ28_checkForComodification 11 = .ok (.if_icmp .eq 11, 3) := dk_159 0 11 (dk_at dksJ28_checkForComodification_0 11 rfl rfl)
theorem dJ28_checkForComodification_14 : decode cJ28_checkForComodification 14 = .ok (.new 41, 3) := dk_187 0 41 (dk_at dksJ28_checkForComodification_0 14 rfl rfl)
theorem dJ28_checkForComodification_17 : decode cJ28_checkForComodification 17 = .ok (.dup, 1) := dk_89 (dk_at dksJ28_checkForComodification_0 17 rfl rfl)
theorem dJ28_checkForComodification_18 : decode cJ28_checkForComodification 18 = .ok (.invokespecial 43, 3) := dk_183 0 43 (dk_at dksJ28_checkForComodification_0 18 rfl rfl)
theorem dJ28_checkForComodification_21 : decode cJ28_checkForComodification 21 = .ok (.athrow, 1) := dk_191 (dk_at dksJ28_checkForComodification_0 21 rfl rfl)
theorem dJ28_checkForComodification_22 : decode cJ28_checkForComodification 22 = .ok (.return_, 1) := dk_177 (dk_at dksJ28_checkForComodification_0 22 rfl rfl)
theorem q156 : (Jvm.Cond.initialized "java/util/ArrayList$Itr") ∈ lw_all := lw_g (lw_at lw_m1 34 rfl) rfl
theorem q214 : (Jvm.Cond.fieldLink "java/util/ArrayList$Itr" (37 : Nat) "java/util/ArrayList" "elementData" "[Ljava/lang/Object;") ∈ lw_all := lw_g (lw_at lw_m1 92 rfl) rfl
theorem q216 : (Jvm.Cond.fieldLinkNest "java/util/ArrayList$Itr" (28 : Nat) "java/util/ArrayList" "size" "I" "java/util/ArrayList") ∈ lw_tbl := lw_at lw_m1 94 rfl
theorem q219 : (Jvm.Cond.fieldLink "java/util/ArrayList$Itr" (17 : Nat) "java/util/ArrayList" "modCount" "I") ∈ lw_all := lw_g (lw_at lw_m1 97 rfl) rfl
theorem q721 : (Jvm.Cond.instantiable "java/util/ArrayList$Itr" (4 : Nat)) ∈ lw_all := lw_g (lw_at lw_m3 119 rfl) rfl
theorem q723 : (Jvm.Cond.instanceMethod ({ cls := "java/util/ArrayList$Itr", name := "<init>", desc := "(Ljava/util/ArrayList;)V" } : Jvm.MethodName)) ∈ lw_all := lw_g (lw_at lw_m3 121 rfl) rfl
theorem q724 : (Jvm.Cond.code ({ cls := "java/util/ArrayList$Itr", name := "<init>", desc := "(Ljava/util/ArrayList;)V" } : Jvm.MethodName) prog_55_method_1_code (2 : Nat) (Option.none : Option Jvm.ClassFile.FieldType)) ∈ lw_all := lw_g (lw_at lw_m3 122 rfl) rfl
theorem q725 : (Jvm.Cond.methodLink "java/util/ArrayList$Itr" (7 : Nat) ({ cls := "java/lang/Object", name := "<init>", desc := "()V" } : Jvm.MethodName)) ∈ lw_all := lw_g (lw_at lw_m3 123 rfl) rfl
theorem q728 : (Jvm.Cond.fieldLink "java/util/ArrayList$Itr" (25 : Nat) "java/util/ArrayList$Itr" "cursor" "I") ∈ lw_all := lw_g (lw_at lw_m3 126 rfl) rfl
theorem q729 : (Jvm.Cond.fieldLink "java/util/ArrayList$Itr" (13 : Nat) "java/util/ArrayList$Itr" "lastRet" "I") ∈ lw_all := lw_g (lw_at lw_m3 127 rfl) rfl
theorem q732 : (Jvm.Cond.fieldLink "java/util/ArrayList$Itr" (22 : Nat) "java/util/ArrayList$Itr" "expectedModCount" "I") ∈ lw_all := lw_g (lw_at lw_m3 130 rfl) rfl
theorem q733 : (Jvm.Cond.fieldLink "java/util/ArrayList$Itr" (1 : Nat) "java/util/ArrayList$Itr" "this$0" "Ljava/util/ArrayList;") ∈ lw_all := lw_g (lw_at lw_m3 131 rfl) rfl
theorem q734 : (Jvm.Cond.lays "java/util/ArrayList$Itr" "java/util/ArrayList$Itr" "cursor" "I") ∈ lw_all := lw_g (lw_at lw_m3 132 rfl) rfl
theorem q735 : (Jvm.Cond.soleField "java/util/ArrayList$Itr" "cursor") ∈ lw_all := lw_g (lw_at lw_m3 133 rfl) rfl
theorem q736 : (Jvm.Cond.lays "java/util/ArrayList$Itr" "java/util/ArrayList$Itr" "lastRet" "I") ∈ lw_all := lw_g (lw_at lw_m3 134 rfl) rfl
theorem q737 : (Jvm.Cond.soleField "java/util/ArrayList$Itr" "lastRet") ∈ lw_all := lw_g (lw_at lw_m3 135 rfl) rfl
theorem q738 : (Jvm.Cond.lays "java/util/ArrayList$Itr" "java/util/ArrayList$Itr" "expectedModCount" "I") ∈ lw_all := lw_g (lw_at lw_m3 136 rfl) rfl
theorem q739 : (Jvm.Cond.soleField "java/util/ArrayList$Itr" "expectedModCount") ∈ lw_all := lw_g (lw_at lw_m3 137 rfl) rfl
theorem q740 : (Jvm.Cond.laysFinal "java/util/ArrayList$Itr" "java/util/ArrayList$Itr" "this$0" "Ljava/util/ArrayList;") ∈ lw_all := lw_g (lw_at lw_m3 138 rfl) rfl
theorem q741 : (Jvm.Cond.soleField "java/util/ArrayList$Itr" "this$0") ∈ lw_all := lw_g (lw_at lw_m3 139 rfl) rfl
theorem q742 : (Jvm.Cond.superclass "java/util/ArrayList$Itr" "java/lang/Object") ∈ lw_all := lw_g (lw_at lw_m3 140 rfl) rfl
theorem q747 : (Jvm.Cond.castable "java/util/ArrayList$Itr" "java/util/Iterator") ∈ lw_tbl := lw_at lw_m3 145 rfl
theorem q748 : (Jvm.Cond.selects "java/util/ArrayList$Itr" ({ cls := "java/util/Iterator", name := "hasNext", desc := "()Z" } : Jvm.MethodName) ({ cls := "java/util/ArrayList$Itr", name := "hasNext", desc := "()Z" } : Jvm.MethodName)) ∈ lw_all := lw_g (lw_at lw_m3 146 rfl) rfl
theorem q749 : (Jvm.Cond.unhidden "java/util/ArrayList$Itr" "hasNext" "()Z") ∈ lw_tbl := lw_at lw_m3 147 rfl
theorem q750 : (Jvm.Cond.instanceMethod ({ cls := "java/util/ArrayList$Itr", name := "hasNext", desc := "()Z" } : Jvm.MethodName)) ∈ lw_all := lw_g (lw_at lw_m3 148 rfl) rfl
theorem q751 : (Jvm.Cond.publicMethod ({ cls := "java/util/ArrayList$Itr", name := "hasNext", desc := "()Z" } : Jvm.MethodName)) ∈ lw_tbl := lw_at lw_m3 149 rfl
theorem q752 : (Jvm.Cond.code ({ cls := "java/util/ArrayList$Itr", name := "hasNext", desc := "()Z" } : Jvm.MethodName) prog_55_method_2_code (1 : Nat) (Option.some Jvm.ClassFile.FieldType.boolean)) ∈ lw_all := lw_g (lw_at lw_m3 150 rfl) rfl
theorem q760 : (Jvm.Cond.selects "java/util/ArrayList$Itr" ({ cls := "java/util/Iterator", name := "next", desc := "()Ljava/lang/Object;" } : Jvm.MethodName) ({ cls := "java/util/ArrayList$Itr", name := "next", desc := "()Ljava/lang/Object;" } : Jvm.MethodName)) ∈ lw_all := lw_g (lw_at lw_m3 158 rfl) rfl
theorem q761 : (Jvm.Cond.unhidden "java/util/ArrayList$Itr" "next" "()Ljava/lang/Object;") ∈ lw_tbl := lw_at lw_m3 159 rfl
theorem q762 : (Jvm.Cond.instanceMethod ({ cls := "java/util/ArrayList$Itr", name := "next", desc := "()Ljava/lang/Object;" } : Jvm.MethodName)) ∈ lw_all := lw_g (lw_at lw_m3 160 rfl) rfl
theorem q763 : (Jvm.Cond.publicMethod ({ cls := "java/util/ArrayList$Itr", name := "next", desc := "()Ljava/lang/Object;" } : Jvm.MethodName)) ∈ lw_tbl := lw_at lw_m3 161 rfl
theorem q764 : (Jvm.Cond.code ({ cls := "java/util/ArrayList$Itr", name := "next", desc := "()Ljava/lang/Object;" } : Jvm.MethodName) prog_55_method_3_code (3 : Nat) (Option.some (Jvm.ClassFile.FieldType.object "java/lang/Object"))) ∈ lw_all := lw_g (lw_at lw_m3 162 rfl) rfl
theorem q765 : (Jvm.Cond.methodLink "java/util/ArrayList$Itr" (31 : Nat) ({ cls := "java/util/ArrayList$Itr", name := "checkForComodification", desc := "()V" } : Jvm.MethodName)) ∈ lw_all := lw_g (lw_at lw_m3 163 rfl) rfl
theorem q766 : (Jvm.Cond.instanceMethod ({ cls := "java/util/ArrayList$Itr", name := "checkForComodification", desc := "()V" } : Jvm.MethodName)) ∈ lw_all := lw_g (lw_at lw_m3 164 rfl) rfl
theorem q767 : (Jvm.Cond.selects "java/util/ArrayList$Itr" ({ cls := "java/util/ArrayList$Itr", name := "checkForComodification", desc := "()V" } : Jvm.MethodName) ({ cls := "java/util/ArrayList$Itr", name := "checkForComodification", desc := "()V" } : Jvm.MethodName)) ∈ lw_all := lw_g (lw_at lw_m3 165 rfl) rfl
theorem q768 : (Jvm.Cond.sameMethod "java/util/ArrayList$Itr" "java/util/ArrayList$Itr" "checkForComodification" "()V") ∈ lw_all := lw_g (lw_at lw_m3 166 rfl) rfl
theorem q770 : (Jvm.Cond.code ({ cls := "java/util/ArrayList$Itr", name := "checkForComodification", desc := "()V" } : Jvm.MethodName) prog_55_method_6_code (1 : Nat) (Option.none : Option Jvm.ClassFile.FieldType)) ∈ lw_all := lw_g (lw_at lw_m3 168 rfl) rfl
theorem q771 : (Jvm.Cond.classLink "java/util/ArrayList$Itr" (34 : Nat) "java/util/NoSuchElementException") ∈ lw_all := lw_g (lw_at lw_m3 169 rfl) rfl
theorem q780 : (Jvm.Cond.methodLink "java/util/ArrayList$Itr" (36 : Nat) ({ cls := "java/util/NoSuchElementException", name := "<init>", desc := "()V" } : Jvm.MethodName)) ∈ lw_all := lw_g (lw_at lw_m3 178 rfl) rfl
theorem q1003 : (Jvm.Cond.selects "java/util/ArrayList$Itr" ({ cls := "java/lang/Object", name := "getClass", desc := "()Ljava/lang/Class;" } : Jvm.MethodName) ({ cls := "java/lang/Object", name := "getClass", desc := "()Ljava/lang/Class;" } : Jvm.MethodName)) ∈ lw_all := lw_g (lw_at lw_m4 161 rfl) rfl
theorem q2723 : (Jvm.Cond.declares ({ cls := "java/util/ArrayList$Itr", name := "checkForComodification", desc := "()V" } : Jvm.MethodName)) ∈ lw_tbl := lw_at lw_m11 201 rfl
theorem q3685 : (Jvm.Cond.castable "java/util/ArrayList$Itr" "java/lang/Object") ∈ lw_tbl := lw_at lw_m15 203 rfl
theorem in_J28 : ∀ w ∈ wsJ280, w ∈ lw_all := lw_in wsJ280 [734, 736, 738, 740] (by decide +kernel) (by decide +kernel)
/-! java/lang/StringIndexOutOfBoundsException -/
set_option maxRecDepth 100000
def RJ29 : String := "java/lang/StringIndexOutOfBoundsException"
def TJ29 : u_T := fun k => match k with
  | 0 => ("java/lang/Throwable", "backtrace", "Ljava/lang/Object;", false)
  | 1 => ("java/lang/Throwable", "detailMessage", "Ljava/lang/String;", false)
  | 2 => ("java/lang/Throwable", "cause", "Ljava/lang/Throwable;", false)
  | 3 => ("java/lang/Throwable", "stackTrace", "[Ljava/lang/StackTraceElement;", false)
  | 4 => ("java/lang/Throwable", "depth", "I", false)
  | _ => ("java/lang/Throwable", "suppressedExceptions", "Ljava/util/List;", false)
def tyJ29 : Nat → FieldType := fun k => match k with
  | 0 => .object "java/lang/Object"
  | 1 => .object "java/lang/String"
  | 2 => .object "java/lang/Throwable"
  | 3 => .array (.object "java/lang/StackTraceElement")
  | 4 => .int
  | _ => .object "java/util/List"
abbrev wsJ290 : List Cond := u_ws RJ29 TJ29 6
theorem nmJ29 : ∀ a, a < 6 → ∀ b, b < 6 → a ≠ b → (TJ29 a).2.1 ≠ (TJ29 b).2.1 := by decide +kernel
theorem tyJ29_ok : ∀ k, k < 6 → parseFieldDescriptor (TJ29 k).2.2.1 = some (tyJ29 k) := by decide +kernel
abbrev cJ29_init : ByteArray := prog_39_method_3_code
def yJ29_init : MethodName := ⟨RJ29, "<init>", "(I)V"⟩
def dkwJ29_init_0 : List UInt8 := [42, 187, 0, 10, 89, 183, 0, 12, 18, 13, 182, 0, 15, 27, 182, 0, 19, 182, 0, 22, 183, 0, 7, 177]
abbrev dktJ29_init_0 : List UInt8 := dkwJ29_init_0 ++ []
theorem dksJ29_init_0 : cJ29_init.data.toList.drop 0 = dktJ29_init_0 := by decide +kernel
theorem dJ29_init_0 : decode cJ29_init 0 = .ok (.aload_n 0, 1) := dk_42 (dk_at dksJ29_init_0 0 rfl rfl)
theorem dJ29_init_1 : decode cJ29_init 1 = .ok (.new 10, 3) := dk_187 0 10 (dk_at dksJ29_init_0 1 rfl rfl)
theorem dJ29_init_4 : decode cJ29_init 4 = .ok (.dup, 1) := dk_89 (dk_at dksJ29_init_0 4 rfl rfl)
theorem dJ29_init_5 : decode cJ29_init 5 = .ok (.invokespecial 12, 3) := dk_183 0 12 (dk_at dksJ29_init_0 5 rfl rfl)
theorem dJ29_init_8 : decode cJ29_init 8 = .ok (.ldc 13, 2) := dk_18 13 (dk_at dksJ29_init_0 8 rfl rfl)
theorem dJ29_init_10 : decode cJ29_init 10 = .ok (.invokevirtual 15, 3) := dk_182 0 15 (dk_at dksJ29_init_0 10 rfl rfl)
theorem dJ29_init_13 : decode cJ29_init 13 = .ok (.iload_n 1, 1) := dk_27 (dk_at dksJ29_init_0 13 rfl rfl)
theorem dJ29_init_14 : decode cJ29_init 14 = .ok (.invokevirtual 19, 3) := dk_182 0 19 (dk_at dksJ29_init_0 14 rfl rfl)
theorem dJ29_init_17 : decode cJ29_init 17 = .ok (.invokevirtual 22, 3) := dk_182 0 22 (dk_at dksJ29_init_0 17 rfl rfl)
theorem dJ29_init_20 : decode cJ29_init 20 = .ok (.invokespecial 7, 3) := dk_183 0 7 (dk_at dksJ29_init_0 20 rfl rfl)
theorem dJ29_init_23 : decode cJ29_init 23 = .ok (.return_, 1) := dk_177 (dk_at dksJ29_init_0 23 rfl rfl)
theorem q157 : (Jvm.Cond.initialized "java/lang/StringIndexOutOfBoundsException") ∈ lw_all := lw_g (lw_at lw_m1 35 rfl) rfl
theorem q356 : (Jvm.Cond.instantiable "java/lang/StringIndexOutOfBoundsException" (6 : Nat)) ∈ lw_all := lw_g (lw_at lw_m1 234 rfl) rfl
theorem q358 : (Jvm.Cond.instanceMethod ({ cls := "java/lang/StringIndexOutOfBoundsException", name := "<init>", desc := "(I)V" } : Jvm.MethodName)) ∈ lw_all := lw_g (lw_at lw_m1 236 rfl) rfl
theorem q359 : (Jvm.Cond.code ({ cls := "java/lang/StringIndexOutOfBoundsException", name := "<init>", desc := "(I)V" } : Jvm.MethodName) prog_39_method_3_code (2 : Nat) (Option.none : Option Jvm.ClassFile.FieldType)) ∈ lw_all := lw_g (lw_at lw_m1 237 rfl) rfl
theorem q360 : (Jvm.Cond.classLink "java/lang/StringIndexOutOfBoundsException" (10 : Nat) "java/lang/StringBuilder") ∈ lw_all := lw_g (lw_at lw_m1 238 rfl) rfl
theorem q361 : (Jvm.Cond.methodLink "java/lang/StringIndexOutOfBoundsException" (12 : Nat) ({ cls := "java/lang/StringBuilder", name := "<init>", desc := "()V" } : Jvm.MethodName)) ∈ lw_all := lw_g (lw_at lw_m1 239 rfl) rfl
theorem q362 : (Jvm.Cond.stringRef "java/lang/StringIndexOutOfBoundsException" (13 : Nat) "String index out of range: ") ∈ lw_tbl := lw_at lw_m2 0 rfl
theorem q363 : (Jvm.Cond.methodLink "java/lang/StringIndexOutOfBoundsException" (15 : Nat) ({ cls := "java/lang/StringBuilder", name := "append", desc := "(Ljava/lang/String;)Ljava/lang/StringBuilder;" } : Jvm.MethodName)) ∈ lw_all := lw_g (lw_at lw_m2 1 rfl) rfl
theorem q483 : (Jvm.Cond.methodLink "java/lang/StringIndexOutOfBoundsException" (19 : Nat) ({ cls := "java/lang/StringBuilder", name := "append", desc := "(I)Ljava/lang/StringBuilder;" } : Jvm.MethodName)) ∈ lw_all := lw_g (lw_at lw_m2 121 rfl) rfl
theorem q508 : (Jvm.Cond.methodLink "java/lang/StringIndexOutOfBoundsException" (22 : Nat) ({ cls := "java/lang/StringBuilder", name := "toString", desc := "()Ljava/lang/String;" } : Jvm.MethodName)) ∈ lw_all := lw_g (lw_at lw_m2 146 rfl) rfl
theorem q575 : (Jvm.Cond.selects "java/lang/StringIndexOutOfBoundsException" ({ cls := "java/lang/Throwable", name := "fillInStackTrace", desc := "()Ljava/lang/Throwable;" } : Jvm.MethodName) ({ cls := "java/lang/Throwable", name := "fillInStackTrace", desc := "()Ljava/lang/Throwable;" } : Jvm.MethodName)) ∈ lw_all := lw_g (lw_at lw_m2 213 rfl) rfl
theorem q640 : (Jvm.Cond.methodLink "java/lang/StringIndexOutOfBoundsException" (7 : Nat) ({ cls := "java/lang/IndexOutOfBoundsException", name := "<init>", desc := "(Ljava/lang/String;)V" } : Jvm.MethodName)) ∈ lw_all := lw_g (lw_at lw_m3 38 rfl) rfl
theorem q644 : (Jvm.Cond.lays "java/lang/StringIndexOutOfBoundsException" "java/lang/Throwable" "backtrace" "Ljava/lang/Object;") ∈ lw_all := lw_g (lw_at lw_m3 42 rfl) rfl
theorem q645 : (Jvm.Cond.lays "java/lang/StringIndexOutOfBoundsException" "java/lang/Throwable" "detailMessage" "Ljava/lang/String;") ∈ lw_all := lw_g (lw_at lw_m3 43 rfl) rfl
theorem q646 : (Jvm.Cond.lays "java/lang/StringIndexOutOfBoundsException" "java/lang/Throwable" "cause" "Ljava/lang/Throwable;") ∈ lw_all := lw_g (lw_at lw_m3 44 rfl) rfl
theorem q647 : (Jvm.Cond.lays "java/lang/StringIndexOutOfBoundsException" "java/lang/Throwable" "stackTrace" "[Ljava/lang/StackTraceElement;") ∈ lw_all := lw_g (lw_at lw_m3 45 rfl) rfl
theorem q648 : (Jvm.Cond.lays "java/lang/StringIndexOutOfBoundsException" "java/lang/Throwable" "depth" "I") ∈ lw_all := lw_g (lw_at lw_m3 46 rfl) rfl
theorem q649 : (Jvm.Cond.lays "java/lang/StringIndexOutOfBoundsException" "java/lang/Throwable" "suppressedExceptions" "Ljava/util/List;") ∈ lw_all := lw_g (lw_at lw_m3 47 rfl) rfl
theorem q650 : (Jvm.Cond.superclass "java/lang/StringIndexOutOfBoundsException" "java/lang/IndexOutOfBoundsException") ∈ lw_all := lw_g (lw_at lw_m3 48 rfl) rfl
theorem q998 : (Jvm.Cond.selects "java/lang/StringIndexOutOfBoundsException" ({ cls := "java/lang/Object", name := "getClass", desc := "()Ljava/lang/Class;" } : Jvm.MethodName) ({ cls := "java/lang/Object", name := "getClass", desc := "()Ljava/lang/Class;" } : Jvm.MethodName)) ∈ lw_all := lw_g (lw_at lw_m4 156 rfl) rfl
theorem q3669 : (Jvm.Cond.castable "java/lang/StringIndexOutOfBoundsException" "java/lang/IndexOutOfBoundsException") ∈ lw_tbl := lw_at lw_m15 187 rfl
theorem q3686 : (Jvm.Cond.castable "java/lang/StringIndexOutOfBoundsException" "java/lang/Object") ∈ lw_tbl := lw_at lw_m15 204 rfl
theorem in_J29 : ∀ w ∈ wsJ290, w ∈ lw_all := lw_in wsJ290 [644, 645, 646, 647, 648, 649] (by decide +kernel) (by decide +kernel)
