/-! java/lang/StringUTF16 -/
set_option maxRecDepth 100000
def RJ20 : String := "java/lang/StringUTF16"
abbrev cJ20_newBytesFor : ByteArray := prog_71_method_2_code
def yJ20_newBytesFor : MethodName := ⟨RJ20, "newBytesFor", "(I)[B"⟩
def dkwJ20_newBytesFor_0 : List UInt8 := [26, 184, 0, 11, 188, 8, 176]
abbrev dktJ20_newBytesFor_0 : List UInt8 := dkwJ20_newBytesFor_0 ++ []
theorem dksJ20_newBytesFor_0 : cJ20_newBytesFor.data.toList.drop 0 = dktJ20_newBytesFor_0 := by decide +kernel
theorem dJ20_newBytesFor_0 : decode cJ20_newBytesFor 0 = .ok (.iload_n 0, 1) := dk_26 (dk_at dksJ20_newBytesFor_0 0 rfl rfl)
theorem dJ20_newBytesFor_1 : decode cJ20_newBytesFor 1 = .ok (.invokestatic 11, 3) := dk_184 0 11 (dk_at dksJ20_newBytesFor_0 1 rfl rfl)
theorem dJ20_newBytesFor_4 : decode cJ20_newBytesFor 4 = .ok (.newarray .byte, 2) := dk_188_8 (dk_at dksJ20_newBytesFor_0 4 rfl rfl)
theorem dJ20_newBytesFor_6 : decode cJ20_newBytesFor 6 = .ok (.areturn, 1) := dk_176 (dk_at dksJ20_newBytesFor_0 6 rfl rfl)
abbrev cJ20_newBytesLength : ByteArray := prog_71_method_3_code
def yJ20_newBytesLength : MethodName := ⟨RJ20, "newBytesLength", "(I)I"⟩
def dkwJ20_newBytesLength_2 : List UInt8 := [182, 0, 32, 182, 0, 37, 183, 0, 41, 191, 26, 4, 120, 172]
abbrev dktJ20_newBytesLength_2 : List UInt8 := dkwJ20_newBytesLength_2 ++ []
def dkwJ20_newBytesLength_1 : List UInt8 := [187, 0, 23, 89, 183, 0, 25, 18, 26, 182, 0, 28, 26, 182, 0, 32, 18, 35, 182, 0, 28, 18, 20]
abbrev dktJ20_newBytesLength_1 : List UInt8 := dkwJ20_newBytesLength_1 ++ dktJ20_newBytesLength_2
def dkwJ20_newBytesLength_0 : List UInt8 := [26, 156, 0, 11, 187, 0, 17, 89, 183, 0, 19, 191, 26, 18, 20, 161, 0, 40, 187, 0, 21, 89]
abbrev dktJ20_newBytesLength_0 : List UInt8 := dkwJ20_newBytesLength_0 ++ dktJ20_newBytesLength_1
theorem dksJ20_newBytesLength_0 : cJ20_newBytesLength.data.toList.drop 0 = dktJ20_newBytesLength_0 := by decide +kernel
theorem dksJ20_newBytesLength_1 : cJ20_newBytesLength.data.toList.drop 22 = dktJ20_newBytesLength_1 := dk_seg dksJ20_newBytesLength_0 22 rfl rfl
theorem dksJ20_newBytesLength_2 : cJ20_newBytesLength.data.toList.drop 45 = dktJ20_newBytesLength_2 := dk_seg dksJ20_newBytesLength_1 23 rfl rfl
theorem dJ20_newBytesLength_0 : decode cJ20_newBytesLength 0 = .ok (.iload_n 0, 1) := dk_26 (dk_at dksJ20_newBytesLength_0 0 rfl rfl)
theorem dJ20_newBytesLength_1 : decode cJ20_newBytesLength 1 = .ok (.ifCond .ge 11, 3) := dk_156 0 11 (dk_at dksJ20_newBytesLength_0 1 rfl rfl)
theorem dJ20_newBytesLength_4 : decode cJ20_newBytesLength 4 = .ok (.new 17, 3) := dk_187 0 17 (dk_at dksJ20_newBytesLength_0 4 rfl rfl)
theorem dJ20_newBytesLength_7 : decode cJ20_newBytesLength 7 = .ok (.dup, 1) := dk_89 (dk_at dksJ20_newBytesLength_0 7 rfl rfl)
theorem dJ20_newBytesLength_8 : decode cJ20_newBytesLength 8 = .ok (.invokespecial 19, 3) := dk_183 0 19 (dk_at dksJ20_newBytesLength_0 8 rfl rfl)
theorem dJ20_newBytesLength_11 : decode cJ20_newBytesLength 11 = .ok (.athrow, 1) := dk_191 (dk_at dksJ20_newBytesLength_0 11 rfl rfl)
theorem dJ20_newBytesLength_12 : decode cJ20_newBytesLength 12 = .ok (.iload_n 0, 1) := dk_26 (dk_at dksJ20_newBytesLength_0 12 rfl rfl)
theorem dJ20_newBytesLength_13 : decode cJ20_newBytesLength 13 = .ok (.ldc 20, 2) := dk_18 20 (dk_at dksJ20_newBytesLength_0 13 rfl rfl)
theorem dJ20_newBytesLength_15 : decode cJ20_newBytesLength 15 = .ok (.if_icmp .lt 40, 3) := dk_161 0 40 (dk_at dksJ20_newBytesLength_0 15 rfl rfl)
theorem dJ20_newBytesLength_18 : decode cJ20_newBytesLength 18 = .ok (.new 21, 3) := dk_187 0 21 (dk_at dksJ20_newBytesLength_0 18 rfl rfl)
theorem dJ20_newBytesLength_21 : decode cJ20_newBytesLength 21 = .ok (.dup, 1) := dk_89 (dk_at dksJ20_newBytesLength_0 21 rfl rfl)
theorem dJ20_newBytesLength_22 : decode cJ20_newBytesLength 22 = .ok (.new 23, 3) := dk_187 0 23 (dk_at dksJ20_newBytesLength_1 0 rfl rfl)
theorem dJ20_newBytesLength_25 : decode cJ20_newBytesLength 25 = .ok (.dup, 1) := dk_89 (dk_at dksJ20_newBytesLength_1 3 rfl rfl)
theorem dJ20_newBytesLength_26 : decode cJ20_newBytesLength 26 = .ok (.invokespecial 25, 3) := dk_183 0 25 (dk_at dksJ20_newBytesLength_1 4 rfl rfl)
theorem dJ20_newBytesLength_29 : decode cJ20_newBytesLength 29 = .ok (.ldc 26, 2) := dk_18 26 (dk_at dksJ20_newBytesLength_1 7 rfl rfl)
theorem dJ20_newBytesLength_31 : decode cJ20_newBytesLength 31 = .ok (.invokevirtual 28, 3) := dk_182 0 28 (dk_at dksJ20_newBytesLength_1 9 rfl rfl)
theorem dJ20_newBytesLength_34 : decode cJ20_newBytesLength 34 = .ok (.iload_n 0, 1) := dk_26 (dk_at dksJ20_newBytesLength_1 12 rfl rfl)
theorem dJ20_newBytesLength_35 : decode cJ20_newBytesLength 35 = .ok (.invokevirtual 32, 3) := dk_182 0 32 (dk_at dksJ20_newBytesLength_1 13 rfl rfl)
theorem dJ20_newBytesLength_38 : decode cJ20_newBytesLength 38 = .ok (.ldc 35, 2) := dk_18 35 (dk_at dksJ20_newBytesLength_1 16 rfl rfl)
theorem dJ20_newBytesLength_40 : decode cJ20_newBytesLength 40 = .ok (.invokevirtual 28, 3) := dk_182 0 28 (dk_at dksJ20_newBytesLength_1 18 rfl rfl)
theorem dJ20_newBytesLength_43 : decode cJ20_newBytesLength 43 = .ok (.ldc 20, 2) := dk_18 20 (dk_at dksJ20_newBytesLength_1 21 rfl rfl)
theorem dJ20_newBytesLength_45 : decode cJ20_newBytesLength 45 = .ok (.invokevirtual 32, 3) := dk_182 0 32 (dk_at dksJ20_newBytesLength_2 0 rfl rfl)
theorem dJ20_newBytesLength_48 : decode cJ20_newBytesLength 48 = .ok (.invokevirtual 37, 3) := dk_182 0 37 (dk_at dksJ20_newBytesLength_2 3 rfl rfl)
theorem dJ20_newBytesLength_51 : decode cJ20_newBytesLength 51 = .ok (.invokespecial 41, 3) := dk_183 0 41 (dk_at dksJ20_newBytesLength_2 6 rfl rfl)
theorem dJ20_newBytesLength_54 : decode cJ20_newBytesLength 54 = .ok (.athrow, 1) := dk_191 (dk_at dksJ20_newBytesLength_2 9 rfl rfl)
theorem dJ20_newBytesLength_55 : decode cJ20_newBytesLength 55 = .ok (.iload_n 0, 1) := dk_26 (dk_at dksJ20_newBytesLength_2 10 rfl rfl)
theorem dJ20_newBytesLength_56 : decode cJ20_newBytesLength 56 = .ok (.iconst 1, 1) := dk_4 (dk_at dksJ20_newBytesLength_2 11 rfl rfl)
theorem dJ20_newBytesLength_57 : decode cJ20_newBytesLength 57 = .ok (.ishl, 1) := dk_120 (dk_at dksJ20_newBytesLength_2 12 rfl rfl)
theorem dJ20_newBytesLength_58 : decode cJ20_newBytesLength 58 = .ok (.ireturn, 1) := dk_172 (dk_at dksJ20_newBytesLength_2 13 rfl rfl)
abbrev cJ20_putCharsAt : ByteArray := prog_71_method_81_code
def yJ20_putCharsAt : MethodName := ⟨RJ20, "putCharsAt", "([BICCCC)I"⟩
def dkwJ20_putCharsAt_3 : List UInt8 := [21, 6, 172]
abbrev dktJ20_putCharsAt_3 : List UInt8 := dkwJ20_putCharsAt_3 ++ []
def dkwJ20_putCharsAt_2 : List UInt8 := [184, 0, 111, 178, 0, 44, 154, 0, 17, 27, 21, 6, 159, 0, 11, 187, 0, 52, 89, 183, 0, 66, 191]
abbrev dktJ20_putCharsAt_2 : List UInt8 := dkwJ20_putCharsAt_2 ++ dktJ20_putCharsAt_3
def dkwJ20_putCharsAt_1 : List UInt8 := [132, 1, 1, 29, 184, 0, 111, 42, 27, 132, 1, 1, 21, 4, 184, 0, 111, 42, 27, 132, 1, 1, 21, 5]
abbrev dktJ20_putCharsAt_1 : List UInt8 := dkwJ20_putCharsAt_1 ++ dktJ20_putCharsAt_2
def dkwJ20_putCharsAt_0 : List UInt8 := [27, 7, 96, 54, 6, 27, 21, 6, 42, 184, 0, 96, 42, 27, 132, 1, 1, 28, 184, 0, 111, 42, 27]
abbrev dktJ20_putCharsAt_0 : List UInt8 := dkwJ20_putCharsAt_0 ++ dktJ20_putCharsAt_1
theorem dksJ20_putCharsAt_0 : cJ20_putCharsAt.data.toList.drop 0 = dktJ20_putCharsAt_0 := by decide +kernel
theorem dksJ20_putCharsAt_1 : cJ20_putCharsAt.data.toList.drop 23 = dktJ20_putCharsAt_1 := dk_seg dksJ20_putCharsAt_0 23 rfl rfl
theorem dksJ20_putCharsAt_2 : cJ20_putCharsAt.data.toList.drop 47 = dktJ20_putCharsAt_2 := dk_seg dksJ20_putCharsAt_1 24 rfl rfl
theorem dksJ20_putCharsAt_3 : cJ20_putCharsAt.data.toList.drop 70 = dktJ20_putCharsAt_3 := dk_seg dksJ20_putCharsAt_2 23 rfl rfl
theorem dJ20_putCharsAt_0 : decode cJ20_putCharsAt 0 = .ok (.iload_n 1, 1) := dk_27 (dk_at dksJ20_putCharsAt_0 0 rfl rfl)
theorem dJ20_putCharsAt_1 : decode cJ20_putCharsAt 1 = .ok (.iconst 4, 1) := dk_7 (dk_at dksJ20_putCharsAt_0 1 rfl rfl)
theorem dJ20_putCharsAt_2 : decode cJ20_putCharsAt 2 = .ok (.iadd, 1) := dk_96 (dk_at dksJ20_putCharsAt_0 2 rfl rfl)
theorem dJ20_putCharsAt_3 : decode cJ20_putCharsAt 3 = .ok (.istore 6, 2) := dk_54 6 (dk_at dksJ20_putCharsAt_0 3 rfl rfl)
theorem dJ20_putCharsAt_5 : decode cJ20_putCharsAt 5 = .ok (.iload_n 1, 1) := dk_27 (dk_at dksJ20_putCharsAt_0 5 rfl rfl)
theorem dJ20_putCharsAt_6 : decode cJ20_putCharsAt 6 = .ok (.iload 6, 2) := dk_21 6 (dk_at dksJ20_putCharsAt_0 6 rfl rfl)
theorem dJ20_putCharsAt_8 : decode cJ20_putCharsAt 8 = .ok (.aload_n 0, 1) := dk_42 (dk_at dksJ20_putCharsAt_0 8 rfl rfl)
theorem dJ20_putCharsAt_9 : decode cJ20_putCharsAt 9 = .ok (.invokestatic 96, 3) := dk_184 0 96 (dk_at dksJ20_putCharsAt_0 9 rfl rfl)
theorem dJ20_putCharsAt_12 : decode cJ20_putCharsAt 12 = .ok (.aload_n 0, 1) := dk_42 (dk_at dksJ20_putCharsAt_0 12 rfl rfl)
theorem dJ20_putCharsAt_13 : decode cJ20_putCharsAt 13 = .ok (.iload_n 1, 1) := dk_27 (dk_at dksJ20_putCharsAt_0 13 rfl rfl)
theorem dJ20_putCharsAt_14 : decode cJ20_putCharsAt 14 = .ok (.iinc 1 1, 3) := dk_132 1 1 (dk_at dksJ20_putCharsAt_0 14 rfl rfl)
theorem dJ20_putCharsAt_17 : decode cJ20_putCharsAt 17 = .ok (.iload_n 2, 1) := dk_28 (dk_at dksJ20_putCharsAt_0 17 rfl rfl)
theorem dJ20_putCharsAt_18 : decode cJ20_putCharsAt 18 = .ok (.invokestatic 111, 3) := dk_184 0 111 (dk_at dksJ20_putCharsAt_0 18 rfl rfl)
theorem dJ20_putCharsAt_21 : decode cJ20_putCharsAt 21 = .ok (.aload_n 0, 1) := dk_42 (dk_at dksJ20_putCharsAt_0 21 rfl rfl)
theorem dJ20_putCharsAt_22 : decode cJ20_putCharsAt 22 = .ok (.iload_n 1, 1) := dk_27 (dk_at dksJ20_putCharsAt_0 22 rfl rfl)
theorem dJ20_putCharsAt_23 : decode cJ20_putCharsAt 23 = .ok (.iinc 1 1, 3) := dk_132 1 1 (dk_at dksJ20_putCharsAt_1 0 rfl rfl)
theorem dJ20_putCharsAt_26 : decode cJ20_putCharsAt 26 = .ok (.iload_n 3, 1) := dk_29 (dk_at dksJ20_putCharsAt_1 3 rfl rfl)
theorem dJ20_putCharsAt_27 : decode cJ20_putCharsAt 27 = .ok (.invokestatic 111, 3) := dk_184 0 111 (dk_at dksJ20_putCharsAt_1 4 rfl rfl)
theorem dJ20_putCharsAt_30 : decode cJ20_putCharsAt 30 = .ok (.aload_n 0, 1) := dk_42 (dk_at dksJ20_putCharsAt_1 7 rfl rfl)
theorem dJ20_putCharsAt_31 : decode cJ20_putCharsAt 31 = .ok (.iload_n 1, 1) := dk_27 (dk_at dksJ20_putCharsAt_1 8 rfl rfl)
theorem dJ20_putCharsAt_32 : decode cJ20_putCharsAt 32 = .ok (.iinc 1 1, 3) := dk_132 1 1 (dk_at dksJ20_putCharsAt_1 9 rfl rfl)
theorem dJ20_putCharsAt_35 : decode cJ20_putCharsAt 35 = .ok (.iload 4, 2) := dk_21 4 (dk_at dksJ20_putCharsAt_1 12 rfl rfl)
theorem dJ20_putCharsAt_37 : decode cJ20_putCharsAt 37 = .ok (.invokestatic 111, 3) := dk_184 0 111 (dk_at dksJ20_putCharsAt_1 14 rfl rfl)
theorem dJ20_putCharsAt_40 : decode cJ20_putCharsAt 40 = .ok (.aload_n 0, 1) := dk_42 (dk_at dksJ20_putCharsAt_1 17 rfl rfl)
theorem dJ20_putCharsAt_41 : decode cJ20_putCharsAt 41 = .ok (.iload_n 1, 1) := dk_27 (dk_at dksJ20_putCharsAt_1 18 rfl rfl)
theorem dJ20_putCharsAt_42 : decode cJ20_putCharsAt 42 = .ok (.iinc 1 1, 3) := dk_132 1 1 (dk_at dksJ20_putCharsAt_1 19 rfl rfl)
theorem dJ20_putCharsAt_45 : decode cJ20_putCharsAt 45 = .ok (.iload 5, 2) := dk_21 5 (dk_at dksJ20_putCharsAt_1 22 rfl rfl)
theorem dJ20_putCharsAt_47 : decode cJ20_putCharsAt 47 = .ok (.invokestatic 111, 3) := dk_184 0 111 (dk_at dksJ20_putCharsAt_2 0 rfl rfl)
theorem dJ20_putCharsAt_50 : decode cJ20_putCharsAt 50 = .ok (.getstatic 44, 3) := dk_178 0 44 (dk_at dksJ20_putCharsAt_2 3 rfl rfl)
theorem dJ20_putCharsAt_53 : decode cJ20_putCharsAt 53 = .ok (.ifCond .ne 17, 3) := dk_154 0 17 (dk_at dksJ20_putCharsAt_2 6 rfl rfl)
theorem dJ20_putCharsAt_56 : decode cJ20_putCharsAt 56 = .ok (.iload_n 1, 1) := dk_27 (dk_at dksJ20_putCharsAt_2 9 rfl rfl)
theorem dJ20_putCharsAt_57 : decode cJ20_putCharsAt 57 = .ok (.iload 6, 2) := dk_21 6 (dk_at dksJ20_putCharsAt_2 10 rfl rfl)
theorem dJ20_putCharsAt_59 : decode cJ20_putCharsAt 59 = .ok (.if_icmp .eq 11, 3) := dk_159 0 11 (dk_at dksJ20_putCharsAt_2 12 rfl rfl)
theorem dJ20_putCharsAt_62 : decode cJ20_putCharsAt 62 = .ok (.new 52, 3) := dk_187 0 52 (dk_at dksJ20_putCharsAt_2 15 rfl rfl)
theorem dJ20_putCharsAt_65 : decode cJ20_putCharsAt 65 = .ok (.dup, 1) := dk_89 (dk_at dksJ20_putCharsAt_2 18 rfl rfl)
theorem dJ20_putCharsAt_66 : decode cJ20_putCharsAt 66 = .ok (.invokespecial 66, 3) := dk_183 0 66 (dk_at dksJ20_putCharsAt_2 19 rfl rfl)
theorem dJ20_putCharsAt_69 : decode cJ20_putCharsAt 69 = .ok (.athrow, 1) := dk_191 (dk_at dksJ20_putCharsAt_2 22 rfl rfl)
theorem dJ20_putCharsAt_70 : decode cJ20_putCharsAt 70 = .ok (.iload 6, 2) := dk_21 6 (dk_at dksJ20_putCharsAt_3 0 rfl rfl)
theorem dJ20_putCharsAt_72 : decode cJ20_putCharsAt 72 = .ok (.ireturn, 1) := dk_172 (dk_at dksJ20_putCharsAt_3 2 rfl rfl)
abbrev cJ20_checkBoundsBeginEnd : ByteArray := prog_71_method_93_code
def yJ20_checkBoundsBeginEnd : MethodName := ⟨RJ20, "checkBoundsBeginEnd", "(II[B)V"⟩
def dkwJ20_checkBoundsBeginEnd_0 : List UInt8 := [26, 27, 44, 184, 0, 48, 184, 0, 241, 177]
abbrev dktJ20_checkBoundsBeginEnd_0 : List UInt8 := dkwJ20_checkBoundsBeginEnd_0 ++ []
theorem dksJ20_checkBoundsBeginEnd_0 : cJ20_checkBoundsBeginEnd.data.toList.drop 0 = dktJ20_checkBoundsBeginEnd_0 := by decide +kernel
theorem dJ20_checkBoundsBeginEnd_0 : decode cJ20_checkBoundsBeginEnd 0 = .ok (.iload_n 0, 1) := dk_26 (dk_at dksJ20_checkBoundsBeginEnd_0 0 rfl rfl)
theorem dJ20_checkBoundsBeginEnd_1 : decode cJ20_checkBoundsBeginEnd 1 = .ok (.iload_n 1, 1) := dk_27 (dk_at dksJ20_checkBoundsBeginEnd_0 1 rfl rfl)
theorem dJ20_checkBoundsBeginEnd_2 : decode cJ20_checkBoundsBeginEnd 2 = .ok (.aload_n 2, 1) := dk_44 (dk_at dksJ20_checkBoundsBeginEnd_0 2 rfl rfl)
theorem dJ20_checkBoundsBeginEnd_3 : decode cJ20_checkBoundsBeginEnd 3 = .ok (.invokestatic 48, 3) := dk_184 0 48 (dk_at dksJ20_checkBoundsBeginEnd_0 3 rfl rfl)
theorem dJ20_checkBoundsBeginEnd_6 : decode cJ20_checkBoundsBeginEnd 6 = .ok (.invokestatic 241, 3) := dk_184 0 241 (dk_at dksJ20_checkBoundsBeginEnd_0 6 rfl rfl)
theorem dJ20_checkBoundsBeginEnd_9 : decode cJ20_checkBoundsBeginEnd 9 = .ok (.return_, 1) := dk_177 (dk_at dksJ20_checkBoundsBeginEnd_0 9 rfl rfl)
abbrev cJ20_length : ByteArray := prog_71_method_6_code
def yJ20_length : MethodName := ⟨RJ20, "length", "([B)I"⟩
def dkwJ20_length_0 : List UInt8 := [42, 190, 4, 122, 172]
abbrev dktJ20_length_0 : List UInt8 := dkwJ20_length_0 ++ []
theorem dksJ20_length_0 : cJ20_length.data.toList.drop 0 = dktJ20_length_0 := by decide +kernel
theorem dJ20_length_0 : decode cJ20_length 0 = .ok (.aload_n 0, 1) := dk_42 (dk_at dksJ20_length_0 0 rfl rfl)
theorem dJ20_length_1 : decode cJ20_length 1 = .ok (.arraylength, 1) := dk_190 (dk_at dksJ20_length_0 1 rfl rfl)
theorem dJ20_length_2 : decode cJ20_length 2 = .ok (.iconst 1, 1) := dk_4 (dk_at dksJ20_length_0 2 rfl rfl)
theorem dJ20_length_3 : decode cJ20_length 3 = .ok (.ishr, 1) := dk_122 (dk_at dksJ20_length_0 3 rfl rfl)
theorem dJ20_length_4 : decode cJ20_length 4 = .ok (.ireturn, 1) := dk_172 (dk_at dksJ20_length_0 4 rfl rfl)
abbrev cJ20_putChar : ByteArray := prog_71_method_4_code
def yJ20_putChar : MethodName := ⟨RJ20, "putChar", "([BII)V"⟩
def dkwJ20_putChar_2 : List UInt8 := [178, 0, 63, 122, 145, 84, 177]
abbrev dktJ20_putChar_2 : List UInt8 := dkwJ20_putChar_2 ++ []
def dkwJ20_putChar_1 : List UInt8 := [183, 0, 56, 191, 27, 4, 120, 60, 42, 27, 132, 1, 1, 28, 178, 0, 59, 122, 145, 84, 42, 27, 28]
abbrev dktJ20_putChar_1 : List UInt8 := dkwJ20_putChar_1 ++ dktJ20_putChar_2
def dkwJ20_putChar_0 : List UInt8 := [178, 0, 44, 154, 0, 25, 27, 155, 0, 11, 27, 42, 184, 0, 48, 161, 0, 13, 187, 0, 52, 89, 18, 54]
abbrev dktJ20_putChar_0 : List UInt8 := dkwJ20_putChar_0 ++ dktJ20_putChar_1
theorem dksJ20_putChar_0 : cJ20_putChar.data.toList.drop 0 = dktJ20_putChar_0 := by decide +kernel
theorem dksJ20_putChar_1 : cJ20_putChar.data.toList.drop 24 = dktJ20_putChar_1 := dk_seg dksJ20_putChar_0 24 rfl rfl
theorem dksJ20_putChar_2 : cJ20_putChar.data.toList.drop 47 = dktJ20_putChar_2 := dk_seg dksJ20_putChar_1 23 rfl rfl
theorem dJ20_putChar_0 : decode cJ20_putChar 0 = .ok (.getstatic 44, 3) := dk_178 0 44 (dk_at dksJ20_putChar_0 0 rfl rfl)
theorem dJ20_putChar_3 : decode cJ20_putChar 3 = .ok (.ifCond .ne 25, 3) := dk_154 0 25 (dk_at dksJ20_putChar_0 3 rfl rfl)
theorem dJ20_putChar_6 : decode cJ20_putChar 6 = .ok (.iload_n 1, 1) := dk_27 (dk_at dksJ20_putChar_0 6 rfl rfl)
theorem dJ20_putChar_7 : decode cJ20_putChar 7 = .ok (.ifCond .lt 11, 3) := dk_155 0 11 (dk_at dksJ20_putChar_0 7 rfl rfl)
theorem dJ20_putChar_10 : decode cJ20_putChar 10 = .ok (.iload_n 1, 1) := dk_27 (dk_at dksJ20_putChar_0 10 rfl rfl)
theorem dJ20_putChar_11 : decode cJ20_putChar 11 = .ok (.aload_n 0, 1) := dk_42 (dk_at dksJ20_putChar_0 11 rfl rfl)
theorem dJ20_putChar_12 : decode cJ20_putChar 12 = .ok (.invokestatic 48, 3) := dk_184 0 48 (dk_at dksJ20_putChar_0 12 rfl rfl)
theorem dJ20_putChar_15 : decode cJ20_putChar 15 = .ok (.if_icmp .lt 13, 3) := dk_161 0 13 (dk_at dksJ20_putChar_0 15 rfl rfl)
theorem dJ20_putChar_18 : decode cJ20_putChar 18 = .ok (.new 52, 3) := dk_187 0 52 (dk_at dksJ20_putChar_0 18 rfl rfl)
theorem dJ20_putChar_21 : decode cJ20_putChar 21 = .ok (.dup, 1) := dk_89 (dk_at dksJ20_putChar_0 21 rfl rfl)
theorem dJ20_putChar_22 : decode cJ20_putChar 22 = .ok (.ldc 54, 2) := dk_18 54 (dk_at dksJ20_putChar_0 22 rfl rfl)
theorem dJ20_putChar_24 : decode cJ20_putChar 24 = .ok (.invokespecial 56, 3) := dk_183 0 56 (dk_at dksJ20_putChar_1 0 rfl rfl)
theorem dJ20_putChar_27 : decode cJ20_putChar 27 = .ok (.athrow, 1) := dk_191 (dk_at dksJ20_putChar_1 3 rfl rfl)
theorem dJ20_putChar_28 : decode cJ20_putChar 28 = .ok (.iload_n 1, 1) := dk_27 (dk_at dksJ20_putChar_1 4 rfl rfl)
theorem dJ20_putChar_29 : decode cJ20_putChar 29 = .ok (.iconst 1, 1) := dk_4 (dk_at dksJ20_putChar_1 5 rfl rfl)
theorem dJ20_putChar_30 : decode cJ20_putChar 30 = .ok (.ishl, 1) := dk_120 (dk_at dksJ20_putChar_1 6 rfl rfl)
theorem dJ20_putChar_31 : decode cJ20_putChar 31 = .ok (.istore_n 1, 1) := dk_60 (dk_at dksJ20_putChar_1 7 rfl rfl)
theorem dJ20_putChar_32 : decode cJ20_putChar 32 = .ok (.aload_n 0, 1) := dk_42 (dk_at dksJ20_putChar_1 8 rfl rfl)
theorem dJ20_putChar_33 : decode cJ20_putChar 33 = .ok (.iload_n 1, 1) := dk_27 (dk_at dksJ20_putChar_1 9 rfl rfl)
theorem dJ20_putChar_34 : decode cJ20_putChar 34 = .ok (.iinc 1 1, 3) := dk_132 1 1 (dk_at dksJ20_putChar_1 10 rfl rfl)
theorem dJ20_putChar_37 : decode cJ20_putChar 37 = .ok (.iload_n 2, 1) := dk_28 (dk_at dksJ20_putChar_1 13 rfl rfl)
theorem dJ20_putChar_38 : decode cJ20_putChar 38 = .ok (.getstatic 59, 3) := dk_178 0 59 (dk_at dksJ20_putChar_1 14 rfl rfl)
theorem dJ20_putChar_41 : decode cJ20_putChar 41 = .ok (.ishr, 1) := dk_122 (dk_at dksJ20_putChar_1 17 rfl rfl)
theorem dJ20_putChar_42 : decode cJ20_putChar 42 = .ok (.i2b, 1) := dk_145 (dk_at dksJ20_putChar_1 18 rfl rfl)
theorem dJ20_putChar_43 : decode cJ20_putChar 43 = .ok (.bastore, 1) := dk_84 (dk_at dksJ20_putChar_1 19 rfl rfl)
theorem dJ20_putChar_44 : decode cJ20_putChar 44 = .ok (.aload_n 0, 1) := dk_42 (dk_at dksJ20_putChar_1 20 rfl rfl)
theorem dJ20_putChar_45 : decode cJ20_putChar 45 = .ok (.iload_n 1, 1) := dk_27 (dk_at dksJ20_putChar_1 21 rfl rfl)
theorem dJ20_putChar_46 : decode cJ20_putChar 46 = .ok (.iload_n 2, 1) := dk_28 (dk_at dksJ20_putChar_1 22 rfl rfl)
theorem dJ20_putChar_47 : decode cJ20_putChar 47 = .ok (.getstatic 63, 3) := dk_178 0 63 (dk_at dksJ20_putChar_2 0 rfl rfl)
theorem dJ20_putChar_50 : decode cJ20_putChar 50 = .ok (.ishr, 1) := dk_122 (dk_at dksJ20_putChar_2 3 rfl rfl)
theorem dJ20_putChar_51 : decode cJ20_putChar 51 = .ok (.i2b, 1) := dk_145 (dk_at dksJ20_putChar_2 4 rfl rfl)
theorem dJ20_putChar_52 : decode cJ20_putChar 52 = .ok (.bastore, 1) := dk_84 (dk_at dksJ20_putChar_2 5 rfl rfl)
theorem dJ20_putChar_53 : decode cJ20_putChar 53 = .ok (.return_, 1) := dk_177 (dk_at dksJ20_putChar_2 6 rfl rfl)
abbrev cJ20_inflate : ByteArray := prog_71_method_86_code
def yJ20_inflate : MethodName := ⟨RJ20, "inflate", "([BI[BII)V"⟩
def dkwJ20_inflate_1 : List UInt8 := [132, 1, 1, 51, 17, 0, 255, 126, 184, 0, 111, 132, 5, 1, 167, 255, 228, 177]
abbrev dktJ20_inflate_1 : List UInt8 := dkwJ20_inflate_1 ++ []
def dkwJ20_inflate_0 : List UInt8 := [29, 21, 4, 44, 184, 0, 173, 3, 54, 5, 21, 5, 21, 4, 162, 0, 27, 44, 29, 132, 3, 1, 42, 27]
abbrev dktJ20_inflate_0 : List UInt8 := dkwJ20_inflate_0 ++ dktJ20_inflate_1
theorem dksJ20_inflate_0 : cJ20_inflate.data.toList.drop 0 = dktJ20_inflate_0 := by decide +kernel
theorem dksJ20_inflate_1 : cJ20_inflate.data.toList.drop 24 = dktJ20_inflate_1 := dk_seg dksJ20_inflate_0 24 rfl rfl
theorem dJ20_inflate_0 : decode cJ20_inflate 0 = .ok (.iload_n 3, 1) := dk_29 (dk_at dksJ20_inflate_0 0 rfl rfl)
theorem dJ20_inflate_1 : decode cJ20_inflate 1 = .ok (.iload 4, 2) := dk_21 4 (dk_at dksJ20_inflate_0 1 rfl rfl)
theorem dJ20_inflate_3 : decode cJ20_inflate 3 = .ok (.aload_n 2, 1) := dk_44 (dk_at dksJ20_inflate_0 3 rfl rfl)
theorem dJ20_inflate_4 : decode cJ20_inflate 4 = .ok (.invokestatic 173, 3) := dk_184 0 173 (dk_at dksJ20_inflate_0 4 rfl rfl)
theorem dJ20_inflate_7 : decode cJ20_inflate 7 = .ok (.iconst 0, 1) := dk_3 (dk_at dksJ20_inflate_0 7 rfl rfl)
theorem dJ20_inflate_8 : decode cJ20_inflate 8 = .ok (.istore 5, 2) := dk_54 5 (dk_at dksJ20_inflate_0 8 rfl rfl)
theorem dJ20_inflate_10 : decode cJ20_inflate 10 = .ok (.iload 5, 2) := dk_21 5 (dk_at dksJ20_inflate_0 10 rfl rfl)
theorem dJ20_inflate_12 : decode cJ20_inflate 12 = .ok (.iload 4, 2) := dk_21 4 (dk_at dksJ20_inflate_0 12 rfl rfl)
theorem dJ20_inflate_14 : decode cJ20_inflate 14 = .ok (.if_icmp .ge 27, 3) := dk_162 0 27 (dk_at dksJ20_inflate_0 14 rfl rfl)
theorem dJ20_inflate_17 : decode cJ20_inflate 17 = .ok (.aload_n 2, 1) := dk_44 (dk_at dksJ20_inflate_0 17 rfl rfl)
theorem dJ20_inflate_18 : decode cJ20_inflate 18 = .ok (.iload_n 3, 1) := dk_29 (dk_at dksJ20_inflate_0 18 rfl rfl)
theorem dJ20_inflate_19 : decode cJ20_inflate 19 = .ok (.iinc 3 1, 3) := dk_132 3 1 (dk_at dksJ20_inflate_0 19 rfl rfl)
theorem dJ20_inflate_22 : decode cJ20_inflate 22 = .ok (.aload_n 0, 1) := dk_42 (dk_at dksJ20_inflate_0 22 rfl rfl)
theorem dJ20_inflate_23 : decode cJ20_inflate 23 = .ok (.iload_n 1, 1) := dk_27 (dk_at dksJ20_inflate_0 23 rfl rfl)
theorem dJ20_inflate_24 : decode cJ20_inflate 24 = .ok (.iinc 1 1, 3) := dk_132 1 1 (dk_at dksJ20_inflate_1 0 rfl rfl)
theorem dJ20_inflate_27 : decode cJ20_inflate 27 = .ok (.baload, 1) := dk_51 (dk_at dksJ20_inflate_1 3 rfl rfl)
theorem dJ20_inflate_28 : decode cJ20_inflate 28 = .ok (.sipush 255, 3) := dk_17 0 255 (dk_at dksJ20_inflate_1 4 rfl rfl)
theorem dJ20_inflate_31 : decode cJ20_inflate 31 = .ok (.iand, 1) := dk_126 (dk_at dksJ20_inflate_1 7 rfl rfl)
theorem dJ20_inflate_32 : decode cJ20_inflate 32 = .ok (.invokestatic 111, 3) := dk_184 0 111 (dk_at dksJ20_inflate_1 8 rfl rfl)
theorem dJ20_inflate_35 : decode cJ20_inflate 35 = .ok (.iinc 5 1, 3) := dk_132 5 1 (dk_at dksJ20_inflate_1 11 rfl rfl)
theorem dJ20_inflate_38 : decode cJ20_inflate 38 = .ok (.goto (-28), 3) := dk_167 255 228 (dk_at dksJ20_inflate_1 14 rfl rfl)
theorem dJ20_inflate_41 : decode cJ20_inflate 41 = .ok (.return_, 1) := dk_177 (dk_at dksJ20_inflate_1 17 rfl rfl)
abbrev cJ20_checkBoundsOffCount : ByteArray := prog_71_method_94_code
def yJ20_checkBoundsOffCount : MethodName := ⟨RJ20, "checkBoundsOffCount", "(II[B)V"⟩
def dkwJ20_checkBoundsOffCount_0 : List UInt8 := [26, 27, 44, 184, 0, 48, 184, 1, 163, 87, 177]
abbrev dktJ20_checkBoundsOffCount_0 : List UInt8 := dkwJ20_checkBoundsOffCount_0 ++ []
theorem dksJ20_checkBoundsOffCount_0 : cJ20_checkBoundsOffCount.data.toList.drop 0 = dktJ20_checkBoundsOffCount_0 := by decide +kernel
theorem dJ20_checkBoundsOffCount_0 : decode cJ20_checkBoundsOffCount 0 = .ok (.iload_n 0, 1) := dk_26 (dk_at dksJ20_checkBoundsOffCount_0 0 rfl rfl)
theorem dJ20_checkBoundsOffCount_1 : decode cJ20_checkBoundsOffCount 1 = .ok (.iload_n 1, 1) := dk_27 (dk_at dksJ20_checkBoundsOffCount_0 1 rfl rfl)
theorem dJ20_checkBoundsOffCount_2 : decode cJ20_checkBoundsOffCount 2 = .ok (.aload_n 2, 1) := dk_44 (dk_at dksJ20_checkBoundsOffCount_0 2 rfl rfl)
theorem dJ20_checkBoundsOffCount_3 : decode cJ20_checkBoundsOffCount 3 = .ok (.invokestatic 48, 3) := dk_184 0 48 (dk_at dksJ20_checkBoundsOffCount_0 3 rfl rfl)
theorem dJ20_checkBoundsOffCount_6 : decode cJ20_checkBoundsOffCount 6 = .ok (.invokestatic 419, 3) := dk_184 1 163 (dk_at dksJ20_checkBoundsOffCount_0 6 rfl rfl)
theorem dJ20_checkBoundsOffCount_9 : decode cJ20_checkBoundsOffCount 9 = .ok (.pop, 1) := dk_87 (dk_at dksJ20_checkBoundsOffCount_0 9 rfl rfl)
theorem dJ20_checkBoundsOffCount_10 : decode cJ20_checkBoundsOffCount 10 = .ok (.return_, 1) := dk_177 (dk_at dksJ20_checkBoundsOffCount_0 10 rfl rfl)
abbrev cJ20_getChars : ByteArray := prog_71_method_77_code
def yJ20_getChars : MethodName := ⟨RJ20, "getChars", "(III[B)I"⟩
def dkwJ20_getChars_1 : List UInt8 := [159, 0, 11, 187, 0, 52, 89, 183, 0, 66, 191, 21, 4, 172]
abbrev dktJ20_getChars_1 : List UInt8 := dkwJ20_getChars_1 ++ []
def dkwJ20_getChars_0 : List UInt8 := [27, 28, 45, 184, 0, 96, 26, 28, 45, 184, 1, 137, 54, 4, 178, 0, 44, 154, 0, 17, 27, 21, 4]
abbrev dktJ20_getChars_0 : List UInt8 := dkwJ20_getChars_0 ++ dktJ20_getChars_1
theorem dksJ20_getChars_0 : cJ20_getChars.data.toList.drop 0 = dktJ20_getChars_0 := by decide +kernel
theorem dksJ20_getChars_1 : cJ20_getChars.data.toList.drop 23 = dktJ20_getChars_1 := dk_seg dksJ20_getChars_0 23 rfl rfl
theorem dJ20_getChars_0 : decode cJ20_getChars 0 = .ok (.iload_n 1, 1) := dk_27 (dk_at dksJ20_getChars_0 0 rfl rfl)
theorem dJ20_getChars_1 : decode cJ20_getChars 1 = .ok (.iload_n 2, 1) := dk_28 (dk_at dksJ20_getChars_0 1 rfl rfl)
theorem dJ20_getChars_2 : decode cJ20_getChars 2 = .ok (.aload_n 3, 1) := dk_45 (dk_at dksJ20_getChars_0 2 rfl rfl)
theorem dJ20_getChars_3 : decode cJ20_getChars 3 = .ok (.invokestatic 96, 3) := dk_184 0 96 (dk_at dksJ20_getChars_0 3 rfl rfl)
theorem dJ20_getChars_6 : decode cJ20_getChars 6 = .ok (.iload_n 0, 1) := dk_26 (dk_at dksJ20_getChars_0 6 rfl rfl)
theorem dJ20_getChars_7 : decode cJ20_getChars 7 = .ok (.iload_n 2, 1) := dk_28 (dk_at dksJ20_getChars_0 7 rfl rfl)
theorem dJ20_getChars_8 : decode cJ20_getChars 8 = .ok (.aload_n 3, 1) := dk_45 (dk_at dksJ20_getChars_0 8 rfl rfl)
theorem dJ20_getChars_9 : decode cJ20_getChars 9 = .ok (.invokestatic 393, 3) := dk_184 1 137 (dk_at dksJ20_getChars_0 9 rfl rfl)
theorem dJ20_getChars_12 : decode cJ20_getChars 12 = .ok (.istore 4, 2) := dk_54 4 (dk_at dksJ20_getChars_0 12 rfl rfl)
theorem dJ20_getChars_14 : decode cJ20_getChars 14 = .ok (.getstatic 44, 3) := dk_178 0 44 (dk_at dksJ20_getChars_0 14 rfl rfl)
theorem dJ20_getChars_17 : decode cJ20_getChars 17 = .ok (.ifCond .ne 17, 3) := dk_154 0 17 (dk_at dksJ20_getChars_0 17 rfl rfl)
theorem dJ20_getChars_20 : decode cJ20_getChars 20 = .ok (.iload_n 1, 1) := dk_27 (dk_at dksJ20_getChars_0 20 rfl rfl)
theorem dJ20_getChars_21 : decode cJ20_getChars 21 = .ok (.iload 4, 2) := dk_21 4 (dk_at dksJ20_getChars_0 21 rfl rfl)
theorem dJ20_getChars_23 : decode cJ20_getChars 23 = .ok (.if_icmp .eq 11, 3) := dk_159 0 11 (dk_at dksJ20_getChars_1 0 rfl rfl)
theorem dJ20_getChars_26 : decode cJ20_getChars 26 = .ok (.new 52, 3) := dk_187 0 52 (dk_at dksJ20_getChars_1 3 rfl rfl)
theorem dJ20_getChars_29 : decode cJ20_getChars 29 = .ok (.dup, 1) := dk_89 (dk_at dksJ20_getChars_1 6 rfl rfl)
theorem dJ20_getChars_30 : decode cJ20_getChars 30 = .ok (.invokespecial 66, 3) := dk_183 0 66 (dk_at dksJ20_getChars_1 7 rfl rfl)
theorem dJ20_getChars_33 : decode cJ20_getChars 33 = .ok (.athrow, 1) := dk_191 (dk_at dksJ20_getChars_1 10 rfl rfl)
theorem dJ20_getChars_34 : decode cJ20_getChars 34 = .ok (.iload 4, 2) := dk_21 4 (dk_at dksJ20_getChars_1 11 rfl rfl)
theorem dJ20_getChars_36 : decode cJ20_getChars 36 = .ok (.ireturn, 1) := dk_172 (dk_at dksJ20_getChars_1 13 rfl rfl)
abbrev cJ20_getChars_2 : ByteArray := prog_71_method_89_code
def yJ20_getChars_2 : MethodName := ⟨RJ20, "getChars", "(II[B)I"⟩
def dkwJ20_getChars_2_5 : List UInt8 := [132, 5, 255, 21, 5, 16, 45, 184, 0, 111, 21, 5, 172]
abbrev dktJ20_getChars_2_5 : List UInt8 := dkwJ20_getChars_2_5 ++ []
def dkwJ20_getChars_2_4 : List UInt8 := [162, 0, 18, 44, 132, 5, 255, 21, 5, 178, 1, 151, 26, 116, 51, 184, 0, 111, 21, 6, 153, 0, 14, 44]
abbrev dktJ20_getChars_2_4 : List UInt8 := dkwJ20_getChars_2_4 ++ dktJ20_getChars_2_5
def dkwJ20_getChars_2_3 : List UInt8 := [184, 0, 111, 167, 255, 205, 44, 132, 5, 255, 21, 5, 178, 1, 147, 26, 116, 51, 184, 0, 111, 26, 16, 247]
abbrev dktJ20_getChars_2_3 : List UInt8 := dkwJ20_getChars_2_3 ++ dktJ20_getChars_2_4
def dkwJ20_getChars_2_2 : List UInt8 := [21, 5, 178, 1, 147, 21, 4, 51, 184, 0, 111, 44, 132, 5, 255, 21, 5, 178, 1, 151, 21, 4, 51]
abbrev dktJ20_getChars_2_2 : List UInt8 := dkwJ20_getChars_2_2 ++ dktJ20_getChars_2_3
def dkwJ20_getChars_2_1 : List UInt8 := [16, 156, 163, 0, 51, 26, 16, 100, 108, 62, 29, 16, 100, 104, 26, 100, 54, 4, 29, 59, 44, 132, 5, 255]
abbrev dktJ20_getChars_2_1 : List UInt8 := dkwJ20_getChars_2_1 ++ dktJ20_getChars_2_2
def dkwJ20_getChars_2_0 : List UInt8 := [27, 54, 5, 26, 156, 0, 7, 4, 167, 0, 4, 3, 54, 6, 21, 6, 154, 0, 6, 26, 116, 59, 26]
abbrev dktJ20_getChars_2_0 : List UInt8 := dkwJ20_getChars_2_0 ++ dktJ20_getChars_2_1
theorem dksJ20_getChars_2_0 : cJ20_getChars_2.data.toList.drop 0 = dktJ20_getChars_2_0 := by decide +kernel
theorem dksJ20_getChars_2_1 : cJ20_getChars_2.data.toList.drop 23 = dktJ20_getChars_2_1 := dk_seg dksJ20_getChars_2_0 23 rfl rfl
theorem dksJ20_getChars_2_2 : cJ20_getChars_2.data.toList.drop 47 = dktJ20_getChars_2_2 := dk_seg dksJ20_getChars_2_1 24 rfl rfl
theorem dksJ20_getChars_2_3 : cJ20_getChars_2.data.toList.drop 70 = dktJ20_getChars_2_3 := dk_seg dksJ20_getChars_2_2 23 rfl rfl
theorem dksJ20_getChars_2_4 : cJ20_getChars_2.data.toList.drop 94 = dktJ20_getChars_2_4 := dk_seg dksJ20_getChars_2_3 24 rfl rfl
theorem dksJ20_getChars_2_5 : cJ20_getChars_2.data.toList.drop 118 = dktJ20_getChars_2_5 := dk_seg dksJ20_getChars_2_4 24 rfl rfl
theorem dJ20_getChars_2_0 : decode cJ20_getChars_2 0 = .ok (.iload_n 1, 1) := dk_27 (dk_at dksJ20_getChars_2_0 0 rfl rfl)
theorem dJ20_getChars_2_1 : decode cJ20_getChars_2 1 = .ok (.istore 5, 2) := dk_54 5 (dk_at dksJ20_getChars_2_0 1 rfl rfl)
theorem dJ20_getChars_2_3 : decode cJ20_getChars_2 3 = .ok (.iload_n 0, 1) := dk_26 (dk_at dksJ20_getChars_2_0 3 rfl rfl)
theorem dJ20_getChars_2_4 : decode cJ20_getChars_2 4 = .ok (.ifCond .ge 7, 3) := dk_156 0 7 (dk_at dksJ20_getChars_2_0 4 rfl rfl)
theorem dJ20_getChars_2_7 : decode cJ20_getChars_2 7 = .ok (.iconst 1, 1) := dk_4 (dk_at dksJ20_getChars_2_0 7 rfl rfl)
theorem dJ20_getChars_2_8 : decode cJ20_getChars_2 8 = .ok (.goto 4, 3) := dk_167 0 4 (dk_at dksJ20_getChars_2_0 8 rfl rfl)
theorem dJ20_getChars_2_11 : decode cJ20_getChars_2 11 = .ok (.iconst 0, 1) := dk_3 (dk_at dksJ20_getChars_2_0 11 rfl rfl)
theorem dJ20_getChars_2_12 : decode cJ20_getChars_2 12 = .ok (.istore 6, 2) := dk_54 6 (dk_at dksJ20_getChars_2_0 12 rfl rfl)
theorem dJ20_getChars_2_14 : decode cJ20_getChars_2 14 = .ok (.iload 6, 2) := dk_21 6 (dk_at dksJ20_getChars_2_0 14 rfl rfl)
theorem dJ20_getChars_2_16 : decode cJ20_getChars_2 16 = .ok (.ifCond .ne 6, 3) := dk_154 0 6 (dk_at dksJ20_getChars_2_0 16 rfl rfl)
theorem dJ20_getChars_2_19 : decode cJ20_getChars_2 19 = .ok (.iload_n 0, 1) := dk_26 (dk_at dksJ20_getChars_2_0 19 rfl rfl)
theorem dJ20_getChars_2_20 : decode cJ20_getChars_2 20 = .ok (.ineg, 1) := dk_116 (dk_at dksJ20_getChars_2_0 20 rfl rfl)
theorem dJ20_getChars_2_21 : decode cJ20_getChars_2 21 = .ok (.istore_n 0, 1) := dk_59 (dk_at dksJ20_getChars_2_0 21 rfl rfl)
theorem dJ20_getChars_2_22 : decode cJ20_getChars_2 22 = .ok (.iload_n 0, 1) := dk_26 (dk_at dksJ20_getChars_2_0 22 rfl rfl)
theorem dJ20_getChars_2_23 : decode cJ20_getChars_2 23 = .ok (.bipush (-100), 2) := dk_16 156 (dk_at dksJ20_getChars_2_1 0 rfl rfl)
theorem dJ20_getChars_2_25 : decode cJ20_getChars_2 25 = .ok (.if_icmp .gt 51, 3) := dk_163 0 51 (dk_at dksJ20_getChars_2_1 2 rfl rfl)
theorem dJ20_getChars_2_28 : decode cJ20_getChars_2 28 = .ok (.iload_n 0, 1) := dk_26 (dk_at dksJ20_getChars_2_1 5 rfl rfl)
theorem dJ20_getChars_2_29 : decode cJ20_getChars_2 29 = .ok (.bipush 100, 2) := dk_16 100 (dk_at dksJ20_getChars_2_1 6 rfl rfl)
theorem dJ20_getChars_2_31 : decode cJ20_getChars_2 31 = .ok (.idiv, 1) := dk_108 (dk_at dksJ20_getChars_2_1 8 rfl rfl)
theorem dJ20_getChars_2_32 : decode cJ20_getChars_2 32 = .ok (.istore_n 3, 1) := dk_62 (dk_at dksJ20_getChars_2_1 9 rfl rfl)
theorem dJ20_getChars_2_33 : decode cJ20_getChars_2 33 = .ok (.iload_n 3, 1) := dk_29 (dk_at dksJ20_getChars_2_1 10 rfl rfl)
theorem dJ20_getChars_2_34 : decode cJ20_getChars_2 34 = .ok (.bipush 100, 2) := dk_16 100 (dk_at dksJ20_getChars_2_1 11 rfl rfl)
theorem dJ20_getChars_2_36 : decode cJ20_getChars_2 36 = .ok (.imul, 1) := dk_104 (dk_at dksJ20_getChars_2_1 13 rfl rfl)
theorem dJ20_getChars_2_37 : decode cJ20_getChars_2 37 = .ok (.iload_n 0, 1) := dk_26 (dk_at dksJ20_getChars_2_1 14 rfl rfl)
theorem dJ20_getChars_2_38 : decode cJ20_getChars_2 38 = .ok (.isub, 1) := dk_100 (dk_at dksJ20_getChars_2_1 15 rfl rfl)
theorem dJ20_getChars_2_39 : decode cJ20_getChars_2 39 = .ok (.istore 4, 2) := dk_54 4 (dk_at dksJ20_getChars_2_1 16 rfl rfl)
theorem dJ20_getChars_2_41 : decode cJ20_getChars_2 41 = .ok (.iload_n 3, 1) := dk_29 (dk_at dksJ20_getChars_2_1 18 rfl rfl)
theorem dJ20_getChars_2_42 : decode cJ20_getChars_2 42 = .ok (.istore_n 0, 1) := dk_59 (dk_at dksJ20_getChars_2_1 19 rfl rfl)
theorem dJ20_getChars_2_43 : decode cJ20_getChars_2 43 = .ok (.aload_n 2, 1) := dk_44 (dk_at dksJ20_getChars_2_1 20 rfl rfl)
theorem dJ20_getChars_2_44 : decode cJ20_getChars_2 44 = .ok (.iinc 5 (-1), 3) := dk_132 5 255 (dk_at dksJ20_getChars_2_1 21 rfl rfl)
theorem dJ20_getChars_2_47 : decode cJ20_getChars_2 47 = .ok (.iload 5, 2) := dk_21 5 (dk_at dksJ20_getChars_2_2 0 rfl rfl)
theorem dJ20_getChars_2_49 : decode cJ20_getChars_2 49 = .ok (.getstatic 403, 3) := dk_178 1 147 (dk_at dksJ20_getChars_2_2 2 rfl rfl)
theorem dJ20_getChars_2_52 : decode cJ20_getChars_2 52 = .ok (.iload 4, 2) := dk_21 4 (dk_at dksJ20_getChars_2_2 5 rfl rfl)
theorem dJ20_getChars_2_54 : decode cJ20_getChars_2 54 = .ok (.baload, 1) := dk_51 (dk_at dksJ20_getChars_2_2 7 rfl rfl)
theorem dJ20_getChars_2_55 : decode cJ20_getChars_2 55 = .ok (.invokestatic 111, 3) := dk_184 0 111 (dk_at dksJ20_getChars_2_2 8 rfl rfl)
theorem dJ20_getChars_2_58 : decode cJ20_getChars_2 58 = .ok (.aload_n 2, 1) := dk_44 (dk_at dksJ20_getChars_2_2 11 rfl rfl)
theorem dJ20_getChars_2_59 : decode cJ20_getChars_2 59 = .ok (.iinc 5 (-1), 3) := dk_132 5 255 (dk_at dksJ20_getChars_2_2 12 rfl rfl)
theorem dJ20_getChars_2_62 : decode cJ20_getChars_2 62 = .ok (.iload 5, 2) := dk_21 5 (dk_at dksJ20_getChars_2_2 15 rfl rfl)
theorem dJ20_getChars_2_64 : decode cJ20_getChars_2 64 = .ok (.getstatic 407, 3) := dk_178 1 151 (dk_at dksJ20_getChars_2_2 17 rfl rfl)
theorem dJ20_getChars_2_67 : decode cJ20_getChars_2 67 = .ok (.iload 4, 2) := dk_21 4 (dk_at dksJ20_getChars_2_2 20 rfl rfl)
theorem dJ20_getChars_2_69 : decode cJ20_getChars_2 69 = .ok (.baload, 1) := dk_51 (dk_at dksJ20_getChars_2_2 22 rfl rfl)
theorem dJ20_getChars_2_70 : decode cJ20_getChars_2 70 = .ok (.invokestatic 111, 3) := dk_184 0 111 (dk_at dksJ20_getChars_2_3 0 rfl rfl)
theorem dJ20_getChars_2_73 : decode cJ20_getChars_2 73 = .ok (.goto (-51), 3) := dk_167 255 205 (dk_at dksJ20_getChars_2_3 3 rfl rfl)
theorem dJ20_getChars_2_76 : decode cJ20_getChars_2 76 = .ok (.aload_n 2, 1) := dk_44 (dk_at dksJ20_getChars_2_3 6 rfl rfl)
theorem dJ20_getChars_2_77 : decode cJ20_getChars_2 77 = .ok (.iinc 5 (-1), 3) := dk_132 5 255 (dk_at dksJ20_getChars_2_3 7 rfl rfl)
theorem dJ20_getChars_2_80 : decode cJ20_getChars_2 80 = .ok (.iload 5, 2) := dk_21 5 (dk_at dksJ20_getChars_2_3 10 rfl rfl)
theorem dJ20_getChars_2_82 : decode cJ20_getChars_2 82 = .ok (.getstatic 403, 3) := dk_178 1 147 (dk_at dksJ20_getChars_2_3 12 rfl rfl)
theorem dJ20_getChars_2_85 : decode cJ20_getChars_2 85 = .ok (.iload_n 0, 1) := dk_26 (dk_at dksJ20_getChars_2_3 15 rfl rfl)
theorem dJ20_getChars_2_86 : decode cJ20_getChars_2 86 = .ok (.ineg, 1) := dk_116 (dk_at dksJ20_getChars_2_3 16 rfl rfl)
theorem dJ20_getChars_2_87 : decode cJ20_getChars_2 87 = .ok (.baload, 1) := dk_51 (dk_at dksJ20_getChars_2_3 17 rfl rfl)
theorem dJ20_getChars_2_88 : decode cJ20_getChars_2 88 = .ok (.invokestatic 111, 3) := dk_184 0 111 (dk_at dksJ20_getChars_2_3 18 rfl rfl)
theorem dJ20_getChars_2_91 : decode cJ20_getChars_2 91 = .ok (.iload_n 0, 1) := dk_26 (dk_at dksJ20_getChars_2_3 21 rfl rfl)
theorem dJ20_getChars_2_92 : decode cJ20_getChars_2 92 = .ok (.bipush (-9), 2) := dk_16 247 (dk_at dksJ20_getChars_2_3 22 rfl rfl)
theorem dJ20_getChars_2_94 : decode cJ20_getChars_2 94 = .ok (.if_icmp .ge 18, 3) := dk_162 0 18 (dk_at dksJ20_getChars_2_4 0 rfl rfl)
theorem dJ20_getChars_2_97 : decode cJ20_getChars_2 97 = .ok (.aload_n 2, 1) := dk_44 (dk_at dksJ20_getChars_2_4 3 rfl rfl)
theorem dJ20_getChars_2_98 : decode cJ20_getChars_2 98 = .ok (.iinc 5 (-1), 3) := dk_132 5 255 (dk_at dksJ20_getChars_2_4 4 rfl rfl)
theorem dJ20_getChars_2_101 : decode cJ20_getChars_2 101 = .ok (.iload 5, 2) := dk_21 5 (dk_at dksJ20_getChars_2_4 7 rfl rfl)
theorem dJ20_getChars_2_103 : decode cJ20_getChars_2 103 = .ok (.getstatic 407, 3) := dk_178 1 151 (dk_at dksJ20_getChars_2_4 9 rfl rfl)
theorem dJ20_getChars_2_106 : decode cJ20_getChars_2 106 = .ok (.iload_n 0, 1) := dk_26 (dk_at dksJ20_getChars_2_4 12 rfl rfl)
theorem dJ20_getChars_2_107 : decode cJ20_getChars_2 107 = .ok (.ineg, 1) := dk_116 (dk_at dksJ20_getChars_2_4 13 rfl rfl)
theorem dJ20_getChars_2_108 : decode cJ20_getChars_2 108 = .ok (.baload, 1) := dk_51 (dk_at dksJ20_getChars_2_4 14 rfl rfl)
theorem dJ20_getChars_2_109 : decode cJ20_getChars_2 109 = .ok (.invokestatic 111, 3) := dk_184 0 111 (dk_at dksJ20_getChars_2_4 15 rfl rfl)
theorem dJ20_getChars_2_112 : decode cJ20_getChars_2 112 = .ok (.iload 6, 2) := dk_21 6 (dk_at dksJ20_getChars_2_4 18 rfl rfl)
theorem dJ20_getChars_2_114 : decode cJ20_getChars_2 114 = .ok (.ifCond .eq 14, 3) := dk_153 0 14 (dk_at dksJ20_getChars_2_4 20 rfl rfl)
theorem dJ20_getChars_2_117 : decode cJ20_getChars_2 117 = .ok (.aload_n 2, 1) := dk_44 (dk_at dksJ20_getChars_2_4 23 rfl rfl)
theorem dJ20_getChars_2_118 : decode cJ20_getChars_2 118 = .ok (.iinc 5 (-1), 3) := dk_132 5 255 (dk_at dksJ20_getChars_2_5 0 rfl rfl)
theorem dJ20_getChars_2_121 : decode cJ20_getChars_2 121 = .ok (.iload 5, 2) := dk_21 5 (dk_at dksJ20_getChars_2_5 3 rfl rfl)
theorem dJ20_getChars_2_123 : decode cJ20_getChars_2 123 = .ok (.bipush 45, 2) := dk_16 45 (dk_at dksJ20_getChars_2_5 5 rfl rfl)
theorem dJ20_getChars_2_125 : decode cJ20_getChars_2 125 = .ok (.invokestatic 111, 3) := dk_184 0 111 (dk_at dksJ20_getChars_2_5 7 rfl rfl)
theorem dJ20_getChars_2_128 : decode cJ20_getChars_2 128 = .ok (.iload 5, 2) := dk_21 5 (dk_at dksJ20_getChars_2_5 10 rfl rfl)
theorem dJ20_getChars_2_130 : decode cJ20_getChars_2 130 = .ok (.ireturn, 1) := dk_172 (dk_at dksJ20_getChars_2_5 12 rfl rfl)
abbrev cJ20_compress : ByteArray := prog_71_method_17_code
def yJ20_compress : MethodName := ⟨RJ20, "compress", "([BII)[B"⟩
def dkwJ20_compress_2 : List UInt8 := [25, 5, 3, 45, 3, 28, 184, 0, 123, 28, 159, 0, 6, 25, 5, 176, 45, 176]
abbrev dktJ20_compress_2 : List UInt8 := dkwJ20_compress_2 ++ []
def dkwJ20_compress_1 : List UInt8 := [27, 28, 96, 184, 0, 11, 184, 0, 126, 58, 5, 25, 5, 21, 4, 184, 0, 71, 17, 0, 255, 163, 0, 16]
abbrev dktJ20_compress_1 : List UInt8 := dkwJ20_compress_1 ++ dktJ20_compress_2
def dkwJ20_compress_0 : List UInt8 := [28, 188, 8, 78, 42, 27, 45, 3, 28, 184, 0, 123, 54, 4, 21, 4, 28, 159, 0, 47, 42, 27, 4, 120]
abbrev dktJ20_compress_0 : List UInt8 := dkwJ20_compress_0 ++ dktJ20_compress_1
theorem dksJ20_compress_0 : cJ20_compress.data.toList.drop 0 = dktJ20_compress_0 := by decide +kernel
theorem dksJ20_compress_1 : cJ20_compress.data.toList.drop 24 = dktJ20_compress_1 := dk_seg dksJ20_compress_0 24 rfl rfl
theorem dksJ20_compress_2 : cJ20_compress.data.toList.drop 48 = dktJ20_compress_2 := dk_seg dksJ20_compress_1 24 rfl rfl
theorem dJ20_compress_0 : decode cJ20_compress 0 = .ok (.iload_n 2, 1) := dk_28 (dk_at dksJ20_compress_0 0 rfl rfl)
theorem dJ20_compress_1 : decode cJ20_compress 1 = .ok (.newarray .byte, 2) := dk_188_8 (dk_at dksJ20_compress_0 1 rfl rfl)
theorem dJ20_compress_3 : decode cJ20_compress 3 = .ok (.astore_n 3, 1) := dk_78 (dk_at dksJ20_compress_0 3 rfl rfl)
theorem dJ20_compress_4 : decode cJ20_compress 4 = .ok (.aload_n 0, 1) := dk_42 (dk_at dksJ20_compress_0 4 rfl rfl)
theorem dJ20_compress_5 : decode cJ20_compress 5 = .ok (.iload_n 1, 1) := dk_27 (dk_at dksJ20_compress_0 5 rfl rfl)
theorem dJ20_compress_6 : decode cJ20_compress 6 = .ok (.aload_n 3, 1) := dk_45 (dk_at dksJ20_compress_0 6 rfl rfl)
theorem dJ20_compress_7 : decode cJ20_compress 7 = .ok (.iconst 0, 1) := dk_3 (dk_at dksJ20_compress_0 7 rfl rfl)
theorem dJ20_compress_8 : decode cJ20_compress 8 = .ok (.iload_n 2, 1) := dk_28 (dk_at dksJ20_compress_0 8 rfl rfl)
theorem dJ20_compress_9 : decode cJ20_compress 9 = .ok (.invokestatic 123, 3) := dk_184 0 123 (dk_at dksJ20_compress_0 9 rfl rfl)
theorem dJ20_compress_12 : decode cJ20_compress 12 = .ok (.istore 4, 2) := dk_54 4 (dk_at dksJ20_compress_0 12 rfl rfl)
theorem dJ20_compress_14 : decode cJ20_compress 14 = .ok (.iload 4, 2) := dk_21 4 (dk_at dksJ20_compress_0 14 rfl rfl)
theorem dJ20_compress_16 : decode cJ20_compress 16 = .ok (.iload_n 2, 1) := dk_28 (dk_at dksJ20_compress_0 16 rfl rfl)
theorem dJ20_compress_17 : decode cJ20_compress 17 = .ok (.if_icmp .eq 47, 3) := dk_159 0 47 (dk_at dksJ20_compress_0 17 rfl rfl)
theorem dJ20_compress_20 : decode cJ20_compress 20 = .ok (.aload_n 0, 1) := dk_42 (dk_at dksJ20_compress_0 20 rfl rfl)
theorem dJ20_compress_21 : decode cJ20_compress 21 = .ok (.iload_n 1, 1) := dk_27 (dk_at dksJ20_compress_0 21 rfl rfl)
theorem dJ20_compress_22 : decode cJ20_compress 22 = .ok (.iconst 1, 1) := dk_4 (dk_at dksJ20_compress_0 22 rfl rfl)
theorem dJ20_compress_23 : decode cJ20_compress 23 = .ok (.ishl, 1) := dk_120 (dk_at dksJ20_compress_0 23 rfl rfl)
theorem dJ20_compress_24 : decode cJ20_compress 24 = .ok (.iload_n 1, 1) := dk_27 (dk_at dksJ20_compress_1 0 rfl rfl)
theorem dJ20_compress_25 : decode cJ20_compress 25 = .ok (.iload_n 2, 1) := dk_28 (dk_at dksJ20_compress_1 1 rfl rfl)
theorem dJ20_compress_26 : decode cJ20_compress 26 = .ok (.iadd, 1) := dk_96 (dk_at dksJ20_compress_1 2 rfl rfl)
theorem dJ20_compress_27 : decode cJ20_compress 27 = .ok (.invokestatic 11, 3) := dk_184 0 11 (dk_at dksJ20_compress_1 3 rfl rfl)
theorem dJ20_compress_30 : decode cJ20_compress 30 = .ok (.invokestatic 126, 3) := dk_184 0 126 (dk_at dksJ20_compress_1 6 rfl rfl)
theorem dJ20_compress_33 : decode cJ20_compress 33 = .ok (.astore 5, 2) := dk_58 5 (dk_at dksJ20_compress_1 9 rfl rfl)
theorem dJ20_compress_35 : decode cJ20_compress 35 = .ok (.aload 5, 2) := dk_25 5 (dk_at dksJ20_compress_1 11 rfl rfl)
theorem dJ20_compress_37 : decode cJ20_compress 37 = .ok (.iload 4, 2) := dk_21 4 (dk_at dksJ20_compress_1 13 rfl rfl)
theorem dJ20_compress_39 : decode cJ20_compress 39 = .ok (.invokestatic 71, 3) := dk_184 0 71 (dk_at dksJ20_compress_1 15 rfl rfl)
theorem dJ20_compress_42 : decode cJ20_compress 42 = .ok (.sipush 255, 3) := dk_17 0 255 (dk_at dksJ20_compress_1 18 rfl rfl)
theorem dJ20_compress_45 : decode cJ20_compress 45 = .ok (.if_icmp .gt 16, 3) := dk_163 0 16 (dk_at dksJ20_compress_1 21 rfl rfl)
theorem dJ20_compress_48 : decode cJ20_compress 48 = .ok (.aload 5, 2) := dk_25 5 (dk_at dksJ20_compress_2 0 rfl rfl)
theorem dJ20_compress_50 : decode cJ20_compress 50 = .ok (.iconst 0, 1) := dk_3 (dk_at dksJ20_compress_2 2 rfl rfl)
theorem dJ20_compress_51 : decode cJ20_compress 51 = .ok (.aload_n 3, 1) := dk_45 (dk_at dksJ20_compress_2 3 rfl rfl)
theorem dJ20_compress_52 : decode cJ20_compress 52 = .ok (.iconst 0, 1) := dk_3 (dk_at dksJ20_compress_2 4 rfl rfl)
theorem dJ20_compress_53 : decode cJ20_compress 53 = .ok (.iload_n 2, 1) := dk_28 (dk_at dksJ20_compress_2 5 rfl rfl)
theorem dJ20_compress_54 : decode cJ20_compress 54 = .ok (.invokestatic 123, 3) := dk_184 0 123 (dk_at dksJ20_compress_2 6 rfl rfl)
theorem dJ20_compress_57 : decode cJ20_compress 57 = .ok (.iload_n 2, 1) := dk_28 (dk_at dksJ20_compress_2 9 rfl rfl)
theorem dJ20_compress_58 : decode cJ20_compress 58 = .ok (.if_icmp .eq 6, 3) := dk_159 0 6 (dk_at dksJ20_compress_2 10 rfl rfl)
theorem dJ20_compress_61 : decode cJ20_compress 61 = .ok (.aload 5, 2) := dk_25 5 (dk_at dksJ20_compress_2 13 rfl rfl)
theorem dJ20_compress_63 : decode cJ20_compress 63 = .ok (.areturn, 1) := dk_176 (dk_at dksJ20_compress_2 15 rfl rfl)
theorem dJ20_compress_64 : decode cJ20_compress 64 = .ok (.aload_n 3, 1) := dk_45 (dk_at dksJ20_compress_2 16 rfl rfl)
theorem dJ20_compress_65 : decode cJ20_compress 65 = .ok (.areturn, 1) := dk_176 (dk_at dksJ20_compress_2 17 rfl rfl)
abbrev cJ20_compress_2 : ByteArray := prog_71_method_22_code
def yJ20_compress_2 : MethodName := ⟨RJ20, "compress", "([BI[BII)I"⟩
def dkwJ20_compress_2_2 : List UInt8 := [132, 5, 1, 167, 255, 216, 21, 4, 172]
abbrev dktJ20_compress_2_2 : List UInt8 := dkwJ20_compress_2_2 ++ []
def dkwJ20_compress_2_1 : List UInt8 := [21, 6, 17, 0, 255, 164, 0, 6, 21, 5, 172, 44, 29, 21, 6, 145, 84, 132, 1, 1, 132, 3, 1]
abbrev dktJ20_compress_2_1 : List UInt8 := dkwJ20_compress_2_1 ++ dktJ20_compress_2_2
def dkwJ20_compress_2_0 : List UInt8 := [27, 21, 4, 42, 184, 0, 173, 3, 54, 5, 21, 5, 21, 4, 162, 0, 39, 42, 27, 184, 0, 71, 54, 6]
abbrev dktJ20_compress_2_0 : List UInt8 := dkwJ20_compress_2_0 ++ dktJ20_compress_2_1
theorem dksJ20_compress_2_0 : cJ20_compress_2.data.toList.drop 0 = dktJ20_compress_2_0 := by decide +kernel
theorem dksJ20_compress_2_1 : cJ20_compress_2.data.toList.drop 24 = dktJ20_compress_2_1 := dk_seg dksJ20_compress_2_0 24 rfl rfl
theorem dksJ20_compress_2_2 : cJ20_compress_2.data.toList.drop 47 = dktJ20_compress_2_2 := dk_seg dksJ20_compress_2_1 23 rfl rfl
theorem dJ20_compress_2_0 : decode cJ20_compress_2 0 = .ok (.iload_n 1, 1) := dk_27 (dk_at dksJ20_compress_2_0 0 rfl rfl)
theorem dJ20_compress_2_1 : decode cJ20_compress_2 1 = .ok (.iload 4, 2) := dk_21 4 (dk_at dksJ20_compress_2_0 1 rfl rfl)
theorem dJ20_compress_2_3 : decode cJ20_compress_2 3 = .ok (.aload_n 0, 1) := dk_42 (dk_at dksJ20_compress_2_0 3 rfl rfl)
theorem dJ20_compress_2_4 : decode cJ20_compress_2 4 = .ok (.invokestatic 173, 3) := dk_184 0 173 (dk_at dksJ20_compress_2_0 4 rfl rfl)
theorem dJ20_compress_2_7 : decode cJ20_compress_2 7 = .ok (.iconst 0, 1) := dk_3 (dk_at dksJ20_compress_2_0 7 rfl rfl)
theorem dJ20_compress_2_8 : decode cJ20_compress_2 8 = .ok (.istore 5, 2) := dk_54 5 (dk_at dksJ20_compress_2_0 8 rfl rfl)
theorem dJ20_compress_2_10 : decode cJ20_compress_2 10 = .ok (.iload 5, 2) := dk_21 5 (dk_at dksJ20_compress_2_0 10 rfl rfl)
theorem dJ20_compress_2_12 : decode cJ20_compress_2 12 = .ok (.iload 4, 2) := dk_21 4 (dk_at dksJ20_compress_2_0 12 rfl rfl)
theorem dJ20_compress_2_14 : decode cJ20_compress_2 14 = .ok (.if_icmp .ge 39, 3) := dk_162 0 39 (dk_at dksJ20_compress_2_0 14 rfl rfl)
theorem dJ20_compress_2_17 : decode cJ20_compress_2 17 = .ok (.aload_n 0, 1) := dk_42 (dk_at dksJ20_compress_2_0 17 rfl rfl)
theorem dJ20_compress_2_18 : decode cJ20_compress_2 18 = .ok (.iload_n 1, 1) := dk_27 (dk_at dksJ20_compress_2_0 18 rfl rfl)
theorem dJ20_compress_2_19 : decode cJ20_compress_2 19 = .ok (.invokestatic 71, 3) := dk_184 0 71 (dk_at dksJ20_compress_2_0 19 rfl rfl)
theorem dJ20_compress_2_22 : decode cJ20_compress_2 22 = .ok (.istore 6, 2) := dk_54 6 (dk_at dksJ20_compress_2_0 22 rfl rfl)
theorem dJ20_compress_2_24 : decode cJ20_compress_2 24 = .ok (.iload 6, 2) := dk_21 6 (dk_at dksJ20_compress_2_1 0 rfl rfl)
theorem dJ20_compress_2_26 : decode cJ20_compress_2 26 = .ok (.sipush 255, 3) := dk_17 0 255 (dk_at dksJ20_compress_2_1 2 rfl rfl)
theorem dJ20_compress_2_29 : decode cJ20_compress_2 29 = .ok (.if_icmp .le 6, 3) := dk_164 0 6 (dk_at dksJ20_compress_2_1 5 rfl rfl)
theorem dJ20_compress_2_32 : decode cJ20_compress_2 32 = .ok (.iload 5, 2) := dk_21 5 (dk_at dksJ20_compress_2_1 8 rfl rfl)
theorem dJ20_compress_2_34 : decode cJ20_compress_2 34 = .ok (.ireturn, 1) := dk_172 (dk_at dksJ20_compress_2_1 10 rfl rfl)
theorem dJ20_compress_2_35 : decode cJ20_compress_2 35 = .ok (.aload_n 2, 1) := dk_44 (dk_at dksJ20_compress_2_1 11 rfl rfl)
theorem dJ20_compress_2_36 : decode cJ20_compress_2 36 = .ok (.iload_n 3, 1) := dk_29 (dk_at dksJ20_compress_2_1 12 rfl rfl)
theorem dJ20_compress_2_37 : decode cJ20_compress_2 37 = .ok (.iload 6, 2) := dk_21 6 (dk_at dksJ20_compress_2_1 13 rfl rfl)
theorem dJ20_compress_2_39 : decode cJ20_compress_2 39 = .ok (.i2b, 1) := dk_145 (dk_at dksJ20_compress_2_1 15 rfl rfl)
theorem dJ20_compress_2_40 : decode cJ20_compress_2 40 = .ok (.bastore, 1) := dk_84 (dk_at dksJ20_compress_2_1 16 rfl rfl)
theorem dJ20_compress_2_41 : decode cJ20_compress_2 41 = .ok (.iinc 1 1, 3) := dk_132 1 1 (dk_at dksJ20_compress_2_1 17 rfl rfl)
theorem dJ20_compress_2_44 : decode cJ20_compress_2 44 = .ok (.iinc 3 1, 3) := dk_132 3 1 (dk_at dksJ20_compress_2_1 20 rfl rfl)
theorem dJ20_compress_2_47 : decode cJ20_compress_2 47 = .ok (.iinc 5 1, 3) := dk_132 5 1 (dk_at dksJ20_compress_2_2 0 rfl rfl)
theorem dJ20_compress_2_50 : decode cJ20_compress_2 50 = .ok (.goto (-40), 3) := dk_167 255 216 (dk_at dksJ20_compress_2_2 3 rfl rfl)
theorem dJ20_compress_2_53 : decode cJ20_compress_2 53 = .ok (.iload 4, 2) := dk_21 4 (dk_at dksJ20_compress_2_2 6 rfl rfl)
theorem dJ20_compress_2_55 : decode cJ20_compress_2 55 = .ok (.ireturn, 1) := dk_172 (dk_at dksJ20_compress_2_2 8 rfl rfl)
abbrev cJ20_getChar : ByteArray := prog_71_method_5_code
def yJ20_getChar : MethodName := ⟨RJ20, "getChar", "([BI)C"⟩
def dkwJ20_getChar_2 : List UInt8 := [51, 17, 0, 255, 126, 178, 0, 63, 120, 128, 146, 172]
abbrev dktJ20_getChar_2 : List UInt8 := dkwJ20_getChar_2 ++ []
def dkwJ20_getChar_1 : List UInt8 := [183, 0, 56, 191, 27, 4, 120, 60, 42, 27, 132, 1, 1, 51, 17, 0, 255, 126, 178, 0, 59, 120, 42, 27]
abbrev dktJ20_getChar_1 : List UInt8 := dkwJ20_getChar_1 ++ dktJ20_getChar_2
def dkwJ20_getChar_0 : List UInt8 := [178, 0, 44, 154, 0, 25, 27, 155, 0, 11, 27, 42, 184, 0, 48, 161, 0, 13, 187, 0, 52, 89, 18, 54]
abbrev dktJ20_getChar_0 : List UInt8 := dkwJ20_getChar_0 ++ dktJ20_getChar_1
theorem dksJ20_getChar_0 : cJ20_getChar.data.toList.drop 0 = dktJ20_getChar_0 := by decide +kernel
theorem dksJ20_getChar_1 : cJ20_getChar.data.toList.drop 24 = dktJ20_getChar_1 := dk_seg dksJ20_getChar_0 24 rfl rfl
theorem dksJ20_getChar_2 : cJ20_getChar.data.toList.drop 48 = dktJ20_getChar_2 := dk_seg dksJ20_getChar_1 24 rfl rfl
theorem dJ20_getChar_0 : decode cJ20_getChar 0 = .ok (.getstatic 44, 3) := dk_178 0 44 (dk_at dksJ20_getChar_0 0 rfl rfl)
theorem dJ20_getChar_3 : decode cJ20_getChar 3 = .ok (.ifCond .ne 25, 3) := dk_154 0 25 (dk_at dksJ20_getChar_0 3 rfl rfl)
theorem dJ20_getChar_6 : decode cJ20_getChar 6 = .ok (.iload_n 1, 1) := dk_27 (dk_at dksJ20_getChar_0 6 rfl rfl)
theorem dJ20_getChar_7 : decode cJ20_getChar 7 = .ok (.ifCond .lt 11, 3) := dk_155 0 11 (dk_at dksJ20_getChar_0 7 rfl rfl)
theorem dJ20_getChar_10 : decode cJ20_getChar 10 = .ok (.iload_n 1, 1) := dk_27 (dk_at dksJ20_getChar_0 10 rfl rfl)
theorem dJ20_getChar_11 : decode cJ20_getChar 11 = .ok (.aload_n 0, 1) := dk_42 (dk_at dksJ20_getChar_0 11 rfl rfl)
theorem dJ20_getChar_12 : decode cJ20_getChar 12 = .ok (.invokestatic 48, 3) := dk_184 0 48 (dk_at dksJ20_getChar_0 12 rfl rfl)
theorem dJ20_getChar_15 : decode cJ20_getChar 15 = .ok (.if_icmp .lt 13, 3) := dk_161 0 13 (dk_at dksJ20_getChar_0 15 rfl rfl)
theorem dJ20_getChar_18 : decode cJ20_getChar 18 = .ok (.new 52, 3) := dk_187 0 52 (dk_at dksJ20_getChar_0 18 rfl rfl)
theorem dJ20_getChar_21 : decode cJ20_getChar 21 = .ok (.dup, 1) := dk_89 (dk_at dksJ20_getChar_0 21 rfl rfl)
theorem dJ20_getChar_22 : decode cJ20_getChar 22 = .ok (.ldc 54, 2) := dk_18 54 (dk_at dksJ20_getChar_0 22 rfl rfl)
theorem dJ20_getChar_24 : decode cJ20_getChar 24 = .ok (.invokespecial 56, 3) := dk_183 0 56 (dk_at dksJ20_getChar_1 0 rfl rfl)
theorem dJ20_getChar_27 : decode cJ20_getChar 27 = .ok (.athrow, 1) := dk_191 (dk_at dksJ20_getChar_1 3 rfl rfl)
theorem dJ20_getChar_28 : decode cJ20_getChar 28 = .ok (.iload_n 1, 1) := dk_27 (dk_at dksJ20_getChar_1 4 rfl rfl)
theorem dJ20_getChar_29 : decode cJ20_getChar 29 = .ok (.iconst 1, 1) := dk_4 (dk_at dksJ20_getChar_1 5 rfl rfl)
theorem dJ20_getChar_30 : decode cJ20_getChar 30 = .ok (.ishl, 1) := dk_120 (dk_at dksJ20_getChar_1 6 rfl rfl)
theorem dJ20_getChar_31 : decode cJ20_getChar 31 = .ok (.istore_n 1, 1) := dk_60 (dk_at dksJ20_getChar_1 7 rfl rfl)
theorem dJ20_getChar_32 : decode cJ20_getChar 32 = .ok (.aload_n 0, 1) := dk_42 (dk_at dksJ20_getChar_1 8 rfl rfl)
theorem dJ20_getChar_33 : decode cJ20_getChar 33 = .ok (.iload_n 1, 1) := dk_27 (dk_at dksJ20_getChar_1 9 rfl rfl)
theorem dJ20_getChar_34 : decode cJ20_getChar 34 = .ok (.iinc 1 1, 3) := dk_132 1 1 (dk_at dksJ20_getChar_1 10 rfl rfl)
theorem dJ20_getChar_37 : decode cJ20_getChar 37 = .ok (.baload, 1) := dk_51 (dk_at dksJ20_getChar_1 13 rfl rfl)
theorem dJ20_getChar_38 : decode cJ20_getChar 38 = .ok (.sipush 255, 3) := dk_17 0 255 (dk_at dksJ20_getChar_1 14 rfl rfl)
theorem dJ20_getChar_41 : decode cJ20_getChar 41 = .ok (.iand, 1) := dk_126 (dk_at dksJ20_getChar_1 17 rfl rfl)
theorem dJ20_getChar_42 : decode cJ20_getChar 42 = .ok (.getstatic 59, 3) := dk_178 0 59 (dk_at dksJ20_getChar_1 18 rfl rfl)
theorem dJ20_getChar_45 : decode cJ20_getChar 45 = .ok (.ishl, 1) := dk_120 (dk_at dksJ20_getChar_1 21 rfl rfl)
theorem dJ20_getChar_46 : decode cJ20_getChar 46 = .ok (.aload_n 0, 1) := dk_42 (dk_at dksJ20_getChar_1 22 rfl rfl)
theorem dJ20_getChar_47 : decode cJ20_getChar 47 = .ok (.iload_n 1, 1) := dk_27 (dk_at dksJ20_getChar_1 23 rfl rfl)
theorem dJ20_getChar_48 : decode cJ20_getChar 48 = .ok (.baload, 1) := dk_51 (dk_at dksJ20_getChar_2 0 rfl rfl)
theorem dJ20_getChar_49 : decode cJ20_getChar 49 = .ok (.sipush 255, 3) := dk_17 0 255 (dk_at dksJ20_getChar_2 1 rfl rfl)
theorem dJ20_getChar_52 : decode cJ20_getChar 52 = .ok (.iand, 1) := dk_126 (dk_at dksJ20_getChar_2 4 rfl rfl)
theorem dJ20_getChar_53 : decode cJ20_getChar 53 = .ok (.getstatic 63, 3) := dk_178 0 63 (dk_at dksJ20_getChar_2 5 rfl rfl)
theorem dJ20_getChar_56 : decode cJ20_getChar 56 = .ok (.ishl, 1) := dk_120 (dk_at dksJ20_getChar_2 8 rfl rfl)
theorem dJ20_getChar_57 : decode cJ20_getChar 57 = .ok (.ior, 1) := dk_128 (dk_at dksJ20_getChar_2 9 rfl rfl)
theorem dJ20_getChar_58 : decode cJ20_getChar 58 = .ok (.i2c, 1) := dk_146 (dk_at dksJ20_getChar_2 10 rfl rfl)
theorem dJ20_getChar_59 : decode cJ20_getChar 59 = .ok (.ireturn, 1) := dk_172 (dk_at dksJ20_getChar_2 11 rfl rfl)
abbrev cJ20_coderFromArrayLen : ByteArray := prog_71_method_15_code
def yJ20_coderFromArrayLen : MethodName := ⟨RJ20, "coderFromArrayLen", "([BI)B"⟩
def dkwJ20_coderFromArrayLen_0 : List UInt8 := [27, 42, 190, 100, 16, 31, 124, 145, 172]
abbrev dktJ20_coderFromArrayLen_0 : List UInt8 := dkwJ20_coderFromArrayLen_0 ++ []
theorem dksJ20_coderFromArrayLen_0 : cJ20_coderFromArrayLen.data.toList.drop 0 = dktJ20_coderFromArrayLen_0 := by decide +kernel
theorem dJ20_coderFromArrayLen_0 : decode cJ20_coderFromArrayLen 0 = .ok (.iload_n 1, 1) := dk_27 (dk_at dksJ20_coderFromArrayLen_0 0 rfl rfl)
theorem dJ20_coderFromArrayLen_1 : decode cJ20_coderFromArrayLen 1 = .ok (.aload_n 0, 1) := dk_42 (dk_at dksJ20_coderFromArrayLen_0 1 rfl rfl)
theorem dJ20_coderFromArrayLen_2 : decode cJ20_coderFromArrayLen 2 = .ok (.arraylength, 1) := dk_190 (dk_at dksJ20_coderFromArrayLen_0 2 rfl rfl)
theorem dJ20_coderFromArrayLen_3 : decode cJ20_coderFromArrayLen 3 = .ok (.isub, 1) := dk_100 (dk_at dksJ20_coderFromArrayLen_0 3 rfl rfl)
theorem dJ20_coderFromArrayLen_4 : decode cJ20_coderFromArrayLen 4 = .ok (.bipush 31, 2) := dk_16 31 (dk_at dksJ20_coderFromArrayLen_0 4 rfl rfl)
theorem dJ20_coderFromArrayLen_6 : decode cJ20_coderFromArrayLen 6 = .ok (.iushr, 1) := dk_124 (dk_at dksJ20_coderFromArrayLen_0 6 rfl rfl)
theorem dJ20_coderFromArrayLen_7 : decode cJ20_coderFromArrayLen 7 = .ok (.i2b, 1) := dk_145 (dk_at dksJ20_coderFromArrayLen_0 7 rfl rfl)
theorem dJ20_coderFromArrayLen_8 : decode cJ20_coderFromArrayLen 8 = .ok (.ireturn, 1) := dk_172 (dk_at dksJ20_coderFromArrayLen_0 8 rfl rfl)
abbrev cJ20_putCharSB : ByteArray := prog_71_method_71_code
def yJ20_putCharSB : MethodName := ⟨RJ20, "putCharSB", "([BII)V"⟩
def dkwJ20_putCharSB_0 : List UInt8 := [27, 42, 184, 0, 67, 42, 27, 28, 184, 0, 111, 177]
abbrev dktJ20_putCharSB_0 : List UInt8 := dkwJ20_putCharSB_0 ++ []
theorem dksJ20_putCharSB_0 : cJ20_putCharSB.data.toList.drop 0 = dktJ20_putCharSB_0 := by decide +kernel
theorem dJ20_putCharSB_0 : decode cJ20_putCharSB 0 = .ok (.iload_n 1, 1) := dk_27 (dk_at dksJ20_putCharSB_0 0 rfl rfl)
theorem dJ20_putCharSB_1 : decode cJ20_putCharSB 1 = .ok (.aload_n 0, 1) := dk_42 (dk_at dksJ20_putCharSB_0 1 rfl rfl)
theorem dJ20_putCharSB_2 : decode cJ20_putCharSB 2 = .ok (.invokestatic 67, 3) := dk_184 0 67 (dk_at dksJ20_putCharSB_0 2 rfl rfl)
theorem dJ20_putCharSB_5 : decode cJ20_putCharSB 5 = .ok (.aload_n 0, 1) := dk_42 (dk_at dksJ20_putCharSB_0 5 rfl rfl)
theorem dJ20_putCharSB_6 : decode cJ20_putCharSB 6 = .ok (.iload_n 1, 1) := dk_27 (dk_at dksJ20_putCharSB_0 6 rfl rfl)
theorem dJ20_putCharSB_7 : decode cJ20_putCharSB 7 = .ok (.iload_n 2, 1) := dk_28 (dk_at dksJ20_putCharSB_0 7 rfl rfl)
theorem dJ20_putCharSB_8 : decode cJ20_putCharSB 8 = .ok (.invokestatic 111, 3) := dk_184 0 111 (dk_at dksJ20_putCharSB_0 8 rfl rfl)
theorem dJ20_putCharSB_11 : decode cJ20_putCharSB 11 = .ok (.return_, 1) := dk_177 (dk_at dksJ20_putCharSB_0 11 rfl rfl)
abbrev cJ20_checkIndex : ByteArray := prog_71_method_91_code
def yJ20_checkIndex : MethodName := ⟨RJ20, "checkIndex", "(I[B)V"⟩
def dkwJ20_checkIndex_0 : List UInt8 := [26, 43, 184, 0, 48, 184, 1, 158, 177]
abbrev dktJ20_checkIndex_0 : List UInt8 := dkwJ20_checkIndex_0 ++ []
theorem dksJ20_checkIndex_0 : cJ20_checkIndex.data.toList.drop 0 = dktJ20_checkIndex_0 := by decide +kernel
theorem dJ20_checkIndex_0 : decode cJ20_checkIndex 0 = .ok (.iload_n 0, 1) := dk_26 (dk_at dksJ20_checkIndex_0 0 rfl rfl)
theorem dJ20_checkIndex_1 : decode cJ20_checkIndex 1 = .ok (.aload_n 1, 1) := dk_43 (dk_at dksJ20_checkIndex_0 1 rfl rfl)
theorem dJ20_checkIndex_2 : decode cJ20_checkIndex 2 = .ok (.invokestatic 48, 3) := dk_184 0 48 (dk_at dksJ20_checkIndex_0 2 rfl rfl)
theorem dJ20_checkIndex_5 : decode cJ20_checkIndex 5 = .ok (.invokestatic 414, 3) := dk_184 1 158 (dk_at dksJ20_checkIndex_0 5 rfl rfl)
theorem dJ20_checkIndex_8 : decode cJ20_checkIndex 8 = .ok (.return_, 1) := dk_177 (dk_at dksJ20_checkIndex_0 8 rfl rfl)
abbrev cJ20_newString : ByteArray := prog_71_method_69_code
def yJ20_newString : MethodName := ⟨RJ20, "newString", "([BII)Ljava/lang/String;"⟩
def dkwJ20_newString_2 : List UInt8 := [42, 27, 4, 120, 29, 4, 120, 184, 0, 126, 4, 183, 1, 7, 176]
abbrev dktJ20_newString_2 : List UInt8 := dkwJ20_newString_2 ++ []
def dkwJ20_newString_1 : List UInt8 := [184, 1, 3, 54, 4, 187, 0, 3, 89, 45, 21, 4, 183, 1, 7, 176, 27, 28, 96, 62, 187, 0, 3, 89]
abbrev dktJ20_newString_1 : List UInt8 := dkwJ20_newString_1 ++ dktJ20_newString_2
def dkwJ20_newString_0 : List UInt8 := [28, 154, 0, 7, 19, 1, 39, 176, 178, 0, 251, 153, 0, 28, 42, 27, 28, 184, 1, 1, 78, 45, 28]
abbrev dktJ20_newString_0 : List UInt8 := dkwJ20_newString_0 ++ dktJ20_newString_1
theorem dksJ20_newString_0 : cJ20_newString.data.toList.drop 0 = dktJ20_newString_0 := by decide +kernel
theorem dksJ20_newString_1 : cJ20_newString.data.toList.drop 23 = dktJ20_newString_1 := dk_seg dksJ20_newString_0 23 rfl rfl
theorem dksJ20_newString_2 : cJ20_newString.data.toList.drop 47 = dktJ20_newString_2 := dk_seg dksJ20_newString_1 24 rfl rfl
theorem dJ20_newString_0 : decode cJ20_newString 0 = .ok (.iload_n 2, 1) := dk_28 (dk_at dksJ20_newString_0 0 rfl rfl)
theorem dJ20_newString_1 : decode cJ20_newString 1 = .ok (.ifCond .ne 7, 3) := dk_154 0 7 (dk_at dksJ20_newString_0 1 rfl rfl)
theorem dJ20_newString_4 : decode cJ20_newString 4 = .ok (.ldc_w 295, 3) := dk_19 1 39 (dk_at dksJ20_newString_0 4 rfl rfl)
theorem dJ20_newString_7 : decode cJ20_newString 7 = .ok (.areturn, 1) := dk_176 (dk_at dksJ20_newString_0 7 rfl rfl)
theorem dJ20_newString_8 : decode cJ20_newString 8 = .ok (.getstatic 251, 3) := dk_178 0 251 (dk_at dksJ20_newString_0 8 rfl rfl)
theorem dJ20_newString_11 : decode cJ20_newString 11 = .ok (.ifCond .eq 28, 3) := dk_153 0 28 (dk_at dksJ20_newString_0 11 rfl rfl)
theorem dJ20_newString_14 : decode cJ20_newString 14 = .ok (.aload_n 0, 1) := dk_42 (dk_at dksJ20_newString_0 14 rfl rfl)
theorem dJ20_newString_15 : decode cJ20_newString 15 = .ok (.iload_n 1, 1) := dk_27 (dk_at dksJ20_newString_0 15 rfl rfl)
theorem dJ20_newString_16 : decode cJ20_newString 16 = .ok (.iload_n 2, 1) := dk_28 (dk_at dksJ20_newString_0 16 rfl rfl)
theorem dJ20_newString_17 : decode cJ20_newString 17 = .ok (.invokestatic 257, 3) := dk_184 1 1 (dk_at dksJ20_newString_0 17 rfl rfl)
theorem dJ20_newString_20 : decode cJ20_newString 20 = .ok (.astore_n 3, 1) := dk_78 (dk_at dksJ20_newString_0 20 rfl rfl)
theorem dJ20_newString_21 : decode cJ20_newString 21 = .ok (.aload_n 3, 1) := dk_45 (dk_at dksJ20_newString_0 21 rfl rfl)
theorem dJ20_newString_22 : decode cJ20_newString 22 = .ok (.iload_n 2, 1) := dk_28 (dk_at dksJ20_newString_0 22 rfl rfl)
theorem dJ20_newString_23 : decode cJ20_newString 23 = .ok (.invokestatic 259, 3) := dk_184 1 3 (dk_at dksJ20_newString_1 0 rfl rfl)
theorem dJ20_newString_26 : decode cJ20_newString 26 = .ok (.istore 4, 2) := dk_54 4 (dk_at dksJ20_newString_1 3 rfl rfl)
theorem dJ20_newString_28 : decode cJ20_newString 28 = .ok (.new 3, 3) := dk_187 0 3 (dk_at dksJ20_newString_1 5 rfl rfl)
theorem dJ20_newString_31 : decode cJ20_newString 31 = .ok (.dup, 1) := dk_89 (dk_at dksJ20_newString_1 8 rfl rfl)
theorem dJ20_newString_32 : decode cJ20_newString 32 = .ok (.aload_n 3, 1) := dk_45 (dk_at dksJ20_newString_1 9 rfl rfl)
theorem dJ20_newString_33 : decode cJ20_newString 33 = .ok (.iload 4, 2) := dk_21 4 (dk_at dksJ20_newString_1 10 rfl rfl)
theorem dJ20_newString_35 : decode cJ20_newString 35 = .ok (.invokespecial 263, 3) := dk_183 1 7 (dk_at dksJ20_newString_1 12 rfl rfl)
theorem dJ20_newString_38 : decode cJ20_newString 38 = .ok (.areturn, 1) := dk_176 (dk_at dksJ20_newString_1 15 rfl rfl)
theorem dJ20_newString_39 : decode cJ20_newString 39 = .ok (.iload_n 1, 1) := dk_27 (dk_at dksJ20_newString_1 16 rfl rfl)
theorem dJ20_newString_40 : decode cJ20_newString 40 = .ok (.iload_n 2, 1) := dk_28 (dk_at dksJ20_newString_1 17 rfl rfl)
theorem dJ20_newString_41 : decode cJ20_newString 41 = .ok (.iadd, 1) := dk_96 (dk_at dksJ20_newString_1 18 rfl rfl)
theorem dJ20_newString_42 : decode cJ20_newString 42 = .ok (.istore_n 3, 1) := dk_62 (dk_at dksJ20_newString_1 19 rfl rfl)
theorem dJ20_newString_43 : decode cJ20_newString 43 = .ok (.new 3, 3) := dk_187 0 3 (dk_at dksJ20_newString_1 20 rfl rfl)
theorem dJ20_newString_46 : decode cJ20_newString 46 = .ok (.dup, 1) := dk_89 (dk_at dksJ20_newString_1 23 rfl rfl)
theorem dJ20_newString_47 : decode cJ20_newString 47 = .ok (.aload_n 0, 1) := dk_42 (dk_at dksJ20_newString_2 0 rfl rfl)
theorem dJ20_newString_48 : decode cJ20_newString 48 = .ok (.iload_n 1, 1) := dk_27 (dk_at dksJ20_newString_2 1 rfl rfl)
theorem dJ20_newString_49 : decode cJ20_newString 49 = .ok (.iconst 1, 1) := dk_4 (dk_at dksJ20_newString_2 2 rfl rfl)
theorem dJ20_newString_50 : decode cJ20_newString 50 = .ok (.ishl, 1) := dk_120 (dk_at dksJ20_newString_2 3 rfl rfl)
theorem dJ20_newString_51 : decode cJ20_newString 51 = .ok (.iload_n 3, 1) := dk_29 (dk_at dksJ20_newString_2 4 rfl rfl)
theorem dJ20_newString_52 : decode cJ20_newString 52 = .ok (.iconst 1, 1) := dk_4 (dk_at dksJ20_newString_2 5 rfl rfl)
theorem dJ20_newString_53 : decode cJ20_newString 53 = .ok (.ishl, 1) := dk_120 (dk_at dksJ20_newString_2 6 rfl rfl)
theorem dJ20_newString_54 : decode cJ20_newString 54 = .ok (.invokestatic 126, 3) := dk_184 0 126 (dk_at dksJ20_newString_2 7 rfl rfl)
theorem dJ20_newString_57 : decode cJ20_newString 57 = .ok (.iconst 1, 1) := dk_4 (dk_at dksJ20_newString_2 10 rfl rfl)
theorem dJ20_newString_58 : decode cJ20_newString 58 = .ok (.invokespecial 263, 3) := dk_183 1 7 (dk_at dksJ20_newString_2 11 rfl rfl)
theorem dJ20_newString_61 : decode cJ20_newString 61 = .ok (.areturn, 1) := dk_176 (dk_at dksJ20_newString_2 14 rfl rfl)
abbrev cJ20_charAt : ByteArray := prog_71_method_83_code
def yJ20_charAt : MethodName := ⟨RJ20, "charAt", "([BI)C"⟩
def dkwJ20_charAt_0 : List UInt8 := [27, 42, 184, 0, 67, 42, 27, 184, 0, 71, 172]
abbrev dktJ20_charAt_0 : List UInt8 := dkwJ20_charAt_0 ++ []
theorem dksJ20_charAt_0 : cJ20_charAt.data.toList.drop 0 = dktJ20_charAt_0 := by decide +kernel
theorem dJ20_charAt_0 : decode cJ20_charAt 0 = .ok (.iload_n 1, 1) := dk_27 (dk_at dksJ20_charAt_0 0 rfl rfl)
theorem dJ20_charAt_1 : decode cJ20_charAt 1 = .ok (.aload_n 0, 1) := dk_42 (dk_at dksJ20_charAt_0 1 rfl rfl)
theorem dJ20_charAt_2 : decode cJ20_charAt 2 = .ok (.invokestatic 67, 3) := dk_184 0 67 (dk_at dksJ20_charAt_0 2 rfl rfl)
theorem dJ20_charAt_5 : decode cJ20_charAt 5 = .ok (.aload_n 0, 1) := dk_42 (dk_at dksJ20_charAt_0 5 rfl rfl)
theorem dJ20_charAt_6 : decode cJ20_charAt 6 = .ok (.iload_n 1, 1) := dk_27 (dk_at dksJ20_charAt_0 6 rfl rfl)
theorem dJ20_charAt_7 : decode cJ20_charAt 7 = .ok (.invokestatic 71, 3) := dk_184 0 71 (dk_at dksJ20_charAt_0 7 rfl rfl)
theorem dJ20_charAt_10 : decode cJ20_charAt 10 = .ok (.ireturn, 1) := dk_172 (dk_at dksJ20_charAt_0 10 rfl rfl)
abbrev cJ20_hashCode : ByteArray := prog_71_method_39_code
def yJ20_hashCode : MethodName := ⟨RJ20, "hashCode", "([B)I"⟩
def dkwJ20_hashCode_2 : List UInt8 := [3, 167, 0, 22, 42, 3, 184, 0, 71, 167, 0, 14, 42, 3, 42, 190, 4, 122, 3, 8, 184, 0, 220, 172]
abbrev dktJ20_hashCode_2 : List UInt8 := dkwJ20_hashCode_2 ++ []
def dkwJ20_hashCode_1 : List UInt8 := [171, 0, 0, 0, 0, 38, 0, 0, 0, 2, 0, 0, 0, 0, 0, 0, 0, 26, 0, 0, 0, 2, 0, 0, 0, 30]
abbrev dktJ20_hashCode_1 : List UInt8 := dkwJ20_hashCode_1 ++ dktJ20_hashCode_2
def dkwJ20_hashCode_0 : List UInt8 := [42, 190]
abbrev dktJ20_hashCode_0 : List UInt8 := dkwJ20_hashCode_0 ++ dktJ20_hashCode_1
theorem dksJ20_hashCode_0 : cJ20_hashCode.data.toList.drop 0 = dktJ20_hashCode_0 := by decide +kernel
theorem dksJ20_hashCode_1 : cJ20_hashCode.data.toList.drop 2 = dktJ20_hashCode_1 := dk_seg dksJ20_hashCode_0 2 rfl rfl
theorem dksJ20_hashCode_2 : cJ20_hashCode.data.toList.drop 28 = dktJ20_hashCode_2 := dk_seg dksJ20_hashCode_1 26 rfl rfl
theorem dJ20_hashCode_0 : decode cJ20_hashCode 0 = .ok (.aload_n 0, 1) := dk_42 (dk_at dksJ20_hashCode_0 0 rfl rfl)
theorem dJ20_hashCode_1 : decode cJ20_hashCode 1 = .ok (.arraylength, 1) := dk_190 (dk_at dksJ20_hashCode_0 1 rfl rfl)
theorem dJ20_hashCode_2 : decode cJ20_hashCode 2 = .ok (.lookupswitch 38 #[(0, 26), (2, 30)], 26) := by decide +kernel
theorem dJ20_hashCode_28 : decode cJ20_hashCode 28 = .ok (.iconst 0, 1) := dk_3 (dk_at dksJ20_hashCode_2 0 rfl rfl)
theorem dJ20_hashCode_29 : decode cJ20_hashCode 29 = .ok (.goto 22, 3) := dk_167 0 22 (dk_at dksJ20_hashCode_2 1 rfl rfl)
theorem dJ20_hashCode_32 : decode cJ20_hashCode 32 = .ok (.aload_n 0, 1) := dk_42 (dk_at dksJ20_hashCode_2 4 rfl rfl)
theorem dJ20_hashCode_33 : decode cJ20_hashCode 33 = .ok (.iconst 0, 1) := dk_3 (dk_at dksJ20_hashCode_2 5 rfl rfl)
theorem dJ20_hashCode_34 : decode cJ20_hashCode 34 = .ok (.invokestatic 71, 3) := dk_184 0 71 (dk_at dksJ20_hashCode_2 6 rfl rfl)
theorem dJ20_hashCode_37 : decode cJ20_hashCode 37 = .ok (.goto 14, 3) := dk_167 0 14 (dk_at dksJ20_hashCode_2 9 rfl rfl)
theorem dJ20_hashCode_40 : decode cJ20_hashCode 40 = .ok (.aload_n 0, 1) := dk_42 (dk_at dksJ20_hashCode_2 12 rfl rfl)
theorem dJ20_hashCode_41 : decode cJ20_hashCode 41 = .ok (.iconst 0, 1) := dk_3 (dk_at dksJ20_hashCode_2 13 rfl rfl)
theorem dJ20_hashCode_42 : decode cJ20_hashCode 42 = .ok (.aload_n 0, 1) := dk_42 (dk_at dksJ20_hashCode_2 14 rfl rfl)
theorem dJ20_hashCode_43 : decode cJ20_hashCode 43 = .ok (.arraylength, 1) := dk_190 (dk_at dksJ20_hashCode_2 15 rfl rfl)
theorem dJ20_hashCode_44 : decode cJ20_hashCode 44 = .ok (.iconst 1, 1) := dk_4 (dk_at dksJ20_hashCode_2 16 rfl rfl)
theorem dJ20_hashCode_45 : decode cJ20_hashCode 45 = .ok (.ishr, 1) := dk_122 (dk_at dksJ20_hashCode_2 17 rfl rfl)
theorem dJ20_hashCode_46 : decode cJ20_hashCode 46 = .ok (.iconst 0, 1) := dk_3 (dk_at dksJ20_hashCode_2 18 rfl rfl)
theorem dJ20_hashCode_47 : decode cJ20_hashCode 47 = .ok (.iconst 5, 1) := dk_8 (dk_at dksJ20_hashCode_2 19 rfl rfl)
theorem dJ20_hashCode_48 : decode cJ20_hashCode 48 = .ok (.invokestatic 220, 3) := dk_184 0 220 (dk_at dksJ20_hashCode_2 20 rfl rfl)
theorem dJ20_hashCode_51 : decode cJ20_hashCode 51 = .ok (.ireturn, 1) := dk_172 (dk_at dksJ20_hashCode_2 23 rfl rfl)
theorem q94 : (Jvm.Cond.initialized "java/lang/StringUTF16") ∈ lw_all := lw_g (lw_at lw_m1 45 rfl) rfl
theorem q1312 : (Jvm.Cond.static ({ cls := "java/lang/StringUTF16", name := "newBytesFor", desc := "(I)[B" } : Jvm.MethodName)) ∈ lw_all := lw_g (lw_at lw_m6 63 rfl) rfl
theorem q1313 : (Jvm.Cond.code ({ cls := "java/lang/StringUTF16", name := "newBytesFor", desc := "(I)[B" } : Jvm.MethodName) prog_71_method_2_code (1 : Nat) (Option.some (Jvm.ClassFile.FieldType.array Jvm.ClassFile.FieldType.byte))) ∈ lw_all := lw_g (lw_at lw_m6 64 rfl) rfl
theorem q1314 : (Jvm.Cond.methodLink "java/lang/StringUTF16" (11 : Nat) ({ cls := "java/lang/StringUTF16", name := "newBytesLength", desc := "(I)I" } : Jvm.MethodName)) ∈ lw_all := lw_g (lw_at lw_m6 65 rfl) rfl
theorem q1315 : (Jvm.Cond.static ({ cls := "java/lang/StringUTF16", name := "newBytesLength", desc := "(I)I" } : Jvm.MethodName)) ∈ lw_all := lw_g (lw_at lw_m6 66 rfl) rfl
theorem q1316 : (Jvm.Cond.code ({ cls := "java/lang/StringUTF16", name := "newBytesLength", desc := "(I)I" } : Jvm.MethodName) prog_71_method_3_code (1 : Nat) (Option.some Jvm.ClassFile.FieldType.int)) ∈ lw_all := lw_g (lw_at lw_m6 67 rfl) rfl
theorem q1317 : (Jvm.Cond.constant "java/lang/StringUTF16" (20 : Nat) (1073741823 : Int32)) ∈ lw_all := lw_g (lw_at lw_m6 68 rfl) rfl
theorem q1369 : (Jvm.Cond.static ({ cls := "java/lang/StringUTF16", name := "putCharsAt", desc := "([BICCCC)I" } : Jvm.MethodName)) ∈ lw_all := lw_g (lw_at lw_m6 120 rfl) rfl
theorem q1370 : (Jvm.Cond.code ({ cls := "java/lang/StringUTF16", name := "putCharsAt", desc := "([BICCCC)I" } : Jvm.MethodName) prog_71_method_81_code (7 : Nat) (Option.some Jvm.ClassFile.FieldType.int)) ∈ lw_all := lw_g (lw_at lw_m6 121 rfl) rfl
theorem q1371 : (Jvm.Cond.methodLink "java/lang/StringUTF16" (96 : Nat) ({ cls := "java/lang/StringUTF16", name := "checkBoundsBeginEnd", desc := "(II[B)V" } : Jvm.MethodName)) ∈ lw_all := lw_g (lw_at lw_m6 122 rfl) rfl
theorem q1372 : (Jvm.Cond.static ({ cls := "java/lang/StringUTF16", name := "checkBoundsBeginEnd", desc := "(II[B)V" } : Jvm.MethodName)) ∈ lw_all := lw_g (lw_at lw_m6 123 rfl) rfl
theorem q1373 : (Jvm.Cond.code ({ cls := "java/lang/StringUTF16", name := "checkBoundsBeginEnd", desc := "(II[B)V" } : Jvm.MethodName) prog_71_method_93_code (3 : Nat) (Option.none : Option Jvm.ClassFile.FieldType)) ∈ lw_all := lw_g (lw_at lw_m6 124 rfl) rfl
theorem q1374 : (Jvm.Cond.methodLink "java/lang/StringUTF16" (48 : Nat) ({ cls := "java/lang/StringUTF16", name := "length", desc := "([B)I" } : Jvm.MethodName)) ∈ lw_all := lw_g (lw_at lw_m6 125 rfl) rfl
theorem q1375 : (Jvm.Cond.static ({ cls := "java/lang/StringUTF16", name := "length", desc := "([B)I" } : Jvm.MethodName)) ∈ lw_all := lw_g (lw_at lw_m6 126 rfl) rfl
theorem q1376 : (Jvm.Cond.code ({ cls := "java/lang/StringUTF16", name := "length", desc := "([B)I" } : Jvm.MethodName) prog_71_method_6_code (1 : Nat) (Option.some Jvm.ClassFile.FieldType.int)) ∈ lw_all := lw_g (lw_at lw_m6 127 rfl) rfl
theorem q1377 : (Jvm.Cond.methodLink "java/lang/StringUTF16" (241 : Nat) ({ cls := "java/lang/String", name := "checkBoundsBeginEnd", desc := "(III)V" } : Jvm.MethodName)) ∈ lw_all := lw_g (lw_at lw_m6 128 rfl) rfl
theorem q1385 : (Jvm.Cond.methodLink "java/lang/StringUTF16" (111 : Nat) ({ cls := "java/lang/StringUTF16", name := "putChar", desc := "([BII)V" } : Jvm.MethodName)) ∈ lw_all := lw_g (lw_at lw_m6 136 rfl) rfl
theorem q1386 : (Jvm.Cond.static ({ cls := "java/lang/StringUTF16", name := "putChar", desc := "([BII)V" } : Jvm.MethodName)) ∈ lw_all := lw_g (lw_at lw_m6 137 rfl) rfl
theorem q1387 : (Jvm.Cond.code ({ cls := "java/lang/StringUTF16", name := "putChar", desc := "([BII)V" } : Jvm.MethodName) prog_71_method_4_code (3 : Nat) (Option.none : Option Jvm.ClassFile.FieldType)) ∈ lw_all := lw_g (lw_at lw_m6 138 rfl) rfl
theorem q1388 : (Jvm.Cond.fieldLink "java/lang/StringUTF16" (44 : Nat) "java/lang/StringUTF16" "$assertionsDisabled" "Z") ∈ lw_all := lw_g (lw_at lw_m6 139 rfl) rfl
theorem q1389 : (Jvm.Cond.laysStatic "java/lang/StringUTF16" "$assertionsDisabled" "Z") ∈ lw_tbl := lw_at lw_m6 140 rfl
theorem q1390 : (Jvm.Cond.fieldLink "java/lang/StringUTF16" (59 : Nat) "java/lang/StringUTF16" "HI_BYTE_SHIFT" "I") ∈ lw_all := lw_g (lw_at lw_m6 141 rfl) rfl
theorem q1391 : (Jvm.Cond.laysStatic "java/lang/StringUTF16" "HI_BYTE_SHIFT" "I") ∈ lw_tbl := lw_at lw_m6 142 rfl
theorem q1392 : (Jvm.Cond.fieldLink "java/lang/StringUTF16" (63 : Nat) "java/lang/StringUTF16" "LO_BYTE_SHIFT" "I") ∈ lw_all := lw_g (lw_at lw_m6 143 rfl) rfl
theorem q1393 : (Jvm.Cond.laysStatic "java/lang/StringUTF16" "LO_BYTE_SHIFT" "I") ∈ lw_tbl := lw_at lw_m6 144 rfl
theorem q1419 : (Jvm.Cond.static ({ cls := "java/lang/StringUTF16", name := "inflate", desc := "([BI[BII)V" } : Jvm.MethodName)) ∈ lw_all := lw_g (lw_at lw_m6 170 rfl) rfl
theorem q1420 : (Jvm.Cond.code ({ cls := "java/lang/StringUTF16", name := "inflate", desc := "([BI[BII)V" } : Jvm.MethodName) prog_71_method_86_code (6 : Nat) (Option.none : Option Jvm.ClassFile.FieldType)) ∈ lw_all := lw_g (lw_at lw_m6 171 rfl) rfl
theorem q1421 : (Jvm.Cond.methodLink "java/lang/StringUTF16" (173 : Nat) ({ cls := "java/lang/StringUTF16", name := "checkBoundsOffCount", desc := "(II[B)V" } : Jvm.MethodName)) ∈ lw_all := lw_g (lw_at lw_m6 172 rfl) rfl
theorem q1422 : (Jvm.Cond.static ({ cls := "java/lang/StringUTF16", name := "checkBoundsOffCount", desc := "(II[B)V" } : Jvm.MethodName)) ∈ lw_all := lw_g (lw_at lw_m6 173 rfl) rfl
theorem q1423 : (Jvm.Cond.code ({ cls := "java/lang/StringUTF16", name := "checkBoundsOffCount", desc := "(II[B)V" } : Jvm.MethodName) prog_71_method_94_code (3 : Nat) (Option.none : Option Jvm.ClassFile.FieldType)) ∈ lw_all := lw_g (lw_at lw_m6 174 rfl) rfl
theorem q1424 : (Jvm.Cond.methodLink "java/lang/StringUTF16" (419 : Nat) ({ cls := "java/lang/String", name := "checkBoundsOffCount", desc := "(III)I" } : Jvm.MethodName)) ∈ lw_all := lw_g (lw_at lw_m6 175 rfl) rfl
theorem q1454 : (Jvm.Cond.static ({ cls := "java/lang/StringUTF16", name := "getChars", desc := "(III[B)I" } : Jvm.MethodName)) ∈ lw_all := lw_g (lw_at lw_m6 205 rfl) rfl
theorem q1455 : (Jvm.Cond.code ({ cls := "java/lang/StringUTF16", name := "getChars", desc := "(III[B)I" } : Jvm.MethodName) prog_71_method_77_code (5 : Nat) (Option.some Jvm.ClassFile.FieldType.int)) ∈ lw_all := lw_g (lw_at lw_m6 206 rfl) rfl
theorem q1456 : (Jvm.Cond.methodLink "java/lang/StringUTF16" (393 : Nat) ({ cls := "java/lang/StringUTF16", name := "getChars", desc := "(II[B)I" } : Jvm.MethodName)) ∈ lw_all := lw_g (lw_at lw_m6 207 rfl) rfl
theorem q1457 : (Jvm.Cond.static ({ cls := "java/lang/StringUTF16", name := "getChars", desc := "(II[B)I" } : Jvm.MethodName)) ∈ lw_all := lw_g (lw_at lw_m6 208 rfl) rfl
theorem q1458 : (Jvm.Cond.code ({ cls := "java/lang/StringUTF16", name := "getChars", desc := "(II[B)I" } : Jvm.MethodName) prog_71_method_89_code (7 : Nat) (Option.some Jvm.ClassFile.FieldType.int)) ∈ lw_all := lw_g (lw_at lw_m6 209 rfl) rfl
theorem q1459 : (Jvm.Cond.fieldLink "java/lang/StringUTF16" (403 : Nat) "java/lang/Integer" "DigitOnes" "[B") ∈ lw_all := lw_g (lw_at lw_m6 210 rfl) rfl
theorem q1460 : (Jvm.Cond.fieldLink "java/lang/StringUTF16" (407 : Nat) "java/lang/Integer" "DigitTens" "[B") ∈ lw_all := lw_g (lw_at lw_m6 211 rfl) rfl
theorem q1509 : (Jvm.Cond.static ({ cls := "java/lang/StringUTF16", name := "compress", desc := "([BII)[B" } : Jvm.MethodName)) ∈ lw_all := lw_g (lw_at lw_m7 20 rfl) rfl
theorem q1510 : (Jvm.Cond.code ({ cls := "java/lang/StringUTF16", name := "compress", desc := "([BII)[B" } : Jvm.MethodName) prog_71_method_17_code (6 : Nat) (Option.some (Jvm.ClassFile.FieldType.array Jvm.ClassFile.FieldType.byte))) ∈ lw_all := lw_g (lw_at lw_m7 21 rfl) rfl
theorem q1511 : (Jvm.Cond.methodLink "java/lang/StringUTF16" (123 : Nat) ({ cls := "java/lang/StringUTF16", name := "compress", desc := "([BI[BII)I" } : Jvm.MethodName)) ∈ lw_all := lw_g (lw_at lw_m7 22 rfl) rfl
theorem q1512 : (Jvm.Cond.static ({ cls := "java/lang/StringUTF16", name := "compress", desc := "([BI[BII)I" } : Jvm.MethodName)) ∈ lw_all := lw_g (lw_at lw_m7 23 rfl) rfl
theorem q1513 : (Jvm.Cond.code ({ cls := "java/lang/StringUTF16", name := "compress", desc := "([BI[BII)I" } : Jvm.MethodName) prog_71_method_22_code (7 : Nat) (Option.some Jvm.ClassFile.FieldType.int)) ∈ lw_all := lw_g (lw_at lw_m7 24 rfl) rfl
theorem q1514 : (Jvm.Cond.methodLink "java/lang/StringUTF16" (71 : Nat) ({ cls := "java/lang/StringUTF16", name := "getChar", desc := "([BI)C" } : Jvm.MethodName)) ∈ lw_all := lw_g (lw_at lw_m7 25 rfl) rfl
theorem q1515 : (Jvm.Cond.static ({ cls := "java/lang/StringUTF16", name := "getChar", desc := "([BI)C" } : Jvm.MethodName)) ∈ lw_all := lw_g (lw_at lw_m7 26 rfl) rfl
theorem q1516 : (Jvm.Cond.code ({ cls := "java/lang/StringUTF16", name := "getChar", desc := "([BI)C" } : Jvm.MethodName) prog_71_method_5_code (2 : Nat) (Option.some Jvm.ClassFile.FieldType.char)) ∈ lw_all := lw_g (lw_at lw_m7 27 rfl) rfl
theorem q1517 : (Jvm.Cond.methodLink "java/lang/StringUTF16" (126 : Nat) ({ cls := "java/util/Arrays", name := "copyOfRange", desc := "([BII)[B" } : Jvm.MethodName)) ∈ lw_all := lw_g (lw_at lw_m7 28 rfl) rfl
theorem q1519 : (Jvm.Cond.static ({ cls := "java/lang/StringUTF16", name := "coderFromArrayLen", desc := "([BI)B" } : Jvm.MethodName)) ∈ lw_all := lw_g (lw_at lw_m7 30 rfl) rfl
theorem q1520 : (Jvm.Cond.code ({ cls := "java/lang/StringUTF16", name := "coderFromArrayLen", desc := "([BI)B" } : Jvm.MethodName) prog_71_method_15_code (2 : Nat) (Option.some Jvm.ClassFile.FieldType.byte)) ∈ lw_all := lw_g (lw_at lw_m7 31 rfl) rfl
theorem q1637 : (Jvm.Cond.static ({ cls := "java/lang/StringUTF16", name := "putCharSB", desc := "([BII)V" } : Jvm.MethodName)) ∈ lw_all := lw_g (lw_at lw_m7 148 rfl) rfl
theorem q1638 : (Jvm.Cond.code ({ cls := "java/lang/StringUTF16", name := "putCharSB", desc := "([BII)V" } : Jvm.MethodName) prog_71_method_71_code (3 : Nat) (Option.none : Option Jvm.ClassFile.FieldType)) ∈ lw_all := lw_g (lw_at lw_m7 149 rfl) rfl
theorem q1639 : (Jvm.Cond.methodLink "java/lang/StringUTF16" (67 : Nat) ({ cls := "java/lang/StringUTF16", name := "checkIndex", desc := "(I[B)V" } : Jvm.MethodName)) ∈ lw_all := lw_g (lw_at lw_m7 150 rfl) rfl
theorem q1640 : (Jvm.Cond.static ({ cls := "java/lang/StringUTF16", name := "checkIndex", desc := "(I[B)V" } : Jvm.MethodName)) ∈ lw_all := lw_g (lw_at lw_m7 151 rfl) rfl
theorem q1641 : (Jvm.Cond.code ({ cls := "java/lang/StringUTF16", name := "checkIndex", desc := "(I[B)V" } : Jvm.MethodName) prog_71_method_91_code (2 : Nat) (Option.none : Option Jvm.ClassFile.FieldType)) ∈ lw_all := lw_g (lw_at lw_m7 152 rfl) rfl
theorem q1642 : (Jvm.Cond.methodLink "java/lang/StringUTF16" (414 : Nat) ({ cls := "java/lang/String", name := "checkIndex", desc := "(II)V" } : Jvm.MethodName)) ∈ lw_all := lw_g (lw_at lw_m7 153 rfl) rfl
theorem q1739 : (Jvm.Cond.static ({ cls := "java/lang/StringUTF16", name := "newString", desc := "([BII)Ljava/lang/String;" } : Jvm.MethodName)) ∈ lw_all := lw_g (lw_at lw_m8 10 rfl) rfl
theorem q1740 : (Jvm.Cond.code ({ cls := "java/lang/StringUTF16", name := "newString", desc := "([BII)Ljava/lang/String;" } : Jvm.MethodName) prog_71_method_69_code (5 : Nat) (Option.some (Jvm.ClassFile.FieldType.object "java/lang/String"))) ∈ lw_all := lw_g (lw_at lw_m8 11 rfl) rfl
theorem q1741 : (Jvm.Cond.stringRef "java/lang/StringUTF16" (295 : Nat) "") ∈ lw_tbl := lw_at lw_m8 12 rfl
theorem q1742 : (Jvm.Cond.fieldLink "java/lang/StringUTF16" (251 : Nat) "java/lang/String" "COMPACT_STRINGS" "Z") ∈ lw_all := lw_g (lw_at lw_m8 13 rfl) rfl
theorem q1743 : (Jvm.Cond.methodLink "java/lang/StringUTF16" (257 : Nat) ({ cls := "java/lang/StringUTF16", name := "compress", desc := "([BII)[B" } : Jvm.MethodName)) ∈ lw_all := lw_g (lw_at lw_m8 14 rfl) rfl
theorem q1744 : (Jvm.Cond.methodLink "java/lang/StringUTF16" (259 : Nat) ({ cls := "java/lang/StringUTF16", name := "coderFromArrayLen", desc := "([BI)B" } : Jvm.MethodName)) ∈ lw_all := lw_g (lw_at lw_m8 15 rfl) rfl
theorem q1745 : (Jvm.Cond.classLink "java/lang/StringUTF16" (3 : Nat) "java/lang/String") ∈ lw_all := lw_g (lw_at lw_m8 16 rfl) rfl
theorem q1746 : (Jvm.Cond.methodLink "java/lang/StringUTF16" (263 : Nat) ({ cls := "java/lang/String", name := "<init>", desc := "([BB)V" } : Jvm.MethodName)) ∈ lw_all := lw_g (lw_at lw_m8 17 rfl) rfl
theorem q1769 : (Jvm.Cond.static ({ cls := "java/lang/StringUTF16", name := "charAt", desc := "([BI)C" } : Jvm.MethodName)) ∈ lw_all := lw_g (lw_at lw_m8 40 rfl) rfl
theorem q1770 : (Jvm.Cond.code ({ cls := "java/lang/StringUTF16", name := "charAt", desc := "([BI)C" } : Jvm.MethodName) prog_71_method_83_code (2 : Nat) (Option.some Jvm.ClassFile.FieldType.char)) ∈ lw_all := lw_g (lw_at lw_m8 41 rfl) rfl
theorem q2069 : (Jvm.Cond.static ({ cls := "java/lang/StringUTF16", name := "hashCode", desc := "([B)I" } : Jvm.MethodName)) ∈ lw_all := lw_g (lw_at lw_m9 100 rfl) rfl
theorem q2070 : (Jvm.Cond.code ({ cls := "java/lang/StringUTF16", name := "hashCode", desc := "([B)I" } : Jvm.MethodName) prog_71_method_39_code (1 : Nat) (Option.some Jvm.ClassFile.FieldType.int)) ∈ lw_all := lw_g (lw_at lw_m9 101 rfl) rfl
theorem q2071 : (Jvm.Cond.methodLink "java/lang/StringUTF16" (220 : Nat) ({ cls := "jdk/internal/util/ArraysSupport", name := "vectorizedHashCode", desc := "(Ljava/lang/Object;IIII)I" } : Jvm.MethodName)) ∈ lw_all := lw_g (lw_at lw_m9 102 rfl) rfl
/-! java/lang/Integer -/
set_option maxRecDepth 100000
def RJ21 : String := "java/lang/Integer"
abbrev cJ21_stringSize : ByteArray := prog_63_method_13_code
def yJ21_stringSize : MethodName := ⟨RJ21, "stringSize", "(I)I"⟩
def dkwJ21_stringSize_1 : List UInt8 := [164, 0, 7, 29, 27, 96, 172, 16, 10, 28, 104, 61, 132, 3, 1, 167, 255, 233, 16, 10, 27, 96, 172]
abbrev dktJ21_stringSize_1 : List UInt8 := dkwJ21_stringSize_1 ++ []
def dkwJ21_stringSize_0 : List UInt8 := [4, 60, 26, 155, 0, 8, 3, 60, 26, 116, 59, 16, 246, 61, 4, 62, 29, 16, 10, 162, 0, 23, 26, 28]
abbrev dktJ21_stringSize_0 : List UInt8 := dkwJ21_stringSize_0 ++ dktJ21_stringSize_1
theorem dksJ21_stringSize_0 : cJ21_stringSize.data.toList.drop 0 = dktJ21_stringSize_0 := by decide +kernel
theorem dksJ21_stringSize_1 : cJ21_stringSize.data.toList.drop 24 = dktJ21_stringSize_1 := dk_seg dksJ21_stringSize_0 24 rfl rfl
theorem dJ21_stringSize_0 : decode cJ21_stringSize 0 = .ok (.iconst 1, 1) := dk_4 (dk_at dksJ21_stringSize_0 0 rfl rfl)
theorem dJ21_stringSize_1 : decode cJ21_stringSize 1 = .ok (.istore_n 1, 1) := dk_60 (dk_at dksJ21_stringSize_0 1 rfl rfl)
theorem dJ21_stringSize_2 : decode cJ21_stringSize 2 = .ok (.iload_n 0, 1) := dk_26 (dk_at dksJ21_stringSize_0 2 rfl rfl)
theorem dJ21_stringSize_3 : decode cJ21_stringSize 3 = .ok (.ifCond .lt 8, 3) := dk_155 0 8 (dk_at dksJ21_stringSize_0 3 rfl rfl)
theorem dJ21_stringSize_6 : decode cJ21_stringSize 6 = .ok (.iconst 0, 1) := dk_3 (dk_at dksJ21_stringSize_0 6 rfl rfl)
theorem dJ21_stringSize_7 : decode cJ21_stringSize 7 = .ok (.istore_n 1, 1) := dk_60 (dk_at dksJ21_stringSize_0 7 rfl rfl)
theorem dJ21_stringSize_8 : decode cJ21_stringSize 8 = .ok (.iload_n 0, 1) := dk_26 (dk_at dksJ21_stringSize_0 8 rfl rfl)
theorem dJ21_stringSize_9 : decode cJ21_stringSize 9 = .ok (.ineg, 1) := dk_116 (dk_at dksJ21_stringSize_0 9 rfl rfl)
theorem dJ21_stringSize_10 : decode cJ21_stringSize 10 = .ok (.istore_n 0, 1) := dk_59 (dk_at dksJ21_stringSize_0 10 rfl rfl)
theorem dJ21_stringSize_11 : decode cJ21_stringSize 11 = .ok (.bipush (-10), 2) := dk_16 246 (dk_at dksJ21_stringSize_0 11 rfl rfl)
theorem dJ21_stringSize_13 : decode cJ21_stringSize 13 = .ok (.istore_n 2, 1) := dk_61 (dk_at dksJ21_stringSize_0 13 rfl rfl)
theorem dJ21_stringSize_14 : decode cJ21_stringSize 14 = .ok (.iconst 1, 1) := dk_4 (dk_at dksJ21_stringSize_0 14 rfl rfl)
theorem dJ21_stringSize_15 : decode cJ21_stringSize 15 = .ok (.istore_n 3, 1) := dk_62 (dk_at dksJ21_stringSize_0 15 rfl rfl)
theorem dJ21_stringSize_16 : decode cJ21_stringSize 16 = .ok (.iload_n 3, 1) := dk_29 (dk_at dksJ21_stringSize_0 16 rfl rfl)
theorem dJ21_stringSize_17 : decode cJ21_stringSize 17 = .ok (.bipush 10, 2) := dk_16 10 (dk_at dksJ21_stringSize_0 17 rfl rfl)
theorem dJ21_stringSize_19 : decode cJ21_stringSize 19 = .ok (.if_icmp .ge 23, 3) := dk_162 0 23 (dk_at dksJ21_stringSize_0 19 rfl rfl)
theorem dJ21_stringSize_22 : decode cJ21_stringSize 22 = .ok (.iload_n 0, 1) := dk_26 (dk_at dksJ21_stringSize_0 22 rfl rfl)
theorem dJ21_stringSize_23 : decode cJ21_stringSize 23 = .ok (.iload_n 2, 1) := dk_28 (dk_at dksJ21_stringSize_0 23 rfl rfl)
theorem dJ21_stringSize_24 : decode cJ21_stringSize 24 = .ok (.if_icmp .le 7, 3) := dk_164 0 7 (dk_at dksJ21_stringSize_1 0 rfl rfl)
theorem dJ21_stringSize_27 : decode cJ21_stringSize 27 = .ok (.iload_n 3, 1) := dk_29 (dk_at dksJ21_stringSize_1 3 rfl rfl)
theorem dJ21_stringSize_28 : decode cJ21_stringSize 28 = .ok (.iload_n 1, 1) := dk_27 (dk_at dksJ21_stringSize_1 4 rfl rfl)
theorem dJ21_stringSize_29 : decode cJ21_stringSize 29 = .ok (.iadd, 1) := dk_96 (dk_at dksJ21_stringSize_1 5 rfl rfl)
theorem dJ21_stringSize_30 : decode cJ21_stringSize 30 = .ok (.ireturn, 1) := dk_172 (dk_at dksJ21_stringSize_1 6 rfl rfl)
theorem dJ21_stringSize_31 : decode cJ21_stringSize 31 = .ok (.bipush 10, 2) := dk_16 10 (dk_at dksJ21_stringSize_1 7 rfl rfl)
theorem dJ21_stringSize_33 : decode cJ21_stringSize 33 = .ok (.iload_n 2, 1) := dk_28 (dk_at dksJ21_stringSize_1 9 rfl rfl)
theorem dJ21_stringSize_34 : decode cJ21_stringSize 34 = .ok (.imul, 1) := dk_104 (dk_at dksJ21_stringSize_1 10 rfl rfl)
theorem dJ21_stringSize_35 : decode cJ21_stringSize 35 = .ok (.istore_n 2, 1) := dk_61 (dk_at dksJ21_stringSize_1 11 rfl rfl)
theorem dJ21_stringSize_36 : decode cJ21_stringSize 36 = .ok (.iinc 3 1, 3) := dk_132 3 1 (dk_at dksJ21_stringSize_1 12 rfl rfl)
theorem dJ21_stringSize_39 : decode cJ21_stringSize 39 = .ok (.goto (-23), 3) := dk_167 255 233 (dk_at dksJ21_stringSize_1 15 rfl rfl)
theorem dJ21_stringSize_42 : decode cJ21_stringSize 42 = .ok (.bipush 10, 2) := dk_16 10 (dk_at dksJ21_stringSize_1 18 rfl rfl)
theorem dJ21_stringSize_44 : decode cJ21_stringSize 44 = .ok (.iload_n 1, 1) := dk_27 (dk_at dksJ21_stringSize_1 20 rfl rfl)
theorem dJ21_stringSize_45 : decode cJ21_stringSize 45 = .ok (.iadd, 1) := dk_96 (dk_at dksJ21_stringSize_1 21 rfl rfl)
theorem dJ21_stringSize_46 : decode cJ21_stringSize 46 = .ok (.ireturn, 1) := dk_172 (dk_at dksJ21_stringSize_1 22 rfl rfl)
abbrev cJ21_getChars : ByteArray := prog_63_method_12_code
def yJ21_getChars : MethodName := ⟨RJ21, "getChars", "(II[B)I"⟩
def dkwJ21_getChars_5 : List UInt8 := [16, 45, 84, 21, 5, 172]
abbrev dktJ21_getChars_5 : List UInt8 := dkwJ21_getChars_5 ++ []
def dkwJ21_getChars_4 : List UInt8 := [132, 5, 255, 21, 5, 178, 0, 87, 26, 116, 51, 84, 21, 6, 153, 0, 12, 44, 132, 5, 255, 21, 5]
abbrev dktJ21_getChars_4 : List UInt8 := dkwJ21_getChars_4 ++ dktJ21_getChars_5
def dkwJ21_getChars_3 : List UInt8 := [167, 255, 209, 44, 132, 5, 255, 21, 5, 178, 0, 83, 26, 116, 51, 84, 26, 16, 247, 162, 0, 16, 44]
abbrev dktJ21_getChars_3 : List UInt8 := dkwJ21_getChars_3 ++ dktJ21_getChars_4
def dkwJ21_getChars_2 : List UInt8 := [21, 5, 178, 0, 83, 21, 4, 51, 84, 44, 132, 5, 255, 21, 5, 178, 0, 87, 21, 4, 51, 84]
abbrev dktJ21_getChars_2 : List UInt8 := dkwJ21_getChars_2 ++ dktJ21_getChars_3
def dkwJ21_getChars_1 : List UInt8 := [16, 156, 163, 0, 47, 26, 16, 100, 108, 62, 29, 16, 100, 104, 26, 100, 54, 4, 29, 59, 44, 132, 5, 255]
abbrev dktJ21_getChars_1 : List UInt8 := dkwJ21_getChars_1 ++ dktJ21_getChars_2
def dkwJ21_getChars_0 : List UInt8 := [27, 54, 5, 26, 156, 0, 7, 4, 167, 0, 4, 3, 54, 6, 21, 6, 154, 0, 6, 26, 116, 59, 26]
abbrev dktJ21_getChars_0 : List UInt8 := dkwJ21_getChars_0 ++ dktJ21_getChars_1
theorem dksJ21_getChars_0 : cJ21_getChars.data.toList.drop 0 = dktJ21_getChars_0 := by decide +kernel
theorem dksJ21_getChars_1 : cJ21_getChars.data.toList.drop 23 = dktJ21_getChars_1 := dk_seg dksJ21_getChars_0 23 rfl rfl
theorem dksJ21_getChars_2 : cJ21_getChars.data.toList.drop 47 = dktJ21_getChars_2 := dk_seg dksJ21_getChars_1 24 rfl rfl
theorem dksJ21_getChars_3 : cJ21_getChars.data.toList.drop 69 = dktJ21_getChars_3 := dk_seg dksJ21_getChars_2 22 rfl rfl
theorem dksJ21_getChars_4 : cJ21_getChars.data.toList.drop 92 = dktJ21_getChars_4 := dk_seg dksJ21_getChars_3 23 rfl rfl
theorem dksJ21_getChars_5 : cJ21_getChars.data.toList.drop 115 = dktJ21_getChars_5 := dk_seg dksJ21_getChars_4 23 rfl rfl
theorem dJ21_getChars_0 : decode cJ21_getChars 0 = .ok (.iload_n 1, 1) := dk_27 (dk_at dksJ21_getChars_0 0 rfl rfl)
theorem dJ21_getChars_1 : decode cJ21_getChars 1 = .ok (.istore 5, 2) := dk_54 5 (dk_at dksJ21_getChars_0 1 rfl rfl)
theorem dJ21_getChars_3 : decode cJ21_getChars 3 = .ok (.iload_n 0, 1) := dk_26 (dk_at dksJ21_getChars_0 3 rfl rfl)
theorem dJ21_getChars_4 : decode cJ21_getChars 4 = .ok (.ifCond .ge 7, 3) := dk_156 0 7 (dk_at dksJ21_getChars_0 4 rfl rfl)
theorem dJ21_getChars_7 : decode cJ21_getChars 7 = .ok (.iconst 1, 1) := dk_4 (dk_at dksJ21_getChars_0 7 rfl rfl)
theorem dJ21_getChars_8 : decode cJ21_getChars 8 = .ok (.goto 4, 3) := dk_167 0 4 (dk_at dksJ21_getChars_0 8 rfl rfl)
theorem dJ21_getChars_11 : decode cJ21_getChars 11 = .ok (.iconst 0, 1) := dk_3 (dk_at dksJ21_getChars_0 11 rfl rfl)
theorem dJ21_getChars_12 : decode cJ21_getChars 12 = .ok (.istore 6, 2) := dk_54 6 (dk_at dksJ21_getChars_0 12 rfl rfl)
theorem dJ21_getChars_14 : decode cJ21_getChars 14 = .ok (.iload 6, 2) := dk_21 6 (dk_at dksJ21_getChars_0 14 rfl rfl)
theorem dJ21_getChars_16 : decode cJ21_getChars 16 = .ok (.ifCond .ne 6, 3) := dk_154 0 6 (dk_at dksJ21_getChars_0 16 rfl rfl)
theorem dJ21_getChars_19 : decode cJ21_getChars 19 = .ok (.iload_n 0, 1) := dk_26 (dk_at dksJ21_getChars_0 19 rfl rfl)
theorem dJ21_getChars_20 : decode cJ21_getChars 20 = .ok (.ineg, 1) := dk_116 (dk_at dksJ21_getChars_0 20 rfl rfl)
theorem dJ21_getChars_21 : decode cJ21_getChars 21 = .ok (.istore_n 0, 1) := dk_59 (dk_at dksJ21_getChars_0 21 rfl rfl)
theorem dJ21_getChars_22 : decode cJ21_getChars 22 = .ok (.iload_n 0, 1) := dk_26 (dk_at dksJ21_getChars_0 22 rfl rfl)
theorem dJ21_getChars_23 : decode cJ21_getChars 23 = .ok (.bipush (-100), 2) := dk_16 156 (dk_at dksJ21_getChars_1 0 rfl rfl)
theorem dJ21_getChars_25 : decode cJ21_getChars 25 = .ok (.if_icmp .gt 47, 3) := dk_163 0 47 (dk_at dksJ21_getChars_1 2 rfl rfl)
theorem dJ21_getChars_28 : decode cJ21_getChars 28 = .ok (.iload_n 0, 1) := dk_26 (dk_at dksJ21_getChars_1 5 rfl rfl)
theorem dJ21_getChars_29 : decode cJ21_getChars 29 = .ok (.bipush 100, 2) := dk_16 100 (dk_at dksJ21_getChars_1 6 rfl rfl)
theorem dJ21_getChars_31 : decode cJ21_getChars 31 = .ok (.idiv, 1) := dk_108 (dk_at dksJ21_getChars_1 8 rfl rfl)
theorem dJ21_getChars_32 : decode cJ21_getChars 32 = .ok (.istore_n 3, 1) := dk_62 (dk_at dksJ21_getChars_1 9 rfl rfl)
theorem dJ21_getChars_33 : decode cJ21_getChars 33 = .ok (.iload_n 3, 1) := dk_29 (dk_at dksJ21_getChars_1 10 rfl rfl)
theorem dJ21_getChars_34 : decode cJ21_getChars 34 = .ok (.bipush 100, 2) := dk_16 100 (dk_at dksJ21_getChars_1 11 rfl rfl)
theorem dJ21_getChars_36 : decode cJ21_getChars 36 = .ok (.imul, 1) := dk_104 (dk_at dksJ21_getChars_1 13 rfl rfl)
theorem dJ21_getChars_37 : decode cJ21_getChars 37 = .ok (.iload_n 0, 1) := dk_26 (dk_at dksJ21_getChars_1 14 rfl rfl)
theorem dJ21_getChars_38 : decode cJ21_getChars 38 = .ok (.isub, 1) := dk_100 (dk_at dksJ21_getChars_1 15 rfl rfl)
theorem dJ21_getChars_39 : decode cJ21_getChars 39 = .ok (.istore 4, 2) := dk_54 4 (dk_at dksJ21_getChars_1 16 rfl rfl)
theorem dJ21_getChars_41 : decode cJ21_getChars 41 = .ok (.iload_n 3, 1) := dk_29 (dk_at dksJ21_getChars_1 18 rfl rfl)
theorem dJ21_getChars_42 : decode cJ21_getChars 42 = .ok (.istore_n 0, 1) := dk_59 (dk_at dksJ21_getChars_1 19 rfl rfl)
theorem dJ21_getChars_43 : decode cJ21_getChars 43 = .ok (.aload_n 2, 1) := dk_44 (dk_at dksJ21_getChars_1 20 rfl rfl)
theorem dJ21_getChars_44 : decode cJ21_getChars 44 = .ok (.iinc 5 (-1), 3) := dk_132 5 255 (dk_at dksJ21_getChars_1 21 rfl rfl)
theorem dJ21_getChars_47 : decode cJ21_getChars 47 = .ok (.iload 5, 2) := dk_21 5 (dk_at dksJ21_getChars_2 0 rfl rfl)
theorem dJ21_getChars_49 : decode cJ21_getChars 49 = .ok (.getstatic 83, 3) := dk_178 0 83 (dk_at dksJ21_getChars_2 2 rfl rfl)
theorem dJ21_getChars_52 : decode cJ21_getChars 52 = .ok (.iload 4, 2) := dk_21 4 (dk_at dksJ21_getChars_2 5 rfl rfl)
theorem dJ21_getChars_54 : decode cJ21_getChars 54 = .ok (.baload, 1) := dk_51 (dk_at dksJ21_getChars_2 7 rfl rfl)
theorem dJ21_getChars_55 : decode cJ21_getChars 55 = .ok (.bastore, 1) := dk_84 (dk_at dksJ21_getChars_2 8 rfl rfl)
theorem dJ21_getChars_56 : decode cJ21_getChars 56 = .ok (.aload_n 2, 1) := dk_44 (dk_at dksJ21_getChars_2 9 rfl rfl)
theorem dJ21_getChars_57 : decode cJ21_getChars 57 = .ok (.iinc 5 (-1), 3) := dk_132 5 255 (dk_at dksJ21_getChars_2 10 rfl rfl)
theorem dJ21_getChars_60 : decode cJ21_getChars 60 = .ok (.iload 5, 2) := dk_21 5 (dk_at dksJ21_getChars_2 13 rfl rfl)
theorem dJ21_getChars_62 : decode cJ21_getChars 62 = .ok (.getstatic 87, 3) := dk_178 0 87 (dk_at dksJ21_getChars_2 15 rfl rfl)
theorem dJ21_getChars_65 : decode cJ21_getChars 65 = .ok (.iload 4, 2) := dk_21 4 (dk_at dksJ21_getChars_2 18 rfl rfl)
theorem dJ21_getChars_67 : decode cJ21_getChars 67 = .ok (.baload, 1) := dk_51 (dk_at dksJ21_getChars_2 20 rfl rfl)
theorem dJ21_getChars_68 : decode cJ21_getChars 68 = .ok (.bastore, 1) := dk_84 (dk_at dksJ21_getChars_2 21 rfl rfl)
theorem dJ21_getChars_69 : decode cJ21_getChars 69 = .ok (.goto (-47), 3) := dk_167 255 209 (dk_at dksJ21_getChars_3 0 rfl rfl)
theorem dJ21_getChars_72 : decode cJ21_getChars 72 = .ok (.aload_n 2, 1) := dk_44 (dk_at dksJ21_getChars_3 3 rfl rfl)
theorem dJ21_getChars_73 : decode cJ21_getChars 73 = .ok (.iinc 5 (-1), 3) := dk_132 5 255 (dk_at dksJ21_getChars_3 4 rfl rfl)
theorem dJ21_getChars_76 : decode cJ21_getChars 76 = .ok (.iload 5, 2) := dk_21 5 (dk_at dksJ21_getChars_3 7 rfl rfl)
theorem dJ21_getChars_78 : decode cJ21_getChars 78 = .ok (.getstatic 83, 3) := dk_178 0 83 (dk_at dksJ21_getChars_3 9 rfl rfl)
theorem dJ21_getChars_81 : decode cJ21_getChars 81 = .ok (.iload_n 0, 1) := dk_26 (dk_at dksJ21_getChars_3 12 rfl rfl)
theorem dJ21_getChars_82 : decode cJ21_getChars 82 = .ok (.ineg, 1) := dk_116 (dk_at dksJ21_getChars_3 13 rfl rfl)
theorem dJ21_getChars_83 : decode cJ21_getChars 83 = .ok (.baload, 1) := dk_51 (dk_at dksJ21_getChars_3 14 rfl rfl)
theorem dJ21_getChars_84 : decode cJ21_getChars 84 = .ok (.bastore, 1) := dk_84 (dk_at dksJ21_getChars_3 15 rfl rfl)
theorem dJ21_getChars_85 : decode cJ21_getChars 85 = .ok (.iload_n 0, 1) := dk_26 (dk_at dksJ21_getChars_3 16 rfl rfl)
theorem dJ21_getChars_86 : decode cJ21_getChars 86 = .ok (.bipush (-9), 2) := dk_16 247 (dk_at dksJ21_getChars_3 17 rfl rfl)
theorem dJ21_getChars_88 : decode cJ21_getChars 88 = .ok (.if_icmp .ge 16, 3) := dk_162 0 16 (dk_at dksJ21_getChars_3 19 rfl rfl)
theorem dJ21_getChars_91 : decode cJ21_getChars 91 = .ok (.aload_n 2, 1) := dk_44 (dk_at dksJ21_getChars_3 22 rfl rfl)
theorem dJ21_getChars_92 : decode cJ21_getChars 92 = .ok (.iinc 5 (-1), 3) := dk_132 5 255 (dk_at dksJ21_getChars_4 0 rfl rfl)
theorem dJ21_getChars_95 : decode cJ21_getChars 95 = .ok (.iload 5, 2) := dk_21 5 (dk_at dksJ21_getChars_4 3 rfl rfl)
theorem dJ21_getChars_97 : decode cJ21_getChars 97 = .ok (.getstatic 87, 3) := dk_178 0 87 (dk_at dksJ21_getChars_4 5 rfl rfl)
theorem dJ21_getChars_100 : decode cJ21_getChars 100 = .ok (.iload_n 0, 1) := dk_26 (dk_at dksJ21_getChars_4 8 rfl rfl)
theorem dJ21_getChars_101 : decode cJ21_getChars 101 = .ok (.ineg, 1) := dk_116 (dk_at dksJ21_getChars_4 9 rfl rfl)
theorem dJ21_getChars_102 : decode cJ21_getChars 102 = .ok (.baload, 1) := dk_51 (dk_at dksJ21_getChars_4 10 rfl rfl)
theorem dJ21_getChars_103 : decode cJ21_getChars 103 = .ok (.bastore, 1) := dk_84 (dk_at dksJ21_getChars_4 11 rfl rfl)
theorem dJ21_getChars_104 : decode cJ21_getChars 104 = .ok (.iload 6, 2) := dk_21 6 (dk_at dksJ21_getChars_4 12 rfl rfl)
theorem dJ21_getChars_106 : decode cJ21_getChars 106 = .ok (.ifCond .eq 12, 3) := dk_153 0 12 (dk_at dksJ21_getChars_4 14 rfl rfl)
theorem dJ21_getChars_109 : decode cJ21_getChars 109 = .ok (.aload_n 2, 1) := dk_44 (dk_at dksJ21_getChars_4 17 rfl rfl)
theorem dJ21_getChars_110 : decode cJ21_getChars 110 = .ok (.iinc 5 (-1), 3) := dk_132 5 255 (dk_at dksJ21_getChars_4 18 rfl rfl)
theorem dJ21_getChars_113 : decode cJ21_getChars 113 = .ok (.iload 5, 2) := dk_21 5 (dk_at dksJ21_getChars_4 21 rfl rfl)
theorem dJ21_getChars_115 : decode cJ21_getChars 115 = .ok (.bipush 45, 2) := dk_16 45 (dk_at dksJ21_getChars_5 0 rfl rfl)
theorem dJ21_getChars_117 : decode cJ21_getChars 117 = .ok (.bastore, 1) := dk_84 (dk_at dksJ21_getChars_5 2 rfl rfl)
theorem dJ21_getChars_118 : decode cJ21_getChars 118 = .ok (.iload 5, 2) := dk_21 5 (dk_at dksJ21_getChars_5 3 rfl rfl)
theorem dJ21_getChars_120 : decode cJ21_getChars 120 = .ok (.ireturn, 1) := dk_172 (dk_at dksJ21_getChars_5 5 rfl rfl)
abbrev cJ21_toString : ByteArray := prog_63_method_10_code
def yJ21_toString : MethodName := ⟨RJ21, "toString", "(I)Ljava/lang/String;"⟩
def dkwJ21_toString_2 : List UInt8 := [187, 0, 5, 89, 44, 4, 183, 0, 65, 176]
abbrev dktJ21_toString_2 : List UInt8 := dkwJ21_toString_2 ++ []
def dkwJ21_toString_1 : List UInt8 := [187, 0, 5, 89, 44, 3, 183, 0, 65, 176, 27, 5, 104, 188, 8, 77, 26, 27, 44, 184, 0, 79, 87]
abbrev dktJ21_toString_1 : List UInt8 := dkwJ21_toString_1 ++ dktJ21_toString_2
def dkwJ21_toString_0 : List UInt8 := [26, 184, 0, 72, 60, 178, 0, 13, 153, 0, 24, 27, 188, 8, 77, 26, 27, 44, 184, 0, 75, 87]
abbrev dktJ21_toString_0 : List UInt8 := dkwJ21_toString_0 ++ dktJ21_toString_1
theorem dksJ21_toString_0 : cJ21_toString.data.toList.drop 0 = dktJ21_toString_0 := by decide +kernel
theorem dksJ21_toString_1 : cJ21_toString.data.toList.drop 22 = dktJ21_toString_1 := dk_seg dksJ21_toString_0 22 rfl rfl
theorem dksJ21_toString_2 : cJ21_toString.data.toList.drop 45 = dktJ21_toString_2 := dk_seg dksJ21_toString_1 23 rfl rfl
theorem dJ21_toString_0 : decode cJ21_toString 0 = .ok (.iload_n 0, 1) := dk_26 (dk_at dksJ21_toString_0 0 rfl rfl)
theorem dJ21_toString_1 : decode cJ21_toString 1 = .ok (.invokestatic 72, 3) := dk_184 0 72 (dk_at dksJ21_toString_0 1 rfl rfl)
theorem dJ21_toString_4 : decode cJ21_toString 4 = .ok (.istore_n 1, 1) := dk_60 (dk_at dksJ21_toString_0 4 rfl rfl)
theorem dJ21_toString_5 : decode cJ21_toString 5 = .ok (.getstatic 13, 3) := dk_178 0 13 (dk_at dksJ21_toString_0 5 rfl rfl)
theorem dJ21_toString_8 : decode cJ21_toString 8 = .ok (.ifCond .eq 24, 3) := dk_153 0 24 (dk_at dksJ21_toString_0 8 rfl rfl)
theorem dJ21_toString_11 : decode cJ21_toString 11 = .ok (.iload_n 1, 1) := dk_27 (dk_at dksJ21_toString_0 11 rfl rfl)
theorem dJ21_toString_12 : decode cJ21_toString 12 = .ok (.newarray .byte, 2) := dk_188_8 (dk_at dksJ21_toString_0 12 rfl rfl)
theorem dJ21_toString_14 : decode cJ21_toString 14 = .ok (.astore_n 2, 1) := dk_77 (dk_at dksJ21_toString_0 14 rfl rfl)
theorem dJ21_toString_15 : decode cJ21_toString 15 = .ok (.iload_n 0, 1) := dk_26 (dk_at dksJ21_toString_0 15 rfl rfl)
theorem dJ21_toString_16 : decode cJ21_toString 16 = .ok (.iload_n 1, 1) := dk_27 (dk_at dksJ21_toString_0 16 rfl rfl)
theorem dJ21_toString_17 : decode cJ21_toString 17 = .ok (.aload_n 2, 1) := dk_44 (dk_at dksJ21_toString_0 17 rfl rfl)
theorem dJ21_toString_18 : decode cJ21_toString 18 = .ok (.invokestatic 75, 3) := dk_184 0 75 (dk_at dksJ21_toString_0 18 rfl rfl)
theorem dJ21_toString_21 : decode cJ21_toString 21 = .ok (.pop, 1) := dk_87 (dk_at dksJ21_toString_0 21 rfl rfl)
theorem dJ21_toString_22 : decode cJ21_toString 22 = .ok (.new 5, 3) := dk_187 0 5 (dk_at dksJ21_toString_1 0 rfl rfl)
theorem dJ21_toString_25 : decode cJ21_toString 25 = .ok (.dup, 1) := dk_89 (dk_at dksJ21_toString_1 3 rfl rfl)
theorem dJ21_toString_26 : decode cJ21_toString 26 = .ok (.aload_n 2, 1) := dk_44 (dk_at dksJ21_toString_1 4 rfl rfl)
theorem dJ21_toString_27 : decode cJ21_toString 27 = .ok (.iconst 0, 1) := dk_3 (dk_at dksJ21_toString_1 5 rfl rfl)
theorem dJ21_toString_28 : decode cJ21_toString 28 = .ok (.invokespecial 65, 3) := dk_183 0 65 (dk_at dksJ21_toString_1 6 rfl rfl)
theorem dJ21_toString_31 : decode cJ21_toString 31 = .ok (.areturn, 1) := dk_176 (dk_at dksJ21_toString_1 9 rfl rfl)
theorem dJ21_toString_32 : decode cJ21_toString 32 = .ok (.iload_n 1, 1) := dk_27 (dk_at dksJ21_toString_1 10 rfl rfl)
theorem dJ21_toString_33 : decode cJ21_toString 33 = .ok (.iconst 2, 1) := dk_5 (dk_at dksJ21_toString_1 11 rfl rfl)
theorem dJ21_toString_34 : decode cJ21_toString 34 = .ok (.imul, 1) := dk_104 (dk_at dksJ21_toString_1 12 rfl rfl)
theorem dJ21_toString_35 : decode cJ21_toString 35 = .ok (.newarray .byte, 2) := dk_188_8 (dk_at dksJ21_toString_1 13 rfl rfl)
theorem dJ21_toString_37 : decode cJ21_toString 37 = .ok (.astore_n 2, 1) := dk_77 (dk_at dksJ21_toString_1 15 rfl rfl)
theorem dJ21_toString_38 : decode cJ21_toString 38 = .ok (.iload_n 0, 1) := dk_26 (dk_at dksJ21_toString_1 16 rfl rfl)
theorem dJ21_toString_39 : decode cJ21_toString 39 = .ok (.iload_n 1, 1) := dk_27 (dk_at dksJ21_toString_1 17 rfl rfl)
theorem dJ21_toString_40 : decode cJ21_toString 40 = .ok (.aload_n 2, 1) := dk_44 (dk_at dksJ21_toString_1 18 rfl rfl)
theorem dJ21_toString_41 : decode cJ21_toString 41 = .ok (.invokestatic 79, 3) := dk_184 0 79 (dk_at dksJ21_toString_1 19 rfl rfl)
theorem dJ21_toString_44 : decode cJ21_toString 44 = .ok (.pop, 1) := dk_87 (dk_at dksJ21_toString_1 22 rfl rfl)
theorem dJ21_toString_45 : decode cJ21_toString 45 = .ok (.new 5, 3) := dk_187 0 5 (dk_at dksJ21_toString_2 0 rfl rfl)
theorem dJ21_toString_48 : decode cJ21_toString 48 = .ok (.dup, 1) := dk_89 (dk_at dksJ21_toString_2 3 rfl rfl)
theorem dJ21_toString_49 : decode cJ21_toString 49 = .ok (.aload_n 2, 1) := dk_44 (dk_at dksJ21_toString_2 4 rfl rfl)
theorem dJ21_toString_50 : decode cJ21_toString 50 = .ok (.iconst 1, 1) := dk_4 (dk_at dksJ21_toString_2 5 rfl rfl)
theorem dJ21_toString_51 : decode cJ21_toString 51 = .ok (.invokespecial 65, 3) := dk_183 0 65 (dk_at dksJ21_toString_2 6 rfl rfl)
theorem dJ21_toString_54 : decode cJ21_toString 54 = .ok (.areturn, 1) := dk_176 (dk_at dksJ21_toString_2 9 rfl rfl)
abbrev cJ21_bitCount : ByteArray := prog_63_method_49_code
def yJ21_bitCount : MethodName := ⟨RJ21, "bitCount", "(I)I"⟩
def dkwJ21_bitCount_2 : List UInt8 := [26, 16, 63, 126, 172]
abbrev dktJ21_bitCount_2 : List UInt8 := dkwJ21_bitCount_2 ++ []
def dkwJ21_bitCount_1 : List UInt8 := [26, 26, 7, 124, 96, 19, 1, 11, 126, 59, 26, 26, 16, 8, 124, 96, 59, 26, 26, 16, 16, 124, 96, 59]
abbrev dktJ21_bitCount_1 : List UInt8 := dkwJ21_bitCount_1 ++ dktJ21_bitCount_2
def dkwJ21_bitCount_0 : List UInt8 := [26, 26, 4, 124, 19, 1, 9, 126, 100, 59, 26, 19, 1, 10, 126, 26, 5, 124, 19, 1, 10, 126, 96, 59]
abbrev dktJ21_bitCount_0 : List UInt8 := dkwJ21_bitCount_0 ++ dktJ21_bitCount_1
theorem dksJ21_bitCount_0 : cJ21_bitCount.data.toList.drop 0 = dktJ21_bitCount_0 := by decide +kernel
theorem dksJ21_bitCount_1 : cJ21_bitCount.data.toList.drop 24 = dktJ21_bitCount_1 := dk_seg dksJ21_bitCount_0 24 rfl rfl
theorem dksJ21_bitCount_2 : cJ21_bitCount.data.toList.drop 48 = dktJ21_bitCount_2 := dk_seg dksJ21_bitCount_1 24 rfl rfl
theorem dJ21_bitCount_0 : decode cJ21_bitCount 0 = .ok (.iload_n 0, 1) := dk_26 (dk_at dksJ21_bitCount_0 0 rfl rfl)
theorem dJ21_bitCount_1 : decode cJ21_bitCount 1 = .ok (.iload_n 0, 1) := dk_26 (dk_at dksJ21_bitCount_0 1 rfl rfl)
theorem dJ21_bitCount_2 : decode cJ21_bitCount 2 = .ok (.iconst 1, 1) := dk_4 (dk_at dksJ21_bitCount_0 2 rfl rfl)
theorem dJ21_bitCount_3 : decode cJ21_bitCount 3 = .ok (.iushr, 1) := dk_124 (dk_at dksJ21_bitCount_0 3 rfl rfl)
theorem dJ21_bitCount_4 : decode cJ21_bitCount 4 = .ok (.ldc_w 265, 3) := dk_19 1 9 (dk_at dksJ21_bitCount_0 4 rfl rfl)
theorem dJ21_bitCount_7 : decode cJ21_bitCount 7 = .ok (.iand, 1) := dk_126 (dk_at dksJ21_bitCount_0 7 rfl rfl)
theorem dJ21_bitCount_8 : decode cJ21_bitCount 8 = .ok (.isub, 1) := dk_100 (dk_at dksJ21_bitCount_0 8 rfl rfl)
theorem dJ21_bitCount_9 : decode cJ21_bitCount 9 = .ok (.istore_n 0, 1) := dk_59 (dk_at dksJ21_bitCount_0 9 rfl rfl)
theorem dJ21_bitCount_10 : decode cJ21_bitCount 10 = .ok (.iload_n 0, 1) := dk_26 (dk_at dksJ21_bitCount_0 10 rfl rfl)
theorem dJ21_bitCount_11 : decode cJ21_bitCount 11 = .ok (.ldc_w 266, 3) := dk_19 1 10 (dk_at dksJ21_bitCount_0 11 rfl rfl)
theorem dJ21_bitCount_14 : decode cJ21_bitCount 14 = .ok (.iand, 1) := dk_126 (dk_at dksJ21_bitCount_0 14 rfl rfl)
theorem dJ21_bitCount_15 : decode cJ21_bitCount 15 = .ok (.iload_n 0, 1) := dk_26 (dk_at dksJ21_bitCount_0 15 rfl rfl)
theorem dJ21_bitCount_16 : decode cJ21_bitCount 16 = .ok (.iconst 2, 1) := dk_5 (dk_at dksJ21_bitCount_0 16 rfl rfl)
theorem dJ21_bitCount_17 : decode cJ21_bitCount 17 = .ok (.iushr, 1) := dk_124 (dk_at dksJ21_bitCount_0 17 rfl rfl)
theorem dJ21_bitCount_18 : decode cJ21_bitCount 18 = .ok (.ldc_w 266, 3) := dk_19 1 10 (dk_at dksJ21_bitCount_0 18 rfl rfl)
theorem dJ21_bitCount_21 : decode cJ21_bitCount 21 = .ok (.iand, 1) := dk_126 (dk_at dksJ21_bitCount_0 21 rfl rfl)
theorem dJ21_bitCount_22 : decode cJ21_bitCount 22 = .ok (.iadd, 1) := dk_96 (dk_at dksJ21_bitCount_0 22 rfl rfl)
theorem dJ21_bitCount_23 : decode cJ21_bitCount 23 = .ok (.istore_n 0, 1) := dk_59 (dk_at dksJ21_bitCount_0 23 rfl rfl)
theorem dJ21_bitCount_24 : decode cJ21_bitCount 24 = .ok (.iload_n 0, 1) := dk_26 (dk_at dksJ21_bitCount_1 0 rfl rfl)
theorem dJ21_bitCount_25 : decode cJ21_bitCount 25 = .ok (.iload_n 0, 1) := dk_26 (dk_at dksJ21_bitCount_1 1 rfl rfl)
theorem dJ21_bitCount_26 : decode cJ21_bitCount 26 = .ok (.iconst 4, 1) := dk_7 (dk_at dksJ21_bitCount_1 2 rfl rfl)
theorem dJ21_bitCount_27 : decode cJ21_bitCount 27 = .ok (.iushr, 1) := dk_124 (dk_at dksJ21_bitCount_1 3 rfl rfl)
theorem dJ21_bitCount_28 : decode cJ21_bitCount 28 = .ok (.iadd, 1) := dk_96 (dk_at dksJ21_bitCount_1 4 rfl rfl)
theorem dJ21_bitCount_29 : decode cJ21_bitCount 29 = .ok (.ldc_w 267, 3) := dk_19 1 11 (dk_at dksJ21_bitCount_1 5 rfl rfl)
theorem dJ21_bitCount_32 : decode cJ21_bitCount 32 = .ok (.iand, 1) := dk_126 (dk_at dksJ21_bitCount_1 8 rfl rfl)
theorem dJ21_bitCount_33 : decode cJ21_bitCount 33 = .ok (.istore_n 0, 1) := dk_59 (dk_at dksJ21_bitCount_1 9 rfl rfl)
theorem dJ21_bitCount_34 : decode cJ21_bitCount 34 = .ok (.iload_n 0, 1) := dk_26 (dk_at dksJ21_bitCount_1 10 rfl rfl)
theorem dJ21_bitCount_35 : decode cJ21_bitCount 35 = .ok (.iload_n 0, 1) := dk_26 (dk_at dksJ21_bitCount_1 11 rfl rfl)
theorem dJ21_bitCount_36 : decode cJ21_bitCount 36 = .ok (.bipush 8, 2) := dk_16 8 (dk_at dksJ21_bitCount_1 12 rfl rfl)
theorem dJ21_bitCount_38 : decode cJ21_bitCount 38 = .ok (.iushr, 1) := dk_124 (dk_at dksJ21_bitCount_1 14 rfl rfl)
theorem dJ21_bitCount_39 : decode cJ21_bitCount 39 = .ok (.iadd, 1) := dk_96 (dk_at dksJ21_bitCount_1 15 rfl rfl)
theorem dJ21_bitCount_40 : decode cJ21_bitCount 40 = .ok (.istore_n 0, 1) := dk_59 (dk_at dksJ21_bitCount_1 16 rfl rfl)
theorem dJ21_bitCount_41 : decode cJ21_bitCount 41 = .ok (.iload_n 0, 1) := dk_26 (dk_at dksJ21_bitCount_1 17 rfl rfl)
theorem dJ21_bitCount_42 : decode cJ21_bitCount 42 = .ok (.iload_n 0, 1) := dk_26 (dk_at dksJ21_bitCount_1 18 rfl rfl)
theorem dJ21_bitCount_43 : decode cJ21_bitCount 43 = .ok (.bipush 16, 2) := dk_16 16 (dk_at dksJ21_bitCount_1 19 rfl rfl)
theorem dJ21_bitCount_45 : decode cJ21_bitCount 45 = .ok (.iushr, 1) := dk_124 (dk_at dksJ21_bitCount_1 21 rfl rfl)
theorem dJ21_bitCount_46 : decode cJ21_bitCount 46 = .ok (.iadd, 1) := dk_96 (dk_at dksJ21_bitCount_1 22 rfl rfl)
theorem dJ21_bitCount_47 : decode cJ21_bitCount 47 = .ok (.istore_n 0, 1) := dk_59 (dk_at dksJ21_bitCount_1 23 rfl rfl)
theorem dJ21_bitCount_48 : decode cJ21_bitCount 48 = .ok (.iload_n 0, 1) := dk_26 (dk_at dksJ21_bitCount_2 0 rfl rfl)
theorem dJ21_bitCount_49 : decode cJ21_bitCount 49 = .ok (.bipush 63, 2) := dk_16 63 (dk_at dksJ21_bitCount_2 1 rfl rfl)
theorem dJ21_bitCount_51 : decode cJ21_bitCount 51 = .ok (.iand, 1) := dk_126 (dk_at dksJ21_bitCount_2 3 rfl rfl)
theorem dJ21_bitCount_52 : decode cJ21_bitCount 52 = .ok (.ireturn, 1) := dk_172 (dk_at dksJ21_bitCount_2 4 rfl rfl)
theorem q96 : (Jvm.Cond.initialized "java/lang/Integer") ∈ lw_all := lw_g (lw_at lw_m1 47 rfl) rfl
theorem q1444 : (Jvm.Cond.static ({ cls := "java/lang/Integer", name := "stringSize", desc := "(I)I" } : Jvm.MethodName)) ∈ lw_all := lw_g (lw_at lw_m6 195 rfl) rfl
theorem q1445 : (Jvm.Cond.code ({ cls := "java/lang/Integer", name := "stringSize", desc := "(I)I" } : Jvm.MethodName) prog_63_method_13_code (4 : Nat) (Option.some Jvm.ClassFile.FieldType.int)) ∈ lw_all := lw_g (lw_at lw_m6 196 rfl) rfl
theorem q1447 : (Jvm.Cond.static ({ cls := "java/lang/Integer", name := "getChars", desc := "(II[B)I" } : Jvm.MethodName)) ∈ lw_all := lw_g (lw_at lw_m6 198 rfl) rfl
theorem q1448 : (Jvm.Cond.code ({ cls := "java/lang/Integer", name := "getChars", desc := "(II[B)I" } : Jvm.MethodName) prog_63_method_12_code (7 : Nat) (Option.some Jvm.ClassFile.FieldType.int)) ∈ lw_all := lw_g (lw_at lw_m6 199 rfl) rfl
theorem q1449 : (Jvm.Cond.fieldLink "java/lang/Integer" (83 : Nat) "java/lang/Integer" "DigitOnes" "[B") ∈ lw_all := lw_g (lw_at lw_m6 200 rfl) rfl
theorem q1450 : (Jvm.Cond.laysStatic "java/lang/Integer" "DigitOnes" "[B") ∈ lw_tbl := lw_at lw_m6 201 rfl
theorem q1451 : (Jvm.Cond.fieldLink "java/lang/Integer" (87 : Nat) "java/lang/Integer" "DigitTens" "[B") ∈ lw_all := lw_g (lw_at lw_m6 202 rfl) rfl
theorem q1452 : (Jvm.Cond.laysStatic "java/lang/Integer" "DigitTens" "[B") ∈ lw_tbl := lw_at lw_m6 203 rfl
theorem q1708 : (Jvm.Cond.static ({ cls := "java/lang/Integer", name := "toString", desc := "(I)Ljava/lang/String;" } : Jvm.MethodName)) ∈ lw_all := lw_g (lw_at lw_m7 219 rfl) rfl
theorem q1709 : (Jvm.Cond.code ({ cls := "java/lang/Integer", name := "toString", desc := "(I)Ljava/lang/String;" } : Jvm.MethodName) prog_63_method_10_code (3 : Nat) (Option.some (Jvm.ClassFile.FieldType.object "java/lang/String"))) ∈ lw_all := lw_g (lw_at lw_m7 220 rfl) rfl
theorem q1710 : (Jvm.Cond.methodLink "java/lang/Integer" (72 : Nat) ({ cls := "java/lang/Integer", name := "stringSize", desc := "(I)I" } : Jvm.MethodName)) ∈ lw_all := lw_g (lw_at lw_m7 221 rfl) rfl
theorem q1711 : (Jvm.Cond.fieldLink "java/lang/Integer" (13 : Nat) "java/lang/String" "COMPACT_STRINGS" "Z") ∈ lw_all := lw_g (lw_at lw_m7 222 rfl) rfl
theorem q1712 : (Jvm.Cond.methodLink "java/lang/Integer" (75 : Nat) ({ cls := "java/lang/Integer", name := "getChars", desc := "(II[B)I" } : Jvm.MethodName)) ∈ lw_all := lw_g (lw_at lw_m7 223 rfl) rfl
theorem q1713 : (Jvm.Cond.classLink "java/lang/Integer" (5 : Nat) "java/lang/String") ∈ lw_all := lw_g (lw_at lw_m7 224 rfl) rfl
theorem q1714 : (Jvm.Cond.methodLink "java/lang/Integer" (65 : Nat) ({ cls := "java/lang/String", name := "<init>", desc := "([BB)V" } : Jvm.MethodName)) ∈ lw_all := lw_g (lw_at lw_m7 225 rfl) rfl
theorem q1717 : (Jvm.Cond.methodLink "java/lang/Integer" (79 : Nat) ({ cls := "java/lang/StringUTF16", name := "getChars", desc := "(II[B)I" } : Jvm.MethodName)) ∈ lw_all := lw_g (lw_at lw_m7 228 rfl) rfl
theorem q2709 : (Jvm.Cond.static ({ cls := "java/lang/Integer", name := "bitCount", desc := "(I)I" } : Jvm.MethodName)) ∈ lw_all := lw_g (lw_at lw_m12 20 rfl) rfl
theorem q2710 : (Jvm.Cond.code ({ cls := "java/lang/Integer", name := "bitCount", desc := "(I)I" } : Jvm.MethodName) prog_63_method_49_code (1 : Nat) (Option.some Jvm.ClassFile.FieldType.int)) ∈ lw_all := lw_g (lw_at lw_m12 21 rfl) rfl
theorem q2711 : (Jvm.Cond.constant "java/lang/Integer" (265 : Nat) (1431655765 : Int32)) ∈ lw_all := lw_g (lw_at lw_m12 22 rfl) rfl
theorem q2712 : (Jvm.Cond.constant "java/lang/Integer" (266 : Nat) (858993459 : Int32)) ∈ lw_all := lw_g (lw_at lw_m12 23 rfl) rfl
theorem q2713 : (Jvm.Cond.constant "java/lang/Integer" (267 : Nat) (252645135 : Int32)) ∈ lw_all := lw_g (lw_at lw_m12 24 rfl) rfl
/-! java/lang/Object -/
set_option maxRecDepth 100000
def RJ22 : String := "java/lang/Object"
abbrev cJ22_init : ByteArray := object_method_1_code
def yJ22_init : MethodName := ⟨RJ22, "<init>", "()V"⟩
theorem dJ22_init_0 : decode cJ22_init 0 = .ok (.return_, 1) := by decide +kernel
abbrev cJ22_equals : ByteArray := object_method_4_code
def yJ22_equals : MethodName := ⟨RJ22, "equals", "(Ljava/lang/Object;)Z"⟩
def dkwJ22_equals_0 : List UInt8 := [42, 43, 166, 0, 7, 4, 167, 0, 4, 3, 172]
abbrev dktJ22_equals_0 : List UInt8 := dkwJ22_equals_0 ++ []
theorem dksJ22_equals_0 : cJ22_equals.data.toList.drop 0 = dktJ22_equals_0 := by decide +kernel
theorem dJ22_equals_0 : decode cJ22_equals 0 = .ok (.aload_n 0, 1) := dk_42 (dk_at dksJ22_equals_0 0 rfl rfl)
theorem dJ22_equals_1 : decode cJ22_equals 1 = .ok (.aload_n 1, 1) := dk_43 (dk_at dksJ22_equals_0 1 rfl rfl)
theorem dJ22_equals_2 : decode cJ22_equals 2 = .ok (.if_acmp .ne 7, 3) := dk_166 0 7 (dk_at dksJ22_equals_0 2 rfl rfl)
theorem dJ22_equals_5 : decode cJ22_equals 5 = .ok (.iconst 1, 1) := dk_4 (dk_at dksJ22_equals_0 5 rfl rfl)
theorem dJ22_equals_6 : decode cJ22_equals 6 = .ok (.goto 4, 3) := dk_167 0 4 (dk_at dksJ22_equals_0 6 rfl rfl)
theorem dJ22_equals_9 : decode cJ22_equals 9 = .ok (.iconst 0, 1) := dk_3 (dk_at dksJ22_equals_0 9 rfl rfl)
theorem dJ22_equals_10 : decode cJ22_equals 10 = .ok (.ireturn, 1) := dk_172 (dk_at dksJ22_equals_0 10 rfl rfl)
theorem q127 : (Jvm.Cond.instanceMethod ({ cls := "java/lang/Object", name := "<init>", desc := "()V" } : Jvm.MethodName)) ∈ lw_all := lw_g (lw_at lw_m1 78 rfl) rfl
theorem q128 : (Jvm.Cond.code ({ cls := "java/lang/Object", name := "<init>", desc := "()V" } : Jvm.MethodName) object_method_1_code (1 : Nat) (Option.none : Option Jvm.ClassFile.FieldType)) ∈ lw_all := lw_g (lw_at lw_m1 79 rfl) rfl
theorem q364 : (Jvm.Cond.instanceMethod ({ cls := "java/lang/Object", name := "getClass", desc := "()Ljava/lang/Class;" } : Jvm.MethodName)) ∈ lw_all := lw_g (lw_at lw_m2 75 rfl) rfl
theorem q365 : (Jvm.Cond.sameMethod "java/lang/Object" "java/lang/Object" "getClass" "()Ljava/lang/Class;") ∈ lw_all := lw_g (lw_at lw_m2 76 rfl) rfl
theorem q419 : (Jvm.Cond.native ({ cls := "java/lang/Object", name := "getClass", desc := "()Ljava/lang/Class;" } : Jvm.MethodName)) ∈ lw_all := lw_g (lw_at lw_m2 130 rfl) rfl
theorem q736 : (Jvm.Cond.declares ({ cls := "java/lang/Object", name := "equals", desc := "(Ljava/lang/Object;)Z" } : Jvm.MethodName)) ∈ lw_tbl := lw_at lw_m3 207 rfl
theorem q738 : (Jvm.Cond.instanceMethod ({ cls := "java/lang/Object", name := "equals", desc := "(Ljava/lang/Object;)Z" } : Jvm.MethodName)) ∈ lw_all := lw_g (lw_at lw_m3 209 rfl) rfl
theorem q739 : (Jvm.Cond.sameMethod "java/lang/Object" "java/lang/Object" "equals" "(Ljava/lang/Object;)Z") ∈ lw_all := lw_g (lw_at lw_m3 210 rfl) rfl
theorem q799 : (Jvm.Cond.code ({ cls := "java/lang/Object", name := "equals", desc := "(Ljava/lang/Object;)Z" } : Jvm.MethodName) object_method_4_code (2 : Nat) (Option.some Jvm.ClassFile.FieldType.boolean)) ∈ lw_all := lw_g (lw_at lw_m4 30 rfl) rfl
theorem q1358 : (Jvm.Cond.native ({ cls := "java/lang/Object", name := "clone", desc := "()Ljava/lang/Object;" } : Jvm.MethodName)) ∈ lw_all := lw_g (lw_at lw_m6 109 rfl) rfl
theorem q1359 : (Jvm.Cond.instanceMethod ({ cls := "java/lang/Object", name := "clone", desc := "()Ljava/lang/Object;" } : Jvm.MethodName)) ∈ lw_all := lw_g (lw_at lw_m6 110 rfl) rfl
theorem q2864 : (Jvm.Cond.initialized "java/lang/Object") ∈ lw_all := lw_g (lw_at lw_m12 175 rfl) rfl
theorem q2938 : (Jvm.Cond.declares ({ cls := "java/lang/Object", name := "getClass", desc := "()Ljava/lang/Class;" } : Jvm.MethodName)) ∈ lw_tbl := lw_at lw_m13 9 rfl
/-! java/lang/System$2 -/
set_option maxRecDepth 100000
def RJ23 : String := "java/lang/System$2"
abbrev cJ23_getUTF16Char : ByteArray := prog_73_method_45_code
def yJ23_getUTF16Char : MethodName := ⟨RJ23, "getUTF16Char", "([BI)C"⟩
def dkwJ23_getUTF16Char_0 : List UInt8 := [43, 28, 184, 0, 185, 172]
abbrev dktJ23_getUTF16Char_0 : List UInt8 := dkwJ23_getUTF16Char_0 ++ []
theorem dksJ23_getUTF16Char_0 : cJ23_getUTF16Char.data.toList.drop 0 = dktJ23_getUTF16Char_0 := by decide +kernel
theorem dJ23_getUTF16Char_0 : decode cJ23_getUTF16Char 0 = .ok (.aload_n 1, 1) := dk_43 (dk_at dksJ23_getUTF16Char_0 0 rfl rfl)
theorem dJ23_getUTF16Char_1 : decode cJ23_getUTF16Char 1 = .ok (.iload_n 2, 1) := dk_28 (dk_at dksJ23_getUTF16Char_0 1 rfl rfl)
theorem dJ23_getUTF16Char_2 : decode cJ23_getUTF16Char 2 = .ok (.invokestatic 185, 3) := dk_184 0 185 (dk_at dksJ23_getUTF16Char_0 2 rfl rfl)
theorem dJ23_getUTF16Char_5 : decode cJ23_getUTF16Char 5 = .ok (.ireturn, 1) := dk_172 (dk_at dksJ23_getUTF16Char_0 5 rfl rfl)
theorem q416 : (Jvm.Cond.selects "java/lang/System$2" ({ cls := "java/lang/Object", name := "getClass", desc := "()Ljava/lang/Class;" } : Jvm.MethodName) ({ cls := "java/lang/Object", name := "getClass", desc := "()Ljava/lang/Class;" } : Jvm.MethodName)) ∈ lw_all := lw_g (lw_at lw_m2 127 rfl) rfl
theorem q798 : (Jvm.Cond.selects "java/lang/System$2" ({ cls := "java/lang/Object", name := "equals", desc := "(Ljava/lang/Object;)Z" } : Jvm.MethodName) ({ cls := "java/lang/Object", name := "equals", desc := "(Ljava/lang/Object;)Z" } : Jvm.MethodName)) ∈ lw_all := lw_g (lw_at lw_m4 29 rfl) rfl
theorem q2038 : (Jvm.Cond.castable "java/lang/System$2" "jdk/internal/access/JavaLangAccess") ∈ lw_tbl := lw_at lw_m9 69 rfl
theorem q2039 : (Jvm.Cond.selects "java/lang/System$2" ({ cls := "jdk/internal/access/JavaLangAccess", name := "getUTF16Char", desc := "([BI)C" } : Jvm.MethodName) ({ cls := "java/lang/System$2", name := "getUTF16Char", desc := "([BI)C" } : Jvm.MethodName)) ∈ lw_all := lw_g (lw_at lw_m9 70 rfl) rfl
theorem q2040 : (Jvm.Cond.unhidden "java/lang/System$2" "getUTF16Char" "([BI)C") ∈ lw_tbl := lw_at lw_m9 71 rfl
theorem q2041 : (Jvm.Cond.instanceMethod ({ cls := "java/lang/System$2", name := "getUTF16Char", desc := "([BI)C" } : Jvm.MethodName)) ∈ lw_all := lw_g (lw_at lw_m9 72 rfl) rfl
theorem q2042 : (Jvm.Cond.publicMethod ({ cls := "java/lang/System$2", name := "getUTF16Char", desc := "([BI)C" } : Jvm.MethodName)) ∈ lw_tbl := lw_at lw_m9 73 rfl
theorem q2043 : (Jvm.Cond.code ({ cls := "java/lang/System$2", name := "getUTF16Char", desc := "([BI)C" } : Jvm.MethodName) prog_73_method_45_code (3 : Nat) (Option.some Jvm.ClassFile.FieldType.char)) ∈ lw_all := lw_g (lw_at lw_m9 74 rfl) rfl
theorem q2044 : (Jvm.Cond.methodLink "java/lang/System$2" (185 : Nat) ({ cls := "java/lang/StringUTF16", name := "getChar", desc := "([BI)C" } : Jvm.MethodName)) ∈ lw_all := lw_g (lw_at lw_m9 75 rfl) rfl
theorem q2928 : (Jvm.Cond.castable "java/lang/System$2" "java/lang/Object") ∈ lw_tbl := lw_at lw_m12 239 rfl
/-! RowenTongueLaw -/
set_option maxRecDepth 100000
def RX0 : String := "RowenTongueLaw"
abbrev cX0_leaf : ByteArray := method_3_code
def yX0_leaf : MethodName := ⟨RX0, "leaf", "(LRowenTongue;II[J)I"⟩
def dkwX0_leaf_0 : List UInt8 := [45, 3, 42, 27, 28, 182, 0, 7, 133, 80, 167, 0, 11, 58, 4, 4, 172, 58, 4, 5, 172, 3, 172]
abbrev dktX0_leaf_0 : List UInt8 := dkwX0_leaf_0 ++ []
theorem dksX0_leaf_0 : cX0_leaf.data.toList.drop 0 = dktX0_leaf_0 := by decide +kernel
theorem dX0_leaf_0 : decode cX0_leaf 0 = .ok (.aload_n 3, 1) := dk_45 (dk_at dksX0_leaf_0 0 rfl rfl)
theorem dX0_leaf_1 : decode cX0_leaf 1 = .ok (.iconst 0, 1) := dk_3 (dk_at dksX0_leaf_0 1 rfl rfl)
theorem dX0_leaf_2 : decode cX0_leaf 2 = .ok (.aload_n 0, 1) := dk_42 (dk_at dksX0_leaf_0 2 rfl rfl)
theorem dX0_leaf_3 : decode cX0_leaf 3 = .ok (.iload_n 1, 1) := dk_27 (dk_at dksX0_leaf_0 3 rfl rfl)
theorem dX0_leaf_4 : decode cX0_leaf 4 = .ok (.iload_n 2, 1) := dk_28 (dk_at dksX0_leaf_0 4 rfl rfl)
theorem dX0_leaf_5 : decode cX0_leaf 5 = .ok (.invokevirtual 7, 3) := dk_182 0 7 (dk_at dksX0_leaf_0 5 rfl rfl)
theorem dX0_leaf_8 : decode cX0_leaf 8 = .ok (.i2l, 1) := dk_133 (dk_at dksX0_leaf_0 8 rfl rfl)
theorem dX0_leaf_9 : decode cX0_leaf 9 = .ok (.lastore, 1) := dk_80 (dk_at dksX0_leaf_0 9 rfl rfl)
theorem dX0_leaf_10 : decode cX0_leaf 10 = .ok (.goto 11, 3) := dk_167 0 11 (dk_at dksX0_leaf_0 10 rfl rfl)
theorem dX0_leaf_13 : decode cX0_leaf 13 = .ok (.astore 4, 2) := dk_58 4 (dk_at dksX0_leaf_0 13 rfl rfl)
theorem dX0_leaf_15 : decode cX0_leaf 15 = .ok (.iconst 1, 1) := dk_4 (dk_at dksX0_leaf_0 15 rfl rfl)
theorem dX0_leaf_16 : decode cX0_leaf 16 = .ok (.ireturn, 1) := dk_172 (dk_at dksX0_leaf_0 16 rfl rfl)
theorem dX0_leaf_17 : decode cX0_leaf 17 = .ok (.astore 4, 2) := dk_58 4 (dk_at dksX0_leaf_0 17 rfl rfl)
theorem dX0_leaf_19 : decode cX0_leaf 19 = .ok (.iconst 2, 1) := dk_5 (dk_at dksX0_leaf_0 19 rfl rfl)
theorem dX0_leaf_20 : decode cX0_leaf 20 = .ok (.ireturn, 1) := dk_172 (dk_at dksX0_leaf_0 20 rfl rfl)
theorem dX0_leaf_21 : decode cX0_leaf 21 = .ok (.iconst 0, 1) := dk_3 (dk_at dksX0_leaf_0 21 rfl rfl)
theorem dX0_leaf_22 : decode cX0_leaf 22 = .ok (.ireturn, 1) := dk_172 (dk_at dksX0_leaf_0 22 rfl rfl)
abbrev cX0_named : ByteArray := method_4_code
def yX0_named : MethodName := ⟨RX0, "named", "(LRowenTongue;IIII[J)I"⟩
def dkwX0_named_1 : List UInt8 := [172, 58, 6, 6, 172, 3, 172]
abbrev dktX0_named_1 : List UInt8 := dkwX0_named_1 ++ []
def dkwX0_named_0 : List UInt8 := [25, 5, 3, 42, 27, 28, 29, 21, 4, 182, 0, 17, 133, 80, 167, 0, 15, 58, 6, 4, 172, 58, 6, 5]
abbrev dktX0_named_0 : List UInt8 := dkwX0_named_0 ++ dktX0_named_1
theorem dksX0_named_0 : cX0_named.data.toList.drop 0 = dktX0_named_0 := by decide +kernel
theorem dksX0_named_1 : cX0_named.data.toList.drop 24 = dktX0_named_1 := dk_seg dksX0_named_0 24 rfl rfl
theorem dX0_named_0 : decode cX0_named 0 = .ok (.aload 5, 2) := dk_25 5 (dk_at dksX0_named_0 0 rfl rfl)
theorem dX0_named_2 : decode cX0_named 2 = .ok (.iconst 0, 1) := dk_3 (dk_at dksX0_named_0 2 rfl rfl)
theorem dX0_named_3 : decode cX0_named 3 = .ok (.aload_n 0, 1) := dk_42 (dk_at dksX0_named_0 3 rfl rfl)
theorem dX0_named_4 : decode cX0_named 4 = .ok (.iload_n 1, 1) := dk_27 (dk_at dksX0_named_0 4 rfl rfl)
theorem dX0_named_5 : decode cX0_named 5 = .ok (.iload_n 2, 1) := dk_28 (dk_at dksX0_named_0 5 rfl rfl)
theorem dX0_named_6 : decode cX0_named 6 = .ok (.iload_n 3, 1) := dk_29 (dk_at dksX0_named_0 6 rfl rfl)
theorem dX0_named_7 : decode cX0_named 7 = .ok (.iload 4, 2) := dk_21 4 (dk_at dksX0_named_0 7 rfl rfl)
theorem dX0_named_9 : decode cX0_named 9 = .ok (.invokevirtual 17, 3) := dk_182 0 17 (dk_at dksX0_named_0 9 rfl rfl)
theorem dX0_named_12 : decode cX0_named 12 = .ok (.i2l, 1) := dk_133 (dk_at dksX0_named_0 12 rfl rfl)
theorem dX0_named_13 : decode cX0_named 13 = .ok (.lastore, 1) := dk_80 (dk_at dksX0_named_0 13 rfl rfl)
theorem dX0_named_14 : decode cX0_named 14 = .ok (.goto 15, 3) := dk_167 0 15 (dk_at dksX0_named_0 14 rfl rfl)
theorem dX0_named_17 : decode cX0_named 17 = .ok (.astore 6, 2) := dk_58 6 (dk_at dksX0_named_0 17 rfl rfl)
theorem dX0_named_19 : decode cX0_named 19 = .ok (.iconst 1, 1) := dk_4 (dk_at dksX0_named_0 19 rfl rfl)
theorem dX0_named_20 : decode cX0_named 20 = .ok (.ireturn, 1) := dk_172 (dk_at dksX0_named_0 20 rfl rfl)
theorem dX0_named_21 : decode cX0_named 21 = .ok (.astore 6, 2) := dk_58 6 (dk_at dksX0_named_0 21 rfl rfl)
theorem dX0_named_23 : decode cX0_named 23 = .ok (.iconst 2, 1) := dk_5 (dk_at dksX0_named_0 23 rfl rfl)
theorem dX0_named_24 : decode cX0_named 24 = .ok (.ireturn, 1) := dk_172 (dk_at dksX0_named_1 0 rfl rfl)
theorem dX0_named_25 : decode cX0_named 25 = .ok (.astore 6, 2) := dk_58 6 (dk_at dksX0_named_1 1 rfl rfl)
theorem dX0_named_27 : decode cX0_named 27 = .ok (.iconst 3, 1) := dk_6 (dk_at dksX0_named_1 3 rfl rfl)
theorem dX0_named_28 : decode cX0_named 28 = .ok (.ireturn, 1) := dk_172 (dk_at dksX0_named_1 4 rfl rfl)
theorem dX0_named_29 : decode cX0_named 29 = .ok (.iconst 0, 1) := dk_3 (dk_at dksX0_named_1 5 rfl rfl)
theorem dX0_named_30 : decode cX0_named 30 = .ok (.ireturn, 1) := dk_172 (dk_at dksX0_named_1 6 rfl rfl)
abbrev cX0_made : ByteArray := method_5_code
def yX0_made : MethodName := ⟨RX0, "made", "(LRowenTongue;IIII[J)I"⟩
def dkwX0_made_1 : List UInt8 := [172, 58, 6, 6, 172, 3, 172]
abbrev dktX0_made_1 : List UInt8 := dkwX0_made_1 ++ []
def dkwX0_made_0 : List UInt8 := [25, 5, 3, 42, 27, 28, 29, 21, 4, 182, 0, 23, 133, 80, 167, 0, 15, 58, 6, 4, 172, 58, 6, 5]
abbrev dktX0_made_0 : List UInt8 := dkwX0_made_0 ++ dktX0_made_1
theorem dksX0_made_0 : cX0_made.data.toList.drop 0 = dktX0_made_0 := by decide +kernel
theorem dksX0_made_1 : cX0_made.data.toList.drop 24 = dktX0_made_1 := dk_seg dksX0_made_0 24 rfl rfl
theorem dX0_made_0 : decode cX0_made 0 = .ok (.aload 5, 2) := dk_25 5 (dk_at dksX0_made_0 0 rfl rfl)
theorem dX0_made_2 : decode cX0_made 2 = .ok (.iconst 0, 1) := dk_3 (dk_at dksX0_made_0 2 rfl rfl)
theorem dX0_made_3 : decode cX0_made 3 = .ok (.aload_n 0, 1) := dk_42 (dk_at dksX0_made_0 3 rfl rfl)
theorem dX0_made_4 : decode cX0_made 4 = .ok (.iload_n 1, 1) := dk_27 (dk_at dksX0_made_0 4 rfl rfl)
theorem dX0_made_5 : decode cX0_made 5 = .ok (.iload_n 2, 1) := dk_28 (dk_at dksX0_made_0 5 rfl rfl)
theorem dX0_made_6 : decode cX0_made 6 = .ok (.iload_n 3, 1) := dk_29 (dk_at dksX0_made_0 6 rfl rfl)
theorem dX0_made_7 : decode cX0_made 7 = .ok (.iload 4, 2) := dk_21 4 (dk_at dksX0_made_0 7 rfl rfl)
theorem dX0_made_9 : decode cX0_made 9 = .ok (.invokevirtual 23, 3) := dk_182 0 23 (dk_at dksX0_made_0 9 rfl rfl)
theorem dX0_made_12 : decode cX0_made 12 = .ok (.i2l, 1) := dk_133 (dk_at dksX0_made_0 12 rfl rfl)
theorem dX0_made_13 : decode cX0_made 13 = .ok (.lastore, 1) := dk_80 (dk_at dksX0_made_0 13 rfl rfl)
theorem dX0_made_14 : decode cX0_made 14 = .ok (.goto 15, 3) := dk_167 0 15 (dk_at dksX0_made_0 14 rfl rfl)
theorem dX0_made_17 : decode cX0_made 17 = .ok (.astore 6, 2) := dk_58 6 (dk_at dksX0_made_0 17 rfl rfl)
theorem dX0_made_19 : decode cX0_made 19 = .ok (.iconst 1, 1) := dk_4 (dk_at dksX0_made_0 19 rfl rfl)
theorem dX0_made_20 : decode cX0_made 20 = .ok (.ireturn, 1) := dk_172 (dk_at dksX0_made_0 20 rfl rfl)
theorem dX0_made_21 : decode cX0_made 21 = .ok (.astore 6, 2) := dk_58 6 (dk_at dksX0_made_0 21 rfl rfl)
theorem dX0_made_23 : decode cX0_made 23 = .ok (.iconst 2, 1) := dk_5 (dk_at dksX0_made_0 23 rfl rfl)
theorem dX0_made_24 : decode cX0_made 24 = .ok (.ireturn, 1) := dk_172 (dk_at dksX0_made_1 0 rfl rfl)
theorem dX0_made_25 : decode cX0_made 25 = .ok (.astore 6, 2) := dk_58 6 (dk_at dksX0_made_1 1 rfl rfl)
theorem dX0_made_27 : decode cX0_made 27 = .ok (.iconst 3, 1) := dk_6 (dk_at dksX0_made_1 3 rfl rfl)
theorem dX0_made_28 : decode cX0_made 28 = .ok (.ireturn, 1) := dk_172 (dk_at dksX0_made_1 4 rfl rfl)
theorem dX0_made_29 : decode cX0_made 29 = .ok (.iconst 0, 1) := dk_3 (dk_at dksX0_made_1 5 rfl rfl)
theorem dX0_made_30 : decode cX0_made 30 = .ok (.ireturn, 1) := dk_172 (dk_at dksX0_made_1 6 rfl rfl)
abbrev cX0_match : ByteArray := method_6_code
def yX0_match : MethodName := ⟨RX0, "match", "(LRowenTongue;IIII[J)I"⟩
def dkwX0_match_1 : List UInt8 := [172, 58, 6, 6, 172, 3, 172]
abbrev dktX0_match_1 : List UInt8 := dkwX0_match_1 ++ []
def dkwX0_match_0 : List UInt8 := [25, 5, 3, 42, 27, 28, 29, 21, 4, 182, 0, 26, 133, 80, 167, 0, 15, 58, 6, 4, 172, 58, 6, 5]
abbrev dktX0_match_0 : List UInt8 := dkwX0_match_0 ++ dktX0_match_1
theorem dksX0_match_0 : cX0_match.data.toList.drop 0 = dktX0_match_0 := by decide +kernel
theorem dksX0_match_1 : cX0_match.data.toList.drop 24 = dktX0_match_1 := dk_seg dksX0_match_0 24 rfl rfl
theorem dX0_match_0 : decode cX0_match 0 = .ok (.aload 5, 2) := dk_25 5 (dk_at dksX0_match_0 0 rfl rfl)
theorem dX0_match_2 : decode cX0_match 2 = .ok (.iconst 0, 1) := dk_3 (dk_at dksX0_match_0 2 rfl rfl)
theorem dX0_match_3 : decode cX0_match 3 = .ok (.aload_n 0, 1) := dk_42 (dk_at dksX0_match_0 3 rfl rfl)
theorem dX0_match_4 : decode cX0_match 4 = .ok (.iload_n 1, 1) := dk_27 (dk_at dksX0_match_0 4 rfl rfl)
theorem dX0_match_5 : decode cX0_match 5 = .ok (.iload_n 2, 1) := dk_28 (dk_at dksX0_match_0 5 rfl rfl)
theorem dX0_match_6 : decode cX0_match 6 = .ok (.iload_n 3, 1) := dk_29 (dk_at dksX0_match_0 6 rfl rfl)
theorem dX0_match_7 : decode cX0_match 7 = .ok (.iload 4, 2) := dk_21 4 (dk_at dksX0_match_0 7 rfl rfl)
theorem dX0_match_9 : decode cX0_match 9 = .ok (.invokevirtual 26, 3) := dk_182 0 26 (dk_at dksX0_match_0 9 rfl rfl)
theorem dX0_match_12 : decode cX0_match 12 = .ok (.i2l, 1) := dk_133 (dk_at dksX0_match_0 12 rfl rfl)
theorem dX0_match_13 : decode cX0_match 13 = .ok (.lastore, 1) := dk_80 (dk_at dksX0_match_0 13 rfl rfl)
theorem dX0_match_14 : decode cX0_match 14 = .ok (.goto 15, 3) := dk_167 0 15 (dk_at dksX0_match_0 14 rfl rfl)
theorem dX0_match_17 : decode cX0_match 17 = .ok (.astore 6, 2) := dk_58 6 (dk_at dksX0_match_0 17 rfl rfl)
theorem dX0_match_19 : decode cX0_match 19 = .ok (.iconst 1, 1) := dk_4 (dk_at dksX0_match_0 19 rfl rfl)
theorem dX0_match_20 : decode cX0_match 20 = .ok (.ireturn, 1) := dk_172 (dk_at dksX0_match_0 20 rfl rfl)
theorem dX0_match_21 : decode cX0_match 21 = .ok (.astore 6, 2) := dk_58 6 (dk_at dksX0_match_0 21 rfl rfl)
theorem dX0_match_23 : decode cX0_match 23 = .ok (.iconst 2, 1) := dk_5 (dk_at dksX0_match_0 23 rfl rfl)
theorem dX0_match_24 : decode cX0_match 24 = .ok (.ireturn, 1) := dk_172 (dk_at dksX0_match_1 0 rfl rfl)
theorem dX0_match_25 : decode cX0_match 25 = .ok (.astore 6, 2) := dk_58 6 (dk_at dksX0_match_1 1 rfl rfl)
theorem dX0_match_27 : decode cX0_match 27 = .ok (.iconst 3, 1) := dk_6 (dk_at dksX0_match_1 3 rfl rfl)
theorem dX0_match_28 : decode cX0_match 28 = .ok (.ireturn, 1) := dk_172 (dk_at dksX0_match_1 4 rfl rfl)
theorem dX0_match_29 : decode cX0_match 29 = .ok (.iconst 0, 1) := dk_3 (dk_at dksX0_match_1 5 rfl rfl)
theorem dX0_match_30 : decode cX0_match 30 = .ok (.ireturn, 1) := dk_172 (dk_at dksX0_match_1 6 rfl rfl)
abbrev cX0_check : ByteArray := method_7_code
def yX0_check : MethodName := ⟨RX0, "check", "(LRowenTongue;I[J)I"⟩
def dkwX0_check_0 : List UInt8 := [44, 3, 42, 27, 182, 0, 29, 133, 80, 167, 0, 6, 78, 4, 172, 3, 172]
abbrev dktX0_check_0 : List UInt8 := dkwX0_check_0 ++ []
theorem dksX0_check_0 : cX0_check.data.toList.drop 0 = dktX0_check_0 := by decide +kernel
theorem dX0_check_0 : decode cX0_check 0 = .ok (.aload_n 2, 1) := dk_44 (dk_at dksX0_check_0 0 rfl rfl)
theorem dX0_check_1 : decode cX0_check 1 = .ok (.iconst 0, 1) := dk_3 (dk_at dksX0_check_0 1 rfl rfl)
theorem dX0_check_2 : decode cX0_check 2 = .ok (.aload_n 0, 1) := dk_42 (dk_at dksX0_check_0 2 rfl rfl)
theorem dX0_check_3 : decode cX0_check 3 = .ok (.iload_n 1, 1) := dk_27 (dk_at dksX0_check_0 3 rfl rfl)
theorem dX0_check_4 : decode cX0_check 4 = .ok (.invokevirtual 29, 3) := dk_182 0 29 (dk_at dksX0_check_0 4 rfl rfl)
theorem dX0_check_7 : decode cX0_check 7 = .ok (.i2l, 1) := dk_133 (dk_at dksX0_check_0 7 rfl rfl)
theorem dX0_check_8 : decode cX0_check 8 = .ok (.lastore, 1) := dk_80 (dk_at dksX0_check_0 8 rfl rfl)
theorem dX0_check_9 : decode cX0_check 9 = .ok (.goto 6, 3) := dk_167 0 6 (dk_at dksX0_check_0 9 rfl rfl)
theorem dX0_check_12 : decode cX0_check 12 = .ok (.astore_n 3, 1) := dk_78 (dk_at dksX0_check_0 12 rfl rfl)
theorem dX0_check_13 : decode cX0_check 13 = .ok (.iconst 1, 1) := dk_4 (dk_at dksX0_check_0 13 rfl rfl)
theorem dX0_check_14 : decode cX0_check 14 = .ok (.ireturn, 1) := dk_172 (dk_at dksX0_check_0 14 rfl rfl)
theorem dX0_check_15 : decode cX0_check 15 = .ok (.iconst 0, 1) := dk_3 (dk_at dksX0_check_0 15 rfl rfl)
theorem dX0_check_16 : decode cX0_check 16 = .ok (.ireturn, 1) := dk_172 (dk_at dksX0_check_0 16 rfl rfl)
abbrev cX0_size : ByteArray := method_8_code
def yX0_size : MethodName := ⟨RX0, "size", "(LRowenTongue;I[J)I"⟩
def dkwX0_size_0 : List UInt8 := [44, 3, 42, 27, 182, 0, 33, 133, 80, 167, 0, 9, 78, 4, 172, 78, 5, 172, 3, 172]
abbrev dktX0_size_0 : List UInt8 := dkwX0_size_0 ++ []
theorem dksX0_size_0 : cX0_size.data.toList.drop 0 = dktX0_size_0 := by decide +kernel
theorem dX0_size_0 : decode cX0_size 0 = .ok (.aload_n 2, 1) := dk_44 (dk_at dksX0_size_0 0 rfl rfl)
theorem dX0_size_1 : decode cX0_size 1 = .ok (.iconst 0, 1) := dk_3 (dk_at dksX0_size_0 1 rfl rfl)
theorem dX0_size_2 : decode cX0_size 2 = .ok (.aload_n 0, 1) := dk_42 (dk_at dksX0_size_0 2 rfl rfl)
theorem dX0_size_3 : decode cX0_size 3 = .ok (.iload_n 1, 1) := dk_27 (dk_at dksX0_size_0 3 rfl rfl)
theorem dX0_size_4 : decode cX0_size 4 = .ok (.invokevirtual 33, 3) := dk_182 0 33 (dk_at dksX0_size_0 4 rfl rfl)
theorem dX0_size_7 : decode cX0_size 7 = .ok (.i2l, 1) := dk_133 (dk_at dksX0_size_0 7 rfl rfl)
theorem dX0_size_8 : decode cX0_size 8 = .ok (.lastore, 1) := dk_80 (dk_at dksX0_size_0 8 rfl rfl)
theorem dX0_size_9 : decode cX0_size 9 = .ok (.goto 9, 3) := dk_167 0 9 (dk_at dksX0_size_0 9 rfl rfl)
theorem dX0_size_12 : decode cX0_size 12 = .ok (.astore_n 3, 1) := dk_78 (dk_at dksX0_size_0 12 rfl rfl)
theorem dX0_size_13 : decode cX0_size 13 = .ok (.iconst 1, 1) := dk_4 (dk_at dksX0_size_0 13 rfl rfl)
theorem dX0_size_14 : decode cX0_size 14 = .ok (.ireturn, 1) := dk_172 (dk_at dksX0_size_0 14 rfl rfl)
theorem dX0_size_15 : decode cX0_size 15 = .ok (.astore_n 3, 1) := dk_78 (dk_at dksX0_size_0 15 rfl rfl)
theorem dX0_size_16 : decode cX0_size 16 = .ok (.iconst 2, 1) := dk_5 (dk_at dksX0_size_0 16 rfl rfl)
theorem dX0_size_17 : decode cX0_size 17 = .ok (.ireturn, 1) := dk_172 (dk_at dksX0_size_0 17 rfl rfl)
theorem dX0_size_18 : decode cX0_size 18 = .ok (.iconst 0, 1) := dk_3 (dk_at dksX0_size_0 18 rfl rfl)
theorem dX0_size_19 : decode cX0_size 19 = .ok (.ireturn, 1) := dk_172 (dk_at dksX0_size_0 19 rfl rfl)
abbrev cX0_sign : ByteArray := method_9_code
def yX0_sign : MethodName := ⟨RX0, "sign", "(LRowenTongue;II[J)I"⟩
def dkwX0_sign_0 : List UInt8 := [45, 3, 42, 27, 28, 182, 0, 36, 133, 80, 167, 0, 11, 58, 4, 4, 172, 58, 4, 5, 172, 3, 172]
abbrev dktX0_sign_0 : List UInt8 := dkwX0_sign_0 ++ []
theorem dksX0_sign_0 : cX0_sign.data.toList.drop 0 = dktX0_sign_0 := by decide +kernel
theorem dX0_sign_0 : decode cX0_sign 0 = .ok (.aload_n 3, 1) := dk_45 (dk_at dksX0_sign_0 0 rfl rfl)
theorem dX0_sign_1 : decode cX0_sign 1 = .ok (.iconst 0, 1) := dk_3 (dk_at dksX0_sign_0 1 rfl rfl)
theorem dX0_sign_2 : decode cX0_sign 2 = .ok (.aload_n 0, 1) := dk_42 (dk_at dksX0_sign_0 2 rfl rfl)
theorem dX0_sign_3 : decode cX0_sign 3 = .ok (.iload_n 1, 1) := dk_27 (dk_at dksX0_sign_0 3 rfl rfl)
theorem dX0_sign_4 : decode cX0_sign 4 = .ok (.iload_n 2, 1) := dk_28 (dk_at dksX0_sign_0 4 rfl rfl)
theorem dX0_sign_5 : decode cX0_sign 5 = .ok (.invokevirtual 36, 3) := dk_182 0 36 (dk_at dksX0_sign_0 5 rfl rfl)
theorem dX0_sign_8 : decode cX0_sign 8 = .ok (.i2l, 1) := dk_133 (dk_at dksX0_sign_0 8 rfl rfl)
theorem dX0_sign_9 : decode cX0_sign 9 = .ok (.lastore, 1) := dk_80 (dk_at dksX0_sign_0 9 rfl rfl)
theorem dX0_sign_10 : decode cX0_sign 10 = .ok (.goto 11, 3) := dk_167 0 11 (dk_at dksX0_sign_0 10 rfl rfl)
theorem dX0_sign_13 : decode cX0_sign 13 = .ok (.astore 4, 2) := dk_58 4 (dk_at dksX0_sign_0 13 rfl rfl)
theorem dX0_sign_15 : decode cX0_sign 15 = .ok (.iconst 1, 1) := dk_4 (dk_at dksX0_sign_0 15 rfl rfl)
theorem dX0_sign_16 : decode cX0_sign 16 = .ok (.ireturn, 1) := dk_172 (dk_at dksX0_sign_0 16 rfl rfl)
theorem dX0_sign_17 : decode cX0_sign 17 = .ok (.astore 4, 2) := dk_58 4 (dk_at dksX0_sign_0 17 rfl rfl)
theorem dX0_sign_19 : decode cX0_sign 19 = .ok (.iconst 2, 1) := dk_5 (dk_at dksX0_sign_0 19 rfl rfl)
theorem dX0_sign_20 : decode cX0_sign 20 = .ok (.ireturn, 1) := dk_172 (dk_at dksX0_sign_0 20 rfl rfl)
theorem dX0_sign_21 : decode cX0_sign 21 = .ok (.iconst 0, 1) := dk_3 (dk_at dksX0_sign_0 21 rfl rfl)
theorem dX0_sign_22 : decode cX0_sign 22 = .ok (.ireturn, 1) := dk_172 (dk_at dksX0_sign_0 22 rfl rfl)
abbrev cX0_areAlike : ByteArray := method_10_code
def yX0_areAlike : MethodName := ⟨RX0, "areAlike", "(LRowenTongue;II[J)I"⟩
def dkwX0_areAlike_1 : List UInt8 := [58, 4, 5, 172, 3, 172]
abbrev dktX0_areAlike_1 : List UInt8 := dkwX0_areAlike_1 ++ []
def dkwX0_areAlike_0 : List UInt8 := [45, 3, 42, 27, 28, 182, 0, 40, 153, 0, 7, 10, 167, 0, 4, 9, 80, 167, 0, 11, 58, 4, 4, 172]
abbrev dktX0_areAlike_0 : List UInt8 := dkwX0_areAlike_0 ++ dktX0_areAlike_1
theorem dksX0_areAlike_0 : cX0_areAlike.data.toList.drop 0 = dktX0_areAlike_0 := by decide +kernel
theorem dksX0_areAlike_1 : cX0_areAlike.data.toList.drop 24 = dktX0_areAlike_1 := dk_seg dksX0_areAlike_0 24 rfl rfl
theorem dX0_areAlike_0 : decode cX0_areAlike 0 = .ok (.aload_n 3, 1) := dk_45 (dk_at dksX0_areAlike_0 0 rfl rfl)
theorem dX0_areAlike_1 : decode cX0_areAlike 1 = .ok (.iconst 0, 1) := dk_3 (dk_at dksX0_areAlike_0 1 rfl rfl)
theorem dX0_areAlike_2 : decode cX0_areAlike 2 = .ok (.aload_n 0, 1) := dk_42 (dk_at dksX0_areAlike_0 2 rfl rfl)
theorem dX0_areAlike_3 : decode cX0_areAlike 3 = .ok (.iload_n 1, 1) := dk_27 (dk_at dksX0_areAlike_0 3 rfl rfl)
theorem dX0_areAlike_4 : decode cX0_areAlike 4 = .ok (.iload_n 2, 1) := dk_28 (dk_at dksX0_areAlike_0 4 rfl rfl)
theorem dX0_areAlike_5 : decode cX0_areAlike 5 = .ok (.invokevirtual 40, 3) := dk_182 0 40 (dk_at dksX0_areAlike_0 5 rfl rfl)
theorem dX0_areAlike_8 : decode cX0_areAlike 8 = .ok (.ifCond .eq 7, 3) := dk_153 0 7 (dk_at dksX0_areAlike_0 8 rfl rfl)
theorem dX0_areAlike_11 : decode cX0_areAlike 11 = .ok (.lconst 1, 1) := dk_10 (dk_at dksX0_areAlike_0 11 rfl rfl)
theorem dX0_areAlike_12 : decode cX0_areAlike 12 = .ok (.goto 4, 3) := dk_167 0 4 (dk_at dksX0_areAlike_0 12 rfl rfl)
theorem dX0_areAlike_15 : decode cX0_areAlike 15 = .ok (.lconst 0, 1) := dk_9 (dk_at dksX0_areAlike_0 15 rfl rfl)
theorem dX0_areAlike_16 : decode cX0_areAlike 16 = .ok (.lastore, 1) := dk_80 (dk_at dksX0_areAlike_0 16 rfl rfl)
theorem dX0_areAlike_17 : decode cX0_areAlike 17 = .ok (.goto 11, 3) := dk_167 0 11 (dk_at dksX0_areAlike_0 17 rfl rfl)
theorem dX0_areAlike_20 : decode cX0_areAlike 20 = .ok (.astore 4, 2) := dk_58 4 (dk_at dksX0_areAlike_0 20 rfl rfl)
theorem dX0_areAlike_22 : decode cX0_areAlike 22 = .ok (.iconst 1, 1) := dk_4 (dk_at dksX0_areAlike_0 22 rfl rfl)
theorem dX0_areAlike_23 : decode cX0_areAlike 23 = .ok (.ireturn, 1) := dk_172 (dk_at dksX0_areAlike_0 23 rfl rfl)
theorem dX0_areAlike_24 : decode cX0_areAlike 24 = .ok (.astore 4, 2) := dk_58 4 (dk_at dksX0_areAlike_1 0 rfl rfl)
theorem dX0_areAlike_26 : decode cX0_areAlike 26 = .ok (.iconst 2, 1) := dk_5 (dk_at dksX0_areAlike_1 2 rfl rfl)
theorem dX0_areAlike_27 : decode cX0_areAlike 27 = .ok (.ireturn, 1) := dk_172 (dk_at dksX0_areAlike_1 3 rfl rfl)
theorem dX0_areAlike_28 : decode cX0_areAlike 28 = .ok (.iconst 0, 1) := dk_3 (dk_at dksX0_areAlike_1 4 rfl rfl)
theorem dX0_areAlike_29 : decode cX0_areAlike 29 = .ok (.ireturn, 1) := dk_172 (dk_at dksX0_areAlike_1 5 rfl rfl)
abbrev cX0_run : ByteArray := method_11_code
def yX0_run : MethodName := ⟨RX0, "run", "(LRowenTongue;I[J)I"⟩
def dkwX0_run_0 : List UInt8 := [44, 3, 42, 27, 182, 0, 44, 133, 80, 167, 0, 9, 78, 4, 172, 78, 5, 172, 3, 172]
abbrev dktX0_run_0 : List UInt8 := dkwX0_run_0 ++ []
theorem dksX0_run_0 : cX0_run.data.toList.drop 0 = dktX0_run_0 := by decide +kernel
theorem dX0_run_0 : decode cX0_run 0 = .ok (.aload_n 2, 1) := dk_44 (dk_at dksX0_run_0 0 rfl rfl)
theorem dX0_run_1 : decode cX0_run 1 = .ok (.iconst 0, 1) := dk_3 (dk_at dksX0_run_0 1 rfl rfl)
theorem dX0_run_2 : decode cX0_run 2 = .ok (.aload_n 0, 1) := dk_42 (dk_at dksX0_run_0 2 rfl rfl)
theorem dX0_run_3 : decode cX0_run 3 = .ok (.iload_n 1, 1) := dk_27 (dk_at dksX0_run_0 3 rfl rfl)
theorem dX0_run_4 : decode cX0_run 4 = .ok (.invokevirtual 44, 3) := dk_182 0 44 (dk_at dksX0_run_0 4 rfl rfl)
theorem dX0_run_7 : decode cX0_run 7 = .ok (.i2l, 1) := dk_133 (dk_at dksX0_run_0 7 rfl rfl)
theorem dX0_run_8 : decode cX0_run 8 = .ok (.lastore, 1) := dk_80 (dk_at dksX0_run_0 8 rfl rfl)
theorem dX0_run_9 : decode cX0_run 9 = .ok (.goto 9, 3) := dk_167 0 9 (dk_at dksX0_run_0 9 rfl rfl)
theorem dX0_run_12 : decode cX0_run 12 = .ok (.astore_n 3, 1) := dk_78 (dk_at dksX0_run_0 12 rfl rfl)
theorem dX0_run_13 : decode cX0_run 13 = .ok (.iconst 1, 1) := dk_4 (dk_at dksX0_run_0 13 rfl rfl)
theorem dX0_run_14 : decode cX0_run 14 = .ok (.ireturn, 1) := dk_172 (dk_at dksX0_run_0 14 rfl rfl)
theorem dX0_run_15 : decode cX0_run 15 = .ok (.astore_n 3, 1) := dk_78 (dk_at dksX0_run_0 15 rfl rfl)
theorem dX0_run_16 : decode cX0_run 16 = .ok (.iconst 2, 1) := dk_5 (dk_at dksX0_run_0 16 rfl rfl)
theorem dX0_run_17 : decode cX0_run 17 = .ok (.ireturn, 1) := dk_172 (dk_at dksX0_run_0 17 rfl rfl)
theorem dX0_run_18 : decode cX0_run 18 = .ok (.iconst 0, 1) := dk_3 (dk_at dksX0_run_0 18 rfl rfl)
theorem dX0_run_19 : decode cX0_run 19 = .ok (.ireturn, 1) := dk_172 (dk_at dksX0_run_0 19 rfl rfl)
abbrev cX0_result : ByteArray := method_12_code
def yX0_result : MethodName := ⟨RX0, "result", "(LRowenTongue;I[J)I"⟩
def dkwX0_result_0 : List UInt8 := [44, 3, 42, 27, 182, 0, 47, 133, 80, 167, 0, 6, 78, 4, 172, 3, 172]
abbrev dktX0_result_0 : List UInt8 := dkwX0_result_0 ++ []
theorem dksX0_result_0 : cX0_result.data.toList.drop 0 = dktX0_result_0 := by decide +kernel
theorem dX0_result_0 : decode cX0_result 0 = .ok (.aload_n 2, 1) := dk_44 (dk_at dksX0_result_0 0 rfl rfl)
theorem dX0_result_1 : decode cX0_result 1 = .ok (.iconst 0, 1) := dk_3 (dk_at dksX0_result_0 1 rfl rfl)
theorem dX0_result_2 : decode cX0_result 2 = .ok (.aload_n 0, 1) := dk_42 (dk_at dksX0_result_0 2 rfl rfl)
theorem dX0_result_3 : decode cX0_result 3 = .ok (.iload_n 1, 1) := dk_27 (dk_at dksX0_result_0 3 rfl rfl)
theorem dX0_result_4 : decode cX0_result 4 = .ok (.invokevirtual 47, 3) := dk_182 0 47 (dk_at dksX0_result_0 4 rfl rfl)
theorem dX0_result_7 : decode cX0_result 7 = .ok (.i2l, 1) := dk_133 (dk_at dksX0_result_0 7 rfl rfl)
theorem dX0_result_8 : decode cX0_result 8 = .ok (.lastore, 1) := dk_80 (dk_at dksX0_result_0 8 rfl rfl)
theorem dX0_result_9 : decode cX0_result 9 = .ok (.goto 6, 3) := dk_167 0 6 (dk_at dksX0_result_0 9 rfl rfl)
theorem dX0_result_12 : decode cX0_result 12 = .ok (.astore_n 3, 1) := dk_78 (dk_at dksX0_result_0 12 rfl rfl)
theorem dX0_result_13 : decode cX0_result 13 = .ok (.iconst 1, 1) := dk_4 (dk_at dksX0_result_0 13 rfl rfl)
theorem dX0_result_14 : decode cX0_result 14 = .ok (.ireturn, 1) := dk_172 (dk_at dksX0_result_0 14 rfl rfl)
theorem dX0_result_15 : decode cX0_result 15 = .ok (.iconst 0, 1) := dk_3 (dk_at dksX0_result_0 15 rfl rfl)
theorem dX0_result_16 : decode cX0_result 16 = .ok (.ireturn, 1) := dk_172 (dk_at dksX0_result_0 16 rfl rfl)
abbrev cX0_agrees : ByteArray := method_13_code
def yX0_agrees : MethodName := ⟨RX0, "agrees", "(LRowenTongue;I[J)I"⟩
def dkwX0_agrees_1 : List UInt8 := [172, 3, 172]
abbrev dktX0_agrees_1 : List UInt8 := dkwX0_agrees_1 ++ []
def dkwX0_agrees_0 : List UInt8 := [44, 3, 42, 27, 182, 0, 51, 153, 0, 7, 10, 167, 0, 4, 9, 80, 167, 0, 9, 78, 4, 172, 78, 5]
abbrev dktX0_agrees_0 : List UInt8 := dkwX0_agrees_0 ++ dktX0_agrees_1
theorem dksX0_agrees_0 : cX0_agrees.data.toList.drop 0 = dktX0_agrees_0 := by decide +kernel
theorem dksX0_agrees_1 : cX0_agrees.data.toList.drop 24 = dktX0_agrees_1 := dk_seg dksX0_agrees_0 24 rfl rfl
theorem dX0_agrees_0 : decode cX0_agrees 0 = .ok (.aload_n 2, 1) := dk_44 (dk_at dksX0_agrees_0 0 rfl rfl)
theorem dX0_agrees_1 : decode cX0_agrees 1 = .ok (.iconst 0, 1) := dk_3 (dk_at dksX0_agrees_0 1 rfl rfl)
theorem dX0_agrees_2 : decode cX0_agrees 2 = .ok (.aload_n 0, 1) := dk_42 (dk_at dksX0_agrees_0 2 rfl rfl)
theorem dX0_agrees_3 : decode cX0_agrees 3 = .ok (.iload_n 1, 1) := dk_27 (dk_at dksX0_agrees_0 3 rfl rfl)
theorem dX0_agrees_4 : decode cX0_agrees 4 = .ok (.invokevirtual 51, 3) := dk_182 0 51 (dk_at dksX0_agrees_0 4 rfl rfl)
theorem dX0_agrees_7 : decode cX0_agrees 7 = .ok (.ifCond .eq 7, 3) := dk_153 0 7 (dk_at dksX0_agrees_0 7 rfl rfl)
theorem dX0_agrees_10 : decode cX0_agrees 10 = .ok (.lconst 1, 1) := dk_10 (dk_at dksX0_agrees_0 10 rfl rfl)
theorem dX0_agrees_11 : decode cX0_agrees 11 = .ok (.goto 4, 3) := dk_167 0 4 (dk_at dksX0_agrees_0 11 rfl rfl)
theorem dX0_agrees_14 : decode cX0_agrees 14 = .ok (.lconst 0, 1) := dk_9 (dk_at dksX0_agrees_0 14 rfl rfl)
theorem dX0_agrees_15 : decode cX0_agrees 15 = .ok (.lastore, 1) := dk_80 (dk_at dksX0_agrees_0 15 rfl rfl)
theorem dX0_agrees_16 : decode cX0_agrees 16 = .ok (.goto 9, 3) := dk_167 0 9 (dk_at dksX0_agrees_0 16 rfl rfl)
theorem dX0_agrees_19 : decode cX0_agrees 19 = .ok (.astore_n 3, 1) := dk_78 (dk_at dksX0_agrees_0 19 rfl rfl)
theorem dX0_agrees_20 : decode cX0_agrees 20 = .ok (.iconst 1, 1) := dk_4 (dk_at dksX0_agrees_0 20 rfl rfl)
theorem dX0_agrees_21 : decode cX0_agrees 21 = .ok (.ireturn, 1) := dk_172 (dk_at dksX0_agrees_0 21 rfl rfl)
theorem dX0_agrees_22 : decode cX0_agrees 22 = .ok (.astore_n 3, 1) := dk_78 (dk_at dksX0_agrees_0 22 rfl rfl)
theorem dX0_agrees_23 : decode cX0_agrees 23 = .ok (.iconst 2, 1) := dk_5 (dk_at dksX0_agrees_0 23 rfl rfl)
theorem dX0_agrees_24 : decode cX0_agrees 24 = .ok (.ireturn, 1) := dk_172 (dk_at dksX0_agrees_1 0 rfl rfl)
theorem dX0_agrees_25 : decode cX0_agrees 25 = .ok (.iconst 0, 1) := dk_3 (dk_at dksX0_agrees_1 1 rfl rfl)
theorem dX0_agrees_26 : decode cX0_agrees 26 = .ok (.ireturn, 1) := dk_172 (dk_at dksX0_agrees_1 2 rfl rfl)
abbrev cX0_places : ByteArray := method_14_code
def yX0_places : MethodName := ⟨RX0, "places", "(LRowenTongue;II[J)I"⟩
def dkwX0_places_1 : List UInt8 := [172, 3, 172]
abbrev dktX0_places_1 : List UInt8 := dkwX0_places_1 ++ []
def dkwX0_places_0 : List UInt8 := [45, 3, 42, 27, 28, 182, 0, 55, 133, 80, 167, 0, 15, 58, 4, 4, 172, 58, 4, 5, 172, 58, 4, 6]
abbrev dktX0_places_0 : List UInt8 := dkwX0_places_0 ++ dktX0_places_1
theorem dksX0_places_0 : cX0_places.data.toList.drop 0 = dktX0_places_0 := by decide +kernel
theorem dksX0_places_1 : cX0_places.data.toList.drop 24 = dktX0_places_1 := dk_seg dksX0_places_0 24 rfl rfl
theorem dX0_places_0 : decode cX0_places 0 = .ok (.aload_n 3, 1) := dk_45 (dk_at dksX0_places_0 0 rfl rfl)
theorem dX0_places_1 : decode cX0_places 1 = .ok (.iconst 0, 1) := dk_3 (dk_at dksX0_places_0 1 rfl rfl)
theorem dX0_places_2 : decode cX0_places 2 = .ok (.aload_n 0, 1) := dk_42 (dk_at dksX0_places_0 2 rfl rfl)
theorem dX0_places_3 : decode cX0_places 3 = .ok (.iload_n 1, 1) := dk_27 (dk_at dksX0_places_0 3 rfl rfl)
theorem dX0_places_4 : decode cX0_places 4 = .ok (.iload_n 2, 1) := dk_28 (dk_at dksX0_places_0 4 rfl rfl)
theorem dX0_places_5 : decode cX0_places 5 = .ok (.invokevirtual 55, 3) := dk_182 0 55 (dk_at dksX0_places_0 5 rfl rfl)
theorem dX0_places_8 : decode cX0_places 8 = .ok (.i2l, 1) := dk_133 (dk_at dksX0_places_0 8 rfl rfl)
theorem dX0_places_9 : decode cX0_places 9 = .ok (.lastore, 1) := dk_80 (dk_at dksX0_places_0 9 rfl rfl)
theorem dX0_places_10 : decode cX0_places 10 = .ok (.goto 15, 3) := dk_167 0 15 (dk_at dksX0_places_0 10 rfl rfl)
theorem dX0_places_13 : decode cX0_places 13 = .ok (.astore 4, 2) := dk_58 4 (dk_at dksX0_places_0 13 rfl rfl)
theorem dX0_places_15 : decode cX0_places 15 = .ok (.iconst 1, 1) := dk_4 (dk_at dksX0_places_0 15 rfl rfl)
theorem dX0_places_16 : decode cX0_places 16 = .ok (.ireturn, 1) := dk_172 (dk_at dksX0_places_0 16 rfl rfl)
theorem dX0_places_17 : decode cX0_places 17 = .ok (.astore 4, 2) := dk_58 4 (dk_at dksX0_places_0 17 rfl rfl)
theorem dX0_places_19 : decode cX0_places 19 = .ok (.iconst 2, 1) := dk_5 (dk_at dksX0_places_0 19 rfl rfl)
theorem dX0_places_20 : decode cX0_places 20 = .ok (.ireturn, 1) := dk_172 (dk_at dksX0_places_0 20 rfl rfl)
theorem dX0_places_21 : decode cX0_places 21 = .ok (.astore 4, 2) := dk_58 4 (dk_at dksX0_places_0 21 rfl rfl)
theorem dX0_places_23 : decode cX0_places 23 = .ok (.iconst 3, 1) := dk_6 (dk_at dksX0_places_0 23 rfl rfl)
theorem dX0_places_24 : decode cX0_places 24 = .ok (.ireturn, 1) := dk_172 (dk_at dksX0_places_1 0 rfl rfl)
theorem dX0_places_25 : decode cX0_places 25 = .ok (.iconst 0, 1) := dk_3 (dk_at dksX0_places_1 1 rfl rfl)
theorem dX0_places_26 : decode cX0_places 26 = .ok (.ireturn, 1) := dk_172 (dk_at dksX0_places_1 2 rfl rfl)
theorem q49 : (Jvm.Cond.initialized "RowenTongueLaw") ∈ lw_all := lw_g (lw_at lw_m1 0 rfl) rfl
theorem q121 : (Jvm.Cond.classLink "RowenTongueLaw" (8 : Nat) "RowenTongue") ∈ lw_all := lw_g (lw_at lw_m1 72 rfl) rfl
theorem q123 : (Jvm.Cond.methodLink "RowenTongueLaw" (58 : Nat) ({ cls := "RowenTongue", name := "<init>", desc := "()V" } : Jvm.MethodName)) ∈ lw_all := lw_g (lw_at lw_m1 74 rfl) rfl
theorem q173 : (Jvm.Cond.methodLink "RowenTongueLaw" (82 : Nat) ({ cls := "RowenTongue", name := "terms", desc := "()I" } : Jvm.MethodName)) ∈ lw_all := lw_g (lw_at lw_m1 124 rfl) rfl
theorem q181 : (Jvm.Cond.methodLink "RowenTongueLaw" (90 : Nat) ({ cls := "RowenTongue", name := "errorAt", desc := "()I" } : Jvm.MethodName)) ∈ lw_all := lw_g (lw_at lw_m1 132 rfl) rfl
theorem q185 : (Jvm.Cond.methodLink "RowenTongueLaw" (106 : Nat) ({ cls := "RowenTongue", name := "steps", desc := "()I" } : Jvm.MethodName)) ∈ lw_all := lw_g (lw_at lw_m1 136 rfl) rfl
theorem q189 : (Jvm.Cond.methodLink "RowenTongueLaw" (62 : Nat) ({ cls := "RowenTongueLaw", name := "leaf", desc := "(LRowenTongue;II[J)I" } : Jvm.MethodName)) ∈ lw_all := lw_g (lw_at lw_m1 140 rfl) rfl
theorem q190 : (Jvm.Cond.static ({ cls := "RowenTongueLaw", name := "leaf", desc := "(LRowenTongue;II[J)I" } : Jvm.MethodName)) ∈ lw_all := lw_g (lw_at lw_m1 141 rfl) rfl
theorem q191 : (Jvm.Cond.codeWith ({ cls := "RowenTongueLaw", name := "leaf", desc := "(LRowenTongue;II[J)I" } : Jvm.MethodName) method_3_code (5 : Nat) (Option.some Jvm.ClassFile.FieldType.int) [((0 : Nat), (10 : Nat), (13 : Nat), (13 : Nat)), ((0 : Nat), (10 : Nat), (17 : Nat), (15 : Nat))]) ∈ lw_all := lw_g (lw_at lw_m1 142 rfl) rfl
theorem q192 : (Jvm.Cond.classLink "RowenTongueLaw" (13 : Nat) "java/lang/IllegalArgumentException") ∈ lw_all := lw_g (lw_at lw_m1 143 rfl) rfl
theorem q193 : (Jvm.Cond.classLink "RowenTongueLaw" (15 : Nat) "java/lang/IllegalStateException") ∈ lw_all := lw_g (lw_at lw_m1 144 rfl) rfl
theorem q194 : (Jvm.Cond.methodLink "RowenTongueLaw" (7 : Nat) ({ cls := "RowenTongue", name := "leaf", desc := "(II)I" } : Jvm.MethodName)) ∈ lw_all := lw_g (lw_at lw_m1 145 rfl) rfl
theorem q434 : (Jvm.Cond.methodLink "RowenTongueLaw" (72 : Nat) ({ cls := "RowenTongueLaw", name := "named", desc := "(LRowenTongue;IIII[J)I" } : Jvm.MethodName)) ∈ lw_all := lw_g (lw_at lw_m2 145 rfl) rfl
theorem q435 : (Jvm.Cond.static ({ cls := "RowenTongueLaw", name := "named", desc := "(LRowenTongue;IIII[J)I" } : Jvm.MethodName)) ∈ lw_all := lw_g (lw_at lw_m2 146 rfl) rfl
theorem q436 : (Jvm.Cond.codeWith ({ cls := "RowenTongueLaw", name := "named", desc := "(LRowenTongue;IIII[J)I" } : Jvm.MethodName) method_4_code (7 : Nat) (Option.some Jvm.ClassFile.FieldType.int) [((0 : Nat), (14 : Nat), (17 : Nat), (13 : Nat)), ((0 : Nat), (14 : Nat), (21 : Nat), (21 : Nat)), ((0 : Nat), (14 : Nat), (25 : Nat), (15 : Nat))]) ∈ lw_all := lw_g (lw_at lw_m2 147 rfl) rfl
theorem q437 : (Jvm.Cond.classLink "RowenTongueLaw" (21 : Nat) "java/lang/IndexOutOfBoundsException") ∈ lw_all := lw_g (lw_at lw_m2 148 rfl) rfl
theorem q469 : (Jvm.Cond.methodLink "RowenTongueLaw" (17 : Nat) ({ cls := "RowenTongue", name := "named", desc := "(IIII)I" } : Jvm.MethodName)) ∈ lw_all := lw_g (lw_at lw_m2 180 rfl) rfl
theorem q517 : (Jvm.Cond.methodLink "RowenTongueLaw" (76 : Nat) ({ cls := "RowenTongueLaw", name := "made", desc := "(LRowenTongue;IIII[J)I" } : Jvm.MethodName)) ∈ lw_all := lw_g (lw_at lw_m2 228 rfl) rfl
theorem q518 : (Jvm.Cond.static ({ cls := "RowenTongueLaw", name := "made", desc := "(LRowenTongue;IIII[J)I" } : Jvm.MethodName)) ∈ lw_all := lw_g (lw_at lw_m2 229 rfl) rfl
theorem q519 : (Jvm.Cond.codeWith ({ cls := "RowenTongueLaw", name := "made", desc := "(LRowenTongue;IIII[J)I" } : Jvm.MethodName) method_5_code (7 : Nat) (Option.some Jvm.ClassFile.FieldType.int) [((0 : Nat), (14 : Nat), (17 : Nat), (13 : Nat)), ((0 : Nat), (14 : Nat), (21 : Nat), (21 : Nat)), ((0 : Nat), (14 : Nat), (25 : Nat), (15 : Nat))]) ∈ lw_all := lw_g (lw_at lw_m2 230 rfl) rfl
theorem q520 : (Jvm.Cond.methodLink "RowenTongueLaw" (23 : Nat) ({ cls := "RowenTongue", name := "made", desc := "(IIII)I" } : Jvm.MethodName)) ∈ lw_all := lw_g (lw_at lw_m2 231 rfl) rfl
theorem q524 : (Jvm.Cond.methodLink "RowenTongueLaw" (79 : Nat) ({ cls := "RowenTongueLaw", name := "match", desc := "(LRowenTongue;IIII[J)I" } : Jvm.MethodName)) ∈ lw_all := lw_g (lw_at lw_m2 235 rfl) rfl
theorem q525 : (Jvm.Cond.static ({ cls := "RowenTongueLaw", name := "match", desc := "(LRowenTongue;IIII[J)I" } : Jvm.MethodName)) ∈ lw_all := lw_g (lw_at lw_m2 236 rfl) rfl
theorem q526 : (Jvm.Cond.codeWith ({ cls := "RowenTongueLaw", name := "match", desc := "(LRowenTongue;IIII[J)I" } : Jvm.MethodName) method_6_code (7 : Nat) (Option.some Jvm.ClassFile.FieldType.int) [((0 : Nat), (14 : Nat), (17 : Nat), (13 : Nat)), ((0 : Nat), (14 : Nat), (21 : Nat), (21 : Nat)), ((0 : Nat), (14 : Nat), (25 : Nat), (15 : Nat))]) ∈ lw_all := lw_g (lw_at lw_m2 237 rfl) rfl
theorem q527 : (Jvm.Cond.methodLink "RowenTongueLaw" (26 : Nat) ({ cls := "RowenTongue", name := "match", desc := "(IIII)I" } : Jvm.MethodName)) ∈ lw_all := lw_g (lw_at lw_m2 238 rfl) rfl
theorem q531 : (Jvm.Cond.methodLink "RowenTongueLaw" (86 : Nat) ({ cls := "RowenTongueLaw", name := "check", desc := "(LRowenTongue;I[J)I" } : Jvm.MethodName)) ∈ lw_all := lw_g (lw_at lw_m3 2 rfl) rfl
theorem q532 : (Jvm.Cond.static ({ cls := "RowenTongueLaw", name := "check", desc := "(LRowenTongue;I[J)I" } : Jvm.MethodName)) ∈ lw_all := lw_g (lw_at lw_m3 3 rfl) rfl
theorem q533 : (Jvm.Cond.codeWith ({ cls := "RowenTongueLaw", name := "check", desc := "(LRowenTongue;I[J)I" } : Jvm.MethodName) method_7_code (4 : Nat) (Option.some Jvm.ClassFile.FieldType.int) [((0 : Nat), (9 : Nat), (12 : Nat), (21 : Nat))]) ∈ lw_all := lw_g (lw_at lw_m3 4 rfl) rfl
theorem q534 : (Jvm.Cond.methodLink "RowenTongueLaw" (29 : Nat) ({ cls := "RowenTongue", name := "check", desc := "(I)I" } : Jvm.MethodName)) ∈ lw_all := lw_g (lw_at lw_m3 5 rfl) rfl
theorem q1584 : (Jvm.Cond.methodLink "RowenTongueLaw" (94 : Nat) ({ cls := "RowenTongueLaw", name := "size", desc := "(LRowenTongue;I[J)I" } : Jvm.MethodName)) ∈ lw_all := lw_g (lw_at lw_m7 95 rfl) rfl
theorem q1585 : (Jvm.Cond.static ({ cls := "RowenTongueLaw", name := "size", desc := "(LRowenTongue;I[J)I" } : Jvm.MethodName)) ∈ lw_all := lw_g (lw_at lw_m7 96 rfl) rfl
theorem q1586 : (Jvm.Cond.codeWith ({ cls := "RowenTongueLaw", name := "size", desc := "(LRowenTongue;I[J)I" } : Jvm.MethodName) method_8_code (4 : Nat) (Option.some Jvm.ClassFile.FieldType.int) [((0 : Nat), (9 : Nat), (12 : Nat), (21 : Nat)), ((0 : Nat), (9 : Nat), (15 : Nat), (15 : Nat))]) ∈ lw_all := lw_g (lw_at lw_m7 97 rfl) rfl
theorem q1587 : (Jvm.Cond.methodLink "RowenTongueLaw" (33 : Nat) ({ cls := "RowenTongue", name := "size", desc := "(I)I" } : Jvm.MethodName)) ∈ lw_all := lw_g (lw_at lw_m7 98 rfl) rfl
theorem q1749 : (Jvm.Cond.methodLink "RowenTongueLaw" (97 : Nat) ({ cls := "RowenTongueLaw", name := "sign", desc := "(LRowenTongue;II[J)I" } : Jvm.MethodName)) ∈ lw_all := lw_g (lw_at lw_m8 20 rfl) rfl
theorem q1750 : (Jvm.Cond.static ({ cls := "RowenTongueLaw", name := "sign", desc := "(LRowenTongue;II[J)I" } : Jvm.MethodName)) ∈ lw_all := lw_g (lw_at lw_m8 21 rfl) rfl
theorem q1751 : (Jvm.Cond.codeWith ({ cls := "RowenTongueLaw", name := "sign", desc := "(LRowenTongue;II[J)I" } : Jvm.MethodName) method_9_code (5 : Nat) (Option.some Jvm.ClassFile.FieldType.int) [((0 : Nat), (10 : Nat), (13 : Nat), (21 : Nat)), ((0 : Nat), (10 : Nat), (17 : Nat), (15 : Nat))]) ∈ lw_all := lw_g (lw_at lw_m8 22 rfl) rfl
theorem q1752 : (Jvm.Cond.methodLink "RowenTongueLaw" (36 : Nat) ({ cls := "RowenTongue", name := "sign", desc := "(II)C" } : Jvm.MethodName)) ∈ lw_all := lw_g (lw_at lw_m8 23 rfl) rfl
theorem q1771 : (Jvm.Cond.methodLink "RowenTongueLaw" (100 : Nat) ({ cls := "RowenTongueLaw", name := "areAlike", desc := "(LRowenTongue;II[J)I" } : Jvm.MethodName)) ∈ lw_all := lw_g (lw_at lw_m8 42 rfl) rfl
theorem q1772 : (Jvm.Cond.static ({ cls := "RowenTongueLaw", name := "areAlike", desc := "(LRowenTongue;II[J)I" } : Jvm.MethodName)) ∈ lw_all := lw_g (lw_at lw_m8 43 rfl) rfl
theorem q1773 : (Jvm.Cond.codeWith ({ cls := "RowenTongueLaw", name := "areAlike", desc := "(LRowenTongue;II[J)I" } : Jvm.MethodName) method_10_code (5 : Nat) (Option.some Jvm.ClassFile.FieldType.int) [((0 : Nat), (17 : Nat), (20 : Nat), (21 : Nat)), ((0 : Nat), (17 : Nat), (24 : Nat), (15 : Nat))]) ∈ lw_all := lw_g (lw_at lw_m8 44 rfl) rfl
theorem q1774 : (Jvm.Cond.methodLink "RowenTongueLaw" (40 : Nat) ({ cls := "RowenTongue", name := "areAlike", desc := "(II)Z" } : Jvm.MethodName)) ∈ lw_all := lw_g (lw_at lw_m8 45 rfl) rfl
theorem q1779 : (Jvm.Cond.methodLink "RowenTongueLaw" (103 : Nat) ({ cls := "RowenTongueLaw", name := "run", desc := "(LRowenTongue;I[J)I" } : Jvm.MethodName)) ∈ lw_all := lw_g (lw_at lw_m8 50 rfl) rfl
theorem q1780 : (Jvm.Cond.static ({ cls := "RowenTongueLaw", name := "run", desc := "(LRowenTongue;I[J)I" } : Jvm.MethodName)) ∈ lw_all := lw_g (lw_at lw_m8 51 rfl) rfl
theorem q1781 : (Jvm.Cond.codeWith ({ cls := "RowenTongueLaw", name := "run", desc := "(LRowenTongue;I[J)I" } : Jvm.MethodName) method_11_code (4 : Nat) (Option.some Jvm.ClassFile.FieldType.int) [((0 : Nat), (9 : Nat), (12 : Nat), (21 : Nat)), ((0 : Nat), (9 : Nat), (15 : Nat), (15 : Nat))]) ∈ lw_all := lw_g (lw_at lw_m8 52 rfl) rfl
theorem q1782 : (Jvm.Cond.methodLink "RowenTongueLaw" (44 : Nat) ({ cls := "RowenTongue", name := "run", desc := "(I)I" } : Jvm.MethodName)) ∈ lw_all := lw_g (lw_at lw_m8 53 rfl) rfl
theorem q1985 : (Jvm.Cond.methodLink "RowenTongueLaw" (110 : Nat) ({ cls := "RowenTongueLaw", name := "result", desc := "(LRowenTongue;I[J)I" } : Jvm.MethodName)) ∈ lw_all := lw_g (lw_at lw_m9 16 rfl) rfl
theorem q1986 : (Jvm.Cond.static ({ cls := "RowenTongueLaw", name := "result", desc := "(LRowenTongue;I[J)I" } : Jvm.MethodName)) ∈ lw_all := lw_g (lw_at lw_m9 17 rfl) rfl
theorem q1987 : (Jvm.Cond.codeWith ({ cls := "RowenTongueLaw", name := "result", desc := "(LRowenTongue;I[J)I" } : Jvm.MethodName) method_12_code (4 : Nat) (Option.some Jvm.ClassFile.FieldType.int) [((0 : Nat), (9 : Nat), (12 : Nat), (21 : Nat))]) ∈ lw_all := lw_g (lw_at lw_m9 18 rfl) rfl
theorem q1988 : (Jvm.Cond.methodLink "RowenTongueLaw" (47 : Nat) ({ cls := "RowenTongue", name := "result", desc := "(I)C" } : Jvm.MethodName)) ∈ lw_all := lw_g (lw_at lw_m9 19 rfl) rfl
theorem q1992 : (Jvm.Cond.methodLink "RowenTongueLaw" (113 : Nat) ({ cls := "RowenTongueLaw", name := "agrees", desc := "(LRowenTongue;I[J)I" } : Jvm.MethodName)) ∈ lw_all := lw_g (lw_at lw_m9 23 rfl) rfl
theorem q1993 : (Jvm.Cond.static ({ cls := "RowenTongueLaw", name := "agrees", desc := "(LRowenTongue;I[J)I" } : Jvm.MethodName)) ∈ lw_all := lw_g (lw_at lw_m9 24 rfl) rfl
theorem q1994 : (Jvm.Cond.codeWith ({ cls := "RowenTongueLaw", name := "agrees", desc := "(LRowenTongue;I[J)I" } : Jvm.MethodName) method_13_code (4 : Nat) (Option.some Jvm.ClassFile.FieldType.int) [((0 : Nat), (16 : Nat), (19 : Nat), (21 : Nat)), ((0 : Nat), (16 : Nat), (22 : Nat), (15 : Nat))]) ∈ lw_all := lw_g (lw_at lw_m9 25 rfl) rfl
theorem q1995 : (Jvm.Cond.methodLink "RowenTongueLaw" (51 : Nat) ({ cls := "RowenTongue", name := "agrees", desc := "(I)Z" } : Jvm.MethodName)) ∈ lw_all := lw_g (lw_at lw_m9 26 rfl) rfl
theorem q2361 : (Jvm.Cond.methodLink "RowenTongueLaw" (116 : Nat) ({ cls := "RowenTongueLaw", name := "places", desc := "(LRowenTongue;II[J)I" } : Jvm.MethodName)) ∈ lw_all := lw_g (lw_at lw_m10 152 rfl) rfl
theorem q2362 : (Jvm.Cond.static ({ cls := "RowenTongueLaw", name := "places", desc := "(LRowenTongue;II[J)I" } : Jvm.MethodName)) ∈ lw_all := lw_g (lw_at lw_m10 153 rfl) rfl
theorem q2363 : (Jvm.Cond.codeWith ({ cls := "RowenTongueLaw", name := "places", desc := "(LRowenTongue;II[J)I" } : Jvm.MethodName) method_14_code (5 : Nat) (Option.some Jvm.ClassFile.FieldType.int) [((0 : Nat), (10 : Nat), (13 : Nat), (21 : Nat)), ((0 : Nat), (10 : Nat), (17 : Nat), (13 : Nat)), ((0 : Nat), (10 : Nat), (21 : Nat), (15 : Nat))]) ∈ lw_all := lw_g (lw_at lw_m10 154 rfl) rfl
theorem q2364 : (Jvm.Cond.methodLink "RowenTongueLaw" (55 : Nat) ({ cls := "RowenTongue", name := "places", desc := "(II)I" } : Jvm.MethodName)) ∈ lw_all := lw_g (lw_at lw_m10 155 rfl) rfl
theorem q2371 : (Jvm.Cond.classLink "RowenTongueLaw" (59 : Nat) "RowenTongueModel") ∈ lw_all := lw_g (lw_at lw_m10 162 rfl) rfl
theorem q2373 : (Jvm.Cond.methodLink "RowenTongueLaw" (61 : Nat) ({ cls := "RowenTongueModel", name := "<init>", desc := "()V" } : Jvm.MethodName)) ∈ lw_all := lw_g (lw_at lw_m10 164 rfl) rfl
theorem q2430 : (Jvm.Cond.methodLink "RowenTongueLaw" (68 : Nat) ({ cls := "RowenTongueModel", name := "thrown", desc := "()I" } : Jvm.MethodName)) ∈ lw_all := lw_g (lw_at lw_m10 221 rfl) rfl
theorem q2434 : (Jvm.Cond.methodLink "RowenTongueLaw" (67 : Nat) ({ cls := "RowenTongueModel", name := "leaf", desc := "(II)I" } : Jvm.MethodName)) ∈ lw_all := lw_g (lw_at lw_m10 225 rfl) rfl
theorem q2453 : (Jvm.Cond.methodLink "RowenTongueLaw" (75 : Nat) ({ cls := "RowenTongueModel", name := "named", desc := "(IIII)I" } : Jvm.MethodName)) ∈ lw_all := lw_g (lw_at lw_m11 4 rfl) rfl
theorem q2468 : (Jvm.Cond.methodLink "RowenTongueLaw" (78 : Nat) ({ cls := "RowenTongueModel", name := "made", desc := "(IIII)I" } : Jvm.MethodName)) ∈ lw_all := lw_g (lw_at lw_m11 19 rfl) rfl
theorem q2476 : (Jvm.Cond.methodLink "RowenTongueLaw" (81 : Nat) ({ cls := "RowenTongueModel", name := "match", desc := "(IIII)I" } : Jvm.MethodName)) ∈ lw_all := lw_g (lw_at lw_m11 27 rfl) rfl
theorem q2480 : (Jvm.Cond.methodLink "RowenTongueLaw" (85 : Nat) ({ cls := "RowenTongueModel", name := "terms", desc := "()I" } : Jvm.MethodName)) ∈ lw_all := lw_g (lw_at lw_m11 31 rfl) rfl
theorem q2484 : (Jvm.Cond.methodLink "RowenTongueLaw" (89 : Nat) ({ cls := "RowenTongueModel", name := "check", desc := "(I)I" } : Jvm.MethodName)) ∈ lw_all := lw_g (lw_at lw_m11 35 rfl) rfl
theorem q2722 : (Jvm.Cond.methodLink "RowenTongueLaw" (93 : Nat) ({ cls := "RowenTongueModel", name := "errorAt", desc := "()I" } : Jvm.MethodName)) ∈ lw_all := lw_g (lw_at lw_m12 33 rfl) rfl
theorem q2726 : (Jvm.Cond.methodLink "RowenTongueLaw" (96 : Nat) ({ cls := "RowenTongueModel", name := "size", desc := "(I)I" } : Jvm.MethodName)) ∈ lw_all := lw_g (lw_at lw_m12 37 rfl) rfl
theorem q2755 : (Jvm.Cond.methodLink "RowenTongueLaw" (99 : Nat) ({ cls := "RowenTongueModel", name := "sign", desc := "(II)C" } : Jvm.MethodName)) ∈ lw_all := lw_g (lw_at lw_m12 66 rfl) rfl
theorem q2760 : (Jvm.Cond.methodLink "RowenTongueLaw" (102 : Nat) ({ cls := "RowenTongueModel", name := "areAlike", desc := "(II)Z" } : Jvm.MethodName)) ∈ lw_all := lw_g (lw_at lw_m12 71 rfl) rfl
theorem q2765 : (Jvm.Cond.methodLink "RowenTongueLaw" (105 : Nat) ({ cls := "RowenTongueModel", name := "run", desc := "(I)I" } : Jvm.MethodName)) ∈ lw_all := lw_g (lw_at lw_m12 76 rfl) rfl
theorem q2834 : (Jvm.Cond.methodLink "RowenTongueLaw" (109 : Nat) ({ cls := "RowenTongueModel", name := "steps", desc := "()I" } : Jvm.MethodName)) ∈ lw_all := lw_g (lw_at lw_m12 145 rfl) rfl
theorem q2838 : (Jvm.Cond.methodLink "RowenTongueLaw" (112 : Nat) ({ cls := "RowenTongueModel", name := "result", desc := "(I)C" } : Jvm.MethodName)) ∈ lw_all := lw_g (lw_at lw_m12 149 rfl) rfl
theorem q2842 : (Jvm.Cond.methodLink "RowenTongueLaw" (115 : Nat) ({ cls := "RowenTongueModel", name := "agrees", desc := "(I)Z" } : Jvm.MethodName)) ∈ lw_all := lw_g (lw_at lw_m12 153 rfl) rfl
theorem q2846 : (Jvm.Cond.methodLink "RowenTongueLaw" (118 : Nat) ({ cls := "RowenTongueModel", name := "places", desc := "(II)I" } : Jvm.MethodName)) ∈ lw_all := lw_g (lw_at lw_m12 157 rfl) rfl
/-! RowenTongue -/
set_option maxRecDepth 100000
def RX1 : String := "RowenTongue"
def TX1 : u_T := fun k => match k with
  | 0 => ("RowenTongue", "terms", "Ljava/util/ArrayList;", true)
  | 1 => ("RowenTongue", "errorAt", "I", false)
  | 2 => ("RowenTongue", "steps", "I", false)
  | _ => ("RowenTongue", "result", "Ljava/lang/String;", false)
def tyX1 : Nat → FieldType := fun k => match k with
  | 0 => .object "java/util/ArrayList"
  | 1 => .int
  | 2 => .int
  | _ => .object "java/lang/String"
abbrev wsX10 : List Cond := u_ws RX1 TX1 4
theorem nmX1 : ∀ a, a < 4 → ∀ b, b < 4 → a ≠ b → (TX1 a).2.1 ≠ (TX1 b).2.1 := by decide +kernel
theorem tyX1_ok : ∀ k, k < 4 → parseFieldDescriptor (TX1 k).2.2.1 = some (tyX1 k) := by decide +kernel
abbrev cX1_init : ByteArray := prog_1_method_1_code
def yX1_init : MethodName := ⟨RX1, "<init>", "()V"⟩
def dkwX1_init_1 : List UInt8 := [181, 0, 22, 177]
abbrev dktX1_init_1 : List UInt8 := dkwX1_init_1 ++ []
def dkwX1_init_0 : List UInt8 := [42, 183, 0, 1, 42, 187, 0, 7, 89, 183, 0, 9, 181, 0, 10, 42, 2, 181, 0, 16, 42, 18, 20]
abbrev dktX1_init_0 : List UInt8 := dkwX1_init_0 ++ dktX1_init_1
theorem dksX1_init_0 : cX1_init.data.toList.drop 0 = dktX1_init_0 := by decide +kernel
theorem dksX1_init_1 : cX1_init.data.toList.drop 23 = dktX1_init_1 := dk_seg dksX1_init_0 23 rfl rfl
theorem dX1_init_0 : decode cX1_init 0 = .ok (.aload_n 0, 1) := dk_42 (dk_at dksX1_init_0 0 rfl rfl)
theorem dX1_init_1 : decode cX1_init 1 = .ok (.invokespecial 1, 3) := dk_183 0 1 (dk_at dksX1_init_0 1 rfl rfl)
theorem dX1_init_4 : decode cX1_init 4 = .ok (.aload_n 0, 1) := dk_42 (dk_at dksX1_init_0 4 rfl rfl)
theorem dX1_init_5 : decode cX1_init 5 = .ok (.new 7, 3) := dk_187 0 7 (dk_at dksX1_init_0 5 rfl rfl)
theorem dX1_init_8 : decode cX1_init 8 = .ok (.dup, 1) := dk_89 (dk_at dksX1_init_0 8 rfl rfl)
theorem dX1_init_9 : decode cX1_init 9 = .ok (.invokespecial 9, 3) := dk_183 0 9 (dk_at dksX1_init_0 9 rfl rfl)
theorem dX1_init_12 : decode cX1_init 12 = .ok (.putfield 10, 3) := dk_181 0 10 (dk_at dksX1_init_0 12 rfl rfl)
theorem dX1_init_15 : decode cX1_init 15 = .ok (.aload_n 0, 1) := dk_42 (dk_at dksX1_init_0 15 rfl rfl)
theorem dX1_init_16 : decode cX1_init 16 = .ok (.iconst (-1), 1) := dk_2 (dk_at dksX1_init_0 16 rfl rfl)
theorem dX1_init_17 : decode cX1_init 17 = .ok (.putfield 16, 3) := dk_181 0 16 (dk_at dksX1_init_0 17 rfl rfl)
theorem dX1_init_20 : decode cX1_init 20 = .ok (.aload_n 0, 1) := dk_42 (dk_at dksX1_init_0 20 rfl rfl)
theorem dX1_init_21 : decode cX1_init 21 = .ok (.ldc 20, 2) := dk_18 20 (dk_at dksX1_init_0 21 rfl rfl)
theorem dX1_init_23 : decode cX1_init 23 = .ok (.putfield 22, 3) := dk_181 0 22 (dk_at dksX1_init_1 0 rfl rfl)
theorem dX1_init_26 : decode cX1_init 26 = .ok (.return_, 1) := dk_177 (dk_at dksX1_init_1 3 rfl rfl)
abbrev cX1_terms : ByteArray := prog_1_method_26_code
def yX1_terms : MethodName := ⟨RX1, "terms", "()I"⟩
def dkwX1_terms_0 : List UInt8 := [42, 180, 0, 10, 182, 1, 9, 172]
abbrev dktX1_terms_0 : List UInt8 := dkwX1_terms_0 ++ []
theorem dksX1_terms_0 : cX1_terms.data.toList.drop 0 = dktX1_terms_0 := by decide +kernel
theorem dX1_terms_0 : decode cX1_terms 0 = .ok (.aload_n 0, 1) := dk_42 (dk_at dksX1_terms_0 0 rfl rfl)
theorem dX1_terms_1 : decode cX1_terms 1 = .ok (.getfield 10, 3) := dk_180 0 10 (dk_at dksX1_terms_0 1 rfl rfl)
theorem dX1_terms_4 : decode cX1_terms 4 = .ok (.invokevirtual 265, 3) := dk_182 1 9 (dk_at dksX1_terms_0 4 rfl rfl)
theorem dX1_terms_7 : decode cX1_terms 7 = .ok (.ireturn, 1) := dk_172 (dk_at dksX1_terms_0 7 rfl rfl)
abbrev cX1_errorAt : ByteArray := prog_1_method_28_code
def yX1_errorAt : MethodName := ⟨RX1, "errorAt", "()I"⟩
theorem dX1_errorAt_0 : decode cX1_errorAt 0 = .ok (.aload_n 0, 1) := by decide +kernel
theorem dX1_errorAt_1 : decode cX1_errorAt 1 = .ok (.getfield 16, 3) := by decide +kernel
theorem dX1_errorAt_4 : decode cX1_errorAt 4 = .ok (.ireturn, 1) := by decide +kernel
abbrev cX1_steps : ByteArray := prog_1_method_33_code
def yX1_steps : MethodName := ⟨RX1, "steps", "()I"⟩
theorem dX1_steps_0 : decode cX1_steps 0 = .ok (.aload_n 0, 1) := by decide +kernel
theorem dX1_steps_1 : decode cX1_steps 1 = .ok (.getfield 360, 3) := by decide +kernel
theorem dX1_steps_4 : decode cX1_steps 4 = .ok (.ireturn, 1) := by decide +kernel
abbrev cX1_leaf : ByteArray := prog_1_method_22_code
def yX1_leaf : MethodName := ⟨RX1, "leaf", "(II)I"⟩
def dkwX1_leaf_3 : List UInt8 := [27, 27, 153, 0, 8, 27, 4, 160, 0, 7, 28, 167, 0, 4, 3, 3, 3, 189, 0, 165, 182, 1, 49, 172]
abbrev dktX1_leaf_3 : List UInt8 := dkwX1_leaf_3 ++ []
def dkwX1_leaf_2 : List UInt8 := [154, 0, 8, 16, 157, 167, 0, 4, 3, 27, 154, 0, 8, 16, 99, 167, 0, 5, 16, 9, 184, 1, 45, 42]
abbrev dktX1_leaf_2 : List UInt8 := dkwX1_leaf_2 ++ dktX1_leaf_3
def dkwX1_leaf_1 : List UInt8 := [167, 0, 4, 2, 3, 3, 184, 1, 45, 27, 153, 0, 8, 27, 4, 160, 0, 7, 28, 167, 0, 4, 3, 27]
abbrev dktX1_leaf_1 : List UInt8 := dkwX1_leaf_1 ++ dktX1_leaf_2
def dkwX1_leaf_0 : List UInt8 := [27, 153, 0, 20, 27, 4, 159, 0, 15, 27, 16, 6, 159, 0, 9, 27, 16, 15, 160, 0, 7, 3]
abbrev dktX1_leaf_0 : List UInt8 := dkwX1_leaf_0 ++ dktX1_leaf_1
theorem dksX1_leaf_0 : cX1_leaf.data.toList.drop 0 = dktX1_leaf_0 := by decide +kernel
theorem dksX1_leaf_1 : cX1_leaf.data.toList.drop 22 = dktX1_leaf_1 := dk_seg dksX1_leaf_0 22 rfl rfl
theorem dksX1_leaf_2 : cX1_leaf.data.toList.drop 46 = dktX1_leaf_2 := dk_seg dksX1_leaf_1 24 rfl rfl
theorem dksX1_leaf_3 : cX1_leaf.data.toList.drop 70 = dktX1_leaf_3 := dk_seg dksX1_leaf_2 24 rfl rfl
theorem dX1_leaf_0 : decode cX1_leaf 0 = .ok (.iload_n 1, 1) := dk_27 (dk_at dksX1_leaf_0 0 rfl rfl)
theorem dX1_leaf_1 : decode cX1_leaf 1 = .ok (.ifCond .eq 20, 3) := dk_153 0 20 (dk_at dksX1_leaf_0 1 rfl rfl)
theorem dX1_leaf_4 : decode cX1_leaf 4 = .ok (.iload_n 1, 1) := dk_27 (dk_at dksX1_leaf_0 4 rfl rfl)
theorem dX1_leaf_5 : decode cX1_leaf 5 = .ok (.iconst 1, 1) := dk_4 (dk_at dksX1_leaf_0 5 rfl rfl)
theorem dX1_leaf_6 : decode cX1_leaf 6 = .ok (.if_icmp .eq 15, 3) := dk_159 0 15 (dk_at dksX1_leaf_0 6 rfl rfl)
theorem dX1_leaf_9 : decode cX1_leaf 9 = .ok (.iload_n 1, 1) := dk_27 (dk_at dksX1_leaf_0 9 rfl rfl)
theorem dX1_leaf_10 : decode cX1_leaf 10 = .ok (.bipush 6, 2) := dk_16 6 (dk_at dksX1_leaf_0 10 rfl rfl)
theorem dX1_leaf_12 : decode cX1_leaf 12 = .ok (.if_icmp .eq 9, 3) := dk_159 0 9 (dk_at dksX1_leaf_0 12 rfl rfl)
theorem dX1_leaf_15 : decode cX1_leaf 15 = .ok (.iload_n 1, 1) := dk_27 (dk_at dksX1_leaf_0 15 rfl rfl)
theorem dX1_leaf_16 : decode cX1_leaf 16 = .ok (.bipush 15, 2) := dk_16 15 (dk_at dksX1_leaf_0 16 rfl rfl)
theorem dX1_leaf_18 : decode cX1_leaf 18 = .ok (.if_icmp .ne 7, 3) := dk_160 0 7 (dk_at dksX1_leaf_0 18 rfl rfl)
theorem dX1_leaf_21 : decode cX1_leaf 21 = .ok (.iconst 0, 1) := dk_3 (dk_at dksX1_leaf_0 21 rfl rfl)
theorem dX1_leaf_22 : decode cX1_leaf 22 = .ok (.goto 4, 3) := dk_167 0 4 (dk_at dksX1_leaf_1 0 rfl rfl)
theorem dX1_leaf_25 : decode cX1_leaf 25 = .ok (.iconst (-1), 1) := dk_2 (dk_at dksX1_leaf_1 3 rfl rfl)
theorem dX1_leaf_26 : decode cX1_leaf 26 = .ok (.iconst 0, 1) := dk_3 (dk_at dksX1_leaf_1 4 rfl rfl)
theorem dX1_leaf_27 : decode cX1_leaf 27 = .ok (.iconst 0, 1) := dk_3 (dk_at dksX1_leaf_1 5 rfl rfl)
theorem dX1_leaf_28 : decode cX1_leaf 28 = .ok (.invokestatic 301, 3) := dk_184 1 45 (dk_at dksX1_leaf_1 6 rfl rfl)
theorem dX1_leaf_31 : decode cX1_leaf 31 = .ok (.iload_n 1, 1) := dk_27 (dk_at dksX1_leaf_1 9 rfl rfl)
theorem dX1_leaf_32 : decode cX1_leaf 32 = .ok (.ifCond .eq 8, 3) := dk_153 0 8 (dk_at dksX1_leaf_1 10 rfl rfl)
theorem dX1_leaf_35 : decode cX1_leaf 35 = .ok (.iload_n 1, 1) := dk_27 (dk_at dksX1_leaf_1 13 rfl rfl)
theorem dX1_leaf_36 : decode cX1_leaf 36 = .ok (.iconst 1, 1) := dk_4 (dk_at dksX1_leaf_1 14 rfl rfl)
theorem dX1_leaf_37 : decode cX1_leaf 37 = .ok (.if_icmp .ne 7, 3) := dk_160 0 7 (dk_at dksX1_leaf_1 15 rfl rfl)
theorem dX1_leaf_40 : decode cX1_leaf 40 = .ok (.iload_n 2, 1) := dk_28 (dk_at dksX1_leaf_1 18 rfl rfl)
theorem dX1_leaf_41 : decode cX1_leaf 41 = .ok (.goto 4, 3) := dk_167 0 4 (dk_at dksX1_leaf_1 19 rfl rfl)
theorem dX1_leaf_44 : decode cX1_leaf 44 = .ok (.iconst 0, 1) := dk_3 (dk_at dksX1_leaf_1 22 rfl rfl)
theorem dX1_leaf_45 : decode cX1_leaf 45 = .ok (.iload_n 1, 1) := dk_27 (dk_at dksX1_leaf_1 23 rfl rfl)
theorem dX1_leaf_46 : decode cX1_leaf 46 = .ok (.ifCond .ne 8, 3) := dk_154 0 8 (dk_at dksX1_leaf_2 0 rfl rfl)
theorem dX1_leaf_49 : decode cX1_leaf 49 = .ok (.bipush (-99), 2) := dk_16 157 (dk_at dksX1_leaf_2 3 rfl rfl)
theorem dX1_leaf_51 : decode cX1_leaf 51 = .ok (.goto 4, 3) := dk_167 0 4 (dk_at dksX1_leaf_2 5 rfl rfl)
theorem dX1_leaf_54 : decode cX1_leaf 54 = .ok (.iconst 0, 1) := dk_3 (dk_at dksX1_leaf_2 8 rfl rfl)
theorem dX1_leaf_55 : decode cX1_leaf 55 = .ok (.iload_n 1, 1) := dk_27 (dk_at dksX1_leaf_2 9 rfl rfl)
theorem dX1_leaf_56 : decode cX1_leaf 56 = .ok (.ifCond .ne 8, 3) := dk_154 0 8 (dk_at dksX1_leaf_2 10 rfl rfl)
theorem dX1_leaf_59 : decode cX1_leaf 59 = .ok (.bipush 99, 2) := dk_16 99 (dk_at dksX1_leaf_2 13 rfl rfl)
theorem dX1_leaf_61 : decode cX1_leaf 61 = .ok (.goto 5, 3) := dk_167 0 5 (dk_at dksX1_leaf_2 15 rfl rfl)
theorem dX1_leaf_64 : decode cX1_leaf 64 = .ok (.bipush 9, 2) := dk_16 9 (dk_at dksX1_leaf_2 18 rfl rfl)
theorem dX1_leaf_66 : decode cX1_leaf 66 = .ok (.invokestatic 301, 3) := dk_184 1 45 (dk_at dksX1_leaf_2 20 rfl rfl)
theorem dX1_leaf_69 : decode cX1_leaf 69 = .ok (.aload_n 0, 1) := dk_42 (dk_at dksX1_leaf_2 23 rfl rfl)
theorem dX1_leaf_70 : decode cX1_leaf 70 = .ok (.iload_n 1, 1) := dk_27 (dk_at dksX1_leaf_3 0 rfl rfl)
theorem dX1_leaf_71 : decode cX1_leaf 71 = .ok (.iload_n 1, 1) := dk_27 (dk_at dksX1_leaf_3 1 rfl rfl)
theorem dX1_leaf_72 : decode cX1_leaf 72 = .ok (.ifCond .eq 8, 3) := dk_153 0 8 (dk_at dksX1_leaf_3 2 rfl rfl)
theorem dX1_leaf_75 : decode cX1_leaf 75 = .ok (.iload_n 1, 1) := dk_27 (dk_at dksX1_leaf_3 5 rfl rfl)
theorem dX1_leaf_76 : decode cX1_leaf 76 = .ok (.iconst 1, 1) := dk_4 (dk_at dksX1_leaf_3 6 rfl rfl)
theorem dX1_leaf_77 : decode cX1_leaf 77 = .ok (.if_icmp .ne 7, 3) := dk_160 0 7 (dk_at dksX1_leaf_3 7 rfl rfl)
theorem dX1_leaf_80 : decode cX1_leaf 80 = .ok (.iload_n 2, 1) := dk_28 (dk_at dksX1_leaf_3 10 rfl rfl)
theorem dX1_leaf_81 : decode cX1_leaf 81 = .ok (.goto 4, 3) := dk_167 0 4 (dk_at dksX1_leaf_3 11 rfl rfl)
theorem dX1_leaf_84 : decode cX1_leaf 84 = .ok (.iconst 0, 1) := dk_3 (dk_at dksX1_leaf_3 14 rfl rfl)
theorem dX1_leaf_85 : decode cX1_leaf 85 = .ok (.iconst 0, 1) := dk_3 (dk_at dksX1_leaf_3 15 rfl rfl)
theorem dX1_leaf_86 : decode cX1_leaf 86 = .ok (.iconst 0, 1) := dk_3 (dk_at dksX1_leaf_3 16 rfl rfl)
theorem dX1_leaf_87 : decode cX1_leaf 87 = .ok (.anewarray 165, 3) := dk_189 0 165 (dk_at dksX1_leaf_3 17 rfl rfl)
theorem dX1_leaf_90 : decode cX1_leaf 90 = .ok (.invokevirtual 305, 3) := dk_182 1 49 (dk_at dksX1_leaf_3 20 rfl rfl)
theorem dX1_leaf_93 : decode cX1_leaf 93 = .ok (.ireturn, 1) := dk_172 (dk_at dksX1_leaf_3 23 rfl rfl)
abbrev cX1_limited : ByteArray := prog_1_method_15_code
def yX1_limited : MethodName := ⟨RX1, "limited", "(III)V"⟩
def dkwX1_limited_0 : List UInt8 := [26, 27, 161, 0, 8, 26, 28, 164, 0, 11, 187, 1, 0, 89, 183, 1, 2, 191, 177]
abbrev dktX1_limited_0 : List UInt8 := dkwX1_limited_0 ++ []
theorem dksX1_limited_0 : cX1_limited.data.toList.drop 0 = dktX1_limited_0 := by decide +kernel
theorem dX1_limited_0 : decode cX1_limited 0 = .ok (.iload_n 0, 1) := dk_26 (dk_at dksX1_limited_0 0 rfl rfl)
theorem dX1_limited_1 : decode cX1_limited 1 = .ok (.iload_n 1, 1) := dk_27 (dk_at dksX1_limited_0 1 rfl rfl)
theorem dX1_limited_2 : decode cX1_limited 2 = .ok (.if_icmp .lt 8, 3) := dk_161 0 8 (dk_at dksX1_limited_0 2 rfl rfl)
theorem dX1_limited_5 : decode cX1_limited 5 = .ok (.iload_n 0, 1) := dk_26 (dk_at dksX1_limited_0 5 rfl rfl)
theorem dX1_limited_6 : decode cX1_limited 6 = .ok (.iload_n 2, 1) := dk_28 (dk_at dksX1_limited_0 6 rfl rfl)
theorem dX1_limited_7 : decode cX1_limited 7 = .ok (.if_icmp .le 11, 3) := dk_164 0 11 (dk_at dksX1_limited_0 7 rfl rfl)
theorem dX1_limited_10 : decode cX1_limited 10 = .ok (.new 256, 3) := dk_187 1 0 (dk_at dksX1_limited_0 10 rfl rfl)
theorem dX1_limited_13 : decode cX1_limited 13 = .ok (.dup, 1) := dk_89 (dk_at dksX1_limited_0 13 rfl rfl)
theorem dX1_limited_14 : decode cX1_limited 14 = .ok (.invokespecial 258, 3) := dk_183 1 2 (dk_at dksX1_limited_0 14 rfl rfl)
theorem dX1_limited_17 : decode cX1_limited 17 = .ok (.athrow, 1) := dk_191 (dk_at dksX1_limited_0 17 rfl rfl)
theorem dX1_limited_18 : decode cX1_limited 18 = .ok (.return_, 1) := dk_177 (dk_at dksX1_limited_0 18 rfl rfl)
abbrev cX1_add : ByteArray := prog_1_method_20_code
def yX1_add : MethodName := ⟨RX1, "add", "(III[LRowenTongue$Term;)I"⟩
def dkwX1_add_2 : List UInt8 := [167, 0, 4, 3, 184, 1, 30, 42, 180, 0, 10, 25, 5, 182, 1, 33, 87, 25, 5, 180, 1, 37, 172]
abbrev dktX1_add_2 : List UInt8 := dkwX1_add_2 ++ []
def dkwX1_add_1 : List UInt8 := [180, 0, 10, 182, 1, 9, 16, 120, 162, 0, 17, 25, 5, 180, 1, 27, 16, 30, 163, 0, 7, 4]
abbrev dktX1_add_1 : List UInt8 := dkwX1_add_1 ++ dktX1_add_2
def dkwX1_add_0 : List UInt8 := [187, 0, 165, 89, 42, 180, 0, 10, 182, 1, 9, 27, 28, 29, 25, 4, 183, 1, 24, 58, 5, 42]
abbrev dktX1_add_0 : List UInt8 := dkwX1_add_0 ++ dktX1_add_1
theorem dksX1_add_0 : cX1_add.data.toList.drop 0 = dktX1_add_0 := by decide +kernel
theorem dksX1_add_1 : cX1_add.data.toList.drop 22 = dktX1_add_1 := dk_seg dksX1_add_0 22 rfl rfl
theorem dksX1_add_2 : cX1_add.data.toList.drop 44 = dktX1_add_2 := dk_seg dksX1_add_1 22 rfl rfl
theorem dX1_add_0 : decode cX1_add 0 = .ok (.new 165, 3) := dk_187 0 165 (dk_at dksX1_add_0 0 rfl rfl)
theorem dX1_add_3 : decode cX1_add 3 = .ok (.dup, 1) := dk_89 (dk_at dksX1_add_0 3 rfl rfl)
theorem dX1_add_4 : decode cX1_add 4 = .ok (.aload_n 0, 1) := dk_42 (dk_at dksX1_add_0 4 rfl rfl)
theorem dX1_add_5 : decode cX1_add 5 = .ok (.getfield 10, 3) := dk_180 0 10 (dk_at dksX1_add_0 5 rfl rfl)
theorem dX1_add_8 : decode cX1_add 8 = .ok (.invokevirtual 265, 3) := dk_182 1 9 (dk_at dksX1_add_0 8 rfl rfl)
theorem dX1_add_11 : decode cX1_add 11 = .ok (.iload_n 1, 1) := dk_27 (dk_at dksX1_add_0 11 rfl rfl)
theorem dX1_add_12 : decode cX1_add 12 = .ok (.iload_n 2, 1) := dk_28 (dk_at dksX1_add_0 12 rfl rfl)
theorem dX1_add_13 : decode cX1_add 13 = .ok (.iload_n 3, 1) := dk_29 (dk_at dksX1_add_0 13 rfl rfl)
theorem dX1_add_14 : decode cX1_add 14 = .ok (.aload 4, 2) := dk_25 4 (dk_at dksX1_add_0 14 rfl rfl)
theorem dX1_add_16 : decode cX1_add 16 = .ok (.invokespecial 280, 3) := dk_183 1 24 (dk_at dksX1_add_0 16 rfl rfl)
theorem dX1_add_19 : decode cX1_add 19 = .ok (.astore 5, 2) := dk_58 5 (dk_at dksX1_add_0 19 rfl rfl)
theorem dX1_add_21 : decode cX1_add 21 = .ok (.aload_n 0, 1) := dk_42 (dk_at dksX1_add_0 21 rfl rfl)
theorem dX1_add_22 : decode cX1_add 22 = .ok (.getfield 10, 3) := dk_180 0 10 (dk_at dksX1_add_1 0 rfl rfl)
theorem dX1_add_25 : decode cX1_add 25 = .ok (.invokevirtual 265, 3) := dk_182 1 9 (dk_at dksX1_add_1 3 rfl rfl)
theorem dX1_add_28 : decode cX1_add 28 = .ok (.bipush 120, 2) := dk_16 120 (dk_at dksX1_add_1 6 rfl rfl)
theorem dX1_add_30 : decode cX1_add 30 = .ok (.if_icmp .ge 17, 3) := dk_162 0 17 (dk_at dksX1_add_1 8 rfl rfl)
theorem dX1_add_33 : decode cX1_add 33 = .ok (.aload 5, 2) := dk_25 5 (dk_at dksX1_add_1 11 rfl rfl)
theorem dX1_add_35 : decode cX1_add 35 = .ok (.getfield 283, 3) := dk_180 1 27 (dk_at dksX1_add_1 13 rfl rfl)
theorem dX1_add_38 : decode cX1_add 38 = .ok (.bipush 30, 2) := dk_16 30 (dk_at dksX1_add_1 16 rfl rfl)
theorem dX1_add_40 : decode cX1_add 40 = .ok (.if_icmp .gt 7, 3) := dk_163 0 7 (dk_at dksX1_add_1 18 rfl rfl)
theorem dX1_add_43 : decode cX1_add 43 = .ok (.iconst 1, 1) := dk_4 (dk_at dksX1_add_1 21 rfl rfl)
theorem dX1_add_44 : decode cX1_add 44 = .ok (.goto 4, 3) := dk_167 0 4 (dk_at dksX1_add_2 0 rfl rfl)
theorem dX1_add_47 : decode cX1_add 47 = .ok (.iconst 0, 1) := dk_3 (dk_at dksX1_add_2 3 rfl rfl)
theorem dX1_add_48 : decode cX1_add 48 = .ok (.invokestatic 286, 3) := dk_184 1 30 (dk_at dksX1_add_2 4 rfl rfl)
theorem dX1_add_51 : decode cX1_add 51 = .ok (.aload_n 0, 1) := dk_42 (dk_at dksX1_add_2 7 rfl rfl)
theorem dX1_add_52 : decode cX1_add 52 = .ok (.getfield 10, 3) := dk_180 0 10 (dk_at dksX1_add_2 8 rfl rfl)
theorem dX1_add_55 : decode cX1_add 55 = .ok (.aload 5, 2) := dk_25 5 (dk_at dksX1_add_2 11 rfl rfl)
theorem dX1_add_57 : decode cX1_add 57 = .ok (.invokevirtual 289, 3) := dk_182 1 33 (dk_at dksX1_add_2 13 rfl rfl)
theorem dX1_add_60 : decode cX1_add 60 = .ok (.pop, 1) := dk_87 (dk_at dksX1_add_2 16 rfl rfl)
theorem dX1_add_61 : decode cX1_add 61 = .ok (.aload 5, 2) := dk_25 5 (dk_at dksX1_add_2 17 rfl rfl)
theorem dX1_add_63 : decode cX1_add 63 = .ok (.getfield 293, 3) := dk_180 1 37 (dk_at dksX1_add_2 19 rfl rfl)
theorem dX1_add_66 : decode cX1_add 66 = .ok (.ireturn, 1) := dk_172 (dk_at dksX1_add_2 22 rfl rfl)
abbrev cX1_allowed : ByteArray := prog_1_method_16_code
def yX1_allowed : MethodName := ⟨RX1, "allowed", "(Z)V"⟩
def dkwX1_allowed_0 : List UInt8 := [26, 154, 0, 11, 187, 1, 3, 89, 183, 1, 5, 191, 177]
abbrev dktX1_allowed_0 : List UInt8 := dkwX1_allowed_0 ++ []
theorem dksX1_allowed_0 : cX1_allowed.data.toList.drop 0 = dktX1_allowed_0 := by decide +kernel
theorem dX1_allowed_0 : decode cX1_allowed 0 = .ok (.iload_n 0, 1) := dk_26 (dk_at dksX1_allowed_0 0 rfl rfl)
theorem dX1_allowed_1 : decode cX1_allowed 1 = .ok (.ifCond .ne 11, 3) := dk_154 0 11 (dk_at dksX1_allowed_0 1 rfl rfl)
theorem dX1_allowed_4 : decode cX1_allowed 4 = .ok (.new 259, 3) := dk_187 1 3 (dk_at dksX1_allowed_0 4 rfl rfl)
theorem dX1_allowed_7 : decode cX1_allowed 7 = .ok (.dup, 1) := dk_89 (dk_at dksX1_allowed_0 7 rfl rfl)
theorem dX1_allowed_8 : decode cX1_allowed 8 = .ok (.invokespecial 261, 3) := dk_183 1 5 (dk_at dksX1_allowed_0 8 rfl rfl)
theorem dX1_allowed_11 : decode cX1_allowed 11 = .ok (.athrow, 1) := dk_191 (dk_at dksX1_allowed_0 11 rfl rfl)
theorem dX1_allowed_12 : decode cX1_allowed 12 = .ok (.return_, 1) := dk_177 (dk_at dksX1_allowed_0 12 rfl rfl)
abbrev cX1_named : ByteArray := prog_1_method_23_code
def yX1_named : MethodName := ⟨RX1, "named", "(IIII)I"⟩
def dkwX1_named_6 : List UInt8 := [182, 1, 49, 172]
abbrev dktX1_named_6 : List UInt8 := dkwX1_named_6 ++ []
def dkwX1_named_5 : List UInt8 := [182, 1, 52, 83, 182, 1, 49, 167, 0, 19, 42, 27, 28, 3, 4, 189, 0, 165, 89, 3, 25, 7, 83]
abbrev dktX1_named_5 : List UInt8 := dkwX1_named_5 ++ dktX1_named_6
def dkwX1_named_4 : List UInt8 := [21, 5, 153, 0, 32, 42, 27, 28, 3, 5, 189, 0, 165, 89, 3, 25, 7, 83, 89, 4, 42, 21, 4, 3]
abbrev dktX1_named_4 : List UInt8 := dkwX1_named_4 ++ dktX1_named_5
def dkwX1_named_3 : List UInt8 := [167, 0, 4, 2, 3, 3, 184, 1, 45, 28, 3, 16, 9, 184, 1, 45, 42, 29, 3, 182, 1, 52, 58, 7]
abbrev dktX1_named_3 : List UInt8 := dkwX1_named_3 ++ dktX1_named_4
def dkwX1_named_2 : List UInt8 := [16, 16, 160, 0, 7, 4, 167, 0, 4, 3, 54, 6, 21, 5, 154, 0, 8, 21, 6, 153, 0, 7, 3]
abbrev dktX1_named_2 : List UInt8 := dkwX1_named_2 ++ dktX1_named_3
def dkwX1_named_1 : List UInt8 := [5, 159, 0, 27, 27, 16, 8, 159, 0, 21, 27, 16, 9, 159, 0, 15, 27, 16, 10, 159, 0, 9, 27]
abbrev dktX1_named_1 : List UInt8 := dkwX1_named_1 ++ dktX1_named_2
def dkwX1_named_0 : List UInt8 := [27, 7, 159, 0, 14, 27, 8, 159, 0, 9, 27, 16, 7, 160, 0, 7, 4, 167, 0, 4, 3, 54, 5, 27]
abbrev dktX1_named_0 : List UInt8 := dkwX1_named_0 ++ dktX1_named_1
theorem dksX1_named_0 : cX1_named.data.toList.drop 0 = dktX1_named_0 := by decide +kernel
theorem dksX1_named_1 : cX1_named.data.toList.drop 24 = dktX1_named_1 := dk_seg dksX1_named_0 24 rfl rfl
theorem dksX1_named_2 : cX1_named.data.toList.drop 47 = dktX1_named_2 := dk_seg dksX1_named_1 23 rfl rfl
theorem dksX1_named_3 : cX1_named.data.toList.drop 70 = dktX1_named_3 := dk_seg dksX1_named_2 23 rfl rfl
theorem dksX1_named_4 : cX1_named.data.toList.drop 94 = dktX1_named_4 := dk_seg dksX1_named_3 24 rfl rfl
theorem dksX1_named_5 : cX1_named.data.toList.drop 118 = dktX1_named_5 := dk_seg dksX1_named_4 24 rfl rfl
theorem dksX1_named_6 : cX1_named.data.toList.drop 141 = dktX1_named_6 := dk_seg dksX1_named_5 23 rfl rfl
theorem dX1_named_0 : decode cX1_named 0 = .ok (.iload_n 1, 1) := dk_27 (dk_at dksX1_named_0 0 rfl rfl)
theorem dX1_named_1 : decode cX1_named 1 = .ok (.iconst 4, 1) := dk_7 (dk_at dksX1_named_0 1 rfl rfl)
theorem dX1_named_2 : decode cX1_named 2 = .ok (.if_icmp .eq 14, 3) := dk_159 0 14 (dk_at dksX1_named_0 2 rfl rfl)
theorem dX1_named_5 : decode cX1_named 5 = .ok (.iload_n 1, 1) := dk_27 (dk_at dksX1_named_0 5 rfl rfl)
theorem dX1_named_6 : decode cX1_named 6 = .ok (.iconst 5, 1) := dk_8 (dk_at dksX1_named_0 6 rfl rfl)
theorem dX1_named_7 : decode cX1_named 7 = .ok (.if_icmp .eq 9, 3) := dk_159 0 9 (dk_at dksX1_named_0 7 rfl rfl)
theorem dX1_named_10 : decode cX1_named 10 = .ok (.iload_n 1, 1) := dk_27 (dk_at dksX1_named_0 10 rfl rfl)
theorem dX1_named_11 : decode cX1_named 11 = .ok (.bipush 7, 2) := dk_16 7 (dk_at dksX1_named_0 11 rfl rfl)
theorem dX1_named_13 : decode cX1_named 13 = .ok (.if_icmp .ne 7, 3) := dk_160 0 7 (dk_at dksX1_named_0 13 rfl rfl)
theorem dX1_named_16 : decode cX1_named 16 = .ok (.iconst 1, 1) := dk_4 (dk_at dksX1_named_0 16 rfl rfl)
theorem dX1_named_17 : decode cX1_named 17 = .ok (.goto 4, 3) := dk_167 0 4 (dk_at dksX1_named_0 17 rfl rfl)
theorem dX1_named_20 : decode cX1_named 20 = .ok (.iconst 0, 1) := dk_3 (dk_at dksX1_named_0 20 rfl rfl)
theorem dX1_named_21 : decode cX1_named 21 = .ok (.istore 5, 2) := dk_54 5 (dk_at dksX1_named_0 21 rfl rfl)
theorem dX1_named_23 : decode cX1_named 23 = .ok (.iload_n 1, 1) := dk_27 (dk_at dksX1_named_0 23 rfl rfl)
theorem dX1_named_24 : decode cX1_named 24 = .ok (.iconst 2, 1) := dk_5 (dk_at dksX1_named_1 0 rfl rfl)
theorem dX1_named_25 : decode cX1_named 25 = .ok (.if_icmp .eq 27, 3) := dk_159 0 27 (dk_at dksX1_named_1 1 rfl rfl)
theorem dX1_named_28 : decode cX1_named 28 = .ok (.iload_n 1, 1) := dk_27 (dk_at dksX1_named_1 4 rfl rfl)
theorem dX1_named_29 : decode cX1_named 29 = .ok (.bipush 8, 2) := dk_16 8 (dk_at dksX1_named_1 5 rfl rfl)
theorem dX1_named_31 : decode cX1_named 31 = .ok (.if_icmp .eq 21, 3) := dk_159 0 21 (dk_at dksX1_named_1 7 rfl rfl)
theorem dX1_named_34 : decode cX1_named 34 = .ok (.iload_n 1, 1) := dk_27 (dk_at dksX1_named_1 10 rfl rfl)
theorem dX1_named_35 : decode cX1_named 35 = .ok (.bipush 9, 2) := dk_16 9 (dk_at dksX1_named_1 11 rfl rfl)
theorem dX1_named_37 : decode cX1_named 37 = .ok (.if_icmp .eq 15, 3) := dk_159 0 15 (dk_at dksX1_named_1 13 rfl rfl)
theorem dX1_named_40 : decode cX1_named 40 = .ok (.iload_n 1, 1) := dk_27 (dk_at dksX1_named_1 16 rfl rfl)
theorem dX1_named_41 : decode cX1_named 41 = .ok (.bipush 10, 2) := dk_16 10 (dk_at dksX1_named_1 17 rfl rfl)
theorem dX1_named_43 : decode cX1_named 43 = .ok (.if_icmp .eq 9, 3) := dk_159 0 9 (dk_at dksX1_named_1 19 rfl rfl)
theorem dX1_named_46 : decode cX1_named 46 = .ok (.iload_n 1, 1) := dk_27 (dk_at dksX1_named_1 22 rfl rfl)
theorem dX1_named_47 : decode cX1_named 47 = .ok (.bipush 16, 2) := dk_16 16 (dk_at dksX1_named_2 0 rfl rfl)
theorem dX1_named_49 : decode cX1_named 49 = .ok (.if_icmp .ne 7, 3) := dk_160 0 7 (dk_at dksX1_named_2 2 rfl rfl)
theorem dX1_named_52 : decode cX1_named 52 = .ok (.iconst 1, 1) := dk_4 (dk_at dksX1_named_2 5 rfl rfl)
theorem dX1_named_53 : decode cX1_named 53 = .ok (.goto 4, 3) := dk_167 0 4 (dk_at dksX1_named_2 6 rfl rfl)
theorem dX1_named_56 : decode cX1_named 56 = .ok (.iconst 0, 1) := dk_3 (dk_at dksX1_named_2 9 rfl rfl)
theorem dX1_named_57 : decode cX1_named 57 = .ok (.istore 6, 2) := dk_54 6 (dk_at dksX1_named_2 10 rfl rfl)
theorem dX1_named_59 : decode cX1_named 59 = .ok (.iload 5, 2) := dk_21 5 (dk_at dksX1_named_2 12 rfl rfl)
theorem dX1_named_61 : decode cX1_named 61 = .ok (.ifCond .ne 8, 3) := dk_154 0 8 (dk_at dksX1_named_2 14 rfl rfl)
theorem dX1_named_64 : decode cX1_named 64 = .ok (.iload 6, 2) := dk_21 6 (dk_at dksX1_named_2 17 rfl rfl)
theorem dX1_named_66 : decode cX1_named 66 = .ok (.ifCond .eq 7, 3) := dk_153 0 7 (dk_at dksX1_named_2 19 rfl rfl)
theorem dX1_named_69 : decode cX1_named 69 = .ok (.iconst 0, 1) := dk_3 (dk_at dksX1_named_2 22 rfl rfl)
theorem dX1_named_70 : decode cX1_named 70 = .ok (.goto 4, 3) := dk_167 0 4 (dk_at dksX1_named_3 0 rfl rfl)
theorem dX1_named_73 : decode cX1_named 73 = .ok (.iconst (-1), 1) := dk_2 (dk_at dksX1_named_3 3 rfl rfl)
theorem dX1_named_74 : decode cX1_named 74 = .ok (.iconst 0, 1) := dk_3 (dk_at dksX1_named_3 4 rfl rfl)
theorem dX1_named_75 : decode cX1_named 75 = .ok (.iconst 0, 1) := dk_3 (dk_at dksX1_named_3 5 rfl rfl)
theorem dX1_named_76 : decode cX1_named 76 = .ok (.invokestatic 301, 3) := dk_184 1 45 (dk_at dksX1_named_3 6 rfl rfl)
theorem dX1_named_79 : decode cX1_named 79 = .ok (.iload_n 2, 1) := dk_28 (dk_at dksX1_named_3 9 rfl rfl)
theorem dX1_named_80 : decode cX1_named 80 = .ok (.iconst 0, 1) := dk_3 (dk_at dksX1_named_3 10 rfl rfl)
theorem dX1_named_81 : decode cX1_named 81 = .ok (.bipush 9, 2) := dk_16 9 (dk_at dksX1_named_3 11 rfl rfl)
theorem dX1_named_83 : decode cX1_named 83 = .ok (.invokestatic 301, 3) := dk_184 1 45 (dk_at dksX1_named_3 13 rfl rfl)
theorem dX1_named_86 : decode cX1_named 86 = .ok (.aload_n 0, 1) := dk_42 (dk_at dksX1_named_3 16 rfl rfl)
theorem dX1_named_87 : decode cX1_named 87 = .ok (.iload_n 3, 1) := dk_29 (dk_at dksX1_named_3 17 rfl rfl)
theorem dX1_named_88 : decode cX1_named 88 = .ok (.iconst 0, 1) := dk_3 (dk_at dksX1_named_3 18 rfl rfl)
theorem dX1_named_89 : decode cX1_named 89 = .ok (.invokevirtual 308, 3) := dk_182 1 52 (dk_at dksX1_named_3 19 rfl rfl)
theorem dX1_named_92 : decode cX1_named 92 = .ok (.astore 7, 2) := dk_58 7 (dk_at dksX1_named_3 22 rfl rfl)
theorem dX1_named_94 : decode cX1_named 94 = .ok (.iload 5, 2) := dk_21 5 (dk_at dksX1_named_4 0 rfl rfl)
theorem dX1_named_96 : decode cX1_named 96 = .ok (.ifCond .eq 32, 3) := dk_153 0 32 (dk_at dksX1_named_4 2 rfl rfl)
theorem dX1_named_99 : decode cX1_named 99 = .ok (.aload_n 0, 1) := dk_42 (dk_at dksX1_named_4 5 rfl rfl)
theorem dX1_named_100 : decode cX1_named 100 = .ok (.iload_n 1, 1) := dk_27 (dk_at dksX1_named_4 6 rfl rfl)
theorem dX1_named_101 : decode cX1_named 101 = .ok (.iload_n 2, 1) := dk_28 (dk_at dksX1_named_4 7 rfl rfl)
theorem dX1_named_102 : decode cX1_named 102 = .ok (.iconst 0, 1) := dk_3 (dk_at dksX1_named_4 8 rfl rfl)
theorem dX1_named_103 : decode cX1_named 103 = .ok (.iconst 2, 1) := dk_5 (dk_at dksX1_named_4 9 rfl rfl)
theorem dX1_named_104 : decode cX1_named 104 = .ok (.anewarray 165, 3) := dk_189 0 165 (dk_at dksX1_named_4 10 rfl rfl)
theorem dX1_named_107 : decode cX1_named 107 = .ok (.dup, 1) := dk_89 (dk_at dksX1_named_4 13 rfl rfl)
theorem dX1_named_108 : decode cX1_named 108 = .ok (.iconst 0, 1) := dk_3 (dk_at dksX1_named_4 14 rfl rfl)
theorem dX1_named_109 : decode cX1_named 109 = .ok (.aload 7, 2) := dk_25 7 (dk_at dksX1_named_4 15 rfl rfl)
theorem dX1_named_111 : decode cX1_named 111 = .ok (.aastore, 1) := dk_83 (dk_at dksX1_named_4 17 rfl rfl)
theorem dX1_named_112 : decode cX1_named 112 = .ok (.dup, 1) := dk_89 (dk_at dksX1_named_4 18 rfl rfl)
theorem dX1_named_113 : decode cX1_named 113 = .ok (.iconst 1, 1) := dk_4 (dk_at dksX1_named_4 19 rfl rfl)
theorem dX1_named_114 : decode cX1_named 114 = .ok (.aload_n 0, 1) := dk_42 (dk_at dksX1_named_4 20 rfl rfl)
theorem dX1_named_115 : decode cX1_named 115 = .ok (.iload 4, 2) := dk_21 4 (dk_at dksX1_named_4 21 rfl rfl)
theorem dX1_named_117 : decode cX1_named 117 = .ok (.iconst 0, 1) := dk_3 (dk_at dksX1_named_4 23 rfl rfl)
theorem dX1_named_118 : decode cX1_named 118 = .ok (.invokevirtual 308, 3) := dk_182 1 52 (dk_at dksX1_named_5 0 rfl rfl)
theorem dX1_named_121 : decode cX1_named 121 = .ok (.aastore, 1) := dk_83 (dk_at dksX1_named_5 3 rfl rfl)
theorem dX1_named_122 : decode cX1_named 122 = .ok (.invokevirtual 305, 3) := dk_182 1 49 (dk_at dksX1_named_5 4 rfl rfl)
theorem dX1_named_125 : decode cX1_named 125 = .ok (.goto 19, 3) := dk_167 0 19 (dk_at dksX1_named_5 7 rfl rfl)
theorem dX1_named_128 : decode cX1_named 128 = .ok (.aload_n 0, 1) := dk_42 (dk_at dksX1_named_5 10 rfl rfl)
theorem dX1_named_129 : decode cX1_named 129 = .ok (.iload_n 1, 1) := dk_27 (dk_at dksX1_named_5 11 rfl rfl)
theorem dX1_named_130 : decode cX1_named 130 = .ok (.iload_n 2, 1) := dk_28 (dk_at dksX1_named_5 12 rfl rfl)
theorem dX1_named_131 : decode cX1_named 131 = .ok (.iconst 0, 1) := dk_3 (dk_at dksX1_named_5 13 rfl rfl)
theorem dX1_named_132 : decode cX1_named 132 = .ok (.iconst 1, 1) := dk_4 (dk_at dksX1_named_5 14 rfl rfl)
theorem dX1_named_133 : decode cX1_named 133 = .ok (.anewarray 165, 3) := dk_189 0 165 (dk_at dksX1_named_5 15 rfl rfl)
theorem dX1_named_136 : decode cX1_named 136 = .ok (.dup, 1) := dk_89 (dk_at dksX1_named_5 18 rfl rfl)
theorem dX1_named_137 : decode cX1_named 137 = .ok (.iconst 0, 1) := dk_3 (dk_at dksX1_named_5 19 rfl rfl)
theorem dX1_named_138 : decode cX1_named 138 = .ok (.aload 7, 2) := dk_25 7 (dk_at dksX1_named_5 20 rfl rfl)
theorem dX1_named_140 : decode cX1_named 140 = .ok (.aastore, 1) := dk_83 (dk_at dksX1_named_5 22 rfl rfl)
theorem dX1_named_141 : decode cX1_named 141 = .ok (.invokevirtual 305, 3) := dk_182 1 49 (dk_at dksX1_named_6 0 rfl rfl)
theorem dX1_named_144 : decode cX1_named 144 = .ok (.ireturn, 1) := dk_172 (dk_at dksX1_named_6 3 rfl rfl)
abbrev cX1_partOf : ByteArray := prog_1_method_19_code
def yX1_partOf : MethodName := ⟨RX1, "partOf", "(IZ)LRowenTongue$Term;"⟩
def dkwX1_partOf_0 : List UInt8 := [42, 27, 182, 1, 16, 78, 45, 182, 1, 20, 28, 160, 0, 7, 4, 167, 0, 4, 3, 184, 1, 12, 45, 176]
abbrev dktX1_partOf_0 : List UInt8 := dkwX1_partOf_0 ++ []
theorem dksX1_partOf_0 : cX1_partOf.data.toList.drop 0 = dktX1_partOf_0 := by decide +kernel
theorem dX1_partOf_0 : decode cX1_partOf 0 = .ok (.aload_n 0, 1) := dk_42 (dk_at dksX1_partOf_0 0 rfl rfl)
theorem dX1_partOf_1 : decode cX1_partOf 1 = .ok (.iload_n 1, 1) := dk_27 (dk_at dksX1_partOf_0 1 rfl rfl)
theorem dX1_partOf_2 : decode cX1_partOf 2 = .ok (.invokevirtual 272, 3) := dk_182 1 16 (dk_at dksX1_partOf_0 2 rfl rfl)
theorem dX1_partOf_5 : decode cX1_partOf 5 = .ok (.astore_n 3, 1) := dk_78 (dk_at dksX1_partOf_0 5 rfl rfl)
theorem dX1_partOf_6 : decode cX1_partOf 6 = .ok (.aload_n 3, 1) := dk_45 (dk_at dksX1_partOf_0 6 rfl rfl)
theorem dX1_partOf_7 : decode cX1_partOf 7 = .ok (.invokevirtual 276, 3) := dk_182 1 20 (dk_at dksX1_partOf_0 7 rfl rfl)
theorem dX1_partOf_10 : decode cX1_partOf 10 = .ok (.iload_n 2, 1) := dk_28 (dk_at dksX1_partOf_0 10 rfl rfl)
theorem dX1_partOf_11 : decode cX1_partOf 11 = .ok (.if_icmp .ne 7, 3) := dk_160 0 7 (dk_at dksX1_partOf_0 11 rfl rfl)
theorem dX1_partOf_14 : decode cX1_partOf 14 = .ok (.iconst 1, 1) := dk_4 (dk_at dksX1_partOf_0 14 rfl rfl)
theorem dX1_partOf_15 : decode cX1_partOf 15 = .ok (.goto 4, 3) := dk_167 0 4 (dk_at dksX1_partOf_0 15 rfl rfl)
theorem dX1_partOf_18 : decode cX1_partOf 18 = .ok (.iconst 0, 1) := dk_3 (dk_at dksX1_partOf_0 18 rfl rfl)
theorem dX1_partOf_19 : decode cX1_partOf 19 = .ok (.invokestatic 268, 3) := dk_184 1 12 (dk_at dksX1_partOf_0 19 rfl rfl)
theorem dX1_partOf_22 : decode cX1_partOf 22 = .ok (.aload_n 3, 1) := dk_45 (dk_at dksX1_partOf_0 22 rfl rfl)
theorem dX1_partOf_23 : decode cX1_partOf 23 = .ok (.areturn, 1) := dk_176 (dk_at dksX1_partOf_0 23 rfl rfl)
abbrev cX1_termOf : ByteArray := prog_1_method_18_code
def yX1_termOf : MethodName := ⟨RX1, "termOf", "(I)LRowenTongue$Term;"⟩
def dkwX1_termOf_1 : List UInt8 := [180, 0, 10, 27, 182, 0, 133, 192, 0, 165, 176]
abbrev dktX1_termOf_1 : List UInt8 := dkwX1_termOf_1 ++ []
def dkwX1_termOf_0 : List UInt8 := [27, 155, 0, 18, 27, 42, 180, 0, 10, 182, 1, 9, 162, 0, 7, 4, 167, 0, 4, 3, 184, 1, 12, 42]
abbrev dktX1_termOf_0 : List UInt8 := dkwX1_termOf_0 ++ dktX1_termOf_1
theorem dksX1_termOf_0 : cX1_termOf.data.toList.drop 0 = dktX1_termOf_0 := by decide +kernel
theorem dksX1_termOf_1 : cX1_termOf.data.toList.drop 24 = dktX1_termOf_1 := dk_seg dksX1_termOf_0 24 rfl rfl
theorem dX1_termOf_0 : decode cX1_termOf 0 = .ok (.iload_n 1, 1) := dk_27 (dk_at dksX1_termOf_0 0 rfl rfl)
theorem dX1_termOf_1 : decode cX1_termOf 1 = .ok (.ifCond .lt 18, 3) := dk_155 0 18 (dk_at dksX1_termOf_0 1 rfl rfl)
theorem dX1_termOf_4 : decode cX1_termOf 4 = .ok (.iload_n 1, 1) := dk_27 (dk_at dksX1_termOf_0 4 rfl rfl)
theorem dX1_termOf_5 : decode cX1_termOf 5 = .ok (.aload_n 0, 1) := dk_42 (dk_at dksX1_termOf_0 5 rfl rfl)
theorem dX1_termOf_6 : decode cX1_termOf 6 = .ok (.getfield 10, 3) := dk_180 0 10 (dk_at dksX1_termOf_0 6 rfl rfl)
theorem dX1_termOf_9 : decode cX1_termOf 9 = .ok (.invokevirtual 265, 3) := dk_182 1 9 (dk_at dksX1_termOf_0 9 rfl rfl)
theorem dX1_termOf_12 : decode cX1_termOf 12 = .ok (.if_icmp .ge 7, 3) := dk_162 0 7 (dk_at dksX1_termOf_0 12 rfl rfl)
theorem dX1_termOf_15 : decode cX1_termOf 15 = .ok (.iconst 1, 1) := dk_4 (dk_at dksX1_termOf_0 15 rfl rfl)
theorem dX1_termOf_16 : decode cX1_termOf 16 = .ok (.goto 4, 3) := dk_167 0 4 (dk_at dksX1_termOf_0 16 rfl rfl)
theorem dX1_termOf_19 : decode cX1_termOf 19 = .ok (.iconst 0, 1) := dk_3 (dk_at dksX1_termOf_0 19 rfl rfl)
theorem dX1_termOf_20 : decode cX1_termOf 20 = .ok (.invokestatic 268, 3) := dk_184 1 12 (dk_at dksX1_termOf_0 20 rfl rfl)
theorem dX1_termOf_23 : decode cX1_termOf 23 = .ok (.aload_n 0, 1) := dk_42 (dk_at dksX1_termOf_0 23 rfl rfl)
theorem dX1_termOf_24 : decode cX1_termOf 24 = .ok (.getfield 10, 3) := dk_180 0 10 (dk_at dksX1_termOf_1 0 rfl rfl)
theorem dX1_termOf_27 : decode cX1_termOf 27 = .ok (.iload_n 1, 1) := dk_27 (dk_at dksX1_termOf_1 3 rfl rfl)
theorem dX1_termOf_28 : decode cX1_termOf 28 = .ok (.invokevirtual 133, 3) := dk_182 0 133 (dk_at dksX1_termOf_1 4 rfl rfl)
theorem dX1_termOf_31 : decode cX1_termOf 31 = .ok (.checkcast 165, 3) := dk_192 0 165 (dk_at dksX1_termOf_1 7 rfl rfl)
theorem dX1_termOf_34 : decode cX1_termOf 34 = .ok (.areturn, 1) := dk_176 (dk_at dksX1_termOf_1 10 rfl rfl)
abbrev cX1_there : ByteArray := prog_1_method_17_code
def yX1_there : MethodName := ⟨RX1, "there", "(Z)V"⟩
def dkwX1_there_0 : List UInt8 := [26, 154, 0, 11, 187, 1, 6, 89, 183, 1, 8, 191, 177]
abbrev dktX1_there_0 : List UInt8 := dkwX1_there_0 ++ []
theorem dksX1_there_0 : cX1_there.data.toList.drop 0 = dktX1_there_0 := by decide +kernel
theorem dX1_there_0 : decode cX1_there 0 = .ok (.iload_n 0, 1) := dk_26 (dk_at dksX1_there_0 0 rfl rfl)
theorem dX1_there_1 : decode cX1_there 1 = .ok (.ifCond .ne 11, 3) := dk_154 0 11 (dk_at dksX1_there_0 1 rfl rfl)
theorem dX1_there_4 : decode cX1_there 4 = .ok (.new 262, 3) := dk_187 1 6 (dk_at dksX1_there_0 4 rfl rfl)
theorem dX1_there_7 : decode cX1_there 7 = .ok (.dup, 1) := dk_89 (dk_at dksX1_there_0 7 rfl rfl)
theorem dX1_there_8 : decode cX1_there 8 = .ok (.invokespecial 264, 3) := dk_183 1 8 (dk_at dksX1_there_0 8 rfl rfl)
theorem dX1_there_11 : decode cX1_there 11 = .ok (.athrow, 1) := dk_191 (dk_at dksX1_there_0 11 rfl rfl)
theorem dX1_there_12 : decode cX1_there 12 = .ok (.return_, 1) := dk_177 (dk_at dksX1_there_0 12 rfl rfl)
abbrev cX1_made : ByteArray := prog_1_method_24_code
def yX1_made : MethodName := ⟨RX1, "made", "(IIII)I"⟩
def dkwX1_made_4 : List UInt8 := [3, 5, 189, 0, 165, 89, 3, 25, 5, 83, 89, 4, 25, 6, 83, 182, 1, 49, 172]
abbrev dktX1_made_4 : List UInt8 := dkwX1_made_4 ++ []
def dkwX1_made_3 : List UInt8 := [89, 4, 25, 6, 83, 89, 5, 42, 21, 4, 3, 182, 1, 52, 83, 182, 1, 49, 167, 0, 24, 42, 27, 3]
abbrev dktX1_made_3 : List UInt8 := dkwX1_made_3 ++ dktX1_made_4
def dkwX1_made_2 : List UInt8 := [182, 1, 52, 58, 6, 27, 16, 12, 160, 0, 37, 42, 27, 3, 3, 6, 189, 0, 165, 89, 3, 25, 5, 83]
abbrev dktX1_made_2 : List UInt8 := dkwX1_made_2 ++ dktX1_made_3
def dkwX1_made_1 : List UInt8 := [184, 1, 45, 42, 28, 3, 182, 1, 52, 58, 5, 42, 29, 27, 16, 11, 160, 0, 7, 4, 167, 0, 4, 3]
abbrev dktX1_made_1 : List UInt8 := dkwX1_made_1 ++ dktX1_made_2
def dkwX1_made_0 : List UInt8 := [27, 6, 159, 0, 15, 27, 16, 11, 161, 0, 13, 27, 16, 14, 163, 0, 7, 3, 167, 0, 4, 2, 3, 3]
abbrev dktX1_made_0 : List UInt8 := dkwX1_made_0 ++ dktX1_made_1
theorem dksX1_made_0 : cX1_made.data.toList.drop 0 = dktX1_made_0 := by decide +kernel
theorem dksX1_made_1 : cX1_made.data.toList.drop 24 = dktX1_made_1 := dk_seg dksX1_made_0 24 rfl rfl
theorem dksX1_made_2 : cX1_made.data.toList.drop 48 = dktX1_made_2 := dk_seg dksX1_made_1 24 rfl rfl
theorem dksX1_made_3 : cX1_made.data.toList.drop 72 = dktX1_made_3 := dk_seg dksX1_made_2 24 rfl rfl
theorem dksX1_made_4 : cX1_made.data.toList.drop 96 = dktX1_made_4 := dk_seg dksX1_made_3 24 rfl rfl
theorem dX1_made_0 : decode cX1_made 0 = .ok (.iload_n 1, 1) := dk_27 (dk_at dksX1_made_0 0 rfl rfl)
theorem dX1_made_1 : decode cX1_made 1 = .ok (.iconst 3, 1) := dk_6 (dk_at dksX1_made_0 1 rfl rfl)
theorem dX1_made_2 : decode cX1_made 2 = .ok (.if_icmp .eq 15, 3) := dk_159 0 15 (dk_at dksX1_made_0 2 rfl rfl)
theorem dX1_made_5 : decode cX1_made 5 = .ok (.iload_n 1, 1) := dk_27 (dk_at dksX1_made_0 5 rfl rfl)
theorem dX1_made_6 : decode cX1_made 6 = .ok (.bipush 11, 2) := dk_16 11 (dk_at dksX1_made_0 6 rfl rfl)
theorem dX1_made_8 : decode cX1_made 8 = .ok (.if_icmp .lt 13, 3) := dk_161 0 13 (dk_at dksX1_made_0 8 rfl rfl)
theorem dX1_made_11 : decode cX1_made 11 = .ok (.iload_n 1, 1) := dk_27 (dk_at dksX1_made_0 11 rfl rfl)
theorem dX1_made_12 : decode cX1_made 12 = .ok (.bipush 14, 2) := dk_16 14 (dk_at dksX1_made_0 12 rfl rfl)
theorem dX1_made_14 : decode cX1_made 14 = .ok (.if_icmp .gt 7, 3) := dk_163 0 7 (dk_at dksX1_made_0 14 rfl rfl)
theorem dX1_made_17 : decode cX1_made 17 = .ok (.iconst 0, 1) := dk_3 (dk_at dksX1_made_0 17 rfl rfl)
theorem dX1_made_18 : decode cX1_made 18 = .ok (.goto 4, 3) := dk_167 0 4 (dk_at dksX1_made_0 18 rfl rfl)
theorem dX1_made_21 : decode cX1_made 21 = .ok (.iconst (-1), 1) := dk_2 (dk_at dksX1_made_0 21 rfl rfl)
theorem dX1_made_22 : decode cX1_made 22 = .ok (.iconst 0, 1) := dk_3 (dk_at dksX1_made_0 22 rfl rfl)
theorem dX1_made_23 : decode cX1_made 23 = .ok (.iconst 0, 1) := dk_3 (dk_at dksX1_made_0 23 rfl rfl)
theorem dX1_made_24 : decode cX1_made 24 = .ok (.invokestatic 301, 3) := dk_184 1 45 (dk_at dksX1_made_1 0 rfl rfl)
theorem dX1_made_27 : decode cX1_made 27 = .ok (.aload_n 0, 1) := dk_42 (dk_at dksX1_made_1 3 rfl rfl)
theorem dX1_made_28 : decode cX1_made 28 = .ok (.iload_n 2, 1) := dk_28 (dk_at dksX1_made_1 4 rfl rfl)
theorem dX1_made_29 : decode cX1_made 29 = .ok (.iconst 0, 1) := dk_3 (dk_at dksX1_made_1 5 rfl rfl)
theorem dX1_made_30 : decode cX1_made 30 = .ok (.invokevirtual 308, 3) := dk_182 1 52 (dk_at dksX1_made_1 6 rfl rfl)
theorem dX1_made_33 : decode cX1_made 33 = .ok (.astore 5, 2) := dk_58 5 (dk_at dksX1_made_1 9 rfl rfl)
theorem dX1_made_35 : decode cX1_made 35 = .ok (.aload_n 0, 1) := dk_42 (dk_at dksX1_made_1 11 rfl rfl)
theorem dX1_made_36 : decode cX1_made 36 = .ok (.iload_n 3, 1) := dk_29 (dk_at dksX1_made_1 12 rfl rfl)
theorem dX1_made_37 : decode cX1_made 37 = .ok (.iload_n 1, 1) := dk_27 (dk_at dksX1_made_1 13 rfl rfl)
theorem dX1_made_38 : decode cX1_made 38 = .ok (.bipush 11, 2) := dk_16 11 (dk_at dksX1_made_1 14 rfl rfl)
theorem dX1_made_40 : decode cX1_made 40 = .ok (.if_icmp .ne 7, 3) := dk_160 0 7 (dk_at dksX1_made_1 16 rfl rfl)
theorem dX1_made_43 : decode cX1_made 43 = .ok (.iconst 1, 1) := dk_4 (dk_at dksX1_made_1 19 rfl rfl)
theorem dX1_made_44 : decode cX1_made 44 = .ok (.goto 4, 3) := dk_167 0 4 (dk_at dksX1_made_1 20 rfl rfl)
theorem dX1_made_47 : decode cX1_made 47 = .ok (.iconst 0, 1) := dk_3 (dk_at dksX1_made_1 23 rfl rfl)
theorem dX1_made_48 : decode cX1_made 48 = .ok (.invokevirtual 308, 3) := dk_182 1 52 (dk_at dksX1_made_2 0 rfl rfl)
theorem dX1_made_51 : decode cX1_made 51 = .ok (.astore 6, 2) := dk_58 6 (dk_at dksX1_made_2 3 rfl rfl)
theorem dX1_made_53 : decode cX1_made 53 = .ok (.iload_n 1, 1) := dk_27 (dk_at dksX1_made_2 5 rfl rfl)
theorem dX1_made_54 : decode cX1_made 54 = .ok (.bipush 12, 2) := dk_16 12 (dk_at dksX1_made_2 6 rfl rfl)
theorem dX1_made_56 : decode cX1_made 56 = .ok (.if_icmp .ne 37, 3) := dk_160 0 37 (dk_at dksX1_made_2 8 rfl rfl)
theorem dX1_made_59 : decode cX1_made 59 = .ok (.aload_n 0, 1) := dk_42 (dk_at dksX1_made_2 11 rfl rfl)
theorem dX1_made_60 : decode cX1_made 60 = .ok (.iload_n 1, 1) := dk_27 (dk_at dksX1_made_2 12 rfl rfl)
theorem dX1_made_61 : decode cX1_made 61 = .ok (.iconst 0, 1) := dk_3 (dk_at dksX1_made_2 13 rfl rfl)
theorem dX1_made_62 : decode cX1_made 62 = .ok (.iconst 0, 1) := dk_3 (dk_at dksX1_made_2 14 rfl rfl)
theorem dX1_made_63 : decode cX1_made 63 = .ok (.iconst 3, 1) := dk_6 (dk_at dksX1_made_2 15 rfl rfl)
theorem dX1_made_64 : decode cX1_made 64 = .ok (.anewarray 165, 3) := dk_189 0 165 (dk_at dksX1_made_2 16 rfl rfl)
theorem dX1_made_67 : decode cX1_made 67 = .ok (.dup, 1) := dk_89 (dk_at dksX1_made_2 19 rfl rfl)
theorem dX1_made_68 : decode cX1_made 68 = .ok (.iconst 0, 1) := dk_3 (dk_at dksX1_made_2 20 rfl rfl)
theorem dX1_made_69 : decode cX1_made 69 = .ok (.aload 5, 2) := dk_25 5 (dk_at dksX1_made_2 21 rfl rfl)
theorem dX1_made_71 : decode cX1_made 71 = .ok (.aastore, 1) := dk_83 (dk_at dksX1_made_2 23 rfl rfl)
theorem dX1_made_72 : decode cX1_made 72 = .ok (.dup, 1) := dk_89 (dk_at dksX1_made_3 0 rfl rfl)
theorem dX1_made_73 : decode cX1_made 73 = .ok (.iconst 1, 1) := dk_4 (dk_at dksX1_made_3 1 rfl rfl)
theorem dX1_made_74 : decode cX1_made 74 = .ok (.aload 6, 2) := dk_25 6 (dk_at dksX1_made_3 2 rfl rfl)
theorem dX1_made_76 : decode cX1_made 76 = .ok (.aastore, 1) := dk_83 (dk_at dksX1_made_3 4 rfl rfl)
theorem dX1_made_77 : decode cX1_made 77 = .ok (.dup, 1) := dk_89 (dk_at dksX1_made_3 5 rfl rfl)
theorem dX1_made_78 : decode cX1_made 78 = .ok (.iconst 2, 1) := dk_5 (dk_at dksX1_made_3 6 rfl rfl)
theorem dX1_made_79 : decode cX1_made 79 = .ok (.aload_n 0, 1) := dk_42 (dk_at dksX1_made_3 7 rfl rfl)
theorem dX1_made_80 : decode cX1_made 80 = .ok (.iload 4, 2) := dk_21 4 (dk_at dksX1_made_3 8 rfl rfl)
theorem dX1_made_82 : decode cX1_made 82 = .ok (.iconst 0, 1) := dk_3 (dk_at dksX1_made_3 10 rfl rfl)
theorem dX1_made_83 : decode cX1_made 83 = .ok (.invokevirtual 308, 3) := dk_182 1 52 (dk_at dksX1_made_3 11 rfl rfl)
theorem dX1_made_86 : decode cX1_made 86 = .ok (.aastore, 1) := dk_83 (dk_at dksX1_made_3 14 rfl rfl)
theorem dX1_made_87 : decode cX1_made 87 = .ok (.invokevirtual 305, 3) := dk_182 1 49 (dk_at dksX1_made_3 15 rfl rfl)
theorem dX1_made_90 : decode cX1_made 90 = .ok (.goto 24, 3) := dk_167 0 24 (dk_at dksX1_made_3 18 rfl rfl)
theorem dX1_made_93 : decode cX1_made 93 = .ok (.aload_n 0, 1) := dk_42 (dk_at dksX1_made_3 21 rfl rfl)
theorem dX1_made_94 : decode cX1_made 94 = .ok (.iload_n 1, 1) := dk_27 (dk_at dksX1_made_3 22 rfl rfl)
theorem dX1_made_95 : decode cX1_made 95 = .ok (.iconst 0, 1) := dk_3 (dk_at dksX1_made_3 23 rfl rfl)
theorem dX1_made_96 : decode cX1_made 96 = .ok (.iconst 0, 1) := dk_3 (dk_at dksX1_made_4 0 rfl rfl)
theorem dX1_made_97 : decode cX1_made 97 = .ok (.iconst 2, 1) := dk_5 (dk_at dksX1_made_4 1 rfl rfl)
theorem dX1_made_98 : decode cX1_made 98 = .ok (.anewarray 165, 3) := dk_189 0 165 (dk_at dksX1_made_4 2 rfl rfl)
theorem dX1_made_101 : decode cX1_made 101 = .ok (.dup, 1) := dk_89 (dk_at dksX1_made_4 5 rfl rfl)
theorem dX1_made_102 : decode cX1_made 102 = .ok (.iconst 0, 1) := dk_3 (dk_at dksX1_made_4 6 rfl rfl)
theorem dX1_made_103 : decode cX1_made 103 = .ok (.aload 5, 2) := dk_25 5 (dk_at dksX1_made_4 7 rfl rfl)
theorem dX1_made_105 : decode cX1_made 105 = .ok (.aastore, 1) := dk_83 (dk_at dksX1_made_4 9 rfl rfl)
theorem dX1_made_106 : decode cX1_made 106 = .ok (.dup, 1) := dk_89 (dk_at dksX1_made_4 10 rfl rfl)
theorem dX1_made_107 : decode cX1_made 107 = .ok (.iconst 1, 1) := dk_4 (dk_at dksX1_made_4 11 rfl rfl)
theorem dX1_made_108 : decode cX1_made 108 = .ok (.aload 6, 2) := dk_25 6 (dk_at dksX1_made_4 12 rfl rfl)
theorem dX1_made_110 : decode cX1_made 110 = .ok (.aastore, 1) := dk_83 (dk_at dksX1_made_4 14 rfl rfl)
theorem dX1_made_111 : decode cX1_made 111 = .ok (.invokevirtual 305, 3) := dk_182 1 49 (dk_at dksX1_made_4 15 rfl rfl)
theorem dX1_made_114 : decode cX1_made 114 = .ok (.ireturn, 1) := dk_172 (dk_at dksX1_made_4 18 rfl rfl)
abbrev cX1_match : ByteArray := prog_1_method_25_code
def yX1_match : MethodName := ⟨RX1, "match", "(IIII)I"⟩
def dkwX1_match_2 : List UInt8 := [182, 1, 49, 172]
abbrev dktX1_match_2 : List UInt8 := dkwX1_match_2 ++ []
def dkwX1_match_1 : List UInt8 := [16, 17, 27, 28, 5, 189, 0, 165, 89, 3, 25, 5, 83, 89, 4, 42, 21, 4, 4, 182, 1, 52, 83]
abbrev dktX1_match_1 : List UInt8 := dkwX1_match_1 ++ dktX1_match_2
def dkwX1_match_0 : List UInt8 := [27, 3, 16, 9, 184, 1, 45, 28, 3, 16, 9, 184, 1, 45, 42, 29, 3, 182, 1, 52, 58, 5, 42]
abbrev dktX1_match_0 : List UInt8 := dkwX1_match_0 ++ dktX1_match_1
theorem dksX1_match_0 : cX1_match.data.toList.drop 0 = dktX1_match_0 := by decide +kernel
theorem dksX1_match_1 : cX1_match.data.toList.drop 23 = dktX1_match_1 := dk_seg dksX1_match_0 23 rfl rfl
theorem dksX1_match_2 : cX1_match.data.toList.drop 46 = dktX1_match_2 := dk_seg dksX1_match_1 23 rfl rfl
theorem dX1_match_0 : decode cX1_match 0 = .ok (.iload_n 1, 1) := dk_27 (dk_at dksX1_match_0 0 rfl rfl)
theorem dX1_match_1 : decode cX1_match 1 = .ok (.iconst 0, 1) := dk_3 (dk_at dksX1_match_0 1 rfl rfl)
theorem dX1_match_2 : decode cX1_match 2 = .ok (.bipush 9, 2) := dk_16 9 (dk_at dksX1_match_0 2 rfl rfl)
theorem dX1_match_4 : decode cX1_match 4 = .ok (.invokestatic 301, 3) := dk_184 1 45 (dk_at dksX1_match_0 4 rfl rfl)
theorem dX1_match_7 : decode cX1_match 7 = .ok (.iload_n 2, 1) := dk_28 (dk_at dksX1_match_0 7 rfl rfl)
theorem dX1_match_8 : decode cX1_match 8 = .ok (.iconst 0, 1) := dk_3 (dk_at dksX1_match_0 8 rfl rfl)
theorem dX1_match_9 : decode cX1_match 9 = .ok (.bipush 9, 2) := dk_16 9 (dk_at dksX1_match_0 9 rfl rfl)
theorem dX1_match_11 : decode cX1_match 11 = .ok (.invokestatic 301, 3) := dk_184 1 45 (dk_at dksX1_match_0 11 rfl rfl)
theorem dX1_match_14 : decode cX1_match 14 = .ok (.aload_n 0, 1) := dk_42 (dk_at dksX1_match_0 14 rfl rfl)
theorem dX1_match_15 : decode cX1_match 15 = .ok (.iload_n 3, 1) := dk_29 (dk_at dksX1_match_0 15 rfl rfl)
theorem dX1_match_16 : decode cX1_match 16 = .ok (.iconst 0, 1) := dk_3 (dk_at dksX1_match_0 16 rfl rfl)
theorem dX1_match_17 : decode cX1_match 17 = .ok (.invokevirtual 308, 3) := dk_182 1 52 (dk_at dksX1_match_0 17 rfl rfl)
theorem dX1_match_20 : decode cX1_match 20 = .ok (.astore 5, 2) := dk_58 5 (dk_at dksX1_match_0 20 rfl rfl)
theorem dX1_match_22 : decode cX1_match 22 = .ok (.aload_n 0, 1) := dk_42 (dk_at dksX1_match_0 22 rfl rfl)
theorem dX1_match_23 : decode cX1_match 23 = .ok (.bipush 17, 2) := dk_16 17 (dk_at dksX1_match_1 0 rfl rfl)
theorem dX1_match_25 : decode cX1_match 25 = .ok (.iload_n 1, 1) := dk_27 (dk_at dksX1_match_1 2 rfl rfl)
theorem dX1_match_26 : decode cX1_match 26 = .ok (.iload_n 2, 1) := dk_28 (dk_at dksX1_match_1 3 rfl rfl)
theorem dX1_match_27 : decode cX1_match 27 = .ok (.iconst 2, 1) := dk_5 (dk_at dksX1_match_1 4 rfl rfl)
theorem dX1_match_28 : decode cX1_match 28 = .ok (.anewarray 165, 3) := dk_189 0 165 (dk_at dksX1_match_1 5 rfl rfl)
theorem dX1_match_31 : decode cX1_match 31 = .ok (.dup, 1) := dk_89 (dk_at dksX1_match_1 8 rfl rfl)
theorem dX1_match_32 : decode cX1_match 32 = .ok (.iconst 0, 1) := dk_3 (dk_at dksX1_match_1 9 rfl rfl)
theorem dX1_match_33 : decode cX1_match 33 = .ok (.aload 5, 2) := dk_25 5 (dk_at dksX1_match_1 10 rfl rfl)
theorem dX1_match_35 : decode cX1_match 35 = .ok (.aastore, 1) := dk_83 (dk_at dksX1_match_1 12 rfl rfl)
theorem dX1_match_36 : decode cX1_match 36 = .ok (.dup, 1) := dk_89 (dk_at dksX1_match_1 13 rfl rfl)
theorem dX1_match_37 : decode cX1_match 37 = .ok (.iconst 1, 1) := dk_4 (dk_at dksX1_match_1 14 rfl rfl)
theorem dX1_match_38 : decode cX1_match 38 = .ok (.aload_n 0, 1) := dk_42 (dk_at dksX1_match_1 15 rfl rfl)
theorem dX1_match_39 : decode cX1_match 39 = .ok (.iload 4, 2) := dk_21 4 (dk_at dksX1_match_1 16 rfl rfl)
theorem dX1_match_41 : decode cX1_match 41 = .ok (.iconst 1, 1) := dk_4 (dk_at dksX1_match_1 18 rfl rfl)
theorem dX1_match_42 : decode cX1_match 42 = .ok (.invokevirtual 308, 3) := dk_182 1 52 (dk_at dksX1_match_1 19 rfl rfl)
theorem dX1_match_45 : decode cX1_match 45 = .ok (.aastore, 1) := dk_83 (dk_at dksX1_match_1 22 rfl rfl)
theorem dX1_match_46 : decode cX1_match 46 = .ok (.invokevirtual 305, 3) := dk_182 1 49 (dk_at dksX1_match_2 0 rfl rfl)
theorem dX1_match_49 : decode cX1_match 49 = .ok (.ireturn, 1) := dk_172 (dk_at dksX1_match_2 3 rfl rfl)
abbrev cX1_check : ByteArray := prog_1_method_27_code
def yX1_check : MethodName := ⟨RX1, "check", "(I)I"⟩
def dkwX1_check_2 : List UInt8 := [181, 0, 16, 45, 199, 0, 7, 3, 167, 0, 7, 45, 180, 1, 60, 172]
abbrev dktX1_check_2 : List UInt8 := dkwX1_check_2 ++ []
def dkwX1_check_1 : List UInt8 := [184, 1, 38, 180, 1, 41, 78, 42, 45, 199, 0, 7, 2, 167, 0, 10, 45, 180, 1, 56, 180, 1, 37]
abbrev dktX1_check_1 : List UInt8 := dkwX1_check_1 ++ dktX1_check_2
def dkwX1_check_0 : List UInt8 := [42, 27, 182, 1, 16, 77, 42, 2, 181, 0, 16, 44, 182, 1, 20, 153, 0, 6, 16, 7, 172, 44]
abbrev dktX1_check_0 : List UInt8 := dkwX1_check_0 ++ dktX1_check_1
theorem dksX1_check_0 : cX1_check.data.toList.drop 0 = dktX1_check_0 := by decide +kernel
theorem dksX1_check_1 : cX1_check.data.toList.drop 22 = dktX1_check_1 := dk_seg dksX1_check_0 22 rfl rfl
theorem dksX1_check_2 : cX1_check.data.toList.drop 45 = dktX1_check_2 := dk_seg dksX1_check_1 23 rfl rfl
theorem dX1_check_0 : decode cX1_check 0 = .ok (.aload_n 0, 1) := dk_42 (dk_at dksX1_check_0 0 rfl rfl)
theorem dX1_check_1 : decode cX1_check 1 = .ok (.iload_n 1, 1) := dk_27 (dk_at dksX1_check_0 1 rfl rfl)
theorem dX1_check_2 : decode cX1_check 2 = .ok (.invokevirtual 272, 3) := dk_182 1 16 (dk_at dksX1_check_0 2 rfl rfl)
theorem dX1_check_5 : decode cX1_check 5 = .ok (.astore_n 2, 1) := dk_77 (dk_at dksX1_check_0 5 rfl rfl)
theorem dX1_check_6 : decode cX1_check 6 = .ok (.aload_n 0, 1) := dk_42 (dk_at dksX1_check_0 6 rfl rfl)
theorem dX1_check_7 : decode cX1_check 7 = .ok (.iconst (-1), 1) := dk_2 (dk_at dksX1_check_0 7 rfl rfl)
theorem dX1_check_8 : decode cX1_check 8 = .ok (.putfield 16, 3) := dk_181 0 16 (dk_at dksX1_check_0 8 rfl rfl)
theorem dX1_check_11 : decode cX1_check 11 = .ok (.aload_n 2, 1) := dk_44 (dk_at dksX1_check_0 11 rfl rfl)
theorem dX1_check_12 : decode cX1_check 12 = .ok (.invokevirtual 276, 3) := dk_182 1 20 (dk_at dksX1_check_0 12 rfl rfl)
theorem dX1_check_15 : decode cX1_check 15 = .ok (.ifCond .eq 6, 3) := dk_153 0 6 (dk_at dksX1_check_0 15 rfl rfl)
theorem dX1_check_18 : decode cX1_check 18 = .ok (.bipush 7, 2) := dk_16 7 (dk_at dksX1_check_0 18 rfl rfl)
theorem dX1_check_20 : decode cX1_check 20 = .ok (.ireturn, 1) := dk_172 (dk_at dksX1_check_0 20 rfl rfl)
theorem dX1_check_21 : decode cX1_check 21 = .ok (.aload_n 2, 1) := dk_44 (dk_at dksX1_check_0 21 rfl rfl)
theorem dX1_check_22 : decode cX1_check 22 = .ok (.invokestatic 294, 3) := dk_184 1 38 (dk_at dksX1_check_1 0 rfl rfl)
theorem dX1_check_25 : decode cX1_check 25 = .ok (.getfield 297, 3) := dk_180 1 41 (dk_at dksX1_check_1 3 rfl rfl)
theorem dX1_check_28 : decode cX1_check 28 = .ok (.astore_n 3, 1) := dk_78 (dk_at dksX1_check_1 6 rfl rfl)
theorem dX1_check_29 : decode cX1_check 29 = .ok (.aload_n 0, 1) := dk_42 (dk_at dksX1_check_1 7 rfl rfl)
theorem dX1_check_30 : decode cX1_check 30 = .ok (.aload_n 3, 1) := dk_45 (dk_at dksX1_check_1 8 rfl rfl)
theorem dX1_check_31 : decode cX1_check 31 = .ok (.ifnonnull 7, 3) := dk_199 0 7 (dk_at dksX1_check_1 9 rfl rfl)
theorem dX1_check_34 : decode cX1_check 34 = .ok (.iconst (-1), 1) := dk_2 (dk_at dksX1_check_1 12 rfl rfl)
theorem dX1_check_35 : decode cX1_check 35 = .ok (.goto 10, 3) := dk_167 0 10 (dk_at dksX1_check_1 13 rfl rfl)
theorem dX1_check_38 : decode cX1_check 38 = .ok (.aload_n 3, 1) := dk_45 (dk_at dksX1_check_1 16 rfl rfl)
theorem dX1_check_39 : decode cX1_check 39 = .ok (.getfield 312, 3) := dk_180 1 56 (dk_at dksX1_check_1 17 rfl rfl)
theorem dX1_check_42 : decode cX1_check 42 = .ok (.getfield 293, 3) := dk_180 1 37 (dk_at dksX1_check_1 20 rfl rfl)
theorem dX1_check_45 : decode cX1_check 45 = .ok (.putfield 16, 3) := dk_181 0 16 (dk_at dksX1_check_2 0 rfl rfl)
theorem dX1_check_48 : decode cX1_check 48 = .ok (.aload_n 3, 1) := dk_45 (dk_at dksX1_check_2 3 rfl rfl)
theorem dX1_check_49 : decode cX1_check 49 = .ok (.ifnonnull 7, 3) := dk_199 0 7 (dk_at dksX1_check_2 4 rfl rfl)
theorem dX1_check_52 : decode cX1_check 52 = .ok (.iconst 0, 1) := dk_3 (dk_at dksX1_check_2 7 rfl rfl)
theorem dX1_check_53 : decode cX1_check 53 = .ok (.goto 7, 3) := dk_167 0 7 (dk_at dksX1_check_2 8 rfl rfl)
theorem dX1_check_56 : decode cX1_check 56 = .ok (.aload_n 3, 1) := dk_45 (dk_at dksX1_check_2 11 rfl rfl)
theorem dX1_check_57 : decode cX1_check 57 = .ok (.getfield 316, 3) := dk_180 1 60 (dk_at dksX1_check_2 12 rfl rfl)
theorem dX1_check_60 : decode cX1_check 60 = .ok (.ireturn, 1) := dk_172 (dk_at dksX1_check_2 15 rfl rfl)
abbrev cX1_found : ByteArray := prog_1_method_10_code
def yX1_found : MethodName := ⟨RX1, "found", "(LRowenTongue$Term;)LRowenTongue$Found;"⟩
def dkwX1_found_3 : List UInt8 := [180, 0, 164, 176]
abbrev dktX1_found_3 : List UInt8 := dkwX1_found_3 ++ []
def dkwX1_found_2 : List UInt8 := [167, 0, 21, 77, 42, 187, 0, 177, 89, 1, 1, 44, 3, 188, 10, 183, 0, 192, 181, 0, 164, 42]
abbrev dktX1_found_2 : List UInt8 := dkwX1_found_2 ++ dktX1_found_3
def dkwX1_found_1 : List UInt8 := [187, 0, 177, 89, 44, 180, 0, 179, 44, 180, 0, 184, 1, 43, 180, 0, 188, 183, 0, 192, 181, 0, 164]
abbrev dktX1_found_1 : List UInt8 := dkwX1_found_1 ++ dktX1_found_2
def dkwX1_found_0 : List UInt8 := [42, 180, 0, 164, 199, 0, 64, 187, 0, 170, 89, 183, 0, 172, 76, 43, 42, 1, 3, 182, 0, 173, 77, 42]
abbrev dktX1_found_0 : List UInt8 := dkwX1_found_0 ++ dktX1_found_1
theorem dksX1_found_0 : cX1_found.data.toList.drop 0 = dktX1_found_0 := by decide +kernel
theorem dksX1_found_1 : cX1_found.data.toList.drop 24 = dktX1_found_1 := dk_seg dksX1_found_0 24 rfl rfl
theorem dksX1_found_2 : cX1_found.data.toList.drop 47 = dktX1_found_2 := dk_seg dksX1_found_1 23 rfl rfl
theorem dksX1_found_3 : cX1_found.data.toList.drop 69 = dktX1_found_3 := dk_seg dksX1_found_2 22 rfl rfl
theorem dX1_found_0 : decode cX1_found 0 = .ok (.aload_n 0, 1) := dk_42 (dk_at dksX1_found_0 0 rfl rfl)
theorem dX1_found_1 : decode cX1_found 1 = .ok (.getfield 164, 3) := dk_180 0 164 (dk_at dksX1_found_0 1 rfl rfl)
theorem dX1_found_4 : decode cX1_found 4 = .ok (.ifnonnull 64, 3) := dk_199 0 64 (dk_at dksX1_found_0 4 rfl rfl)
theorem dX1_found_7 : decode cX1_found 7 = .ok (.new 170, 3) := dk_187 0 170 (dk_at dksX1_found_0 7 rfl rfl)
theorem dX1_found_10 : decode cX1_found 10 = .ok (.dup, 1) := dk_89 (dk_at dksX1_found_0 10 rfl rfl)
theorem dX1_found_11 : decode cX1_found 11 = .ok (.invokespecial 172, 3) := dk_183 0 172 (dk_at dksX1_found_0 11 rfl rfl)
theorem dX1_found_14 : decode cX1_found 14 = .ok (.astore_n 1, 1) := dk_76 (dk_at dksX1_found_0 14 rfl rfl)
theorem dX1_found_15 : decode cX1_found 15 = .ok (.aload_n 1, 1) := dk_43 (dk_at dksX1_found_0 15 rfl rfl)
theorem dX1_found_16 : decode cX1_found 16 = .ok (.aload_n 0, 1) := dk_42 (dk_at dksX1_found_0 16 rfl rfl)
theorem dX1_found_17 : decode cX1_found 17 = .ok (.aconst_null, 1) := dk_1 (dk_at dksX1_found_0 17 rfl rfl)
theorem dX1_found_18 : decode cX1_found 18 = .ok (.iconst 0, 1) := dk_3 (dk_at dksX1_found_0 18 rfl rfl)
theorem dX1_found_19 : decode cX1_found 19 = .ok (.invokevirtual 173, 3) := dk_182 0 173 (dk_at dksX1_found_0 19 rfl rfl)
theorem dX1_found_22 : decode cX1_found 22 = .ok (.astore_n 2, 1) := dk_77 (dk_at dksX1_found_0 22 rfl rfl)
theorem dX1_found_23 : decode cX1_found 23 = .ok (.aload_n 0, 1) := dk_42 (dk_at dksX1_found_0 23 rfl rfl)
theorem dX1_found_24 : decode cX1_found 24 = .ok (.new 177, 3) := dk_187 0 177 (dk_at dksX1_found_1 0 rfl rfl)
theorem dX1_found_27 : decode cX1_found 27 = .ok (.dup, 1) := dk_89 (dk_at dksX1_found_1 3 rfl rfl)
theorem dX1_found_28 : decode cX1_found 28 = .ok (.aload_n 2, 1) := dk_44 (dk_at dksX1_found_1 4 rfl rfl)
theorem dX1_found_29 : decode cX1_found 29 = .ok (.getfield 179, 3) := dk_180 0 179 (dk_at dksX1_found_1 5 rfl rfl)
theorem dX1_found_32 : decode cX1_found 32 = .ok (.aload_n 2, 1) := dk_44 (dk_at dksX1_found_1 8 rfl rfl)
theorem dX1_found_33 : decode cX1_found 33 = .ok (.getfield 184, 3) := dk_180 0 184 (dk_at dksX1_found_1 9 rfl rfl)
theorem dX1_found_36 : decode cX1_found 36 = .ok (.aconst_null, 1) := dk_1 (dk_at dksX1_found_1 12 rfl rfl)
theorem dX1_found_37 : decode cX1_found 37 = .ok (.aload_n 1, 1) := dk_43 (dk_at dksX1_found_1 13 rfl rfl)
theorem dX1_found_38 : decode cX1_found 38 = .ok (.getfield 188, 3) := dk_180 0 188 (dk_at dksX1_found_1 14 rfl rfl)
theorem dX1_found_41 : decode cX1_found 41 = .ok (.invokespecial 192, 3) := dk_183 0 192 (dk_at dksX1_found_1 17 rfl rfl)
theorem dX1_found_44 : decode cX1_found 44 = .ok (.putfield 164, 3) := dk_181 0 164 (dk_at dksX1_found_1 20 rfl rfl)
theorem dX1_found_47 : decode cX1_found 47 = .ok (.goto 21, 3) := dk_167 0 21 (dk_at dksX1_found_2 0 rfl rfl)
theorem dX1_found_50 : decode cX1_found 50 = .ok (.astore_n 2, 1) := dk_77 (dk_at dksX1_found_2 3 rfl rfl)
theorem dX1_found_51 : decode cX1_found 51 = .ok (.aload_n 0, 1) := dk_42 (dk_at dksX1_found_2 4 rfl rfl)
theorem dX1_found_52 : decode cX1_found 52 = .ok (.new 177, 3) := dk_187 0 177 (dk_at dksX1_found_2 5 rfl rfl)
theorem dX1_found_55 : decode cX1_found 55 = .ok (.dup, 1) := dk_89 (dk_at dksX1_found_2 8 rfl rfl)
theorem dX1_found_56 : decode cX1_found 56 = .ok (.aconst_null, 1) := dk_1 (dk_at dksX1_found_2 9 rfl rfl)
theorem dX1_found_57 : decode cX1_found 57 = .ok (.aconst_null, 1) := dk_1 (dk_at dksX1_found_2 10 rfl rfl)
theorem dX1_found_58 : decode cX1_found 58 = .ok (.aload_n 2, 1) := dk_44 (dk_at dksX1_found_2 11 rfl rfl)
theorem dX1_found_59 : decode cX1_found 59 = .ok (.iconst 0, 1) := dk_3 (dk_at dksX1_found_2 12 rfl rfl)
theorem dX1_found_60 : decode cX1_found 60 = .ok (.newarray .int, 2) := dk_188_10 (dk_at dksX1_found_2 13 rfl rfl)
theorem dX1_found_62 : decode cX1_found 62 = .ok (.invokespecial 192, 3) := dk_183 0 192 (dk_at dksX1_found_2 15 rfl rfl)
theorem dX1_found_65 : decode cX1_found 65 = .ok (.putfield 164, 3) := dk_181 0 164 (dk_at dksX1_found_2 18 rfl rfl)
theorem dX1_found_68 : decode cX1_found 68 = .ok (.aload_n 0, 1) := dk_42 (dk_at dksX1_found_2 21 rfl rfl)
theorem dX1_found_69 : decode cX1_found 69 = .ok (.getfield 164, 3) := dk_180 0 164 (dk_at dksX1_found_3 0 rfl rfl)
theorem dX1_found_72 : decode cX1_found 72 = .ok (.areturn, 1) := dk_176 (dk_at dksX1_found_3 3 rfl rfl)
abbrev cX1_unite : ByteArray := prog_1_method_5_code
def yX1_unite : MethodName := ⟨RX1, "unite", "(LRowenTongue$Type;LRowenTongue$Type;)V"⟩
def dkwX1_unite_8 : List UInt8 := [167, 0, 12, 187, 0, 96, 89, 5, 183, 0, 98, 191, 177]
abbrev dktX1_unite_8 : List UInt8 := dkwX1_unite_8 ++ []
def dkwX1_unite_7 : List UInt8 := [160, 0, 26, 25, 4, 180, 0, 87, 25, 5, 180, 0, 87, 184, 0, 91, 25, 4, 25, 5, 181, 0, 95]
abbrev dktX1_unite_7 : List UInt8 := dkwX1_unite_7 ++ dktX1_unite_8
def dkwX1_unite_6 : List UInt8 := [193, 0, 82, 153, 0, 45, 45, 192, 0, 82, 58, 5, 25, 4, 180, 0, 84, 25, 5, 180, 0, 84]
abbrev dktX1_unite_6 : List UInt8 := dkwX1_unite_6 ++ dktX1_unite_7
def dkwX1_unite_5 : List UInt8 := [25, 9, 181, 0, 79, 167, 0, 74, 44, 193, 0, 82, 153, 0, 58, 44, 192, 0, 82, 58, 4, 45]
abbrev dktX1_unite_5 : List UInt8 := dkwX1_unite_5 ++ dktX1_unite_6
def dkwX1_unite_4 : List UInt8 := [25, 9, 180, 0, 69, 184, 0, 72, 25, 8, 180, 0, 76, 25, 9, 180, 0, 76, 184, 0, 72, 25, 8]
abbrev dktX1_unite_4 : List UInt8 := dkwX1_unite_4 ++ dktX1_unite_5
def dkwX1_unite_3 : List UInt8 := [192, 0, 67, 58, 8, 45, 193, 0, 67, 153, 0, 45, 45, 192, 0, 67, 58, 9, 25, 8, 180, 0, 69]
abbrev dktX1_unite_3 : List UInt8 := dkwX1_unite_3 ++ dktX1_unite_4
def dkwX1_unite_2 : List UInt8 := [192, 0, 38, 58, 7, 25, 7, 44, 184, 0, 63, 167, 0, 136, 44, 193, 0, 67, 153, 0, 58, 44]
abbrev dktX1_unite_2 : List UInt8 := dkwX1_unite_2 ++ dktX1_unite_3
def dkwX1_unite_1 : List UInt8 := [192, 0, 38, 58, 6, 25, 6, 45, 184, 0, 63, 167, 0, 158, 45, 193, 0, 38, 153, 0, 18, 45]
abbrev dktX1_unite_1 : List UInt8 := dkwX1_unite_1 ++ dktX1_unite_2
def dkwX1_unite_0 : List UInt8 := [42, 182, 0, 57, 77, 43, 182, 0, 57, 78, 44, 45, 166, 0, 4, 177, 44, 193, 0, 38, 153, 0, 18, 44]
abbrev dktX1_unite_0 : List UInt8 := dkwX1_unite_0 ++ dktX1_unite_1
theorem dksX1_unite_0 : cX1_unite.data.toList.drop 0 = dktX1_unite_0 := by decide +kernel
theorem dksX1_unite_1 : cX1_unite.data.toList.drop 24 = dktX1_unite_1 := dk_seg dksX1_unite_0 24 rfl rfl
theorem dksX1_unite_2 : cX1_unite.data.toList.drop 46 = dktX1_unite_2 := dk_seg dksX1_unite_1 22 rfl rfl
theorem dksX1_unite_3 : cX1_unite.data.toList.drop 68 = dktX1_unite_3 := dk_seg dksX1_unite_2 22 rfl rfl
theorem dksX1_unite_4 : cX1_unite.data.toList.drop 91 = dktX1_unite_4 := dk_seg dksX1_unite_3 23 rfl rfl
theorem dksX1_unite_5 : cX1_unite.data.toList.drop 114 = dktX1_unite_5 := dk_seg dksX1_unite_4 23 rfl rfl
theorem dksX1_unite_6 : cX1_unite.data.toList.drop 136 = dktX1_unite_6 := dk_seg dksX1_unite_5 22 rfl rfl
theorem dksX1_unite_7 : cX1_unite.data.toList.drop 158 = dktX1_unite_7 := dk_seg dksX1_unite_6 22 rfl rfl
theorem dksX1_unite_8 : cX1_unite.data.toList.drop 181 = dktX1_unite_8 := dk_seg dksX1_unite_7 23 rfl rfl
theorem dX1_unite_0 : decode cX1_unite 0 = .ok (.aload_n 0, 1) := dk_42 (dk_at dksX1_unite_0 0 rfl rfl)
theorem dX1_unite_1 : decode cX1_unite 1 = .ok (.invokevirtual 57, 3) := dk_182 0 57 (dk_at dksX1_unite_0 1 rfl rfl)
theorem dX1_unite_4 : decode cX1_unite 4 = .ok (.astore_n 2, 1) := dk_77 (dk_at dksX1_unite_0 4 rfl rfl)
theorem dX1_unite_5 : decode cX1_unite 5 = .ok (.aload_n 1, 1) := dk_43 (dk_at dksX1_unite_0 5 rfl rfl)
theorem dX1_unite_6 : decode cX1_unite 6 = .ok (.invokevirtual 57, 3) := dk_182 0 57 (dk_at dksX1_unite_0 6 rfl rfl)
theorem dX1_unite_9 : decode cX1_unite 9 = .ok (.astore_n 3, 1) := dk_78 (dk_at dksX1_unite_0 9 rfl rfl)
theorem dX1_unite_10 : decode cX1_unite 10 = .ok (.aload_n 2, 1) := dk_44 (dk_at dksX1_unite_0 10 rfl rfl)
theorem dX1_unite_11 : decode cX1_unite 11 = .ok (.aload_n 3, 1) := dk_45 (dk_at dksX1_unite_0 11 rfl rfl)
theorem dX1_unite_12 : decode cX1_unite 12 = .ok (.if_acmp .ne 4, 3) := dk_166 0 4 (dk_at dksX1_unite_0 12 rfl rfl)
theorem dX1_unite_15 : decode cX1_unite 15 = .ok (.return_, 1) := dk_177 (dk_at dksX1_unite_0 15 rfl rfl)
theorem dX1_unite_16 : decode cX1_unite 16 = .ok (.aload_n 2, 1) := dk_44 (dk_at dksX1_unite_0 16 rfl rfl)
theorem dX1_unite_17 : decode cX1_unite 17 = .ok (.instanceof 38, 3) := dk_193 0 38 (dk_at dksX1_unite_0 17 rfl rfl)
theorem dX1_unite_20 : decode cX1_unite 20 = .ok (.ifCond .eq 18, 3) := dk_153 0 18 (dk_at dksX1_unite_0 20 rfl rfl)
theorem dX1_unite_23 : decode cX1_unite 23 = .ok (.aload_n 2, 1) := dk_44 (dk_at dksX1_unite_0 23 rfl rfl)
theorem dX1_unite_24 : decode cX1_unite 24 = .ok (.checkcast 38, 3) := dk_192 0 38 (dk_at dksX1_unite_1 0 rfl rfl)
theorem dX1_unite_27 : decode cX1_unite 27 = .ok (.astore 6, 2) := dk_58 6 (dk_at dksX1_unite_1 3 rfl rfl)
theorem dX1_unite_29 : decode cX1_unite 29 = .ok (.aload 6, 2) := dk_25 6 (dk_at dksX1_unite_1 5 rfl rfl)
theorem dX1_unite_31 : decode cX1_unite 31 = .ok (.aload_n 3, 1) := dk_45 (dk_at dksX1_unite_1 7 rfl rfl)
theorem dX1_unite_32 : decode cX1_unite 32 = .ok (.invokestatic 63, 3) := dk_184 0 63 (dk_at dksX1_unite_1 8 rfl rfl)
theorem dX1_unite_35 : decode cX1_unite 35 = .ok (.goto 158, 3) := dk_167 0 158 (dk_at dksX1_unite_1 11 rfl rfl)
theorem dX1_unite_38 : decode cX1_unite 38 = .ok (.aload_n 3, 1) := dk_45 (dk_at dksX1_unite_1 14 rfl rfl)
theorem dX1_unite_39 : decode cX1_unite 39 = .ok (.instanceof 38, 3) := dk_193 0 38 (dk_at dksX1_unite_1 15 rfl rfl)
theorem dX1_unite_42 : decode cX1_unite 42 = .ok (.ifCond .eq 18, 3) := dk_153 0 18 (dk_at dksX1_unite_1 18 rfl rfl)
theorem dX1_unite_45 : decode cX1_unite 45 = .ok (.aload_n 3, 1) := dk_45 (dk_at dksX1_unite_1 21 rfl rfl)
theorem dX1_unite_46 : decode cX1_unite 46 = .ok (.checkcast 38, 3) := dk_192 0 38 (dk_at dksX1_unite_2 0 rfl rfl)
theorem dX1_unite_49 : decode cX1_unite 49 = .ok (.astore 7, 2) := dk_58 7 (dk_at dksX1_unite_2 3 rfl rfl)
theorem dX1_unite_51 : decode cX1_unite 51 = .ok (.aload 7, 2) := dk_25 7 (dk_at dksX1_unite_2 5 rfl rfl)
theorem dX1_unite_53 : decode cX1_unite 53 = .ok (.aload_n 2, 1) := dk_44 (dk_at dksX1_unite_2 7 rfl rfl)
theorem dX1_unite_54 : decode cX1_unite 54 = .ok (.invokestatic 63, 3) := dk_184 0 63 (dk_at dksX1_unite_2 8 rfl rfl)
theorem dX1_unite_57 : decode cX1_unite 57 = .ok (.goto 136, 3) := dk_167 0 136 (dk_at dksX1_unite_2 11 rfl rfl)
theorem dX1_unite_60 : decode cX1_unite 60 = .ok (.aload_n 2, 1) := dk_44 (dk_at dksX1_unite_2 14 rfl rfl)
theorem dX1_unite_61 : decode cX1_unite 61 = .ok (.instanceof 67, 3) := dk_193 0 67 (dk_at dksX1_unite_2 15 rfl rfl)
theorem dX1_unite_64 : decode cX1_unite 64 = .ok (.ifCond .eq 58, 3) := dk_153 0 58 (dk_at dksX1_unite_2 18 rfl rfl)
theorem dX1_unite_67 : decode cX1_unite 67 = .ok (.aload_n 2, 1) := dk_44 (dk_at dksX1_unite_2 21 rfl rfl)
theorem dX1_unite_68 : decode cX1_unite 68 = .ok (.checkcast 67, 3) := dk_192 0 67 (dk_at dksX1_unite_3 0 rfl rfl)
theorem dX1_unite_71 : decode cX1_unite 71 = .ok (.astore 8, 2) := dk_58 8 (dk_at dksX1_unite_3 3 rfl rfl)
theorem dX1_unite_73 : decode cX1_unite 73 = .ok (.aload_n 3, 1) := dk_45 (dk_at dksX1_unite_3 5 rfl rfl)
theorem dX1_unite_74 : decode cX1_unite 74 = .ok (.instanceof 67, 3) := dk_193 0 67 (dk_at dksX1_unite_3 6 rfl rfl)
theorem dX1_unite_77 : decode cX1_unite 77 = .ok (.ifCond .eq 45, 3) := dk_153 0 45 (dk_at dksX1_unite_3 9 rfl rfl)
theorem dX1_unite_80 : decode cX1_unite 80 = .ok (.aload_n 3, 1) := dk_45 (dk_at dksX1_unite_3 12 rfl rfl)
theorem dX1_unite_81 : decode cX1_unite 81 = .ok (.checkcast 67, 3) := dk_192 0 67 (dk_at dksX1_unite_3 13 rfl rfl)
theorem dX1_unite_84 : decode cX1_unite 84 = .ok (.astore 9, 2) := dk_58 9 (dk_at dksX1_unite_3 16 rfl rfl)
theorem dX1_unite_86 : decode cX1_unite 86 = .ok (.aload 8, 2) := dk_25 8 (dk_at dksX1_unite_3 18 rfl rfl)
theorem dX1_unite_88 : decode cX1_unite 88 = .ok (.getfield 69, 3) := dk_180 0 69 (dk_at dksX1_unite_3 20 rfl rfl)
theorem dX1_unite_91 : decode cX1_unite 91 = .ok (.aload 9, 2) := dk_25 9 (dk_at dksX1_unite_4 0 rfl rfl)
theorem dX1_unite_93 : decode cX1_unite 93 = .ok (.getfield 69, 3) := dk_180 0 69 (dk_at dksX1_unite_4 2 rfl rfl)
theorem dX1_unite_96 : decode cX1_unite 96 = .ok (.invokestatic 72, 3) := dk_184 0 72 (dk_at dksX1_unite_4 5 rfl rfl)
theorem dX1_unite_99 : decode cX1_unite 99 = .ok (.aload 8, 2) := dk_25 8 (dk_at dksX1_unite_4 8 rfl rfl)
theorem dX1_unite_101 : decode cX1_unite 101 = .ok (.getfield 76, 3) := dk_180 0 76 (dk_at dksX1_unite_4 10 rfl rfl)
theorem dX1_unite_104 : decode cX1_unite 104 = .ok (.aload 9, 2) := dk_25 9 (dk_at dksX1_unite_4 13 rfl rfl)
theorem dX1_unite_106 : decode cX1_unite 106 = .ok (.getfield 76, 3) := dk_180 0 76 (dk_at dksX1_unite_4 15 rfl rfl)
theorem dX1_unite_109 : decode cX1_unite 109 = .ok (.invokestatic 72, 3) := dk_184 0 72 (dk_at dksX1_unite_4 18 rfl rfl)
theorem dX1_unite_112 : decode cX1_unite 112 = .ok (.aload 8, 2) := dk_25 8 (dk_at dksX1_unite_4 21 rfl rfl)
theorem dX1_unite_114 : decode cX1_unite 114 = .ok (.aload 9, 2) := dk_25 9 (dk_at dksX1_unite_5 0 rfl rfl)
theorem dX1_unite_116 : decode cX1_unite 116 = .ok (.putfield 79, 3) := dk_181 0 79 (dk_at dksX1_unite_5 2 rfl rfl)
theorem dX1_unite_119 : decode cX1_unite 119 = .ok (.goto 74, 3) := dk_167 0 74 (dk_at dksX1_unite_5 5 rfl rfl)
theorem dX1_unite_122 : decode cX1_unite 122 = .ok (.aload_n 2, 1) := dk_44 (dk_at dksX1_unite_5 8 rfl rfl)
theorem dX1_unite_123 : decode cX1_unite 123 = .ok (.instanceof 82, 3) := dk_193 0 82 (dk_at dksX1_unite_5 9 rfl rfl)
theorem dX1_unite_126 : decode cX1_unite 126 = .ok (.ifCond .eq 58, 3) := dk_153 0 58 (dk_at dksX1_unite_5 12 rfl rfl)
theorem dX1_unite_129 : decode cX1_unite 129 = .ok (.aload_n 2, 1) := dk_44 (dk_at dksX1_unite_5 15 rfl rfl)
theorem dX1_unite_130 : decode cX1_unite 130 = .ok (.checkcast 82, 3) := dk_192 0 82 (dk_at dksX1_unite_5 16 rfl rfl)
theorem dX1_unite_133 : decode cX1_unite 133 = .ok (.astore 4, 2) := dk_58 4 (dk_at dksX1_unite_5 19 rfl rfl)
theorem dX1_unite_135 : decode cX1_unite 135 = .ok (.aload_n 3, 1) := dk_45 (dk_at dksX1_unite_5 21 rfl rfl)
theorem dX1_unite_136 : decode cX1_unite 136 = .ok (.instanceof 82, 3) := dk_193 0 82 (dk_at dksX1_unite_6 0 rfl rfl)
theorem dX1_unite_139 : decode cX1_unite 139 = .ok (.ifCond .eq 45, 3) := dk_153 0 45 (dk_at dksX1_unite_6 3 rfl rfl)
theorem dX1_unite_142 : decode cX1_unite 142 = .ok (.aload_n 3, 1) := dk_45 (dk_at dksX1_unite_6 6 rfl rfl)
theorem dX1_unite_143 : decode cX1_unite 143 = .ok (.checkcast 82, 3) := dk_192 0 82 (dk_at dksX1_unite_6 7 rfl rfl)
theorem dX1_unite_146 : decode cX1_unite 146 = .ok (.astore 5, 2) := dk_58 5 (dk_at dksX1_unite_6 10 rfl rfl)
theorem dX1_unite_148 : decode cX1_unite 148 = .ok (.aload 4, 2) := dk_25 4 (dk_at dksX1_unite_6 12 rfl rfl)
theorem dX1_unite_150 : decode cX1_unite 150 = .ok (.getfield 84, 3) := dk_180 0 84 (dk_at dksX1_unite_6 14 rfl rfl)
theorem dX1_unite_153 : decode cX1_unite 153 = .ok (.aload 5, 2) := dk_25 5 (dk_at dksX1_unite_6 17 rfl rfl)
theorem dX1_unite_155 : decode cX1_unite 155 = .ok (.getfield 84, 3) := dk_180 0 84 (dk_at dksX1_unite_6 19 rfl rfl)
theorem dX1_unite_158 : decode cX1_unite 158 = .ok (.if_icmp .ne 26, 3) := dk_160 0 26 (dk_at dksX1_unite_7 0 rfl rfl)
theorem dX1_unite_161 : decode cX1_unite 161 = .ok (.aload 4, 2) := dk_25 4 (dk_at dksX1_unite_7 3 rfl rfl)
theorem dX1_unite_163 : decode cX1_unite 163 = .ok (.getfield 87, 3) := dk_180 0 87 (dk_at dksX1_unite_7 5 rfl rfl)
theorem dX1_unite_166 : decode cX1_unite 166 = .ok (.aload 5, 2) := dk_25 5 (dk_at dksX1_unite_7 8 rfl rfl)
theorem dX1_unite_168 : decode cX1_unite 168 = .ok (.getfield 87, 3) := dk_180 0 87 (dk_at dksX1_unite_7 10 rfl rfl)
theorem dX1_unite_171 : decode cX1_unite 171 = .ok (.invokestatic 91, 3) := dk_184 0 91 (dk_at dksX1_unite_7 13 rfl rfl)
theorem dX1_unite_174 : decode cX1_unite 174 = .ok (.aload 4, 2) := dk_25 4 (dk_at dksX1_unite_7 16 rfl rfl)
theorem dX1_unite_176 : decode cX1_unite 176 = .ok (.aload 5, 2) := dk_25 5 (dk_at dksX1_unite_7 18 rfl rfl)
theorem dX1_unite_178 : decode cX1_unite 178 = .ok (.putfield 95, 3) := dk_181 0 95 (dk_at dksX1_unite_7 20 rfl rfl)
theorem dX1_unite_181 : decode cX1_unite 181 = .ok (.goto 12, 3) := dk_167 0 12 (dk_at dksX1_unite_8 0 rfl rfl)
theorem dX1_unite_184 : decode cX1_unite 184 = .ok (.new 96, 3) := dk_187 0 96 (dk_at dksX1_unite_8 3 rfl rfl)
theorem dX1_unite_187 : decode cX1_unite 187 = .ok (.dup, 1) := dk_89 (dk_at dksX1_unite_8 6 rfl rfl)
theorem dX1_unite_188 : decode cX1_unite 188 = .ok (.iconst 2, 1) := dk_5 (dk_at dksX1_unite_8 7 rfl rfl)
theorem dX1_unite_189 : decode cX1_unite 189 = .ok (.invokespecial 98, 3) := dk_183 0 98 (dk_at dksX1_unite_8 8 rfl rfl)
theorem dX1_unite_192 : decode cX1_unite 192 = .ok (.athrow, 1) := dk_191 (dk_at dksX1_unite_8 11 rfl rfl)
theorem dX1_unite_193 : decode cX1_unite 193 = .ok (.return_, 1) := dk_177 (dk_at dksX1_unite_8 12 rfl rfl)
abbrev cX1_bind : ByteArray := prog_1_method_4_code
def yX1_bind : MethodName := ⟨RX1, "bind", "(LRowenTongue$Open;LRowenTongue$Type;)V"⟩
def dkwX1_bind_1 : List UInt8 := [180, 0, 49, 153, 0, 7, 43, 184, 0, 53, 177]
abbrev dktX1_bind_1 : List UInt8 := dkwX1_bind_1 ++ []
def dkwX1_bind_0 : List UInt8 := [43, 187, 0, 35, 89, 42, 1, 42, 180, 0, 37, 183, 0, 42, 184, 0, 29, 42, 43, 181, 0, 45, 42]
abbrev dktX1_bind_0 : List UInt8 := dkwX1_bind_0 ++ dktX1_bind_1
theorem dksX1_bind_0 : cX1_bind.data.toList.drop 0 = dktX1_bind_0 := by decide +kernel
theorem dksX1_bind_1 : cX1_bind.data.toList.drop 23 = dktX1_bind_1 := dk_seg dksX1_bind_0 23 rfl rfl
theorem dX1_bind_0 : decode cX1_bind 0 = .ok (.aload_n 1, 1) := dk_43 (dk_at dksX1_bind_0 0 rfl rfl)
theorem dX1_bind_1 : decode cX1_bind 1 = .ok (.new 35, 3) := dk_187 0 35 (dk_at dksX1_bind_0 1 rfl rfl)
theorem dX1_bind_4 : decode cX1_bind 4 = .ok (.dup, 1) := dk_89 (dk_at dksX1_bind_0 4 rfl rfl)
theorem dX1_bind_5 : decode cX1_bind 5 = .ok (.aload_n 0, 1) := dk_42 (dk_at dksX1_bind_0 5 rfl rfl)
theorem dX1_bind_6 : decode cX1_bind 6 = .ok (.aconst_null, 1) := dk_1 (dk_at dksX1_bind_0 6 rfl rfl)
theorem dX1_bind_7 : decode cX1_bind 7 = .ok (.aload_n 0, 1) := dk_42 (dk_at dksX1_bind_0 7 rfl rfl)
theorem dX1_bind_8 : decode cX1_bind 8 = .ok (.getfield 37, 3) := dk_180 0 37 (dk_at dksX1_bind_0 8 rfl rfl)
theorem dX1_bind_11 : decode cX1_bind 11 = .ok (.invokespecial 42, 3) := dk_183 0 42 (dk_at dksX1_bind_0 11 rfl rfl)
theorem dX1_bind_14 : decode cX1_bind 14 = .ok (.invokestatic 29, 3) := dk_184 0 29 (dk_at dksX1_bind_0 14 rfl rfl)
theorem dX1_bind_17 : decode cX1_bind 17 = .ok (.aload_n 0, 1) := dk_42 (dk_at dksX1_bind_0 17 rfl rfl)
theorem dX1_bind_18 : decode cX1_bind 18 = .ok (.aload_n 1, 1) := dk_43 (dk_at dksX1_bind_0 18 rfl rfl)
theorem dX1_bind_19 : decode cX1_bind 19 = .ok (.putfield 45, 3) := dk_181 0 45 (dk_at dksX1_bind_0 19 rfl rfl)
theorem dX1_bind_22 : decode cX1_bind 22 = .ok (.aload_n 0, 1) := dk_42 (dk_at dksX1_bind_0 22 rfl rfl)
theorem dX1_bind_23 : decode cX1_bind 23 = .ok (.getfield 49, 3) := dk_180 0 49 (dk_at dksX1_bind_1 0 rfl rfl)
theorem dX1_bind_26 : decode cX1_bind 26 = .ok (.ifCond .eq 7, 3) := dk_153 0 7 (dk_at dksX1_bind_1 3 rfl rfl)
theorem dX1_bind_29 : decode cX1_bind 29 = .ok (.aload_n 1, 1) := dk_43 (dk_at dksX1_bind_1 6 rfl rfl)
theorem dX1_bind_30 : decode cX1_bind 30 = .ok (.invokestatic 53, 3) := dk_184 0 53 (dk_at dksX1_bind_1 7 rfl rfl)
theorem dX1_bind_33 : decode cX1_bind 33 = .ok (.return_, 1) := dk_177 (dk_at dksX1_bind_1 10 rfl rfl)
abbrev cX1_has : ByteArray := prog_1_method_2_code
def yX1_has : MethodName := ⟨RX1, "has", "(II)Z"⟩
def dkwX1_has_0 : List UInt8 := [26, 27, 122, 4, 126, 153, 0, 7, 4, 167, 0, 4, 3, 172]
abbrev dktX1_has_0 : List UInt8 := dkwX1_has_0 ++ []
theorem dksX1_has_0 : cX1_has.data.toList.drop 0 = dktX1_has_0 := by decide +kernel
theorem dX1_has_0 : decode cX1_has 0 = .ok (.iload_n 0, 1) := dk_26 (dk_at dksX1_has_0 0 rfl rfl)
theorem dX1_has_1 : decode cX1_has 1 = .ok (.iload_n 1, 1) := dk_27 (dk_at dksX1_has_0 1 rfl rfl)
theorem dX1_has_2 : decode cX1_has 2 = .ok (.ishr, 1) := dk_122 (dk_at dksX1_has_0 2 rfl rfl)
theorem dX1_has_3 : decode cX1_has 3 = .ok (.iconst 1, 1) := dk_4 (dk_at dksX1_has_0 3 rfl rfl)
theorem dX1_has_4 : decode cX1_has 4 = .ok (.iand, 1) := dk_126 (dk_at dksX1_has_0 4 rfl rfl)
theorem dX1_has_5 : decode cX1_has 5 = .ok (.ifCond .eq 7, 3) := dk_153 0 7 (dk_at dksX1_has_0 5 rfl rfl)
theorem dX1_has_8 : decode cX1_has 8 = .ok (.iconst 1, 1) := dk_4 (dk_at dksX1_has_0 8 rfl rfl)
theorem dX1_has_9 : decode cX1_has 9 = .ok (.goto 4, 3) := dk_167 0 4 (dk_at dksX1_has_0 9 rfl rfl)
theorem dX1_has_12 : decode cX1_has 12 = .ok (.iconst 0, 1) := dk_3 (dk_at dksX1_has_0 12 rfl rfl)
theorem dX1_has_13 : decode cX1_has 13 = .ok (.ireturn, 1) := dk_172 (dk_at dksX1_has_0 13 rfl rfl)
abbrev cX1_liken : ByteArray := prog_1_method_3_code
def yX1_liken : MethodName := ⟨RX1, "liken", "(LRowenTongue$Type;)V"⟩
def dkwX1_liken_0 : List UInt8 := [42, 187, 0, 26, 89, 183, 0, 28, 184, 0, 29, 177]
abbrev dktX1_liken_0 : List UInt8 := dkwX1_liken_0 ++ []
theorem dksX1_liken_0 : cX1_liken.data.toList.drop 0 = dktX1_liken_0 := by decide +kernel
theorem dX1_liken_0 : decode cX1_liken 0 = .ok (.aload_n 0, 1) := dk_42 (dk_at dksX1_liken_0 0 rfl rfl)
theorem dX1_liken_1 : decode cX1_liken 1 = .ok (.new 26, 3) := dk_187 0 26 (dk_at dksX1_liken_0 1 rfl rfl)
theorem dX1_liken_4 : decode cX1_liken 4 = .ok (.dup, 1) := dk_89 (dk_at dksX1_liken_0 4 rfl rfl)
theorem dX1_liken_5 : decode cX1_liken 5 = .ok (.invokespecial 28, 3) := dk_183 0 28 (dk_at dksX1_liken_0 5 rfl rfl)
theorem dX1_liken_8 : decode cX1_liken 8 = .ok (.invokestatic 29, 3) := dk_184 0 29 (dk_at dksX1_liken_0 8 rfl rfl)
theorem dX1_liken_11 : decode cX1_liken 11 = .ok (.return_, 1) := dk_177 (dk_at dksX1_liken_0 11 rfl rfl)
abbrev cX1_uniteRows : ByteArray := prog_1_method_7_code
def yX1_uniteRows : MethodName := ⟨RX1, "uniteRows", "(LRowenTongue$Row;LRowenTongue$Row;)V"⟩
def dkwX1_uniteRows_10 : List UInt8 := [192, 0, 58, 184, 0, 72, 132, 6, 1, 167, 255, 202, 177]
abbrev dktX1_uniteRows_10 : List UInt8 := dkwX1_uniteRows_10 ++ []
def dkwX1_uniteRows_9 : List UInt8 := [153, 0, 30, 44, 180, 0, 130, 21, 6, 182, 0, 133, 192, 0, 58, 45, 180, 0, 130, 21, 6, 182, 0, 133]
abbrev dktX1_uniteRows_9 : List UInt8 := dkwX1_uniteRows_9 ++ dktX1_uniteRows_10
def dkwX1_uniteRows_8 : List UInt8 := [54, 6, 21, 6, 16, 10, 162, 0, 53, 44, 180, 0, 106, 45, 180, 0, 106, 126, 21, 6, 184, 0, 126]
abbrev dktX1_uniteRows_8 : List UInt8 := dkwX1_uniteRows_8 ++ dktX1_uniteRows_9
def dkwX1_uniteRows_7 : List UInt8 := [180, 0, 109, 199, 0, 10, 45, 180, 0, 109, 198, 0, 12, 44, 45, 21, 4, 21, 5, 184, 0, 122, 3]
abbrev dktX1_uniteRows_7 : List UInt8 := dkwX1_uniteRows_7 ++ dktX1_uniteRows_8
def dkwX1_uniteRows_6 : List UInt8 := [166, 0, 23, 21, 4, 21, 5, 128, 154, 0, 7, 4, 167, 0, 4, 3, 6, 184, 0, 113, 167, 0, 26, 44]
abbrev dktX1_uniteRows_6 : List UInt8 := dkwX1_uniteRows_6 ++ dktX1_uniteRows_7
def dkwX1_uniteRows_5 : List UInt8 := [167, 0, 4, 3, 7, 184, 0, 113, 44, 180, 0, 109, 198, 0, 34, 44, 180, 0, 109, 45, 180, 0, 109]
abbrev dktX1_uniteRows_5 : List UInt8 := dkwX1_uniteRows_5 ++ dktX1_uniteRows_6
def dkwX1_uniteRows_4 : List UInt8 := [154, 0, 25, 21, 5, 153, 0, 16, 44, 180, 0, 109, 180, 0, 117, 21, 5, 126, 154, 0, 7, 4]
abbrev dktX1_uniteRows_4 : List UInt8 := dkwX1_uniteRows_4 ++ dktX1_uniteRows_5
def dkwX1_uniteRows_3 : List UInt8 := [167, 0, 4, 3, 16, 6, 184, 0, 113, 21, 4, 153, 0, 16, 45, 180, 0, 109, 180, 0, 117, 21, 4, 126]
abbrev dktX1_uniteRows_3 : List UInt8 := dkwX1_uniteRows_3 ++ dktX1_uniteRows_4
def dkwX1_uniteRows_2 : List UInt8 := [153, 0, 10, 45, 180, 0, 109, 198, 0, 19, 21, 5, 153, 0, 10, 44, 180, 0, 109, 198, 0, 7, 4]
abbrev dktX1_uniteRows_2 : List UInt8 := dkwX1_uniteRows_2 ++ dktX1_uniteRows_3
def dkwX1_uniteRows_1 : List UInt8 := [180, 0, 106, 2, 130, 126, 54, 4, 45, 180, 0, 106, 44, 180, 0, 106, 2, 130, 126, 54, 5, 21, 4]
abbrev dktX1_uniteRows_1 : List UInt8 := dkwX1_uniteRows_1 ++ dktX1_uniteRows_2
def dkwX1_uniteRows_0 : List UInt8 := [187, 0, 101, 89, 42, 183, 0, 103, 77, 187, 0, 101, 89, 43, 183, 0, 103, 78, 44, 180, 0, 106, 45]
abbrev dktX1_uniteRows_0 : List UInt8 := dkwX1_uniteRows_0 ++ dktX1_uniteRows_1
theorem dksX1_uniteRows_0 : cX1_uniteRows.data.toList.drop 0 = dktX1_uniteRows_0 := by decide +kernel
theorem dksX1_uniteRows_1 : cX1_uniteRows.data.toList.drop 23 = dktX1_uniteRows_1 := dk_seg dksX1_uniteRows_0 23 rfl rfl
theorem dksX1_uniteRows_2 : cX1_uniteRows.data.toList.drop 46 = dktX1_uniteRows_2 := dk_seg dksX1_uniteRows_1 23 rfl rfl
theorem dksX1_uniteRows_3 : cX1_uniteRows.data.toList.drop 69 = dktX1_uniteRows_3 := dk_seg dksX1_uniteRows_2 23 rfl rfl
theorem dksX1_uniteRows_4 : cX1_uniteRows.data.toList.drop 93 = dktX1_uniteRows_4 := dk_seg dksX1_uniteRows_3 24 rfl rfl
theorem dksX1_uniteRows_5 : cX1_uniteRows.data.toList.drop 115 = dktX1_uniteRows_5 := dk_seg dksX1_uniteRows_4 22 rfl rfl
theorem dksX1_uniteRows_6 : cX1_uniteRows.data.toList.drop 138 = dktX1_uniteRows_6 := dk_seg dksX1_uniteRows_5 23 rfl rfl
theorem dksX1_uniteRows_7 : cX1_uniteRows.data.toList.drop 162 = dktX1_uniteRows_7 := dk_seg dksX1_uniteRows_6 24 rfl rfl
theorem dksX1_uniteRows_8 : cX1_uniteRows.data.toList.drop 185 = dktX1_uniteRows_8 := dk_seg dksX1_uniteRows_7 23 rfl rfl
theorem dksX1_uniteRows_9 : cX1_uniteRows.data.toList.drop 208 = dktX1_uniteRows_9 := dk_seg dksX1_uniteRows_8 23 rfl rfl
theorem dksX1_uniteRows_10 : cX1_uniteRows.data.toList.drop 232 = dktX1_uniteRows_10 := dk_seg dksX1_uniteRows_9 24 rfl rfl
theorem dX1_uniteRows_0 : decode cX1_uniteRows 0 = .ok (.new 101, 3) := dk_187 0 101 (dk_at dksX1_uniteRows_0 0 rfl rfl)
theorem dX1_uniteRows_3 : decode cX1_uniteRows 3 = .ok (.dup, 1) := dk_89 (dk_at dksX1_uniteRows_0 3 rfl rfl)
theorem dX1_uniteRows_4 : decode cX1_uniteRows 4 = .ok (.aload_n 0, 1) := dk_42 (dk_at dksX1_uniteRows_0 4 rfl rfl)
theorem dX1_uniteRows_5 : decode cX1_uniteRows 5 = .ok (.invokespecial 103, 3) := dk_183 0 103 (dk_at dksX1_uniteRows_0 5 rfl rfl)
theorem dX1_uniteRows_8 : decode cX1_uniteRows 8 = .ok (.astore_n 2, 1) := dk_77 (dk_at dksX1_uniteRows_0 8 rfl rfl)
theorem dX1_uniteRows_9 : decode cX1_uniteRows 9 = .ok (.new 101, 3) := dk_187 0 101 (dk_at dksX1_uniteRows_0 9 rfl rfl)
theorem dX1_uniteRows_12 : decode cX1_uniteRows 12 = .ok (.dup, 1) := dk_89 (dk_at dksX1_uniteRows_0 12 rfl rfl)
theorem dX1_uniteRows_13 : decode cX1_uniteRows 13 = .ok (.aload_n 1, 1) := dk_43 (dk_at dksX1_uniteRows_0 13 rfl rfl)
theorem dX1_uniteRows_14 : decode cX1_uniteRows 14 = .ok (.invokespecial 103, 3) := dk_183 0 103 (dk_at dksX1_uniteRows_0 14 rfl rfl)
theorem dX1_uniteRows_17 : decode cX1_uniteRows 17 = .ok (.astore_n 3, 1) := dk_78 (dk_at dksX1_uniteRows_0 17 rfl rfl)
theorem dX1_uniteRows_18 : decode cX1_uniteRows 18 = .ok (.aload_n 2, 1) := dk_44 (dk_at dksX1_uniteRows_0 18 rfl rfl)
theorem dX1_uniteRows_19 : decode cX1_uniteRows 19 = .ok (.getfield 106, 3) := dk_180 0 106 (dk_at dksX1_uniteRows_0 19 rfl rfl)
theorem dX1_uniteRows_22 : decode cX1_uniteRows 22 = .ok (.aload_n 3, 1) := dk_45 (dk_at dksX1_uniteRows_0 22 rfl rfl)
theorem dX1_uniteRows_23 : decode cX1_uniteRows 23 = .ok (.getfield 106, 3) := dk_180 0 106 (dk_at dksX1_uniteRows_1 0 rfl rfl)
theorem dX1_uniteRows_26 : decode cX1_uniteRows 26 = .ok (.iconst (-1), 1) := dk_2 (dk_at dksX1_uniteRows_1 3 rfl rfl)
theorem dX1_uniteRows_27 : decode cX1_uniteRows 27 = .ok (.ixor, 1) := dk_130 (dk_at dksX1_uniteRows_1 4 rfl rfl)
theorem dX1_uniteRows_28 : decode cX1_uniteRows 28 = .ok (.iand, 1) := dk_126 (dk_at dksX1_uniteRows_1 5 rfl rfl)
theorem dX1_uniteRows_29 : decode cX1_uniteRows 29 = .ok (.istore 4, 2) := dk_54 4 (dk_at dksX1_uniteRows_1 6 rfl rfl)
theorem dX1_uniteRows_31 : decode cX1_uniteRows 31 = .ok (.aload_n 3, 1) := dk_45 (dk_at dksX1_uniteRows_1 8 rfl rfl)
theorem dX1_uniteRows_32 : decode cX1_uniteRows 32 = .ok (.getfield 106, 3) := dk_180 0 106 (dk_at dksX1_uniteRows_1 9 rfl rfl)
theorem dX1_uniteRows_35 : decode cX1_uniteRows 35 = .ok (.aload_n 2, 1) := dk_44 (dk_at dksX1_uniteRows_1 12 rfl rfl)
theorem dX1_uniteRows_36 : decode cX1_uniteRows 36 = .ok (.getfield 106, 3) := dk_180 0 106 (dk_at dksX1_uniteRows_1 13 rfl rfl)
theorem dX1_uniteRows_39 : decode cX1_uniteRows 39 = .ok (.iconst (-1), 1) := dk_2 (dk_at dksX1_uniteRows_1 16 rfl rfl)
theorem dX1_uniteRows_40 : decode cX1_uniteRows 40 = .ok (.ixor, 1) := dk_130 (dk_at dksX1_uniteRows_1 17 rfl rfl)
theorem dX1_uniteRows_41 : decode cX1_uniteRows 41 = .ok (.iand, 1) := dk_126 (dk_at dksX1_uniteRows_1 18 rfl rfl)
theorem dX1_uniteRows_42 : decode cX1_uniteRows 42 = .ok (.istore 5, 2) := dk_54 5 (dk_at dksX1_uniteRows_1 19 rfl rfl)
theorem dX1_uniteRows_44 : decode cX1_uniteRows 44 = .ok (.iload 4, 2) := dk_21 4 (dk_at dksX1_uniteRows_1 21 rfl rfl)
theorem dX1_uniteRows_46 : decode cX1_uniteRows 46 = .ok (.ifCond .eq 10, 3) := dk_153 0 10 (dk_at dksX1_uniteRows_2 0 rfl rfl)
theorem dX1_uniteRows_49 : decode cX1_uniteRows 49 = .ok (.aload_n 3, 1) := dk_45 (dk_at dksX1_uniteRows_2 3 rfl rfl)
theorem dX1_uniteRows_50 : decode cX1_uniteRows 50 = .ok (.getfield 109, 3) := dk_180 0 109 (dk_at dksX1_uniteRows_2 4 rfl rfl)
theorem dX1_uniteRows_53 : decode cX1_uniteRows 53 = .ok (.ifnull 19, 3) := dk_198 0 19 (dk_at dksX1_uniteRows_2 7 rfl rfl)
theorem dX1_uniteRows_56 : decode cX1_uniteRows 56 = .ok (.iload 5, 2) := dk_21 5 (dk_at dksX1_uniteRows_2 10 rfl rfl)
theorem dX1_uniteRows_58 : decode cX1_uniteRows 58 = .ok (.ifCond .eq 10, 3) := dk_153 0 10 (dk_at dksX1_uniteRows_2 12 rfl rfl)
theorem dX1_uniteRows_61 : decode cX1_uniteRows 61 = .ok (.aload_n 2, 1) := dk_44 (dk_at dksX1_uniteRows_2 15 rfl rfl)
theorem dX1_uniteRows_62 : decode cX1_uniteRows 62 = .ok (.getfield 109, 3) := dk_180 0 109 (dk_at dksX1_uniteRows_2 16 rfl rfl)
theorem dX1_uniteRows_65 : decode cX1_uniteRows 65 = .ok (.ifnull 7, 3) := dk_198 0 7 (dk_at dksX1_uniteRows_2 19 rfl rfl)
theorem dX1_uniteRows_68 : decode cX1_uniteRows 68 = .ok (.iconst 1, 1) := dk_4 (dk_at dksX1_uniteRows_2 22 rfl rfl)
theorem dX1_uniteRows_69 : decode cX1_uniteRows 69 = .ok (.goto 4, 3) := dk_167 0 4 (dk_at dksX1_uniteRows_3 0 rfl rfl)
theorem dX1_uniteRows_72 : decode cX1_uniteRows 72 = .ok (.iconst 0, 1) := dk_3 (dk_at dksX1_uniteRows_3 3 rfl rfl)
theorem dX1_uniteRows_73 : decode cX1_uniteRows 73 = .ok (.bipush 6, 2) := dk_16 6 (dk_at dksX1_uniteRows_3 4 rfl rfl)
theorem dX1_uniteRows_75 : decode cX1_uniteRows 75 = .ok (.invokestatic 113, 3) := dk_184 0 113 (dk_at dksX1_uniteRows_3 6 rfl rfl)
theorem dX1_uniteRows_78 : decode cX1_uniteRows 78 = .ok (.iload 4, 2) := dk_21 4 (dk_at dksX1_uniteRows_3 9 rfl rfl)
theorem dX1_uniteRows_80 : decode cX1_uniteRows 80 = .ok (.ifCond .eq 16, 3) := dk_153 0 16 (dk_at dksX1_uniteRows_3 11 rfl rfl)
theorem dX1_uniteRows_83 : decode cX1_uniteRows 83 = .ok (.aload_n 3, 1) := dk_45 (dk_at dksX1_uniteRows_3 14 rfl rfl)
theorem dX1_uniteRows_84 : decode cX1_uniteRows 84 = .ok (.getfield 109, 3) := dk_180 0 109 (dk_at dksX1_uniteRows_3 15 rfl rfl)
theorem dX1_uniteRows_87 : decode cX1_uniteRows 87 = .ok (.getfield 117, 3) := dk_180 0 117 (dk_at dksX1_uniteRows_3 18 rfl rfl)
theorem dX1_uniteRows_90 : decode cX1_uniteRows 90 = .ok (.iload 4, 2) := dk_21 4 (dk_at dksX1_uniteRows_3 21 rfl rfl)
theorem dX1_uniteRows_92 : decode cX1_uniteRows 92 = .ok (.iand, 1) := dk_126 (dk_at dksX1_uniteRows_3 23 rfl rfl)
theorem dX1_uniteRows_93 : decode cX1_uniteRows 93 = .ok (.ifCond .ne 25, 3) := dk_154 0 25 (dk_at dksX1_uniteRows_4 0 rfl rfl)
theorem dX1_uniteRows_96 : decode cX1_uniteRows 96 = .ok (.iload 5, 2) := dk_21 5 (dk_at dksX1_uniteRows_4 3 rfl rfl)
theorem dX1_uniteRows_98 : decode cX1_uniteRows 98 = .ok (.ifCond .eq 16, 3) := dk_153 0 16 (dk_at dksX1_uniteRows_4 5 rfl rfl)
theorem dX1_uniteRows_101 : decode cX1_uniteRows 101 = .ok (.aload_n 2, 1) := dk_44 (dk_at dksX1_uniteRows_4 8 rfl rfl)
theorem dX1_uniteRows_102 : decode cX1_uniteRows 102 = .ok (.getfield 109, 3) := dk_180 0 109 (dk_at dksX1_uniteRows_4 9 rfl rfl)
theorem dX1_uniteRows_105 : decode cX1_uniteRows 105 = .ok (.getfield 117, 3) := dk_180 0 117 (dk_at dksX1_uniteRows_4 12 rfl rfl)
theorem dX1_uniteRows_108 : decode cX1_uniteRows 108 = .ok (.iload 5, 2) := dk_21 5 (dk_at dksX1_uniteRows_4 15 rfl rfl)
theorem dX1_uniteRows_110 : decode cX1_uniteRows 110 = .ok (.iand, 1) := dk_126 (dk_at dksX1_uniteRows_4 17 rfl rfl)
theorem dX1_uniteRows_111 : decode cX1_uniteRows 111 = .ok (.ifCond .ne 7, 3) := dk_154 0 7 (dk_at dksX1_uniteRows_4 18 rfl rfl)
theorem dX1_uniteRows_114 : decode cX1_uniteRows 114 = .ok (.iconst 1, 1) := dk_4 (dk_at dksX1_uniteRows_4 21 rfl rfl)
theorem dX1_uniteRows_115 : decode cX1_uniteRows 115 = .ok (.goto 4, 3) := dk_167 0 4 (dk_at dksX1_uniteRows_5 0 rfl rfl)
theorem dX1_uniteRows_118 : decode cX1_uniteRows 118 = .ok (.iconst 0, 1) := dk_3 (dk_at dksX1_uniteRows_5 3 rfl rfl)
theorem dX1_uniteRows_119 : decode cX1_uniteRows 119 = .ok (.iconst 4, 1) := dk_7 (dk_at dksX1_uniteRows_5 4 rfl rfl)
theorem dX1_uniteRows_120 : decode cX1_uniteRows 120 = .ok (.invokestatic 113, 3) := dk_184 0 113 (dk_at dksX1_uniteRows_5 5 rfl rfl)
theorem dX1_uniteRows_123 : decode cX1_uniteRows 123 = .ok (.aload_n 2, 1) := dk_44 (dk_at dksX1_uniteRows_5 8 rfl rfl)
theorem dX1_uniteRows_124 : decode cX1_uniteRows 124 = .ok (.getfield 109, 3) := dk_180 0 109 (dk_at dksX1_uniteRows_5 9 rfl rfl)
theorem dX1_uniteRows_127 : decode cX1_uniteRows 127 = .ok (.ifnull 34, 3) := dk_198 0 34 (dk_at dksX1_uniteRows_5 12 rfl rfl)
theorem dX1_uniteRows_130 : decode cX1_uniteRows 130 = .ok (.aload_n 2, 1) := dk_44 (dk_at dksX1_uniteRows_5 15 rfl rfl)
theorem dX1_uniteRows_131 : decode cX1_uniteRows 131 = .ok (.getfield 109, 3) := dk_180 0 109 (dk_at dksX1_uniteRows_5 16 rfl rfl)
theorem dX1_uniteRows_134 : decode cX1_uniteRows 134 = .ok (.aload_n 3, 1) := dk_45 (dk_at dksX1_uniteRows_5 19 rfl rfl)
theorem dX1_uniteRows_135 : decode cX1_uniteRows 135 = .ok (.getfield 109, 3) := dk_180 0 109 (dk_at dksX1_uniteRows_5 20 rfl rfl)
theorem dX1_uniteRows_138 : decode cX1_uniteRows 138 = .ok (.if_acmp .ne 23, 3) := dk_166 0 23 (dk_at dksX1_uniteRows_6 0 rfl rfl)
theorem dX1_uniteRows_141 : decode cX1_uniteRows 141 = .ok (.iload 4, 2) := dk_21 4 (dk_at dksX1_uniteRows_6 3 rfl rfl)
theorem dX1_uniteRows_143 : decode cX1_uniteRows 143 = .ok (.iload 5, 2) := dk_21 5 (dk_at dksX1_uniteRows_6 5 rfl rfl)
theorem dX1_uniteRows_145 : decode cX1_uniteRows 145 = .ok (.ior, 1) := dk_128 (dk_at dksX1_uniteRows_6 7 rfl rfl)
theorem dX1_uniteRows_146 : decode cX1_uniteRows 146 = .ok (.ifCond .ne 7, 3) := dk_154 0 7 (dk_at dksX1_uniteRows_6 8 rfl rfl)
theorem dX1_uniteRows_149 : decode cX1_uniteRows 149 = .ok (.iconst 1, 1) := dk_4 (dk_at dksX1_uniteRows_6 11 rfl rfl)
theorem dX1_uniteRows_150 : decode cX1_uniteRows 150 = .ok (.goto 4, 3) := dk_167 0 4 (dk_at dksX1_uniteRows_6 12 rfl rfl)
theorem dX1_uniteRows_153 : decode cX1_uniteRows 153 = .ok (.iconst 0, 1) := dk_3 (dk_at dksX1_uniteRows_6 15 rfl rfl)
theorem dX1_uniteRows_154 : decode cX1_uniteRows 154 = .ok (.iconst 3, 1) := dk_6 (dk_at dksX1_uniteRows_6 16 rfl rfl)
theorem dX1_uniteRows_155 : decode cX1_uniteRows 155 = .ok (.invokestatic 113, 3) := dk_184 0 113 (dk_at dksX1_uniteRows_6 17 rfl rfl)
theorem dX1_uniteRows_158 : decode cX1_uniteRows 158 = .ok (.goto 26, 3) := dk_167 0 26 (dk_at dksX1_uniteRows_6 20 rfl rfl)
theorem dX1_uniteRows_161 : decode cX1_uniteRows 161 = .ok (.aload_n 2, 1) := dk_44 (dk_at dksX1_uniteRows_6 23 rfl rfl)
theorem dX1_uniteRows_162 : decode cX1_uniteRows 162 = .ok (.getfield 109, 3) := dk_180 0 109 (dk_at dksX1_uniteRows_7 0 rfl rfl)
theorem dX1_uniteRows_165 : decode cX1_uniteRows 165 = .ok (.ifnonnull 10, 3) := dk_199 0 10 (dk_at dksX1_uniteRows_7 3 rfl rfl)
theorem dX1_uniteRows_168 : decode cX1_uniteRows 168 = .ok (.aload_n 3, 1) := dk_45 (dk_at dksX1_uniteRows_7 6 rfl rfl)
theorem dX1_uniteRows_169 : decode cX1_uniteRows 169 = .ok (.getfield 109, 3) := dk_180 0 109 (dk_at dksX1_uniteRows_7 7 rfl rfl)
theorem dX1_uniteRows_172 : decode cX1_uniteRows 172 = .ok (.ifnull 12, 3) := dk_198 0 12 (dk_at dksX1_uniteRows_7 10 rfl rfl)
theorem dX1_uniteRows_175 : decode cX1_uniteRows 175 = .ok (.aload_n 2, 1) := dk_44 (dk_at dksX1_uniteRows_7 13 rfl rfl)
theorem dX1_uniteRows_176 : decode cX1_uniteRows 176 = .ok (.aload_n 3, 1) := dk_45 (dk_at dksX1_uniteRows_7 14 rfl rfl)
theorem dX1_uniteRows_177 : decode cX1_uniteRows 177 = .ok (.iload 4, 2) := dk_21 4 (dk_at dksX1_uniteRows_7 15 rfl rfl)
theorem dX1_uniteRows_179 : decode cX1_uniteRows 179 = .ok (.iload 5, 2) := dk_21 5 (dk_at dksX1_uniteRows_7 17 rfl rfl)
theorem dX1_uniteRows_181 : decode cX1_uniteRows 181 = .ok (.invokestatic 122, 3) := dk_184 0 122 (dk_at dksX1_uniteRows_7 19 rfl rfl)
theorem dX1_uniteRows_184 : decode cX1_uniteRows 184 = .ok (.iconst 0, 1) := dk_3 (dk_at dksX1_uniteRows_7 22 rfl rfl)
theorem dX1_uniteRows_185 : decode cX1_uniteRows 185 = .ok (.istore 6, 2) := dk_54 6 (dk_at dksX1_uniteRows_8 0 rfl rfl)
theorem dX1_uniteRows_187 : decode cX1_uniteRows 187 = .ok (.iload 6, 2) := dk_21 6 (dk_at dksX1_uniteRows_8 2 rfl rfl)
theorem dX1_uniteRows_189 : decode cX1_uniteRows 189 = .ok (.bipush 10, 2) := dk_16 10 (dk_at dksX1_uniteRows_8 4 rfl rfl)
theorem dX1_uniteRows_191 : decode cX1_uniteRows 191 = .ok (.if_icmp .ge 53, 3) := dk_162 0 53 (dk_at dksX1_uniteRows_8 6 rfl rfl)
theorem dX1_uniteRows_194 : decode cX1_uniteRows 194 = .ok (.aload_n 2, 1) := dk_44 (dk_at dksX1_uniteRows_8 9 rfl rfl)
theorem dX1_uniteRows_195 : decode cX1_uniteRows 195 = .ok (.getfield 106, 3) := dk_180 0 106 (dk_at dksX1_uniteRows_8 10 rfl rfl)
theorem dX1_uniteRows_198 : decode cX1_uniteRows 198 = .ok (.aload_n 3, 1) := dk_45 (dk_at dksX1_uniteRows_8 13 rfl rfl)
theorem dX1_uniteRows_199 : decode cX1_uniteRows 199 = .ok (.getfield 106, 3) := dk_180 0 106 (dk_at dksX1_uniteRows_8 14 rfl rfl)
theorem dX1_uniteRows_202 : decode cX1_uniteRows 202 = .ok (.iand, 1) := dk_126 (dk_at dksX1_uniteRows_8 17 rfl rfl)
theorem dX1_uniteRows_203 : decode cX1_uniteRows 203 = .ok (.iload 6, 2) := dk_21 6 (dk_at dksX1_uniteRows_8 18 rfl rfl)
theorem dX1_uniteRows_205 : decode cX1_uniteRows 205 = .ok (.invokestatic 126, 3) := dk_184 0 126 (dk_at dksX1_uniteRows_8 20 rfl rfl)
theorem dX1_uniteRows_208 : decode cX1_uniteRows 208 = .ok (.ifCond .eq 30, 3) := dk_153 0 30 (dk_at dksX1_uniteRows_9 0 rfl rfl)
theorem dX1_uniteRows_211 : decode cX1_uniteRows 211 = .ok (.aload_n 2, 1) := dk_44 (dk_at dksX1_uniteRows_9 3 rfl rfl)
theorem dX1_uniteRows_212 : decode cX1_uniteRows 212 = .ok (.getfield 130, 3) := dk_180 0 130 (dk_at dksX1_uniteRows_9 4 rfl rfl)
theorem dX1_uniteRows_215 : decode cX1_uniteRows 215 = .ok (.iload 6, 2) := dk_21 6 (dk_at dksX1_uniteRows_9 7 rfl rfl)
theorem dX1_uniteRows_217 : decode cX1_uniteRows 217 = .ok (.invokevirtual 133, 3) := dk_182 0 133 (dk_at dksX1_uniteRows_9 9 rfl rfl)
theorem dX1_uniteRows_220 : decode cX1_uniteRows 220 = .ok (.checkcast 58, 3) := dk_192 0 58 (dk_at dksX1_uniteRows_9 12 rfl rfl)
theorem dX1_uniteRows_223 : decode cX1_uniteRows 223 = .ok (.aload_n 3, 1) := dk_45 (dk_at dksX1_uniteRows_9 15 rfl rfl)
theorem dX1_uniteRows_224 : decode cX1_uniteRows 224 = .ok (.getfield 130, 3) := dk_180 0 130 (dk_at dksX1_uniteRows_9 16 rfl rfl)
theorem dX1_uniteRows_227 : decode cX1_uniteRows 227 = .ok (.iload 6, 2) := dk_21 6 (dk_at dksX1_uniteRows_9 19 rfl rfl)
theorem dX1_uniteRows_229 : decode cX1_uniteRows 229 = .ok (.invokevirtual 133, 3) := dk_182 0 133 (dk_at dksX1_uniteRows_9 21 rfl rfl)
theorem dX1_uniteRows_232 : decode cX1_uniteRows 232 = .ok (.checkcast 58, 3) := dk_192 0 58 (dk_at dksX1_uniteRows_10 0 rfl rfl)
theorem dX1_uniteRows_235 : decode cX1_uniteRows 235 = .ok (.invokestatic 72, 3) := dk_184 0 72 (dk_at dksX1_uniteRows_10 3 rfl rfl)
theorem dX1_uniteRows_238 : decode cX1_uniteRows 238 = .ok (.iinc 6 1, 3) := dk_132 6 1 (dk_at dksX1_uniteRows_10 6 rfl rfl)
theorem dX1_uniteRows_241 : decode cX1_uniteRows 241 = .ok (.goto (-54), 3) := dk_167 255 202 (dk_at dksX1_uniteRows_10 9 rfl rfl)
theorem dX1_uniteRows_244 : decode cX1_uniteRows 244 = .ok (.return_, 1) := dk_177 (dk_at dksX1_uniteRows_10 12 rfl rfl)
abbrev cX1_must : ByteArray := prog_1_method_6_code
def yX1_must : MethodName := ⟨RX1, "must", "(ZI)V"⟩
def dkwX1_must_0 : List UInt8 := [26, 154, 0, 12, 187, 0, 96, 89, 27, 183, 0, 98, 191, 177]
abbrev dktX1_must_0 : List UInt8 := dkwX1_must_0 ++ []
theorem dksX1_must_0 : cX1_must.data.toList.drop 0 = dktX1_must_0 := by decide +kernel
theorem dX1_must_0 : decode cX1_must 0 = .ok (.iload_n 0, 1) := dk_26 (dk_at dksX1_must_0 0 rfl rfl)
theorem dX1_must_1 : decode cX1_must 1 = .ok (.ifCond .ne 12, 3) := dk_154 0 12 (dk_at dksX1_must_0 1 rfl rfl)
theorem dX1_must_4 : decode cX1_must 4 = .ok (.new 96, 3) := dk_187 0 96 (dk_at dksX1_must_0 4 rfl rfl)
theorem dX1_must_7 : decode cX1_must 7 = .ok (.dup, 1) := dk_89 (dk_at dksX1_must_0 7 rfl rfl)
theorem dX1_must_8 : decode cX1_must 8 = .ok (.iload_n 1, 1) := dk_27 (dk_at dksX1_must_0 8 rfl rfl)
theorem dX1_must_9 : decode cX1_must 9 = .ok (.invokespecial 98, 3) := dk_183 0 98 (dk_at dksX1_must_0 9 rfl rfl)
theorem dX1_must_12 : decode cX1_must 12 = .ok (.athrow, 1) := dk_191 (dk_at dksX1_must_0 12 rfl rfl)
theorem dX1_must_13 : decode cX1_must 13 = .ok (.return_, 1) := dk_177 (dk_at dksX1_must_0 13 rfl rfl)
abbrev cX1_join : ByteArray := prog_1_method_8_code
def yX1_join : MethodName := ⟨RX1, "join", "(LRowenTongue$Flat;LRowenTongue$Flat;II)V"⟩
def dkwX1_join_8 : List UInt8 := [177]
abbrev dktX1_join_8 : List UInt8 := dkwX1_join_8 ++ []
def dkwX1_join_7 : List UInt8 := [42, 180, 0, 109, 180, 0, 147, 153, 0, 17, 42, 180, 0, 109, 187, 0, 26, 89, 183, 0, 28, 184, 0, 159]
abbrev dktX1_join_7 : List UInt8 := dkwX1_join_7 ++ dktX1_join_8
def dkwX1_join_6 : List UInt8 := [153, 0, 17, 43, 180, 0, 109, 187, 0, 26, 89, 183, 0, 28, 184, 0, 159, 42, 180, 0, 109, 198, 0, 27]
abbrev dktX1_join_6 : List UInt8 := dkwX1_join_6 ++ dktX1_join_7
def dkwX1_join_5 : List UInt8 := [43, 29, 25, 4, 182, 0, 151, 184, 0, 155, 43, 180, 0, 109, 198, 0, 27, 43, 180, 0, 109, 180, 0, 147]
abbrev dktX1_join_5 : List UInt8 := dkwX1_join_5 ++ dktX1_join_6
def dkwX1_join_4 : List UInt8 := [180, 0, 109, 42, 28, 25, 4, 182, 0, 151, 184, 0, 155, 42, 180, 0, 109, 198, 0, 17, 42, 180, 0, 109]
abbrev dktX1_join_4 : List UInt8 := dkwX1_join_4 ++ dktX1_join_5
def dkwX1_join_3 : List UInt8 := [180, 0, 117, 43, 180, 0, 109, 180, 0, 117, 128, 183, 0, 148, 58, 4, 43, 180, 0, 109, 198, 0, 17, 43]
abbrev dktX1_join_3 : List UInt8 := dkwX1_join_3 ++ dktX1_join_4
def dkwX1_join_2 : List UInt8 := [154, 0, 13, 43, 180, 0, 109, 180, 0, 147, 153, 0, 7, 4, 167, 0, 4, 3, 42, 180, 0, 109]
abbrev dktX1_join_2 : List UInt8 := dkwX1_join_2 ++ dktX1_join_3
def dkwX1_join_1 : List UInt8 := [180, 0, 109, 180, 0, 140, 43, 180, 0, 109, 180, 0, 140, 184, 0, 141, 42, 180, 0, 109, 180, 0, 147]
abbrev dktX1_join_1 : List UInt8 := dkwX1_join_1 ++ dktX1_join_2
def dkwX1_join_0 : List UInt8 := [178, 0, 137, 58, 4, 42, 180, 0, 109, 198, 0, 76, 43, 180, 0, 109, 198, 0, 69, 187, 0, 118, 89, 42]
abbrev dktX1_join_0 : List UInt8 := dkwX1_join_0 ++ dktX1_join_1
theorem dksX1_join_0 : cX1_join.data.toList.drop 0 = dktX1_join_0 := by decide +kernel
theorem dksX1_join_1 : cX1_join.data.toList.drop 24 = dktX1_join_1 := dk_seg dksX1_join_0 24 rfl rfl
theorem dksX1_join_2 : cX1_join.data.toList.drop 47 = dktX1_join_2 := dk_seg dksX1_join_1 23 rfl rfl
theorem dksX1_join_3 : cX1_join.data.toList.drop 69 = dktX1_join_3 := dk_seg dksX1_join_2 22 rfl rfl
theorem dksX1_join_4 : cX1_join.data.toList.drop 93 = dktX1_join_4 := dk_seg dksX1_join_3 24 rfl rfl
theorem dksX1_join_5 : cX1_join.data.toList.drop 117 = dktX1_join_5 := dk_seg dksX1_join_4 24 rfl rfl
theorem dksX1_join_6 : cX1_join.data.toList.drop 141 = dktX1_join_6 := dk_seg dksX1_join_5 24 rfl rfl
theorem dksX1_join_7 : cX1_join.data.toList.drop 165 = dktX1_join_7 := dk_seg dksX1_join_6 24 rfl rfl
theorem dksX1_join_8 : cX1_join.data.toList.drop 189 = dktX1_join_8 := dk_seg dksX1_join_7 24 rfl rfl
theorem dX1_join_0 : decode cX1_join 0 = .ok (.getstatic 137, 3) := dk_178 0 137 (dk_at dksX1_join_0 0 rfl rfl)
theorem dX1_join_3 : decode cX1_join 3 = .ok (.astore 4, 2) := dk_58 4 (dk_at dksX1_join_0 3 rfl rfl)
theorem dX1_join_5 : decode cX1_join 5 = .ok (.aload_n 0, 1) := dk_42 (dk_at dksX1_join_0 5 rfl rfl)
theorem dX1_join_6 : decode cX1_join 6 = .ok (.getfield 109, 3) := dk_180 0 109 (dk_at dksX1_join_0 6 rfl rfl)
theorem dX1_join_9 : decode cX1_join 9 = .ok (.ifnull 76, 3) := dk_198 0 76 (dk_at dksX1_join_0 9 rfl rfl)
theorem dX1_join_12 : decode cX1_join 12 = .ok (.aload_n 1, 1) := dk_43 (dk_at dksX1_join_0 12 rfl rfl)
theorem dX1_join_13 : decode cX1_join 13 = .ok (.getfield 109, 3) := dk_180 0 109 (dk_at dksX1_join_0 13 rfl rfl)
theorem dX1_join_16 : decode cX1_join 16 = .ok (.ifnull 69, 3) := dk_198 0 69 (dk_at dksX1_join_0 16 rfl rfl)
theorem dX1_join_19 : decode cX1_join 19 = .ok (.new 118, 3) := dk_187 0 118 (dk_at dksX1_join_0 19 rfl rfl)
theorem dX1_join_22 : decode cX1_join 22 = .ok (.dup, 1) := dk_89 (dk_at dksX1_join_0 22 rfl rfl)
theorem dX1_join_23 : decode cX1_join 23 = .ok (.aload_n 0, 1) := dk_42 (dk_at dksX1_join_0 23 rfl rfl)
theorem dX1_join_24 : decode cX1_join 24 = .ok (.getfield 109, 3) := dk_180 0 109 (dk_at dksX1_join_1 0 rfl rfl)
theorem dX1_join_27 : decode cX1_join 27 = .ok (.getfield 140, 3) := dk_180 0 140 (dk_at dksX1_join_1 3 rfl rfl)
theorem dX1_join_30 : decode cX1_join 30 = .ok (.aload_n 1, 1) := dk_43 (dk_at dksX1_join_1 6 rfl rfl)
theorem dX1_join_31 : decode cX1_join 31 = .ok (.getfield 109, 3) := dk_180 0 109 (dk_at dksX1_join_1 7 rfl rfl)
theorem dX1_join_34 : decode cX1_join 34 = .ok (.getfield 140, 3) := dk_180 0 140 (dk_at dksX1_join_1 10 rfl rfl)
theorem dX1_join_37 : decode cX1_join 37 = .ok (.invokestatic 141, 3) := dk_184 0 141 (dk_at dksX1_join_1 13 rfl rfl)
theorem dX1_join_40 : decode cX1_join 40 = .ok (.aload_n 0, 1) := dk_42 (dk_at dksX1_join_1 16 rfl rfl)
theorem dX1_join_41 : decode cX1_join 41 = .ok (.getfield 109, 3) := dk_180 0 109 (dk_at dksX1_join_1 17 rfl rfl)
theorem dX1_join_44 : decode cX1_join 44 = .ok (.getfield 147, 3) := dk_180 0 147 (dk_at dksX1_join_1 20 rfl rfl)
theorem dX1_join_47 : decode cX1_join 47 = .ok (.ifCond .ne 13, 3) := dk_154 0 13 (dk_at dksX1_join_2 0 rfl rfl)
theorem dX1_join_50 : decode cX1_join 50 = .ok (.aload_n 1, 1) := dk_43 (dk_at dksX1_join_2 3 rfl rfl)
theorem dX1_join_51 : decode cX1_join 51 = .ok (.getfield 109, 3) := dk_180 0 109 (dk_at dksX1_join_2 4 rfl rfl)
theorem dX1_join_54 : decode cX1_join 54 = .ok (.getfield 147, 3) := dk_180 0 147 (dk_at dksX1_join_2 7 rfl rfl)
theorem dX1_join_57 : decode cX1_join 57 = .ok (.ifCond .eq 7, 3) := dk_153 0 7 (dk_at dksX1_join_2 10 rfl rfl)
theorem dX1_join_60 : decode cX1_join 60 = .ok (.iconst 1, 1) := dk_4 (dk_at dksX1_join_2 13 rfl rfl)
theorem dX1_join_61 : decode cX1_join 61 = .ok (.goto 4, 3) := dk_167 0 4 (dk_at dksX1_join_2 14 rfl rfl)
theorem dX1_join_64 : decode cX1_join 64 = .ok (.iconst 0, 1) := dk_3 (dk_at dksX1_join_2 17 rfl rfl)
theorem dX1_join_65 : decode cX1_join 65 = .ok (.aload_n 0, 1) := dk_42 (dk_at dksX1_join_2 18 rfl rfl)
theorem dX1_join_66 : decode cX1_join 66 = .ok (.getfield 109, 3) := dk_180 0 109 (dk_at dksX1_join_2 19 rfl rfl)
theorem dX1_join_69 : decode cX1_join 69 = .ok (.getfield 117, 3) := dk_180 0 117 (dk_at dksX1_join_3 0 rfl rfl)
theorem dX1_join_72 : decode cX1_join 72 = .ok (.aload_n 1, 1) := dk_43 (dk_at dksX1_join_3 3 rfl rfl)
theorem dX1_join_73 : decode cX1_join 73 = .ok (.getfield 109, 3) := dk_180 0 109 (dk_at dksX1_join_3 4 rfl rfl)
theorem dX1_join_76 : decode cX1_join 76 = .ok (.getfield 117, 3) := dk_180 0 117 (dk_at dksX1_join_3 7 rfl rfl)
theorem dX1_join_79 : decode cX1_join 79 = .ok (.ior, 1) := dk_128 (dk_at dksX1_join_3 10 rfl rfl)
theorem dX1_join_80 : decode cX1_join 80 = .ok (.invokespecial 148, 3) := dk_183 0 148 (dk_at dksX1_join_3 11 rfl rfl)
theorem dX1_join_83 : decode cX1_join 83 = .ok (.astore 4, 2) := dk_58 4 (dk_at dksX1_join_3 14 rfl rfl)
theorem dX1_join_85 : decode cX1_join 85 = .ok (.aload_n 1, 1) := dk_43 (dk_at dksX1_join_3 16 rfl rfl)
theorem dX1_join_86 : decode cX1_join 86 = .ok (.getfield 109, 3) := dk_180 0 109 (dk_at dksX1_join_3 17 rfl rfl)
theorem dX1_join_89 : decode cX1_join 89 = .ok (.ifnull 17, 3) := dk_198 0 17 (dk_at dksX1_join_3 20 rfl rfl)
theorem dX1_join_92 : decode cX1_join 92 = .ok (.aload_n 1, 1) := dk_43 (dk_at dksX1_join_3 23 rfl rfl)
theorem dX1_join_93 : decode cX1_join 93 = .ok (.getfield 109, 3) := dk_180 0 109 (dk_at dksX1_join_4 0 rfl rfl)
theorem dX1_join_96 : decode cX1_join 96 = .ok (.aload_n 0, 1) := dk_42 (dk_at dksX1_join_4 3 rfl rfl)
theorem dX1_join_97 : decode cX1_join 97 = .ok (.iload_n 2, 1) := dk_28 (dk_at dksX1_join_4 4 rfl rfl)
theorem dX1_join_98 : decode cX1_join 98 = .ok (.aload 4, 2) := dk_25 4 (dk_at dksX1_join_4 5 rfl rfl)
theorem dX1_join_100 : decode cX1_join 100 = .ok (.invokevirtual 151, 3) := dk_182 0 151 (dk_at dksX1_join_4 7 rfl rfl)
theorem dX1_join_103 : decode cX1_join 103 = .ok (.invokestatic 155, 3) := dk_184 0 155 (dk_at dksX1_join_4 10 rfl rfl)
theorem dX1_join_106 : decode cX1_join 106 = .ok (.aload_n 0, 1) := dk_42 (dk_at dksX1_join_4 13 rfl rfl)
theorem dX1_join_107 : decode cX1_join 107 = .ok (.getfield 109, 3) := dk_180 0 109 (dk_at dksX1_join_4 14 rfl rfl)
theorem dX1_join_110 : decode cX1_join 110 = .ok (.ifnull 17, 3) := dk_198 0 17 (dk_at dksX1_join_4 17 rfl rfl)
theorem dX1_join_113 : decode cX1_join 113 = .ok (.aload_n 0, 1) := dk_42 (dk_at dksX1_join_4 20 rfl rfl)
theorem dX1_join_114 : decode cX1_join 114 = .ok (.getfield 109, 3) := dk_180 0 109 (dk_at dksX1_join_4 21 rfl rfl)
theorem dX1_join_117 : decode cX1_join 117 = .ok (.aload_n 1, 1) := dk_43 (dk_at dksX1_join_5 0 rfl rfl)
theorem dX1_join_118 : decode cX1_join 118 = .ok (.iload_n 3, 1) := dk_29 (dk_at dksX1_join_5 1 rfl rfl)
theorem dX1_join_119 : decode cX1_join 119 = .ok (.aload 4, 2) := dk_25 4 (dk_at dksX1_join_5 2 rfl rfl)
theorem dX1_join_121 : decode cX1_join 121 = .ok (.invokevirtual 151, 3) := dk_182 0 151 (dk_at dksX1_join_5 4 rfl rfl)
theorem dX1_join_124 : decode cX1_join 124 = .ok (.invokestatic 155, 3) := dk_184 0 155 (dk_at dksX1_join_5 7 rfl rfl)
theorem dX1_join_127 : decode cX1_join 127 = .ok (.aload_n 1, 1) := dk_43 (dk_at dksX1_join_5 10 rfl rfl)
theorem dX1_join_128 : decode cX1_join 128 = .ok (.getfield 109, 3) := dk_180 0 109 (dk_at dksX1_join_5 11 rfl rfl)
theorem dX1_join_131 : decode cX1_join 131 = .ok (.ifnull 27, 3) := dk_198 0 27 (dk_at dksX1_join_5 14 rfl rfl)
theorem dX1_join_134 : decode cX1_join 134 = .ok (.aload_n 1, 1) := dk_43 (dk_at dksX1_join_5 17 rfl rfl)
theorem dX1_join_135 : decode cX1_join 135 = .ok (.getfield 109, 3) := dk_180 0 109 (dk_at dksX1_join_5 18 rfl rfl)
theorem dX1_join_138 : decode cX1_join 138 = .ok (.getfield 147, 3) := dk_180 0 147 (dk_at dksX1_join_5 21 rfl rfl)
theorem dX1_join_141 : decode cX1_join 141 = .ok (.ifCond .eq 17, 3) := dk_153 0 17 (dk_at dksX1_join_6 0 rfl rfl)
theorem dX1_join_144 : decode cX1_join 144 = .ok (.aload_n 1, 1) := dk_43 (dk_at dksX1_join_6 3 rfl rfl)
theorem dX1_join_145 : decode cX1_join 145 = .ok (.getfield 109, 3) := dk_180 0 109 (dk_at dksX1_join_6 4 rfl rfl)
theorem dX1_join_148 : decode cX1_join 148 = .ok (.new 26, 3) := dk_187 0 26 (dk_at dksX1_join_6 7 rfl rfl)
theorem dX1_join_151 : decode cX1_join 151 = .ok (.dup, 1) := dk_89 (dk_at dksX1_join_6 10 rfl rfl)
theorem dX1_join_152 : decode cX1_join 152 = .ok (.invokespecial 28, 3) := dk_183 0 28 (dk_at dksX1_join_6 11 rfl rfl)
theorem dX1_join_155 : decode cX1_join 155 = .ok (.invokestatic 159, 3) := dk_184 0 159 (dk_at dksX1_join_6 14 rfl rfl)
theorem dX1_join_158 : decode cX1_join 158 = .ok (.aload_n 0, 1) := dk_42 (dk_at dksX1_join_6 17 rfl rfl)
theorem dX1_join_159 : decode cX1_join 159 = .ok (.getfield 109, 3) := dk_180 0 109 (dk_at dksX1_join_6 18 rfl rfl)
theorem dX1_join_162 : decode cX1_join 162 = .ok (.ifnull 27, 3) := dk_198 0 27 (dk_at dksX1_join_6 21 rfl rfl)
theorem dX1_join_165 : decode cX1_join 165 = .ok (.aload_n 0, 1) := dk_42 (dk_at dksX1_join_7 0 rfl rfl)
theorem dX1_join_166 : decode cX1_join 166 = .ok (.getfield 109, 3) := dk_180 0 109 (dk_at dksX1_join_7 1 rfl rfl)
theorem dX1_join_169 : decode cX1_join 169 = .ok (.getfield 147, 3) := dk_180 0 147 (dk_at dksX1_join_7 4 rfl rfl)
theorem dX1_join_172 : decode cX1_join 172 = .ok (.ifCond .eq 17, 3) := dk_153 0 17 (dk_at dksX1_join_7 7 rfl rfl)
theorem dX1_join_175 : decode cX1_join 175 = .ok (.aload_n 0, 1) := dk_42 (dk_at dksX1_join_7 10 rfl rfl)
theorem dX1_join_176 : decode cX1_join 176 = .ok (.getfield 109, 3) := dk_180 0 109 (dk_at dksX1_join_7 11 rfl rfl)
theorem dX1_join_179 : decode cX1_join 179 = .ok (.new 26, 3) := dk_187 0 26 (dk_at dksX1_join_7 14 rfl rfl)
theorem dX1_join_182 : decode cX1_join 182 = .ok (.dup, 1) := dk_89 (dk_at dksX1_join_7 17 rfl rfl)
theorem dX1_join_183 : decode cX1_join 183 = .ok (.invokespecial 28, 3) := dk_183 0 28 (dk_at dksX1_join_7 18 rfl rfl)
theorem dX1_join_186 : decode cX1_join 186 = .ok (.invokestatic 159, 3) := dk_184 0 159 (dk_at dksX1_join_7 21 rfl rfl)
theorem dX1_join_189 : decode cX1_join 189 = .ok (.return_, 1) := dk_177 (dk_at dksX1_join_8 0 rfl rfl)
abbrev cX1_close : ByteArray := prog_1_method_9_code
def yX1_close : MethodName := ⟨RX1, "close", "(LRowenTongue$OpenRow;LRowenTongue$Row;)V"⟩
def dkwX1_close_0 : List UInt8 := [43, 187, 0, 35, 89, 1, 42, 42, 180, 0, 140, 183, 0, 42, 184, 0, 159, 42, 43, 181, 0, 162, 177]
abbrev dktX1_close_0 : List UInt8 := dkwX1_close_0 ++ []
theorem dksX1_close_0 : cX1_close.data.toList.drop 0 = dktX1_close_0 := by decide +kernel
theorem dX1_close_0 : decode cX1_close 0 = .ok (.aload_n 1, 1) := dk_43 (dk_at dksX1_close_0 0 rfl rfl)
theorem dX1_close_1 : decode cX1_close 1 = .ok (.new 35, 3) := dk_187 0 35 (dk_at dksX1_close_0 1 rfl rfl)
theorem dX1_close_4 : decode cX1_close 4 = .ok (.dup, 1) := dk_89 (dk_at dksX1_close_0 4 rfl rfl)
theorem dX1_close_5 : decode cX1_close 5 = .ok (.aconst_null, 1) := dk_1 (dk_at dksX1_close_0 5 rfl rfl)
theorem dX1_close_6 : decode cX1_close 6 = .ok (.aload_n 0, 1) := dk_42 (dk_at dksX1_close_0 6 rfl rfl)
theorem dX1_close_7 : decode cX1_close 7 = .ok (.aload_n 0, 1) := dk_42 (dk_at dksX1_close_0 7 rfl rfl)
theorem dX1_close_8 : decode cX1_close 8 = .ok (.getfield 140, 3) := dk_180 0 140 (dk_at dksX1_close_0 8 rfl rfl)
theorem dX1_close_11 : decode cX1_close 11 = .ok (.invokespecial 42, 3) := dk_183 0 42 (dk_at dksX1_close_0 11 rfl rfl)
theorem dX1_close_14 : decode cX1_close 14 = .ok (.invokestatic 159, 3) := dk_184 0 159 (dk_at dksX1_close_0 14 rfl rfl)
theorem dX1_close_17 : decode cX1_close 17 = .ok (.aload_n 0, 1) := dk_42 (dk_at dksX1_close_0 17 rfl rfl)
theorem dX1_close_18 : decode cX1_close 18 = .ok (.aload_n 1, 1) := dk_43 (dk_at dksX1_close_0 18 rfl rfl)
theorem dX1_close_19 : decode cX1_close 19 = .ok (.putfield 162, 3) := dk_181 0 162 (dk_at dksX1_close_0 19 rfl rfl)
theorem dX1_close_22 : decode cX1_close 22 = .ok (.return_, 1) := dk_177 (dk_at dksX1_close_0 22 rfl rfl)
abbrev cX1_size : ByteArray := prog_1_method_29_code
def yX1_size : MethodName := ⟨RX1, "size", "(I)I"⟩
def dkwX1_size_0 : List UInt8 := [42, 27, 182, 1, 63, 184, 1, 67, 182, 1, 71, 172]
abbrev dktX1_size_0 : List UInt8 := dkwX1_size_0 ++ []
theorem dksX1_size_0 : cX1_size.data.toList.drop 0 = dktX1_size_0 := by decide +kernel
theorem dX1_size_0 : decode cX1_size 0 = .ok (.aload_n 0, 1) := dk_42 (dk_at dksX1_size_0 0 rfl rfl)
theorem dX1_size_1 : decode cX1_size 1 = .ok (.iload_n 1, 1) := dk_27 (dk_at dksX1_size_0 1 rfl rfl)
theorem dX1_size_2 : decode cX1_size 2 = .ok (.invokevirtual 319, 3) := dk_182 1 63 (dk_at dksX1_size_0 2 rfl rfl)
theorem dX1_size_5 : decode cX1_size 5 = .ok (.invokestatic 323, 3) := dk_184 1 67 (dk_at dksX1_size_0 5 rfl rfl)
theorem dX1_size_8 : decode cX1_size 8 = .ok (.invokevirtual 327, 3) := dk_182 1 71 (dk_at dksX1_size_0 8 rfl rfl)
theorem dX1_size_11 : decode cX1_size 11 = .ok (.ireturn, 1) := dk_172 (dk_at dksX1_size_0 11 rfl rfl)
abbrev cX1_typeOf : ByteArray := prog_1_method_21_code
def yX1_typeOf : MethodName := ⟨RX1, "typeOf", "(I)LRowenTongue$Found;"⟩
def dkwX1_typeOf_1 : List UInt8 := [167, 0, 4, 3, 184, 1, 30, 44, 184, 1, 38, 176]
abbrev dktX1_typeOf_1 : List UInt8 := dkwX1_typeOf_1 ++ []
def dkwX1_typeOf_0 : List UInt8 := [42, 27, 182, 1, 16, 77, 44, 182, 1, 20, 154, 0, 17, 44, 184, 1, 38, 180, 1, 41, 199, 0, 7, 4]
abbrev dktX1_typeOf_0 : List UInt8 := dkwX1_typeOf_0 ++ dktX1_typeOf_1
theorem dksX1_typeOf_0 : cX1_typeOf.data.toList.drop 0 = dktX1_typeOf_0 := by decide +kernel
theorem dksX1_typeOf_1 : cX1_typeOf.data.toList.drop 24 = dktX1_typeOf_1 := dk_seg dksX1_typeOf_0 24 rfl rfl
theorem dX1_typeOf_0 : decode cX1_typeOf 0 = .ok (.aload_n 0, 1) := dk_42 (dk_at dksX1_typeOf_0 0 rfl rfl)
theorem dX1_typeOf_1 : decode cX1_typeOf 1 = .ok (.iload_n 1, 1) := dk_27 (dk_at dksX1_typeOf_0 1 rfl rfl)
theorem dX1_typeOf_2 : decode cX1_typeOf 2 = .ok (.invokevirtual 272, 3) := dk_182 1 16 (dk_at dksX1_typeOf_0 2 rfl rfl)
theorem dX1_typeOf_5 : decode cX1_typeOf 5 = .ok (.astore_n 2, 1) := dk_77 (dk_at dksX1_typeOf_0 5 rfl rfl)
theorem dX1_typeOf_6 : decode cX1_typeOf 6 = .ok (.aload_n 2, 1) := dk_44 (dk_at dksX1_typeOf_0 6 rfl rfl)
theorem dX1_typeOf_7 : decode cX1_typeOf 7 = .ok (.invokevirtual 276, 3) := dk_182 1 20 (dk_at dksX1_typeOf_0 7 rfl rfl)
theorem dX1_typeOf_10 : decode cX1_typeOf 10 = .ok (.ifCond .ne 17, 3) := dk_154 0 17 (dk_at dksX1_typeOf_0 10 rfl rfl)
theorem dX1_typeOf_13 : decode cX1_typeOf 13 = .ok (.aload_n 2, 1) := dk_44 (dk_at dksX1_typeOf_0 13 rfl rfl)
theorem dX1_typeOf_14 : decode cX1_typeOf 14 = .ok (.invokestatic 294, 3) := dk_184 1 38 (dk_at dksX1_typeOf_0 14 rfl rfl)
theorem dX1_typeOf_17 : decode cX1_typeOf 17 = .ok (.getfield 297, 3) := dk_180 1 41 (dk_at dksX1_typeOf_0 17 rfl rfl)
theorem dX1_typeOf_20 : decode cX1_typeOf 20 = .ok (.ifnonnull 7, 3) := dk_199 0 7 (dk_at dksX1_typeOf_0 20 rfl rfl)
theorem dX1_typeOf_23 : decode cX1_typeOf 23 = .ok (.iconst 1, 1) := dk_4 (dk_at dksX1_typeOf_0 23 rfl rfl)
theorem dX1_typeOf_24 : decode cX1_typeOf 24 = .ok (.goto 4, 3) := dk_167 0 4 (dk_at dksX1_typeOf_1 0 rfl rfl)
theorem dX1_typeOf_27 : decode cX1_typeOf 27 = .ok (.iconst 0, 1) := dk_3 (dk_at dksX1_typeOf_1 3 rfl rfl)
theorem dX1_typeOf_28 : decode cX1_typeOf 28 = .ok (.invokestatic 286, 3) := dk_184 1 30 (dk_at dksX1_typeOf_1 4 rfl rfl)
theorem dX1_typeOf_31 : decode cX1_typeOf 31 = .ok (.aload_n 2, 1) := dk_44 (dk_at dksX1_typeOf_1 7 rfl rfl)
theorem dX1_typeOf_32 : decode cX1_typeOf 32 = .ok (.invokestatic 294, 3) := dk_184 1 38 (dk_at dksX1_typeOf_1 8 rfl rfl)
theorem dX1_typeOf_35 : decode cX1_typeOf 35 = .ok (.areturn, 1) := dk_176 (dk_at dksX1_typeOf_1 11 rfl rfl)
abbrev cX1_textOf : ByteArray := prog_1_method_12_code
def yX1_textOf : MethodName := ⟨RX1, "textOf", "(LRowenTongue$Found;)Ljava/lang/String;"⟩
def dkwX1_textOf_1 : List UInt8 := [181, 0, 211, 42, 180, 0, 211, 176]
abbrev dktX1_textOf_1 : List UInt8 := dkwX1_textOf_1 ++ []
def dkwX1_textOf_0 : List UInt8 := [42, 180, 0, 211, 199, 0, 21, 42, 187, 0, 214, 89, 183, 0, 216, 42, 180, 0, 217, 182, 0, 218]
abbrev dktX1_textOf_0 : List UInt8 := dkwX1_textOf_0 ++ dktX1_textOf_1
theorem dksX1_textOf_0 : cX1_textOf.data.toList.drop 0 = dktX1_textOf_0 := by decide +kernel
theorem dksX1_textOf_1 : cX1_textOf.data.toList.drop 22 = dktX1_textOf_1 := dk_seg dksX1_textOf_0 22 rfl rfl
theorem dX1_textOf_0 : decode cX1_textOf 0 = .ok (.aload_n 0, 1) := dk_42 (dk_at dksX1_textOf_0 0 rfl rfl)
theorem dX1_textOf_1 : decode cX1_textOf 1 = .ok (.getfield 211, 3) := dk_180 0 211 (dk_at dksX1_textOf_0 1 rfl rfl)
theorem dX1_textOf_4 : decode cX1_textOf 4 = .ok (.ifnonnull 21, 3) := dk_199 0 21 (dk_at dksX1_textOf_0 4 rfl rfl)
theorem dX1_textOf_7 : decode cX1_textOf 7 = .ok (.aload_n 0, 1) := dk_42 (dk_at dksX1_textOf_0 7 rfl rfl)
theorem dX1_textOf_8 : decode cX1_textOf 8 = .ok (.new 214, 3) := dk_187 0 214 (dk_at dksX1_textOf_0 8 rfl rfl)
theorem dX1_textOf_11 : decode cX1_textOf 11 = .ok (.dup, 1) := dk_89 (dk_at dksX1_textOf_0 11 rfl rfl)
theorem dX1_textOf_12 : decode cX1_textOf 12 = .ok (.invokespecial 216, 3) := dk_183 0 216 (dk_at dksX1_textOf_0 12 rfl rfl)
theorem dX1_textOf_15 : decode cX1_textOf 15 = .ok (.aload_n 0, 1) := dk_42 (dk_at dksX1_textOf_0 15 rfl rfl)
theorem dX1_textOf_16 : decode cX1_textOf 16 = .ok (.getfield 217, 3) := dk_180 0 217 (dk_at dksX1_textOf_0 16 rfl rfl)
theorem dX1_textOf_19 : decode cX1_textOf 19 = .ok (.invokevirtual 218, 3) := dk_182 0 218 (dk_at dksX1_textOf_0 19 rfl rfl)
theorem dX1_textOf_22 : decode cX1_textOf 22 = .ok (.putfield 211, 3) := dk_181 0 211 (dk_at dksX1_textOf_1 0 rfl rfl)
theorem dX1_textOf_25 : decode cX1_textOf 25 = .ok (.aload_n 0, 1) := dk_42 (dk_at dksX1_textOf_1 3 rfl rfl)
theorem dX1_textOf_26 : decode cX1_textOf 26 = .ok (.getfield 211, 3) := dk_180 0 211 (dk_at dksX1_textOf_1 4 rfl rfl)
theorem dX1_textOf_29 : decode cX1_textOf 29 = .ok (.areturn, 1) := dk_176 (dk_at dksX1_textOf_1 7 rfl rfl)
abbrev cX1_cut : ByteArray := prog_1_method_11_code
def yX1_cut : MethodName := ⟨RX1, "cut", "(Ljava/lang/StringBuilder;)Ljava/lang/String;"⟩
def dkwX1_cut_1 : List UInt8 := [182, 0, 207, 176]
abbrev dktX1_cut_1 : List UInt8 := dkwX1_cut_1 ++ []
def dkwX1_cut_0 : List UInt8 := [42, 182, 0, 197, 17, 1, 44, 164, 0, 14, 42, 3, 17, 1, 44, 182, 0, 203, 167, 0, 7, 42]
abbrev dktX1_cut_0 : List UInt8 := dkwX1_cut_0 ++ dktX1_cut_1
theorem dksX1_cut_0 : cX1_cut.data.toList.drop 0 = dktX1_cut_0 := by decide +kernel
theorem dksX1_cut_1 : cX1_cut.data.toList.drop 22 = dktX1_cut_1 := dk_seg dksX1_cut_0 22 rfl rfl
theorem dX1_cut_0 : decode cX1_cut 0 = .ok (.aload_n 0, 1) := dk_42 (dk_at dksX1_cut_0 0 rfl rfl)
theorem dX1_cut_1 : decode cX1_cut 1 = .ok (.invokevirtual 197, 3) := dk_182 0 197 (dk_at dksX1_cut_0 1 rfl rfl)
theorem dX1_cut_4 : decode cX1_cut 4 = .ok (.sipush 300, 3) := dk_17 1 44 (dk_at dksX1_cut_0 4 rfl rfl)
theorem dX1_cut_7 : decode cX1_cut 7 = .ok (.if_icmp .le 14, 3) := dk_164 0 14 (dk_at dksX1_cut_0 7 rfl rfl)
theorem dX1_cut_10 : decode cX1_cut 10 = .ok (.aload_n 0, 1) := dk_42 (dk_at dksX1_cut_0 10 rfl rfl)
theorem dX1_cut_11 : decode cX1_cut 11 = .ok (.iconst 0, 1) := dk_3 (dk_at dksX1_cut_0 11 rfl rfl)
theorem dX1_cut_12 : decode cX1_cut 12 = .ok (.sipush 300, 3) := dk_17 1 44 (dk_at dksX1_cut_0 12 rfl rfl)
theorem dX1_cut_15 : decode cX1_cut 15 = .ok (.invokevirtual 203, 3) := dk_182 0 203 (dk_at dksX1_cut_0 15 rfl rfl)
theorem dX1_cut_18 : decode cX1_cut 18 = .ok (.goto 7, 3) := dk_167 0 7 (dk_at dksX1_cut_0 18 rfl rfl)
theorem dX1_cut_21 : decode cX1_cut 21 = .ok (.aload_n 0, 1) := dk_42 (dk_at dksX1_cut_0 21 rfl rfl)
theorem dX1_cut_22 : decode cX1_cut 22 = .ok (.invokevirtual 207, 3) := dk_182 0 207 (dk_at dksX1_cut_1 0 rfl rfl)
theorem dX1_cut_25 : decode cX1_cut 25 = .ok (.areturn, 1) := dk_176 (dk_at dksX1_cut_1 3 rfl rfl)
abbrev cX1_sign : ByteArray := prog_1_method_30_code
def yX1_sign : MethodName := ⟨RX1, "sign", "(II)C"⟩
def dkwX1_sign_2 : List UInt8 := [167, 0, 5, 16, 32, 172]
abbrev dktX1_sign_2 : List UInt8 := dkwX1_sign_2 ++ []
def dkwX1_sign_1 : List UInt8 := [182, 1, 63, 184, 1, 67, 58, 4, 28, 25, 4, 182, 1, 71, 162, 0, 12, 25, 4, 28, 182, 1, 74]
abbrev dktX1_sign_1 : List UInt8 := dkwX1_sign_1 ++ dktX1_sign_2
def dkwX1_sign_0 : List UInt8 := [42, 27, 182, 1, 16, 78, 28, 155, 0, 7, 4, 167, 0, 4, 3, 184, 1, 12, 42, 45, 180, 1, 37]
abbrev dktX1_sign_0 : List UInt8 := dkwX1_sign_0 ++ dktX1_sign_1
theorem dksX1_sign_0 : cX1_sign.data.toList.drop 0 = dktX1_sign_0 := by decide +kernel
theorem dksX1_sign_1 : cX1_sign.data.toList.drop 23 = dktX1_sign_1 := dk_seg dksX1_sign_0 23 rfl rfl
theorem dksX1_sign_2 : cX1_sign.data.toList.drop 46 = dktX1_sign_2 := dk_seg dksX1_sign_1 23 rfl rfl
theorem dX1_sign_0 : decode cX1_sign 0 = .ok (.aload_n 0, 1) := dk_42 (dk_at dksX1_sign_0 0 rfl rfl)
theorem dX1_sign_1 : decode cX1_sign 1 = .ok (.iload_n 1, 1) := dk_27 (dk_at dksX1_sign_0 1 rfl rfl)
theorem dX1_sign_2 : decode cX1_sign 2 = .ok (.invokevirtual 272, 3) := dk_182 1 16 (dk_at dksX1_sign_0 2 rfl rfl)
theorem dX1_sign_5 : decode cX1_sign 5 = .ok (.astore_n 3, 1) := dk_78 (dk_at dksX1_sign_0 5 rfl rfl)
theorem dX1_sign_6 : decode cX1_sign 6 = .ok (.iload_n 2, 1) := dk_28 (dk_at dksX1_sign_0 6 rfl rfl)
theorem dX1_sign_7 : decode cX1_sign 7 = .ok (.ifCond .lt 7, 3) := dk_155 0 7 (dk_at dksX1_sign_0 7 rfl rfl)
theorem dX1_sign_10 : decode cX1_sign 10 = .ok (.iconst 1, 1) := dk_4 (dk_at dksX1_sign_0 10 rfl rfl)
theorem dX1_sign_11 : decode cX1_sign 11 = .ok (.goto 4, 3) := dk_167 0 4 (dk_at dksX1_sign_0 11 rfl rfl)
theorem dX1_sign_14 : decode cX1_sign 14 = .ok (.iconst 0, 1) := dk_3 (dk_at dksX1_sign_0 14 rfl rfl)
theorem dX1_sign_15 : decode cX1_sign 15 = .ok (.invokestatic 268, 3) := dk_184 1 12 (dk_at dksX1_sign_0 15 rfl rfl)
theorem dX1_sign_18 : decode cX1_sign 18 = .ok (.aload_n 0, 1) := dk_42 (dk_at dksX1_sign_0 18 rfl rfl)
theorem dX1_sign_19 : decode cX1_sign 19 = .ok (.aload_n 3, 1) := dk_45 (dk_at dksX1_sign_0 19 rfl rfl)
theorem dX1_sign_20 : decode cX1_sign 20 = .ok (.getfield 293, 3) := dk_180 1 37 (dk_at dksX1_sign_0 20 rfl rfl)
theorem dX1_sign_23 : decode cX1_sign 23 = .ok (.invokevirtual 319, 3) := dk_182 1 63 (dk_at dksX1_sign_1 0 rfl rfl)
theorem dX1_sign_26 : decode cX1_sign 26 = .ok (.invokestatic 323, 3) := dk_184 1 67 (dk_at dksX1_sign_1 3 rfl rfl)
theorem dX1_sign_29 : decode cX1_sign 29 = .ok (.astore 4, 2) := dk_58 4 (dk_at dksX1_sign_1 6 rfl rfl)
theorem dX1_sign_31 : decode cX1_sign 31 = .ok (.iload_n 2, 1) := dk_28 (dk_at dksX1_sign_1 8 rfl rfl)
theorem dX1_sign_32 : decode cX1_sign 32 = .ok (.aload 4, 2) := dk_25 4 (dk_at dksX1_sign_1 9 rfl rfl)
theorem dX1_sign_34 : decode cX1_sign 34 = .ok (.invokevirtual 327, 3) := dk_182 1 71 (dk_at dksX1_sign_1 11 rfl rfl)
theorem dX1_sign_37 : decode cX1_sign 37 = .ok (.if_icmp .ge 12, 3) := dk_162 0 12 (dk_at dksX1_sign_1 14 rfl rfl)
theorem dX1_sign_40 : decode cX1_sign 40 = .ok (.aload 4, 2) := dk_25 4 (dk_at dksX1_sign_1 17 rfl rfl)
theorem dX1_sign_42 : decode cX1_sign 42 = .ok (.iload_n 2, 1) := dk_28 (dk_at dksX1_sign_1 19 rfl rfl)
theorem dX1_sign_43 : decode cX1_sign 43 = .ok (.invokevirtual 330, 3) := dk_182 1 74 (dk_at dksX1_sign_1 20 rfl rfl)
theorem dX1_sign_46 : decode cX1_sign 46 = .ok (.goto 5, 3) := dk_167 0 5 (dk_at dksX1_sign_2 0 rfl rfl)
theorem dX1_sign_49 : decode cX1_sign 49 = .ok (.bipush 32, 2) := dk_16 32 (dk_at dksX1_sign_2 3 rfl rfl)
theorem dX1_sign_51 : decode cX1_sign 51 = .ok (.ireturn, 1) := dk_172 (dk_at dksX1_sign_2 5 rfl rfl)
abbrev cX1_areAlike : ByteArray := prog_1_method_31_code
def yX1_areAlike : MethodName := ⟨RX1, "areAlike", "(II)Z"⟩
def dkwX1_areAlike_1 : List UInt8 := [58, 5, 25, 5, 42, 25, 4, 180, 1, 37, 182, 1, 63, 184, 1, 67, 182, 1, 78, 172]
abbrev dktX1_areAlike_1 : List UInt8 := dkwX1_areAlike_1 ++ []
def dkwX1_areAlike_0 : List UInt8 := [42, 27, 182, 1, 16, 78, 42, 28, 182, 1, 16, 58, 4, 42, 45, 180, 1, 37, 182, 1, 63, 184, 1, 67]
abbrev dktX1_areAlike_0 : List UInt8 := dkwX1_areAlike_0 ++ dktX1_areAlike_1
theorem dksX1_areAlike_0 : cX1_areAlike.data.toList.drop 0 = dktX1_areAlike_0 := by decide +kernel
theorem dksX1_areAlike_1 : cX1_areAlike.data.toList.drop 24 = dktX1_areAlike_1 := dk_seg dksX1_areAlike_0 24 rfl rfl
theorem dX1_areAlike_0 : decode cX1_areAlike 0 = .ok (.aload_n 0, 1) := dk_42 (dk_at dksX1_areAlike_0 0 rfl rfl)
theorem dX1_areAlike_1 : decode cX1_areAlike 1 = .ok (.iload_n 1, 1) := dk_27 (dk_at dksX1_areAlike_0 1 rfl rfl)
theorem dX1_areAlike_2 : decode cX1_areAlike 2 = .ok (.invokevirtual 272, 3) := dk_182 1 16 (dk_at dksX1_areAlike_0 2 rfl rfl)
theorem dX1_areAlike_5 : decode cX1_areAlike 5 = .ok (.astore_n 3, 1) := dk_78 (dk_at dksX1_areAlike_0 5 rfl rfl)
theorem dX1_areAlike_6 : decode cX1_areAlike 6 = .ok (.aload_n 0, 1) := dk_42 (dk_at dksX1_areAlike_0 6 rfl rfl)
theorem dX1_areAlike_7 : decode cX1_areAlike 7 = .ok (.iload_n 2, 1) := dk_28 (dk_at dksX1_areAlike_0 7 rfl rfl)
theorem dX1_areAlike_8 : decode cX1_areAlike 8 = .ok (.invokevirtual 272, 3) := dk_182 1 16 (dk_at dksX1_areAlike_0 8 rfl rfl)
theorem dX1_areAlike_11 : decode cX1_areAlike 11 = .ok (.astore 4, 2) := dk_58 4 (dk_at dksX1_areAlike_0 11 rfl rfl)
theorem dX1_areAlike_13 : decode cX1_areAlike 13 = .ok (.aload_n 0, 1) := dk_42 (dk_at dksX1_areAlike_0 13 rfl rfl)
theorem dX1_areAlike_14 : decode cX1_areAlike 14 = .ok (.aload_n 3, 1) := dk_45 (dk_at dksX1_areAlike_0 14 rfl rfl)
theorem dX1_areAlike_15 : decode cX1_areAlike 15 = .ok (.getfield 293, 3) := dk_180 1 37 (dk_at dksX1_areAlike_0 15 rfl rfl)
theorem dX1_areAlike_18 : decode cX1_areAlike 18 = .ok (.invokevirtual 319, 3) := dk_182 1 63 (dk_at dksX1_areAlike_0 18 rfl rfl)
theorem dX1_areAlike_21 : decode cX1_areAlike 21 = .ok (.invokestatic 323, 3) := dk_184 1 67 (dk_at dksX1_areAlike_0 21 rfl rfl)
theorem dX1_areAlike_24 : decode cX1_areAlike 24 = .ok (.astore 5, 2) := dk_58 5 (dk_at dksX1_areAlike_1 0 rfl rfl)
theorem dX1_areAlike_26 : decode cX1_areAlike 26 = .ok (.aload 5, 2) := dk_25 5 (dk_at dksX1_areAlike_1 2 rfl rfl)
theorem dX1_areAlike_28 : decode cX1_areAlike 28 = .ok (.aload_n 0, 1) := dk_42 (dk_at dksX1_areAlike_1 4 rfl rfl)
theorem dX1_areAlike_29 : decode cX1_areAlike 29 = .ok (.aload 4, 2) := dk_25 4 (dk_at dksX1_areAlike_1 5 rfl rfl)
theorem dX1_areAlike_31 : decode cX1_areAlike 31 = .ok (.getfield 293, 3) := dk_180 1 37 (dk_at dksX1_areAlike_1 7 rfl rfl)
theorem dX1_areAlike_34 : decode cX1_areAlike 34 = .ok (.invokevirtual 319, 3) := dk_182 1 63 (dk_at dksX1_areAlike_1 10 rfl rfl)
theorem dX1_areAlike_37 : decode cX1_areAlike 37 = .ok (.invokestatic 323, 3) := dk_184 1 67 (dk_at dksX1_areAlike_1 13 rfl rfl)
theorem dX1_areAlike_40 : decode cX1_areAlike 40 = .ok (.invokevirtual 334, 3) := dk_182 1 78 (dk_at dksX1_areAlike_1 16 rfl rfl)
theorem dX1_areAlike_43 : decode cX1_areAlike 43 = .ok (.ireturn, 1) := dk_172 (dk_at dksX1_areAlike_1 19 rfl rfl)
abbrev cX1_run : ByteArray := prog_1_method_32_code
def yX1_run : MethodName := ⟨RX1, "run", "(I)I"⟩
def dkwX1_run_3 : List UInt8 := [181, 1, 104, 2, 172, 42, 45, 180, 1, 101, 181, 1, 104, 42, 180, 0, 22, 182, 1, 71, 172]
abbrev dktX1_run_3 : List UInt8 := dkwX1_run_3 ++ []
def dkwX1_run_2 : List UInt8 := [182, 1, 89, 42, 25, 4, 184, 1, 95, 181, 0, 22, 167, 0, 15, 58, 4, 42, 45, 180, 1, 101]
abbrev dktX1_run_2 : List UInt8 := dkwX1_run_2 ++ dktX1_run_3
def dkwX1_run_1 : List UInt8 := [183, 1, 84, 58, 4, 45, 42, 180, 0, 10, 27, 182, 0, 133, 192, 0, 165, 1, 182, 1, 85, 25, 4]
abbrev dktX1_run_1 : List UInt8 := dkwX1_run_1 ++ dktX1_run_2
def dkwX1_run_0 : List UInt8 := [42, 27, 182, 1, 63, 77, 187, 1, 81, 89, 183, 1, 83, 78, 42, 18, 20, 181, 0, 22, 187, 0, 198, 89]
abbrev dktX1_run_0 : List UInt8 := dkwX1_run_0 ++ dktX1_run_1
theorem dksX1_run_0 : cX1_run.data.toList.drop 0 = dktX1_run_0 := by decide +kernel
theorem dksX1_run_1 : cX1_run.data.toList.drop 24 = dktX1_run_1 := dk_seg dksX1_run_0 24 rfl rfl
theorem dksX1_run_2 : cX1_run.data.toList.drop 47 = dktX1_run_2 := dk_seg dksX1_run_1 23 rfl rfl
theorem dksX1_run_3 : cX1_run.data.toList.drop 69 = dktX1_run_3 := dk_seg dksX1_run_2 22 rfl rfl
theorem dX1_run_0 : decode cX1_run 0 = .ok (.aload_n 0, 1) := dk_42 (dk_at dksX1_run_0 0 rfl rfl)
theorem dX1_run_1 : decode cX1_run 1 = .ok (.iload_n 1, 1) := dk_27 (dk_at dksX1_run_0 1 rfl rfl)
theorem dX1_run_2 : decode cX1_run 2 = .ok (.invokevirtual 319, 3) := dk_182 1 63 (dk_at dksX1_run_0 2 rfl rfl)
theorem dX1_run_5 : decode cX1_run 5 = .ok (.astore_n 2, 1) := dk_77 (dk_at dksX1_run_0 5 rfl rfl)
theorem dX1_run_6 : decode cX1_run 6 = .ok (.new 337, 3) := dk_187 1 81 (dk_at dksX1_run_0 6 rfl rfl)
theorem dX1_run_9 : decode cX1_run 9 = .ok (.dup, 1) := dk_89 (dk_at dksX1_run_0 9 rfl rfl)
theorem dX1_run_10 : decode cX1_run 10 = .ok (.invokespecial 339, 3) := dk_183 1 83 (dk_at dksX1_run_0 10 rfl rfl)
theorem dX1_run_13 : decode cX1_run 13 = .ok (.astore_n 3, 1) := dk_78 (dk_at dksX1_run_0 13 rfl rfl)
theorem dX1_run_14 : decode cX1_run 14 = .ok (.aload_n 0, 1) := dk_42 (dk_at dksX1_run_0 14 rfl rfl)
theorem dX1_run_15 : decode cX1_run 15 = .ok (.ldc 20, 2) := dk_18 20 (dk_at dksX1_run_0 15 rfl rfl)
theorem dX1_run_17 : decode cX1_run 17 = .ok (.putfield 22, 3) := dk_181 0 22 (dk_at dksX1_run_0 17 rfl rfl)
theorem dX1_run_20 : decode cX1_run 20 = .ok (.new 198, 3) := dk_187 0 198 (dk_at dksX1_run_0 20 rfl rfl)
theorem dX1_run_23 : decode cX1_run 23 = .ok (.dup, 1) := dk_89 (dk_at dksX1_run_0 23 rfl rfl)
theorem dX1_run_24 : decode cX1_run 24 = .ok (.invokespecial 340, 3) := dk_183 1 84 (dk_at dksX1_run_1 0 rfl rfl)
theorem dX1_run_27 : decode cX1_run 27 = .ok (.astore 4, 2) := dk_58 4 (dk_at dksX1_run_1 3 rfl rfl)
theorem dX1_run_29 : decode cX1_run 29 = .ok (.aload_n 3, 1) := dk_45 (dk_at dksX1_run_1 5 rfl rfl)
theorem dX1_run_30 : decode cX1_run 30 = .ok (.aload_n 0, 1) := dk_42 (dk_at dksX1_run_1 6 rfl rfl)
theorem dX1_run_31 : decode cX1_run 31 = .ok (.getfield 10, 3) := dk_180 0 10 (dk_at dksX1_run_1 7 rfl rfl)
theorem dX1_run_34 : decode cX1_run 34 = .ok (.iload_n 1, 1) := dk_27 (dk_at dksX1_run_1 10 rfl rfl)
theorem dX1_run_35 : decode cX1_run 35 = .ok (.invokevirtual 133, 3) := dk_182 0 133 (dk_at dksX1_run_1 11 rfl rfl)
theorem dX1_run_38 : decode cX1_run 38 = .ok (.checkcast 165, 3) := dk_192 0 165 (dk_at dksX1_run_1 14 rfl rfl)
theorem dX1_run_41 : decode cX1_run 41 = .ok (.aconst_null, 1) := dk_1 (dk_at dksX1_run_1 17 rfl rfl)
theorem dX1_run_42 : decode cX1_run 42 = .ok (.invokevirtual 341, 3) := dk_182 1 85 (dk_at dksX1_run_1 18 rfl rfl)
theorem dX1_run_45 : decode cX1_run 45 = .ok (.aload 4, 2) := dk_25 4 (dk_at dksX1_run_1 21 rfl rfl)
theorem dX1_run_47 : decode cX1_run 47 = .ok (.invokevirtual 345, 3) := dk_182 1 89 (dk_at dksX1_run_2 0 rfl rfl)
theorem dX1_run_50 : decode cX1_run 50 = .ok (.aload_n 0, 1) := dk_42 (dk_at dksX1_run_2 3 rfl rfl)
theorem dX1_run_51 : decode cX1_run 51 = .ok (.aload 4, 2) := dk_25 4 (dk_at dksX1_run_2 4 rfl rfl)
theorem dX1_run_53 : decode cX1_run 53 = .ok (.invokestatic 351, 3) := dk_184 1 95 (dk_at dksX1_run_2 6 rfl rfl)
theorem dX1_run_56 : decode cX1_run 56 = .ok (.putfield 22, 3) := dk_181 0 22 (dk_at dksX1_run_2 9 rfl rfl)
theorem dX1_run_59 : decode cX1_run 59 = .ok (.goto 15, 3) := dk_167 0 15 (dk_at dksX1_run_2 12 rfl rfl)
theorem dX1_run_62 : decode cX1_run 62 = .ok (.astore 4, 2) := dk_58 4 (dk_at dksX1_run_2 15 rfl rfl)
theorem dX1_run_64 : decode cX1_run 64 = .ok (.aload_n 0, 1) := dk_42 (dk_at dksX1_run_2 17 rfl rfl)
theorem dX1_run_65 : decode cX1_run 65 = .ok (.aload_n 3, 1) := dk_45 (dk_at dksX1_run_2 18 rfl rfl)
theorem dX1_run_66 : decode cX1_run 66 = .ok (.getfield 357, 3) := dk_180 1 101 (dk_at dksX1_run_2 19 rfl rfl)
theorem dX1_run_69 : decode cX1_run 69 = .ok (.putfield 360, 3) := dk_181 1 104 (dk_at dksX1_run_3 0 rfl rfl)
theorem dX1_run_72 : decode cX1_run 72 = .ok (.iconst (-1), 1) := dk_2 (dk_at dksX1_run_3 3 rfl rfl)
theorem dX1_run_73 : decode cX1_run 73 = .ok (.ireturn, 1) := dk_172 (dk_at dksX1_run_3 4 rfl rfl)
theorem dX1_run_74 : decode cX1_run 74 = .ok (.aload_n 0, 1) := dk_42 (dk_at dksX1_run_3 5 rfl rfl)
theorem dX1_run_75 : decode cX1_run 75 = .ok (.aload_n 3, 1) := dk_45 (dk_at dksX1_run_3 6 rfl rfl)
theorem dX1_run_76 : decode cX1_run 76 = .ok (.getfield 357, 3) := dk_180 1 101 (dk_at dksX1_run_3 7 rfl rfl)
theorem dX1_run_79 : decode cX1_run 79 = .ok (.putfield 360, 3) := dk_181 1 104 (dk_at dksX1_run_3 10 rfl rfl)
theorem dX1_run_82 : decode cX1_run 82 = .ok (.aload_n 0, 1) := dk_42 (dk_at dksX1_run_3 13 rfl rfl)
theorem dX1_run_83 : decode cX1_run 83 = .ok (.getfield 22, 3) := dk_180 0 22 (dk_at dksX1_run_3 14 rfl rfl)
theorem dX1_run_86 : decode cX1_run 86 = .ok (.invokevirtual 327, 3) := dk_182 1 71 (dk_at dksX1_run_3 17 rfl rfl)
theorem dX1_run_89 : decode cX1_run 89 = .ok (.ireturn, 1) := dk_172 (dk_at dksX1_run_3 20 rfl rfl)
abbrev cX1_result : ByteArray := prog_1_method_34_code
def yX1_result : MethodName := ⟨RX1, "result", "(I)C"⟩
def dkwX1_result_1 : List UInt8 := [180, 0, 22, 27, 182, 1, 74, 167, 0, 5, 16, 32, 172]
abbrev dktX1_result_1 : List UInt8 := dkwX1_result_1 ++ []
def dkwX1_result_0 : List UInt8 := [27, 155, 0, 7, 4, 167, 0, 4, 3, 184, 1, 12, 27, 42, 180, 0, 22, 182, 1, 71, 162, 0, 14, 42]
abbrev dktX1_result_0 : List UInt8 := dkwX1_result_0 ++ dktX1_result_1
theorem dksX1_result_0 : cX1_result.data.toList.drop 0 = dktX1_result_0 := by decide +kernel
theorem dksX1_result_1 : cX1_result.data.toList.drop 24 = dktX1_result_1 := dk_seg dksX1_result_0 24 rfl rfl
theorem dX1_result_0 : decode cX1_result 0 = .ok (.iload_n 1, 1) := dk_27 (dk_at dksX1_result_0 0 rfl rfl)
theorem dX1_result_1 : decode cX1_result 1 = .ok (.ifCond .lt 7, 3) := dk_155 0 7 (dk_at dksX1_result_0 1 rfl rfl)
theorem dX1_result_4 : decode cX1_result 4 = .ok (.iconst 1, 1) := dk_4 (dk_at dksX1_result_0 4 rfl rfl)
theorem dX1_result_5 : decode cX1_result 5 = .ok (.goto 4, 3) := dk_167 0 4 (dk_at dksX1_result_0 5 rfl rfl)
theorem dX1_result_8 : decode cX1_result 8 = .ok (.iconst 0, 1) := dk_3 (dk_at dksX1_result_0 8 rfl rfl)
theorem dX1_result_9 : decode cX1_result 9 = .ok (.invokestatic 268, 3) := dk_184 1 12 (dk_at dksX1_result_0 9 rfl rfl)
theorem dX1_result_12 : decode cX1_result 12 = .ok (.iload_n 1, 1) := dk_27 (dk_at dksX1_result_0 12 rfl rfl)
theorem dX1_result_13 : decode cX1_result 13 = .ok (.aload_n 0, 1) := dk_42 (dk_at dksX1_result_0 13 rfl rfl)
theorem dX1_result_14 : decode cX1_result 14 = .ok (.getfield 22, 3) := dk_180 0 22 (dk_at dksX1_result_0 14 rfl rfl)
theorem dX1_result_17 : decode cX1_result 17 = .ok (.invokevirtual 327, 3) := dk_182 1 71 (dk_at dksX1_result_0 17 rfl rfl)
theorem dX1_result_20 : decode cX1_result 20 = .ok (.if_icmp .ge 14, 3) := dk_162 0 14 (dk_at dksX1_result_0 20 rfl rfl)
theorem dX1_result_23 : decode cX1_result 23 = .ok (.aload_n 0, 1) := dk_42 (dk_at dksX1_result_0 23 rfl rfl)
theorem dX1_result_24 : decode cX1_result 24 = .ok (.getfield 22, 3) := dk_180 0 22 (dk_at dksX1_result_1 0 rfl rfl)
theorem dX1_result_27 : decode cX1_result 27 = .ok (.iload_n 1, 1) := dk_27 (dk_at dksX1_result_1 3 rfl rfl)
theorem dX1_result_28 : decode cX1_result 28 = .ok (.invokevirtual 330, 3) := dk_182 1 74 (dk_at dksX1_result_1 4 rfl rfl)
theorem dX1_result_31 : decode cX1_result 31 = .ok (.goto 5, 3) := dk_167 0 5 (dk_at dksX1_result_1 7 rfl rfl)
theorem dX1_result_34 : decode cX1_result 34 = .ok (.bipush 32, 2) := dk_16 32 (dk_at dksX1_result_1 10 rfl rfl)
theorem dX1_result_36 : decode cX1_result 36 = .ok (.ireturn, 1) := dk_172 (dk_at dksX1_result_1 12 rfl rfl)
abbrev cX1_agrees : ByteArray := prog_1_method_35_code
def yX1_agrees : MethodName := ⟨RX1, "agrees", "(I)Z"⟩
def dkwX1_agrees_4 : List UInt8 := [25, 4, 184, 1, 95, 182, 1, 78, 172]
abbrev dktX1_agrees_4 : List UInt8 := dkwX1_agrees_4 ++ []
def dkwX1_agrees_3 : List UInt8 := [182, 1, 109, 44, 180, 0, 217, 25, 4, 182, 1, 113, 167, 0, 7, 58, 5, 4, 172, 45, 184, 1, 95]
abbrev dktX1_agrees_3 : List UInt8 := dkwX1_agrees_3 ++ dktX1_agrees_4
def dkwX1_agrees_2 : List UInt8 := [172, 187, 0, 198, 89, 183, 1, 84, 58, 4, 187, 1, 105, 89, 183, 1, 107, 44, 180, 1, 108, 1, 1]
abbrev dktX1_agrees_2 : List UInt8 := dkwX1_agrees_2 ++ dktX1_agrees_3
def dkwX1_agrees_1 : List UInt8 := [180, 0, 10, 27, 182, 0, 133, 192, 0, 165, 1, 182, 1, 85, 45, 182, 1, 89, 167, 0, 7, 58, 4, 4]
abbrev dktX1_agrees_1 : List UInt8 := dkwX1_agrees_1 ++ dktX1_agrees_2
def dkwX1_agrees_0 : List UInt8 := [42, 27, 182, 1, 63, 77, 187, 0, 198, 89, 183, 1, 84, 78, 187, 1, 81, 89, 183, 1, 83, 42]
abbrev dktX1_agrees_0 : List UInt8 := dkwX1_agrees_0 ++ dktX1_agrees_1
theorem dksX1_agrees_0 : cX1_agrees.data.toList.drop 0 = dktX1_agrees_0 := by decide +kernel
theorem dksX1_agrees_1 : cX1_agrees.data.toList.drop 22 = dktX1_agrees_1 := dk_seg dksX1_agrees_0 22 rfl rfl
theorem dksX1_agrees_2 : cX1_agrees.data.toList.drop 46 = dktX1_agrees_2 := dk_seg dksX1_agrees_1 24 rfl rfl
theorem dksX1_agrees_3 : cX1_agrees.data.toList.drop 69 = dktX1_agrees_3 := dk_seg dksX1_agrees_2 23 rfl rfl
theorem dksX1_agrees_4 : cX1_agrees.data.toList.drop 92 = dktX1_agrees_4 := dk_seg dksX1_agrees_3 23 rfl rfl
theorem dX1_agrees_0 : decode cX1_agrees 0 = .ok (.aload_n 0, 1) := dk_42 (dk_at dksX1_agrees_0 0 rfl rfl)
theorem dX1_agrees_1 : decode cX1_agrees 1 = .ok (.iload_n 1, 1) := dk_27 (dk_at dksX1_agrees_0 1 rfl rfl)
theorem dX1_agrees_2 : decode cX1_agrees 2 = .ok (.invokevirtual 319, 3) := dk_182 1 63 (dk_at dksX1_agrees_0 2 rfl rfl)
theorem dX1_agrees_5 : decode cX1_agrees 5 = .ok (.astore_n 2, 1) := dk_77 (dk_at dksX1_agrees_0 5 rfl rfl)
theorem dX1_agrees_6 : decode cX1_agrees 6 = .ok (.new 198, 3) := dk_187 0 198 (dk_at dksX1_agrees_0 6 rfl rfl)
theorem dX1_agrees_9 : decode cX1_agrees 9 = .ok (.dup, 1) := dk_89 (dk_at dksX1_agrees_0 9 rfl rfl)
theorem dX1_agrees_10 : decode cX1_agrees 10 = .ok (.invokespecial 340, 3) := dk_183 1 84 (dk_at dksX1_agrees_0 10 rfl rfl)
theorem dX1_agrees_13 : decode cX1_agrees 13 = .ok (.astore_n 3, 1) := dk_78 (dk_at dksX1_agrees_0 13 rfl rfl)
theorem dX1_agrees_14 : decode cX1_agrees 14 = .ok (.new 337, 3) := dk_187 1 81 (dk_at dksX1_agrees_0 14 rfl rfl)
theorem dX1_agrees_17 : decode cX1_agrees 17 = .ok (.dup, 1) := dk_89 (dk_at dksX1_agrees_0 17 rfl rfl)
theorem dX1_agrees_18 : decode cX1_agrees 18 = .ok (.invokespecial 339, 3) := dk_183 1 83 (dk_at dksX1_agrees_0 18 rfl rfl)
theorem dX1_agrees_21 : decode cX1_agrees 21 = .ok (.aload_n 0, 1) := dk_42 (dk_at dksX1_agrees_0 21 rfl rfl)
theorem dX1_agrees_22 : decode cX1_agrees 22 = .ok (.getfield 10, 3) := dk_180 0 10 (dk_at dksX1_agrees_1 0 rfl rfl)
theorem dX1_agrees_25 : decode cX1_agrees 25 = .ok (.iload_n 1, 1) := dk_27 (dk_at dksX1_agrees_1 3 rfl rfl)
theorem dX1_agrees_26 : decode cX1_agrees 26 = .ok (.invokevirtual 133, 3) := dk_182 0 133 (dk_at dksX1_agrees_1 4 rfl rfl)
theorem dX1_agrees_29 : decode cX1_agrees 29 = .ok (.checkcast 165, 3) := dk_192 0 165 (dk_at dksX1_agrees_1 7 rfl rfl)
theorem dX1_agrees_32 : decode cX1_agrees 32 = .ok (.aconst_null, 1) := dk_1 (dk_at dksX1_agrees_1 10 rfl rfl)
theorem dX1_agrees_33 : decode cX1_agrees 33 = .ok (.invokevirtual 341, 3) := dk_182 1 85 (dk_at dksX1_agrees_1 11 rfl rfl)
theorem dX1_agrees_36 : decode cX1_agrees 36 = .ok (.aload_n 3, 1) := dk_45 (dk_at dksX1_agrees_1 14 rfl rfl)
theorem dX1_agrees_37 : decode cX1_agrees 37 = .ok (.invokevirtual 345, 3) := dk_182 1 89 (dk_at dksX1_agrees_1 15 rfl rfl)
theorem dX1_agrees_40 : decode cX1_agrees 40 = .ok (.goto 7, 3) := dk_167 0 7 (dk_at dksX1_agrees_1 18 rfl rfl)
theorem dX1_agrees_43 : decode cX1_agrees 43 = .ok (.astore 4, 2) := dk_58 4 (dk_at dksX1_agrees_1 21 rfl rfl)
theorem dX1_agrees_45 : decode cX1_agrees 45 = .ok (.iconst 1, 1) := dk_4 (dk_at dksX1_agrees_1 23 rfl rfl)
theorem dX1_agrees_46 : decode cX1_agrees 46 = .ok (.ireturn, 1) := dk_172 (dk_at dksX1_agrees_2 0 rfl rfl)
theorem dX1_agrees_47 : decode cX1_agrees 47 = .ok (.new 198, 3) := dk_187 0 198 (dk_at dksX1_agrees_2 1 rfl rfl)
theorem dX1_agrees_50 : decode cX1_agrees 50 = .ok (.dup, 1) := dk_89 (dk_at dksX1_agrees_2 4 rfl rfl)
theorem dX1_agrees_51 : decode cX1_agrees 51 = .ok (.invokespecial 340, 3) := dk_183 1 84 (dk_at dksX1_agrees_2 5 rfl rfl)
theorem dX1_agrees_54 : decode cX1_agrees 54 = .ok (.astore 4, 2) := dk_58 4 (dk_at dksX1_agrees_2 8 rfl rfl)
theorem dX1_agrees_56 : decode cX1_agrees 56 = .ok (.new 361, 3) := dk_187 1 105 (dk_at dksX1_agrees_2 10 rfl rfl)
theorem dX1_agrees_59 : decode cX1_agrees 59 = .ok (.dup, 1) := dk_89 (dk_at dksX1_agrees_2 13 rfl rfl)
theorem dX1_agrees_60 : decode cX1_agrees 60 = .ok (.invokespecial 363, 3) := dk_183 1 107 (dk_at dksX1_agrees_2 14 rfl rfl)
theorem dX1_agrees_63 : decode cX1_agrees 63 = .ok (.aload_n 2, 1) := dk_44 (dk_at dksX1_agrees_2 17 rfl rfl)
theorem dX1_agrees_64 : decode cX1_agrees 64 = .ok (.getfield 364, 3) := dk_180 1 108 (dk_at dksX1_agrees_2 18 rfl rfl)
theorem dX1_agrees_67 : decode cX1_agrees 67 = .ok (.aconst_null, 1) := dk_1 (dk_at dksX1_agrees_2 21 rfl rfl)
theorem dX1_agrees_68 : decode cX1_agrees 68 = .ok (.aconst_null, 1) := dk_1 (dk_at dksX1_agrees_2 22 rfl rfl)
theorem dX1_agrees_69 : decode cX1_agrees 69 = .ok (.invokevirtual 365, 3) := dk_182 1 109 (dk_at dksX1_agrees_3 0 rfl rfl)
theorem dX1_agrees_72 : decode cX1_agrees 72 = .ok (.aload_n 2, 1) := dk_44 (dk_at dksX1_agrees_3 3 rfl rfl)
theorem dX1_agrees_73 : decode cX1_agrees 73 = .ok (.getfield 217, 3) := dk_180 0 217 (dk_at dksX1_agrees_3 4 rfl rfl)
theorem dX1_agrees_76 : decode cX1_agrees 76 = .ok (.aload 4, 2) := dk_25 4 (dk_at dksX1_agrees_3 7 rfl rfl)
theorem dX1_agrees_78 : decode cX1_agrees 78 = .ok (.invokevirtual 369, 3) := dk_182 1 113 (dk_at dksX1_agrees_3 9 rfl rfl)
theorem dX1_agrees_81 : decode cX1_agrees 81 = .ok (.goto 7, 3) := dk_167 0 7 (dk_at dksX1_agrees_3 12 rfl rfl)
theorem dX1_agrees_84 : decode cX1_agrees 84 = .ok (.astore 5, 2) := dk_58 5 (dk_at dksX1_agrees_3 15 rfl rfl)
theorem dX1_agrees_86 : decode cX1_agrees 86 = .ok (.iconst 1, 1) := dk_4 (dk_at dksX1_agrees_3 17 rfl rfl)
theorem dX1_agrees_87 : decode cX1_agrees 87 = .ok (.ireturn, 1) := dk_172 (dk_at dksX1_agrees_3 18 rfl rfl)
theorem dX1_agrees_88 : decode cX1_agrees 88 = .ok (.aload_n 3, 1) := dk_45 (dk_at dksX1_agrees_3 19 rfl rfl)
theorem dX1_agrees_89 : decode cX1_agrees 89 = .ok (.invokestatic 351, 3) := dk_184 1 95 (dk_at dksX1_agrees_3 20 rfl rfl)
theorem dX1_agrees_92 : decode cX1_agrees 92 = .ok (.aload 4, 2) := dk_25 4 (dk_at dksX1_agrees_4 0 rfl rfl)
theorem dX1_agrees_94 : decode cX1_agrees 94 = .ok (.invokestatic 351, 3) := dk_184 1 95 (dk_at dksX1_agrees_4 2 rfl rfl)
theorem dX1_agrees_97 : decode cX1_agrees 97 = .ok (.invokevirtual 334, 3) := dk_182 1 78 (dk_at dksX1_agrees_4 5 rfl rfl)
theorem dX1_agrees_100 : decode cX1_agrees 100 = .ok (.ireturn, 1) := dk_172 (dk_at dksX1_agrees_4 8 rfl rfl)
abbrev cX1_less : ByteArray := prog_1_method_13_code
def yX1_less : MethodName := ⟨RX1, "less", "(LRowenTongue$Row;ILRowenTongue$Slot;)I"⟩
def dkwX1_less_4 : List UInt8 := [25, 5, 180, 0, 249, 58, 5, 167, 255, 211, 29, 172]
abbrev dktX1_less_4 : List UInt8 := dkwX1_less_4 ++ []
def dkwX1_less_3 : List UInt8 := [166, 0, 23, 25, 5, 180, 0, 235, 180, 0, 245, 27, 160, 0, 11, 29, 25, 5, 180, 0, 246, 96, 172]
abbrev dktX1_less_3 : List UInt8 := dkwX1_less_3 ++ dktX1_less_4
def dkwX1_less_2 : List UInt8 := [58, 4, 167, 255, 214, 44, 58, 5, 25, 5, 198, 0, 46, 25, 5, 180, 0, 235, 180, 0, 241, 25, 4]
abbrev dktX1_less_2 : List UInt8 := dkwX1_less_2 ++ dktX1_less_3
def dkwX1_less_1 : List UInt8 := [25, 5, 180, 0, 229, 27, 162, 0, 7, 4, 167, 0, 4, 3, 96, 62, 25, 5, 180, 0, 232, 182, 0, 222]
abbrev dktX1_less_1 : List UInt8 := dkwX1_less_1 ++ dktX1_less_2
def dkwX1_less_0 : List UInt8 := [3, 62, 42, 182, 0, 222, 58, 4, 25, 4, 193, 0, 227, 153, 0, 40, 25, 4, 192, 0, 227, 58, 5, 29]
abbrev dktX1_less_0 : List UInt8 := dkwX1_less_0 ++ dktX1_less_1
theorem dksX1_less_0 : cX1_less.data.toList.drop 0 = dktX1_less_0 := by decide +kernel
theorem dksX1_less_1 : cX1_less.data.toList.drop 24 = dktX1_less_1 := dk_seg dksX1_less_0 24 rfl rfl
theorem dksX1_less_2 : cX1_less.data.toList.drop 48 = dktX1_less_2 := dk_seg dksX1_less_1 24 rfl rfl
theorem dksX1_less_3 : cX1_less.data.toList.drop 71 = dktX1_less_3 := dk_seg dksX1_less_2 23 rfl rfl
theorem dksX1_less_4 : cX1_less.data.toList.drop 94 = dktX1_less_4 := dk_seg dksX1_less_3 23 rfl rfl
theorem dX1_less_0 : decode cX1_less 0 = .ok (.iconst 0, 1) := dk_3 (dk_at dksX1_less_0 0 rfl rfl)
theorem dX1_less_1 : decode cX1_less 1 = .ok (.istore_n 3, 1) := dk_62 (dk_at dksX1_less_0 1 rfl rfl)
theorem dX1_less_2 : decode cX1_less 2 = .ok (.aload_n 0, 1) := dk_42 (dk_at dksX1_less_0 2 rfl rfl)
theorem dX1_less_3 : decode cX1_less 3 = .ok (.invokevirtual 222, 3) := dk_182 0 222 (dk_at dksX1_less_0 3 rfl rfl)
theorem dX1_less_6 : decode cX1_less 6 = .ok (.astore 4, 2) := dk_58 4 (dk_at dksX1_less_0 6 rfl rfl)
theorem dX1_less_8 : decode cX1_less 8 = .ok (.aload 4, 2) := dk_25 4 (dk_at dksX1_less_0 8 rfl rfl)
theorem dX1_less_10 : decode cX1_less 10 = .ok (.instanceof 227, 3) := dk_193 0 227 (dk_at dksX1_less_0 10 rfl rfl)
theorem dX1_less_13 : decode cX1_less 13 = .ok (.ifCond .eq 40, 3) := dk_153 0 40 (dk_at dksX1_less_0 13 rfl rfl)
theorem dX1_less_16 : decode cX1_less 16 = .ok (.aload 4, 2) := dk_25 4 (dk_at dksX1_less_0 16 rfl rfl)
theorem dX1_less_18 : decode cX1_less 18 = .ok (.checkcast 227, 3) := dk_192 0 227 (dk_at dksX1_less_0 18 rfl rfl)
theorem dX1_less_21 : decode cX1_less 21 = .ok (.astore 5, 2) := dk_58 5 (dk_at dksX1_less_0 21 rfl rfl)
theorem dX1_less_23 : decode cX1_less 23 = .ok (.iload_n 3, 1) := dk_29 (dk_at dksX1_less_0 23 rfl rfl)
theorem dX1_less_24 : decode cX1_less 24 = .ok (.aload 5, 2) := dk_25 5 (dk_at dksX1_less_1 0 rfl rfl)
theorem dX1_less_26 : decode cX1_less 26 = .ok (.getfield 229, 3) := dk_180 0 229 (dk_at dksX1_less_1 2 rfl rfl)
theorem dX1_less_29 : decode cX1_less 29 = .ok (.iload_n 1, 1) := dk_27 (dk_at dksX1_less_1 5 rfl rfl)
theorem dX1_less_30 : decode cX1_less 30 = .ok (.if_icmp .ge 7, 3) := dk_162 0 7 (dk_at dksX1_less_1 6 rfl rfl)
theorem dX1_less_33 : decode cX1_less 33 = .ok (.iconst 1, 1) := dk_4 (dk_at dksX1_less_1 9 rfl rfl)
theorem dX1_less_34 : decode cX1_less 34 = .ok (.goto 4, 3) := dk_167 0 4 (dk_at dksX1_less_1 10 rfl rfl)
theorem dX1_less_37 : decode cX1_less 37 = .ok (.iconst 0, 1) := dk_3 (dk_at dksX1_less_1 13 rfl rfl)
theorem dX1_less_38 : decode cX1_less 38 = .ok (.iadd, 1) := dk_96 (dk_at dksX1_less_1 14 rfl rfl)
theorem dX1_less_39 : decode cX1_less 39 = .ok (.istore_n 3, 1) := dk_62 (dk_at dksX1_less_1 15 rfl rfl)
theorem dX1_less_40 : decode cX1_less 40 = .ok (.aload 5, 2) := dk_25 5 (dk_at dksX1_less_1 16 rfl rfl)
theorem dX1_less_42 : decode cX1_less 42 = .ok (.getfield 232, 3) := dk_180 0 232 (dk_at dksX1_less_1 18 rfl rfl)
theorem dX1_less_45 : decode cX1_less 45 = .ok (.invokevirtual 222, 3) := dk_182 0 222 (dk_at dksX1_less_1 21 rfl rfl)
theorem dX1_less_48 : decode cX1_less 48 = .ok (.astore 4, 2) := dk_58 4 (dk_at dksX1_less_2 0 rfl rfl)
theorem dX1_less_50 : decode cX1_less 50 = .ok (.goto (-42), 3) := dk_167 255 214 (dk_at dksX1_less_2 2 rfl rfl)
theorem dX1_less_53 : decode cX1_less 53 = .ok (.aload_n 2, 1) := dk_44 (dk_at dksX1_less_2 5 rfl rfl)
theorem dX1_less_54 : decode cX1_less 54 = .ok (.astore 5, 2) := dk_58 5 (dk_at dksX1_less_2 6 rfl rfl)
theorem dX1_less_56 : decode cX1_less 56 = .ok (.aload 5, 2) := dk_25 5 (dk_at dksX1_less_2 8 rfl rfl)
theorem dX1_less_58 : decode cX1_less 58 = .ok (.ifnull 46, 3) := dk_198 0 46 (dk_at dksX1_less_2 10 rfl rfl)
theorem dX1_less_61 : decode cX1_less 61 = .ok (.aload 5, 2) := dk_25 5 (dk_at dksX1_less_2 13 rfl rfl)
theorem dX1_less_63 : decode cX1_less 63 = .ok (.getfield 235, 3) := dk_180 0 235 (dk_at dksX1_less_2 15 rfl rfl)
theorem dX1_less_66 : decode cX1_less 66 = .ok (.getfield 241, 3) := dk_180 0 241 (dk_at dksX1_less_2 18 rfl rfl)
theorem dX1_less_69 : decode cX1_less 69 = .ok (.aload 4, 2) := dk_25 4 (dk_at dksX1_less_2 21 rfl rfl)
theorem dX1_less_71 : decode cX1_less 71 = .ok (.if_acmp .ne 23, 3) := dk_166 0 23 (dk_at dksX1_less_3 0 rfl rfl)
theorem dX1_less_74 : decode cX1_less 74 = .ok (.aload 5, 2) := dk_25 5 (dk_at dksX1_less_3 3 rfl rfl)
theorem dX1_less_76 : decode cX1_less 76 = .ok (.getfield 235, 3) := dk_180 0 235 (dk_at dksX1_less_3 5 rfl rfl)
theorem dX1_less_79 : decode cX1_less 79 = .ok (.getfield 245, 3) := dk_180 0 245 (dk_at dksX1_less_3 8 rfl rfl)
theorem dX1_less_82 : decode cX1_less 82 = .ok (.iload_n 1, 1) := dk_27 (dk_at dksX1_less_3 11 rfl rfl)
theorem dX1_less_83 : decode cX1_less 83 = .ok (.if_icmp .ne 11, 3) := dk_160 0 11 (dk_at dksX1_less_3 12 rfl rfl)
theorem dX1_less_86 : decode cX1_less 86 = .ok (.iload_n 3, 1) := dk_29 (dk_at dksX1_less_3 15 rfl rfl)
theorem dX1_less_87 : decode cX1_less 87 = .ok (.aload 5, 2) := dk_25 5 (dk_at dksX1_less_3 16 rfl rfl)
theorem dX1_less_89 : decode cX1_less 89 = .ok (.getfield 246, 3) := dk_180 0 246 (dk_at dksX1_less_3 18 rfl rfl)
theorem dX1_less_92 : decode cX1_less 92 = .ok (.iadd, 1) := dk_96 (dk_at dksX1_less_3 21 rfl rfl)
theorem dX1_less_93 : decode cX1_less 93 = .ok (.ireturn, 1) := dk_172 (dk_at dksX1_less_3 22 rfl rfl)
theorem dX1_less_94 : decode cX1_less 94 = .ok (.aload 5, 2) := dk_25 5 (dk_at dksX1_less_4 0 rfl rfl)
theorem dX1_less_96 : decode cX1_less 96 = .ok (.getfield 249, 3) := dk_180 0 249 (dk_at dksX1_less_4 2 rfl rfl)
theorem dX1_less_99 : decode cX1_less 99 = .ok (.astore 5, 2) := dk_58 5 (dk_at dksX1_less_4 5 rfl rfl)
theorem dX1_less_101 : decode cX1_less 101 = .ok (.goto (-45), 3) := dk_167 255 211 (dk_at dksX1_less_4 7 rfl rfl)
theorem dX1_less_104 : decode cX1_less 104 = .ok (.iload_n 3, 1) := dk_29 (dk_at dksX1_less_4 10 rfl rfl)
theorem dX1_less_105 : decode cX1_less 105 = .ok (.ireturn, 1) := dk_172 (dk_at dksX1_less_4 11 rfl rfl)
abbrev cX1_sumOf : ByteArray := prog_1_method_14_code
def yX1_sumOf : MethodName := ⟨RX1, "sumOf", "(LRowenTongue$Thing;)I"⟩
def dkwX1_sumOf_0 : List UInt8 := [42, 192, 0, 253, 180, 0, 255, 172]
abbrev dktX1_sumOf_0 : List UInt8 := dkwX1_sumOf_0 ++ []
theorem dksX1_sumOf_0 : cX1_sumOf.data.toList.drop 0 = dktX1_sumOf_0 := by decide +kernel
theorem dX1_sumOf_0 : decode cX1_sumOf 0 = .ok (.aload_n 0, 1) := dk_42 (dk_at dksX1_sumOf_0 0 rfl rfl)
theorem dX1_sumOf_1 : decode cX1_sumOf 1 = .ok (.checkcast 253, 3) := dk_192 0 253 (dk_at dksX1_sumOf_0 1 rfl rfl)
theorem dX1_sumOf_4 : decode cX1_sumOf 4 = .ok (.getfield 255, 3) := dk_180 0 255 (dk_at dksX1_sumOf_0 4 rfl rfl)
theorem dX1_sumOf_7 : decode cX1_sumOf 7 = .ok (.ireturn, 1) := dk_172 (dk_at dksX1_sumOf_0 7 rfl rfl)
abbrev cX1_places : ByteArray := prog_1_method_37_code
def yX1_places : MethodName := ⟨RX1, "places", "(II)I"⟩
def dkwX1_places_3 : List UInt8 := [167, 0, 4, 2, 172]
abbrev dktX1_places_3 : List UInt8 := dkwX1_places_3 ++ []
def dkwX1_places_2 : List UInt8 := [182, 1, 63, 58, 5, 45, 25, 4, 184, 1, 122, 153, 0, 16, 25, 5, 180, 1, 129, 45, 180, 1, 37, 46]
abbrev dktX1_places_2 : List UInt8 := dkwX1_places_2 ++ dktX1_places_3
def dkwX1_places_1 : List UInt8 := [180, 1, 126, 8, 160, 0, 7, 3, 167, 0, 4, 2, 3, 3, 184, 1, 45, 42, 25, 4, 180, 1, 37]
abbrev dktX1_places_1 : List UInt8 := dkwX1_places_1 ++ dktX1_places_2
def dkwX1_places_0 : List UInt8 := [42, 27, 182, 1, 16, 78, 42, 28, 182, 1, 16, 58, 4, 45, 180, 1, 126, 7, 159, 0, 11, 45]
abbrev dktX1_places_0 : List UInt8 := dkwX1_places_0 ++ dktX1_places_1
theorem dksX1_places_0 : cX1_places.data.toList.drop 0 = dktX1_places_0 := by decide +kernel
theorem dksX1_places_1 : cX1_places.data.toList.drop 22 = dktX1_places_1 := dk_seg dksX1_places_0 22 rfl rfl
theorem dksX1_places_2 : cX1_places.data.toList.drop 45 = dktX1_places_2 := dk_seg dksX1_places_1 23 rfl rfl
theorem dksX1_places_3 : cX1_places.data.toList.drop 69 = dktX1_places_3 := dk_seg dksX1_places_2 24 rfl rfl
theorem dX1_places_0 : decode cX1_places 0 = .ok (.aload_n 0, 1) := dk_42 (dk_at dksX1_places_0 0 rfl rfl)
theorem dX1_places_1 : decode cX1_places 1 = .ok (.iload_n 1, 1) := dk_27 (dk_at dksX1_places_0 1 rfl rfl)
theorem dX1_places_2 : decode cX1_places 2 = .ok (.invokevirtual 272, 3) := dk_182 1 16 (dk_at dksX1_places_0 2 rfl rfl)
theorem dX1_places_5 : decode cX1_places 5 = .ok (.astore_n 3, 1) := dk_78 (dk_at dksX1_places_0 5 rfl rfl)
theorem dX1_places_6 : decode cX1_places 6 = .ok (.aload_n 0, 1) := dk_42 (dk_at dksX1_places_0 6 rfl rfl)
theorem dX1_places_7 : decode cX1_places 7 = .ok (.iload_n 2, 1) := dk_28 (dk_at dksX1_places_0 7 rfl rfl)
theorem dX1_places_8 : decode cX1_places 8 = .ok (.invokevirtual 272, 3) := dk_182 1 16 (dk_at dksX1_places_0 8 rfl rfl)
theorem dX1_places_11 : decode cX1_places 11 = .ok (.astore 4, 2) := dk_58 4 (dk_at dksX1_places_0 11 rfl rfl)
theorem dX1_places_13 : decode cX1_places 13 = .ok (.aload_n 3, 1) := dk_45 (dk_at dksX1_places_0 13 rfl rfl)
theorem dX1_places_14 : decode cX1_places 14 = .ok (.getfield 382, 3) := dk_180 1 126 (dk_at dksX1_places_0 14 rfl rfl)
theorem dX1_places_17 : decode cX1_places 17 = .ok (.iconst 4, 1) := dk_7 (dk_at dksX1_places_0 17 rfl rfl)
theorem dX1_places_18 : decode cX1_places 18 = .ok (.if_icmp .eq 11, 3) := dk_159 0 11 (dk_at dksX1_places_0 18 rfl rfl)
theorem dX1_places_21 : decode cX1_places 21 = .ok (.aload_n 3, 1) := dk_45 (dk_at dksX1_places_0 21 rfl rfl)
theorem dX1_places_22 : decode cX1_places 22 = .ok (.getfield 382, 3) := dk_180 1 126 (dk_at dksX1_places_1 0 rfl rfl)
theorem dX1_places_25 : decode cX1_places 25 = .ok (.iconst 5, 1) := dk_8 (dk_at dksX1_places_1 3 rfl rfl)
theorem dX1_places_26 : decode cX1_places 26 = .ok (.if_icmp .ne 7, 3) := dk_160 0 7 (dk_at dksX1_places_1 4 rfl rfl)
theorem dX1_places_29 : decode cX1_places 29 = .ok (.iconst 0, 1) := dk_3 (dk_at dksX1_places_1 7 rfl rfl)
theorem dX1_places_30 : decode cX1_places 30 = .ok (.goto 4, 3) := dk_167 0 4 (dk_at dksX1_places_1 8 rfl rfl)
theorem dX1_places_33 : decode cX1_places 33 = .ok (.iconst (-1), 1) := dk_2 (dk_at dksX1_places_1 11 rfl rfl)
theorem dX1_places_34 : decode cX1_places 34 = .ok (.iconst 0, 1) := dk_3 (dk_at dksX1_places_1 12 rfl rfl)
theorem dX1_places_35 : decode cX1_places 35 = .ok (.iconst 0, 1) := dk_3 (dk_at dksX1_places_1 13 rfl rfl)
theorem dX1_places_36 : decode cX1_places 36 = .ok (.invokestatic 301, 3) := dk_184 1 45 (dk_at dksX1_places_1 14 rfl rfl)
theorem dX1_places_39 : decode cX1_places 39 = .ok (.aload_n 0, 1) := dk_42 (dk_at dksX1_places_1 17 rfl rfl)
theorem dX1_places_40 : decode cX1_places 40 = .ok (.aload 4, 2) := dk_25 4 (dk_at dksX1_places_1 18 rfl rfl)
theorem dX1_places_42 : decode cX1_places 42 = .ok (.getfield 293, 3) := dk_180 1 37 (dk_at dksX1_places_1 20 rfl rfl)
theorem dX1_places_45 : decode cX1_places 45 = .ok (.invokevirtual 319, 3) := dk_182 1 63 (dk_at dksX1_places_2 0 rfl rfl)
theorem dX1_places_48 : decode cX1_places 48 = .ok (.astore 5, 2) := dk_58 5 (dk_at dksX1_places_2 3 rfl rfl)
theorem dX1_places_50 : decode cX1_places 50 = .ok (.aload_n 3, 1) := dk_45 (dk_at dksX1_places_2 5 rfl rfl)
theorem dX1_places_51 : decode cX1_places 51 = .ok (.aload 4, 2) := dk_25 4 (dk_at dksX1_places_2 6 rfl rfl)
theorem dX1_places_53 : decode cX1_places 53 = .ok (.invokestatic 378, 3) := dk_184 1 122 (dk_at dksX1_places_2 8 rfl rfl)
theorem dX1_places_56 : decode cX1_places 56 = .ok (.ifCond .eq 16, 3) := dk_153 0 16 (dk_at dksX1_places_2 11 rfl rfl)
theorem dX1_places_59 : decode cX1_places 59 = .ok (.aload 5, 2) := dk_25 5 (dk_at dksX1_places_2 14 rfl rfl)
theorem dX1_places_61 : decode cX1_places 61 = .ok (.getfield 385, 3) := dk_180 1 129 (dk_at dksX1_places_2 16 rfl rfl)
theorem dX1_places_64 : decode cX1_places 64 = .ok (.aload_n 3, 1) := dk_45 (dk_at dksX1_places_2 19 rfl rfl)
theorem dX1_places_65 : decode cX1_places 65 = .ok (.getfield 293, 3) := dk_180 1 37 (dk_at dksX1_places_2 20 rfl rfl)
theorem dX1_places_68 : decode cX1_places 68 = .ok (.iaload, 1) := dk_46 (dk_at dksX1_places_2 23 rfl rfl)
theorem dX1_places_69 : decode cX1_places 69 = .ok (.goto 4, 3) := dk_167 0 4 (dk_at dksX1_places_3 0 rfl rfl)
theorem dX1_places_72 : decode cX1_places 72 = .ok (.iconst (-1), 1) := dk_2 (dk_at dksX1_places_3 3 rfl rfl)
theorem dX1_places_73 : decode cX1_places 73 = .ok (.ireturn, 1) := dk_172 (dk_at dksX1_places_3 4 rfl rfl)
abbrev cX1_stands : ByteArray := prog_1_method_36_code
def yX1_stands : MethodName := ⟨RX1, "stands", "(LRowenTongue$Term;LRowenTongue$Term;)Z"⟩
def dkwX1_stands_2 : List UInt8 := [132, 5, 1, 167, 255, 231, 28, 172]
abbrev dktX1_stands_2 : List UInt8 := dkwX1_stands_2 ++ []
def dkwX1_stands_1 : List UInt8 := [21, 5, 21, 4, 162, 0, 24, 45, 21, 5, 50, 58, 6, 28, 42, 25, 6, 184, 1, 122, 128, 61]
abbrev dktX1_stands_1 : List UInt8 := dkwX1_stands_1 ++ dktX1_stands_2
def dkwX1_stands_0 : List UInt8 := [42, 43, 166, 0, 7, 4, 167, 0, 4, 3, 61, 43, 180, 1, 118, 78, 45, 190, 54, 4, 3, 54, 5]
abbrev dktX1_stands_0 : List UInt8 := dkwX1_stands_0 ++ dktX1_stands_1
theorem dksX1_stands_0 : cX1_stands.data.toList.drop 0 = dktX1_stands_0 := by decide +kernel
theorem dksX1_stands_1 : cX1_stands.data.toList.drop 23 = dktX1_stands_1 := dk_seg dksX1_stands_0 23 rfl rfl
theorem dksX1_stands_2 : cX1_stands.data.toList.drop 45 = dktX1_stands_2 := dk_seg dksX1_stands_1 22 rfl rfl
theorem dX1_stands_0 : decode cX1_stands 0 = .ok (.aload_n 0, 1) := dk_42 (dk_at dksX1_stands_0 0 rfl rfl)
theorem dX1_stands_1 : decode cX1_stands 1 = .ok (.aload_n 1, 1) := dk_43 (dk_at dksX1_stands_0 1 rfl rfl)
theorem dX1_stands_2 : decode cX1_stands 2 = .ok (.if_acmp .ne 7, 3) := dk_166 0 7 (dk_at dksX1_stands_0 2 rfl rfl)
theorem dX1_stands_5 : decode cX1_stands 5 = .ok (.iconst 1, 1) := dk_4 (dk_at dksX1_stands_0 5 rfl rfl)
theorem dX1_stands_6 : decode cX1_stands 6 = .ok (.goto 4, 3) := dk_167 0 4 (dk_at dksX1_stands_0 6 rfl rfl)
theorem dX1_stands_9 : decode cX1_stands 9 = .ok (.iconst 0, 1) := dk_3 (dk_at dksX1_stands_0 9 rfl rfl)
theorem dX1_stands_10 : decode cX1_stands 10 = .ok (.istore_n 2, 1) := dk_61 (dk_at dksX1_stands_0 10 rfl rfl)
theorem dX1_stands_11 : decode cX1_stands 11 = .ok (.aload_n 1, 1) := dk_43 (dk_at dksX1_stands_0 11 rfl rfl)
theorem dX1_stands_12 : decode cX1_stands 12 = .ok (.getfield 374, 3) := dk_180 1 118 (dk_at dksX1_stands_0 12 rfl rfl)
theorem dX1_stands_15 : decode cX1_stands 15 = .ok (.astore_n 3, 1) := dk_78 (dk_at dksX1_stands_0 15 rfl rfl)
theorem dX1_stands_16 : decode cX1_stands 16 = .ok (.aload_n 3, 1) := dk_45 (dk_at dksX1_stands_0 16 rfl rfl)
theorem dX1_stands_17 : decode cX1_stands 17 = .ok (.arraylength, 1) := dk_190 (dk_at dksX1_stands_0 17 rfl rfl)
theorem dX1_stands_18 : decode cX1_stands 18 = .ok (.istore 4, 2) := dk_54 4 (dk_at dksX1_stands_0 18 rfl rfl)
theorem dX1_stands_20 : decode cX1_stands 20 = .ok (.iconst 0, 1) := dk_3 (dk_at dksX1_stands_0 20 rfl rfl)
theorem dX1_stands_21 : decode cX1_stands 21 = .ok (.istore 5, 2) := dk_54 5 (dk_at dksX1_stands_0 21 rfl rfl)
theorem dX1_stands_23 : decode cX1_stands 23 = .ok (.iload 5, 2) := dk_21 5 (dk_at dksX1_stands_1 0 rfl rfl)
theorem dX1_stands_25 : decode cX1_stands 25 = .ok (.iload 4, 2) := dk_21 4 (dk_at dksX1_stands_1 2 rfl rfl)
theorem dX1_stands_27 : decode cX1_stands 27 = .ok (.if_icmp .ge 24, 3) := dk_162 0 24 (dk_at dksX1_stands_1 4 rfl rfl)
theorem dX1_stands_30 : decode cX1_stands 30 = .ok (.aload_n 3, 1) := dk_45 (dk_at dksX1_stands_1 7 rfl rfl)
theorem dX1_stands_31 : decode cX1_stands 31 = .ok (.iload 5, 2) := dk_21 5 (dk_at dksX1_stands_1 8 rfl rfl)
theorem dX1_stands_33 : decode cX1_stands 33 = .ok (.aaload, 1) := dk_50 (dk_at dksX1_stands_1 10 rfl rfl)
theorem dX1_stands_34 : decode cX1_stands 34 = .ok (.astore 6, 2) := dk_58 6 (dk_at dksX1_stands_1 11 rfl rfl)
theorem dX1_stands_36 : decode cX1_stands 36 = .ok (.iload_n 2, 1) := dk_28 (dk_at dksX1_stands_1 13 rfl rfl)
theorem dX1_stands_37 : decode cX1_stands 37 = .ok (.aload_n 0, 1) := dk_42 (dk_at dksX1_stands_1 14 rfl rfl)
theorem dX1_stands_38 : decode cX1_stands 38 = .ok (.aload 6, 2) := dk_25 6 (dk_at dksX1_stands_1 15 rfl rfl)
theorem dX1_stands_40 : decode cX1_stands 40 = .ok (.invokestatic 378, 3) := dk_184 1 122 (dk_at dksX1_stands_1 17 rfl rfl)
theorem dX1_stands_43 : decode cX1_stands 43 = .ok (.ior, 1) := dk_128 (dk_at dksX1_stands_1 20 rfl rfl)
theorem dX1_stands_44 : decode cX1_stands 44 = .ok (.istore_n 2, 1) := dk_61 (dk_at dksX1_stands_1 21 rfl rfl)
theorem dX1_stands_45 : decode cX1_stands 45 = .ok (.iinc 5 1, 3) := dk_132 5 1 (dk_at dksX1_stands_2 0 rfl rfl)
theorem dX1_stands_48 : decode cX1_stands 48 = .ok (.goto (-25), 3) := dk_167 255 231 (dk_at dksX1_stands_2 3 rfl rfl)
theorem dX1_stands_51 : decode cX1_stands 51 = .ok (.iload_n 2, 1) := dk_28 (dk_at dksX1_stands_2 6 rfl rfl)
theorem dX1_stands_52 : decode cX1_stands 52 = .ok (.ireturn, 1) := dk_172 (dk_at dksX1_stands_2 7 rfl rfl)
theorem q50 : (Jvm.Cond.initialized "RowenTongue") ∈ lw_all := lw_g (lw_at lw_m1 1 rfl) rfl
theorem q122 : (Jvm.Cond.instantiable "RowenTongue" (4 : Nat)) ∈ lw_all := lw_g (lw_at lw_m1 73 rfl) rfl
theorem q124 : (Jvm.Cond.instanceMethod ({ cls := "RowenTongue", name := "<init>", desc := "()V" } : Jvm.MethodName)) ∈ lw_all := lw_g (lw_at lw_m1 75 rfl) rfl
theorem q125 : (Jvm.Cond.code ({ cls := "RowenTongue", name := "<init>", desc := "()V" } : Jvm.MethodName) prog_1_method_1_code (1 : Nat) (Option.none : Option Jvm.ClassFile.FieldType)) ∈ lw_all := lw_g (lw_at lw_m1 76 rfl) rfl
theorem q126 : (Jvm.Cond.methodLink "RowenTongue" (1 : Nat) ({ cls := "java/lang/Object", name := "<init>", desc := "()V" } : Jvm.MethodName)) ∈ lw_all := lw_g (lw_at lw_m1 77 rfl) rfl
theorem q129 : (Jvm.Cond.classLink "RowenTongue" (7 : Nat) "java/util/ArrayList") ∈ lw_all := lw_g (lw_at lw_m1 80 rfl) rfl
theorem q131 : (Jvm.Cond.methodLink "RowenTongue" (9 : Nat) ({ cls := "java/util/ArrayList", name := "<init>", desc := "()V" } : Jvm.MethodName)) ∈ lw_all := lw_g (lw_at lw_m1 82 rfl) rfl
theorem q158 : (Jvm.Cond.stringRef "RowenTongue" (20 : Nat) "") ∈ lw_tbl := lw_at lw_m1 109 rfl
theorem q159 : (Jvm.Cond.fieldLink "RowenTongue" (10 : Nat) "RowenTongue" "terms" "Ljava/util/ArrayList;") ∈ lw_all := lw_g (lw_at lw_m1 110 rfl) rfl
theorem q160 : (Jvm.Cond.fieldLink "RowenTongue" (16 : Nat) "RowenTongue" "errorAt" "I") ∈ lw_all := lw_g (lw_at lw_m1 111 rfl) rfl
theorem q161 : (Jvm.Cond.fieldLink "RowenTongue" (360 : Nat) "RowenTongue" "steps" "I") ∈ lw_all := lw_g (lw_at lw_m1 112 rfl) rfl
theorem q162 : (Jvm.Cond.fieldLink "RowenTongue" (22 : Nat) "RowenTongue" "result" "Ljava/lang/String;") ∈ lw_all := lw_g (lw_at lw_m1 113 rfl) rfl
theorem q163 : (Jvm.Cond.laysFinal "RowenTongue" "RowenTongue" "terms" "Ljava/util/ArrayList;") ∈ lw_all := lw_g (lw_at lw_m1 114 rfl) rfl
theorem q164 : (Jvm.Cond.soleField "RowenTongue" "terms") ∈ lw_all := lw_g (lw_at lw_m1 115 rfl) rfl
theorem q165 : (Jvm.Cond.lays "RowenTongue" "RowenTongue" "errorAt" "I") ∈ lw_all := lw_g (lw_at lw_m1 116 rfl) rfl
theorem q166 : (Jvm.Cond.soleField "RowenTongue" "errorAt") ∈ lw_all := lw_g (lw_at lw_m1 117 rfl) rfl
theorem q167 : (Jvm.Cond.lays "RowenTongue" "RowenTongue" "steps" "I") ∈ lw_all := lw_g (lw_at lw_m1 118 rfl) rfl
theorem q168 : (Jvm.Cond.soleField "RowenTongue" "steps") ∈ lw_all := lw_g (lw_at lw_m1 119 rfl) rfl
theorem q169 : (Jvm.Cond.lays "RowenTongue" "RowenTongue" "result" "Ljava/lang/String;") ∈ lw_all := lw_g (lw_at lw_m1 120 rfl) rfl
theorem q170 : (Jvm.Cond.soleField "RowenTongue" "result") ∈ lw_all := lw_g (lw_at lw_m1 121 rfl) rfl
theorem q171 : (Jvm.Cond.superclass "RowenTongue" "java/lang/Object") ∈ lw_all := lw_g (lw_at lw_m1 122 rfl) rfl
theorem q174 : (Jvm.Cond.instanceMethod ({ cls := "RowenTongue", name := "terms", desc := "()I" } : Jvm.MethodName)) ∈ lw_all := lw_g (lw_at lw_m1 125 rfl) rfl
theorem q175 : (Jvm.Cond.selects "RowenTongue" ({ cls := "RowenTongue", name := "terms", desc := "()I" } : Jvm.MethodName) ({ cls := "RowenTongue", name := "terms", desc := "()I" } : Jvm.MethodName)) ∈ lw_all := lw_g (lw_at lw_m1 126 rfl) rfl
theorem q176 : (Jvm.Cond.code ({ cls := "RowenTongue", name := "terms", desc := "()I" } : Jvm.MethodName) prog_1_method_26_code (1 : Nat) (Option.some Jvm.ClassFile.FieldType.int)) ∈ lw_all := lw_g (lw_at lw_m1 127 rfl) rfl
theorem q177 : (Jvm.Cond.methodLink "RowenTongue" (265 : Nat) ({ cls := "java/util/ArrayList", name := "size", desc := "()I" } : Jvm.MethodName)) ∈ lw_all := lw_g (lw_at lw_m1 128 rfl) rfl
theorem q182 : (Jvm.Cond.instanceMethod ({ cls := "RowenTongue", name := "errorAt", desc := "()I" } : Jvm.MethodName)) ∈ lw_all := lw_g (lw_at lw_m1 133 rfl) rfl
theorem q183 : (Jvm.Cond.selects "RowenTongue" ({ cls := "RowenTongue", name := "errorAt", desc := "()I" } : Jvm.MethodName) ({ cls := "RowenTongue", name := "errorAt", desc := "()I" } : Jvm.MethodName)) ∈ lw_all := lw_g (lw_at lw_m1 134 rfl) rfl
theorem q184 : (Jvm.Cond.code ({ cls := "RowenTongue", name := "errorAt", desc := "()I" } : Jvm.MethodName) prog_1_method_28_code (1 : Nat) (Option.some Jvm.ClassFile.FieldType.int)) ∈ lw_all := lw_g (lw_at lw_m1 135 rfl) rfl
theorem q186 : (Jvm.Cond.instanceMethod ({ cls := "RowenTongue", name := "steps", desc := "()I" } : Jvm.MethodName)) ∈ lw_all := lw_g (lw_at lw_m1 137 rfl) rfl
theorem q187 : (Jvm.Cond.selects "RowenTongue" ({ cls := "RowenTongue", name := "steps", desc := "()I" } : Jvm.MethodName) ({ cls := "RowenTongue", name := "steps", desc := "()I" } : Jvm.MethodName)) ∈ lw_all := lw_g (lw_at lw_m1 138 rfl) rfl
theorem q188 : (Jvm.Cond.code ({ cls := "RowenTongue", name := "steps", desc := "()I" } : Jvm.MethodName) prog_1_method_33_code (1 : Nat) (Option.some Jvm.ClassFile.FieldType.int)) ∈ lw_all := lw_g (lw_at lw_m1 139 rfl) rfl
theorem q195 : (Jvm.Cond.instanceMethod ({ cls := "RowenTongue", name := "leaf", desc := "(II)I" } : Jvm.MethodName)) ∈ lw_all := lw_g (lw_at lw_m1 146 rfl) rfl
theorem q196 : (Jvm.Cond.selects "RowenTongue" ({ cls := "RowenTongue", name := "leaf", desc := "(II)I" } : Jvm.MethodName) ({ cls := "RowenTongue", name := "leaf", desc := "(II)I" } : Jvm.MethodName)) ∈ lw_all := lw_g (lw_at lw_m1 147 rfl) rfl
theorem q197 : (Jvm.Cond.code ({ cls := "RowenTongue", name := "leaf", desc := "(II)I" } : Jvm.MethodName) prog_1_method_22_code (3 : Nat) (Option.some Jvm.ClassFile.FieldType.int)) ∈ lw_all := lw_g (lw_at lw_m1 148 rfl) rfl
theorem q198 : (Jvm.Cond.methodLink "RowenTongue" (301 : Nat) ({ cls := "RowenTongue", name := "limited", desc := "(III)V" } : Jvm.MethodName)) ∈ lw_all := lw_g (lw_at lw_m1 149 rfl) rfl
theorem q199 : (Jvm.Cond.static ({ cls := "RowenTongue", name := "limited", desc := "(III)V" } : Jvm.MethodName)) ∈ lw_all := lw_g (lw_at lw_m1 150 rfl) rfl
theorem q200 : (Jvm.Cond.code ({ cls := "RowenTongue", name := "limited", desc := "(III)V" } : Jvm.MethodName) prog_1_method_15_code (3 : Nat) (Option.none : Option Jvm.ClassFile.FieldType)) ∈ lw_all := lw_g (lw_at lw_m1 151 rfl) rfl
theorem q201 : (Jvm.Cond.classLink "RowenTongue" (256 : Nat) "java/lang/IllegalArgumentException") ∈ lw_all := lw_g (lw_at lw_m1 152 rfl) rfl
theorem q247 : (Jvm.Cond.methodLink "RowenTongue" (258 : Nat) ({ cls := "java/lang/IllegalArgumentException", name := "<init>", desc := "()V" } : Jvm.MethodName)) ∈ lw_all := lw_g (lw_at lw_m1 198 rfl) rfl
theorem q270 : (Jvm.Cond.classLink "RowenTongue" (165 : Nat) "RowenTongue$Term") ∈ lw_all := lw_g (lw_at lw_m1 221 rfl) rfl
theorem q272 : (Jvm.Cond.methodLink "RowenTongue" (305 : Nat) ({ cls := "RowenTongue", name := "add", desc := "(III[LRowenTongue$Term;)I" } : Jvm.MethodName)) ∈ lw_all := lw_g (lw_at lw_m1 223 rfl) rfl
theorem q273 : (Jvm.Cond.privateMethod ({ cls := "RowenTongue", name := "add", desc := "(III[LRowenTongue$Term;)I" } : Jvm.MethodName)) ∈ lw_tbl := lw_at lw_m1 224 rfl
theorem q274 : (Jvm.Cond.instanceMethod ({ cls := "RowenTongue", name := "add", desc := "(III[LRowenTongue$Term;)I" } : Jvm.MethodName)) ∈ lw_all := lw_g (lw_at lw_m1 225 rfl) rfl
theorem q275 : (Jvm.Cond.code ({ cls := "RowenTongue", name := "add", desc := "(III[LRowenTongue$Term;)I" } : Jvm.MethodName) prog_1_method_20_code (6 : Nat) (Option.some Jvm.ClassFile.FieldType.int)) ∈ lw_all := lw_g (lw_at lw_m1 226 rfl) rfl
theorem q277 : (Jvm.Cond.methodLink "RowenTongue" (280 : Nat) ({ cls := "RowenTongue$Term", name := "<init>", desc := "(IIII[LRowenTongue$Term;)V" } : Jvm.MethodName)) ∈ lw_all := lw_g (lw_at lw_m1 228 rfl) rfl
theorem q283 : (Jvm.Cond.fieldLinkNest "RowenTongue" (293 : Nat) "RowenTongue$Term" "number" "I" "RowenTongue") ∈ lw_tbl := lw_at lw_m1 234 rfl
theorem q287 : (Jvm.Cond.fieldLinkNest "RowenTongue" (382 : Nat) "RowenTongue$Term" "kind" "I" "RowenTongue") ∈ lw_tbl := lw_at lw_m1 238 rfl
theorem q297 : (Jvm.Cond.fieldLinkNest "RowenTongue" (374 : Nat) "RowenTongue$Term" "of" "[LRowenTongue$Term;" "RowenTongue") ∈ lw_tbl := lw_at lw_m2 8 rfl
theorem q299 : (Jvm.Cond.fieldLinkNest "RowenTongue" (283 : Nat) "RowenTongue$Term" "heavy" "I" "RowenTongue") ∈ lw_tbl := lw_at lw_m2 10 rfl
theorem q300 : (Jvm.Cond.fieldLinkNest "RowenTongue" (164 : Nat) "RowenTongue$Term" "found" "LRowenTongue$Found;" "RowenTongue") ∈ lw_tbl := lw_at lw_m2 11 rfl
theorem q316 : (Jvm.Cond.methodLink "RowenTongue" (286 : Nat) ({ cls := "RowenTongue", name := "allowed", desc := "(Z)V" } : Jvm.MethodName)) ∈ lw_all := lw_g (lw_at lw_m2 27 rfl) rfl
theorem q317 : (Jvm.Cond.static ({ cls := "RowenTongue", name := "allowed", desc := "(Z)V" } : Jvm.MethodName)) ∈ lw_all := lw_g (lw_at lw_m2 28 rfl) rfl
theorem q318 : (Jvm.Cond.code ({ cls := "RowenTongue", name := "allowed", desc := "(Z)V" } : Jvm.MethodName) prog_1_method_16_code (1 : Nat) (Option.none : Option Jvm.ClassFile.FieldType)) ∈ lw_all := lw_g (lw_at lw_m2 29 rfl) rfl
theorem q319 : (Jvm.Cond.classLink "RowenTongue" (259 : Nat) "java/lang/IllegalStateException") ∈ lw_all := lw_g (lw_at lw_m2 30 rfl) rfl
theorem q328 : (Jvm.Cond.methodLink "RowenTongue" (261 : Nat) ({ cls := "java/lang/IllegalStateException", name := "<init>", desc := "()V" } : Jvm.MethodName)) ∈ lw_all := lw_g (lw_at lw_m2 39 rfl) rfl
theorem q334 : (Jvm.Cond.methodLink "RowenTongue" (289 : Nat) ({ cls := "java/util/ArrayList", name := "add", desc := "(Ljava/lang/Object;)Z" } : Jvm.MethodName)) ∈ lw_all := lw_g (lw_at lw_m2 45 rfl) rfl
theorem q366 : (Jvm.Cond.selects "RowenTongue" ({ cls := "java/lang/Object", name := "getClass", desc := "()Ljava/lang/Class;" } : Jvm.MethodName) ({ cls := "java/lang/Object", name := "getClass", desc := "()Ljava/lang/Class;" } : Jvm.MethodName)) ∈ lw_all := lw_g (lw_at lw_m2 77 rfl) rfl
theorem q470 : (Jvm.Cond.instanceMethod ({ cls := "RowenTongue", name := "named", desc := "(IIII)I" } : Jvm.MethodName)) ∈ lw_all := lw_g (lw_at lw_m2 181 rfl) rfl
theorem q471 : (Jvm.Cond.selects "RowenTongue" ({ cls := "RowenTongue", name := "named", desc := "(IIII)I" } : Jvm.MethodName) ({ cls := "RowenTongue", name := "named", desc := "(IIII)I" } : Jvm.MethodName)) ∈ lw_all := lw_g (lw_at lw_m2 182 rfl) rfl
theorem q472 : (Jvm.Cond.code ({ cls := "RowenTongue", name := "named", desc := "(IIII)I" } : Jvm.MethodName) prog_1_method_23_code (8 : Nat) (Option.some Jvm.ClassFile.FieldType.int)) ∈ lw_all := lw_g (lw_at lw_m2 183 rfl) rfl
theorem q473 : (Jvm.Cond.methodLink "RowenTongue" (308 : Nat) ({ cls := "RowenTongue", name := "partOf", desc := "(IZ)LRowenTongue$Term;" } : Jvm.MethodName)) ∈ lw_all := lw_g (lw_at lw_m2 184 rfl) rfl
theorem q474 : (Jvm.Cond.privateMethod ({ cls := "RowenTongue", name := "partOf", desc := "(IZ)LRowenTongue$Term;" } : Jvm.MethodName)) ∈ lw_tbl := lw_at lw_m2 185 rfl
theorem q475 : (Jvm.Cond.instanceMethod ({ cls := "RowenTongue", name := "partOf", desc := "(IZ)LRowenTongue$Term;" } : Jvm.MethodName)) ∈ lw_all := lw_g (lw_at lw_m2 186 rfl) rfl
theorem q476 : (Jvm.Cond.code ({ cls := "RowenTongue", name := "partOf", desc := "(IZ)LRowenTongue$Term;" } : Jvm.MethodName) prog_1_method_19_code (4 : Nat) (Option.some (Jvm.ClassFile.FieldType.object "RowenTongue$Term"))) ∈ lw_all := lw_g (lw_at lw_m2 187 rfl) rfl
theorem q477 : (Jvm.Cond.methodLink "RowenTongue" (272 : Nat) ({ cls := "RowenTongue", name := "termOf", desc := "(I)LRowenTongue$Term;" } : Jvm.MethodName)) ∈ lw_all := lw_g (lw_at lw_m2 188 rfl) rfl
theorem q478 : (Jvm.Cond.privateMethod ({ cls := "RowenTongue", name := "termOf", desc := "(I)LRowenTongue$Term;" } : Jvm.MethodName)) ∈ lw_tbl := lw_at lw_m2 189 rfl
theorem q479 : (Jvm.Cond.instanceMethod ({ cls := "RowenTongue", name := "termOf", desc := "(I)LRowenTongue$Term;" } : Jvm.MethodName)) ∈ lw_all := lw_g (lw_at lw_m2 190 rfl) rfl
theorem q480 : (Jvm.Cond.code ({ cls := "RowenTongue", name := "termOf", desc := "(I)LRowenTongue$Term;" } : Jvm.MethodName) prog_1_method_18_code (2 : Nat) (Option.some (Jvm.ClassFile.FieldType.object "RowenTongue$Term"))) ∈ lw_all := lw_g (lw_at lw_m2 191 rfl) rfl
theorem q481 : (Jvm.Cond.methodLink "RowenTongue" (268 : Nat) ({ cls := "RowenTongue", name := "there", desc := "(Z)V" } : Jvm.MethodName)) ∈ lw_all := lw_g (lw_at lw_m2 192 rfl) rfl
theorem q482 : (Jvm.Cond.static ({ cls := "RowenTongue", name := "there", desc := "(Z)V" } : Jvm.MethodName)) ∈ lw_all := lw_g (lw_at lw_m2 193 rfl) rfl
theorem q483 : (Jvm.Cond.code ({ cls := "RowenTongue", name := "there", desc := "(Z)V" } : Jvm.MethodName) prog_1_method_17_code (1 : Nat) (Option.none : Option Jvm.ClassFile.FieldType)) ∈ lw_all := lw_g (lw_at lw_m2 194 rfl) rfl
theorem q484 : (Jvm.Cond.classLink "RowenTongue" (262 : Nat) "java/lang/IndexOutOfBoundsException") ∈ lw_all := lw_g (lw_at lw_m2 195 rfl) rfl
theorem q493 : (Jvm.Cond.methodLink "RowenTongue" (264 : Nat) ({ cls := "java/lang/IndexOutOfBoundsException", name := "<init>", desc := "()V" } : Jvm.MethodName)) ∈ lw_all := lw_g (lw_at lw_m2 204 rfl) rfl
theorem q499 : (Jvm.Cond.methodLink "RowenTongue" (133 : Nat) ({ cls := "java/util/ArrayList", name := "get", desc := "(I)Ljava/lang/Object;" } : Jvm.MethodName)) ∈ lw_all := lw_g (lw_at lw_m2 210 rfl) rfl
theorem q513 : (Jvm.Cond.methodLink "RowenTongue" (276 : Nat) ({ cls := "RowenTongue$Term", name := "isCases", desc := "()Z" } : Jvm.MethodName)) ∈ lw_all := lw_g (lw_at lw_m2 224 rfl) rfl
theorem q521 : (Jvm.Cond.instanceMethod ({ cls := "RowenTongue", name := "made", desc := "(IIII)I" } : Jvm.MethodName)) ∈ lw_all := lw_g (lw_at lw_m2 232 rfl) rfl
theorem q522 : (Jvm.Cond.selects "RowenTongue" ({ cls := "RowenTongue", name := "made", desc := "(IIII)I" } : Jvm.MethodName) ({ cls := "RowenTongue", name := "made", desc := "(IIII)I" } : Jvm.MethodName)) ∈ lw_all := lw_g (lw_at lw_m2 233 rfl) rfl
theorem q523 : (Jvm.Cond.code ({ cls := "RowenTongue", name := "made", desc := "(IIII)I" } : Jvm.MethodName) prog_1_method_24_code (7 : Nat) (Option.some Jvm.ClassFile.FieldType.int)) ∈ lw_all := lw_g (lw_at lw_m2 234 rfl) rfl
theorem q528 : (Jvm.Cond.instanceMethod ({ cls := "RowenTongue", name := "match", desc := "(IIII)I" } : Jvm.MethodName)) ∈ lw_all := lw_g (lw_at lw_m2 239 rfl) rfl
theorem q529 : (Jvm.Cond.selects "RowenTongue" ({ cls := "RowenTongue", name := "match", desc := "(IIII)I" } : Jvm.MethodName) ({ cls := "RowenTongue", name := "match", desc := "(IIII)I" } : Jvm.MethodName)) ∈ lw_all := lw_g (lw_at lw_m3 0 rfl) rfl
theorem q530 : (Jvm.Cond.code ({ cls := "RowenTongue", name := "match", desc := "(IIII)I" } : Jvm.MethodName) prog_1_method_25_code (6 : Nat) (Option.some Jvm.ClassFile.FieldType.int)) ∈ lw_all := lw_g (lw_at lw_m3 1 rfl) rfl
theorem q535 : (Jvm.Cond.instanceMethod ({ cls := "RowenTongue", name := "check", desc := "(I)I" } : Jvm.MethodName)) ∈ lw_all := lw_g (lw_at lw_m3 6 rfl) rfl
theorem q536 : (Jvm.Cond.selects "RowenTongue" ({ cls := "RowenTongue", name := "check", desc := "(I)I" } : Jvm.MethodName) ({ cls := "RowenTongue", name := "check", desc := "(I)I" } : Jvm.MethodName)) ∈ lw_all := lw_g (lw_at lw_m3 7 rfl) rfl
theorem q537 : (Jvm.Cond.code ({ cls := "RowenTongue", name := "check", desc := "(I)I" } : Jvm.MethodName) prog_1_method_27_code (4 : Nat) (Option.some Jvm.ClassFile.FieldType.int)) ∈ lw_all := lw_g (lw_at lw_m3 8 rfl) rfl
theorem q538 : (Jvm.Cond.methodLink "RowenTongue" (294 : Nat) ({ cls := "RowenTongue", name := "found", desc := "(LRowenTongue$Term;)LRowenTongue$Found;" } : Jvm.MethodName)) ∈ lw_all := lw_g (lw_at lw_m3 9 rfl) rfl
theorem q539 : (Jvm.Cond.static ({ cls := "RowenTongue", name := "found", desc := "(LRowenTongue$Term;)LRowenTongue$Found;" } : Jvm.MethodName)) ∈ lw_all := lw_g (lw_at lw_m3 10 rfl) rfl
theorem q540 : (Jvm.Cond.codeWith ({ cls := "RowenTongue", name := "found", desc := "(LRowenTongue$Term;)LRowenTongue$Found;" } : Jvm.MethodName) prog_1_method_10_code (3 : Nat) (Option.some (Jvm.ClassFile.FieldType.object "RowenTongue$Found")) [((15 : Nat), (47 : Nat), (50 : Nat), (195 : Nat))]) ∈ lw_all := lw_g (lw_at lw_m3 11 rfl) rfl
theorem q541 : (Jvm.Cond.classLink "RowenTongue" (195 : Nat) "RowenTongue$Wrong") ∈ lw_all := lw_g (lw_at lw_m3 12 rfl) rfl
theorem q542 : (Jvm.Cond.classLink "RowenTongue" (170 : Nat) "RowenTongue$Finder") ∈ lw_all := lw_g (lw_at lw_m3 13 rfl) rfl
theorem q544 : (Jvm.Cond.methodLink "RowenTongue" (172 : Nat) ({ cls := "RowenTongue$Finder", name := "<init>", desc := "()V" } : Jvm.MethodName)) ∈ lw_all := lw_g (lw_at lw_m3 15 rfl) rfl
theorem q549 : (Jvm.Cond.fieldLinkNest "RowenTongue" (188 : Nat) "RowenTongue$Finder" "handed" "[I" "RowenTongue") ∈ lw_tbl := lw_at lw_m3 20 rfl
theorem q554 : (Jvm.Cond.methodLink "RowenTongue" (173 : Nat) ({ cls := "RowenTongue$Finder", name := "find", desc := "(LRowenTongue$Term;LRowenTongue$Known;I)LRowenTongue$Typed;" } : Jvm.MethodName)) ∈ lw_all := lw_g (lw_at lw_m3 25 rfl) rfl
theorem q561 : (Jvm.Cond.laysStatic "RowenTongue" "NUMBERS" "LRowenTongue$Type;") ∈ lw_tbl := lw_at lw_m3 32 rfl
theorem q597 : (Jvm.Cond.fieldLinkNest "RowenTongue" (179 : Nat) "RowenTongue$Typed" "type" "LRowenTongue$Type;" "RowenTongue") ∈ lw_tbl := lw_at lw_m3 68 rfl
theorem q600 : (Jvm.Cond.fieldLinkNest "RowenTongue" (184 : Nat) "RowenTongue$Typed" "code" "LRowenTongue$Code;" "RowenTongue") ∈ lw_tbl := lw_at lw_m3 71 rfl
theorem q609 : (Jvm.Cond.laysStatic "RowenTongue" "NOTHING" "LRowenTongue$Row;") ∈ lw_tbl := lw_at lw_m3 80 rfl
theorem q620 : (Jvm.Cond.fieldLinkNest "RowenTongue" (84 : Nat) "RowenTongue$Bag" "isVariant" "Z" "RowenTongue") ∈ lw_tbl := lw_at lw_m3 91 rfl
theorem q627 : (Jvm.Cond.fieldLinkNest "RowenTongue" (87 : Nat) "RowenTongue$Bag" "row" "LRowenTongue$Row;" "RowenTongue") ∈ lw_tbl := lw_at lw_m3 98 rfl
theorem q629 : (Jvm.Cond.fieldLinkNest "RowenTongue" (95 : Nat) "RowenTongue$Bag" "same" "LRowenTongue$Type;" "RowenTongue") ∈ lw_tbl := lw_at lw_m3 100 rfl
theorem q667 : (Jvm.Cond.fieldLinkNest "RowenTongue" (316 : Nat) "RowenTongue$Wrong" "error" "I" "RowenTongue") ∈ lw_tbl := lw_at lw_m3 138 rfl
theorem q669 : (Jvm.Cond.fieldLinkNest "RowenTongue" (312 : Nat) "RowenTongue$Wrong" "term" "LRowenTongue$Term;" "RowenTongue") ∈ lw_tbl := lw_at lw_m3 140 rfl
theorem q740 : (Jvm.Cond.selects "RowenTongue" ({ cls := "java/lang/Object", name := "equals", desc := "(Ljava/lang/Object;)Z" } : Jvm.MethodName) ({ cls := "java/lang/Object", name := "equals", desc := "(Ljava/lang/Object;)Z" } : Jvm.MethodName)) ∈ lw_all := lw_g (lw_at lw_m3 211 rfl) rfl
theorem q807 : (Jvm.Cond.fieldLinkNest "RowenTongue" (45 : Nat) "RowenTongue$Open" "bound" "LRowenTongue$Type;" "RowenTongue") ∈ lw_tbl := lw_at lw_m4 38 rfl
theorem q812 : (Jvm.Cond.fieldLinkNest "RowenTongue" (37 : Nat) "RowenTongue$Open" "level" "I" "RowenTongue") ∈ lw_tbl := lw_at lw_m4 43 rfl
theorem q815 : (Jvm.Cond.fieldLinkNest "RowenTongue" (49 : Nat) "RowenTongue$Open" "isLike" "Z" "RowenTongue") ∈ lw_tbl := lw_at lw_m4 46 rfl
theorem q841 : (Jvm.Cond.fieldLinkNest "RowenTongue" (69 : Nat) "RowenTongue$Function" "from" "LRowenTongue$Type;" "RowenTongue") ∈ lw_tbl := lw_at lw_m4 72 rfl
theorem q846 : (Jvm.Cond.fieldLinkNest "RowenTongue" (76 : Nat) "RowenTongue$Function" "to" "LRowenTongue$Type;" "RowenTongue") ∈ lw_tbl := lw_at lw_m4 77 rfl
theorem q848 : (Jvm.Cond.fieldLinkNest "RowenTongue" (79 : Nat) "RowenTongue$Function" "same" "LRowenTongue$Type;" "RowenTongue") ∈ lw_tbl := lw_at lw_m4 79 rfl
theorem q893 : (Jvm.Cond.fieldLinkNest "RowenTongue" (229 : Nat) "RowenTongue$Cell" "label" "I" "RowenTongue") ∈ lw_tbl := lw_at lw_m4 124 rfl
theorem q902 : (Jvm.Cond.fieldLinkNest "RowenTongue" (232 : Nat) "RowenTongue$Cell" "rest" "LRowenTongue$Row;" "RowenTongue") ∈ lw_tbl := lw_at lw_m4 133 rfl
theorem q921 : (Jvm.Cond.fieldLinkNest "RowenTongue" (162 : Nat) "RowenTongue$OpenRow" "bound" "LRowenTongue$Row;" "RowenTongue") ∈ lw_tbl := lw_at lw_m4 152 rfl
theorem q926 : (Jvm.Cond.fieldLinkNest "RowenTongue" (140 : Nat) "RowenTongue$OpenRow" "level" "I" "RowenTongue") ∈ lw_tbl := lw_at lw_m4 157 rfl
theorem q930 : (Jvm.Cond.fieldLinkNest "RowenTongue" (147 : Nat) "RowenTongue$OpenRow" "isLike" "Z" "RowenTongue") ∈ lw_tbl := lw_at lw_m4 161 rfl
theorem q934 : (Jvm.Cond.fieldLinkNest "RowenTongue" (117 : Nat) "RowenTongue$OpenRow" "lacks" "I" "RowenTongue") ∈ lw_tbl := lw_at lw_m4 165 rfl
theorem q1003 : (Jvm.Cond.fieldLinkNest "RowenTongue" (241 : Nat) "RowenTongue$Place" "row" "LRowenTongue$OpenRow;" "RowenTongue") ∈ lw_tbl := lw_at lw_m4 234 rfl
theorem q1007 : (Jvm.Cond.fieldLinkNest "RowenTongue" (245 : Nat) "RowenTongue$Place" "label" "I" "RowenTongue") ∈ lw_tbl := lw_at lw_m4 238 rfl
theorem q1056 : (Jvm.Cond.static ({ cls := "RowenTongue", name := "unite", desc := "(LRowenTongue$Type;LRowenTongue$Type;)V" } : Jvm.MethodName)) ∈ lw_all := lw_g (lw_at lw_m5 47 rfl) rfl
theorem q1057 : (Jvm.Cond.code ({ cls := "RowenTongue", name := "unite", desc := "(LRowenTongue$Type;LRowenTongue$Type;)V" } : Jvm.MethodName) prog_1_method_5_code (10 : Nat) (Option.none : Option Jvm.ClassFile.FieldType)) ∈ lw_all := lw_g (lw_at lw_m5 48 rfl) rfl
theorem q1058 : (Jvm.Cond.methodLink "RowenTongue" (57 : Nat) ({ cls := "RowenTongue$Type", name := "now", desc := "()LRowenTongue$Type;" } : Jvm.MethodName)) ∈ lw_all := lw_g (lw_at lw_m5 49 rfl) rfl
theorem q1059 : (Jvm.Cond.classLink "RowenTongue" (38 : Nat) "RowenTongue$Open") ∈ lw_all := lw_g (lw_at lw_m5 50 rfl) rfl
theorem q1060 : (Jvm.Cond.methodLink "RowenTongue" (63 : Nat) ({ cls := "RowenTongue", name := "bind", desc := "(LRowenTongue$Open;LRowenTongue$Type;)V" } : Jvm.MethodName)) ∈ lw_all := lw_g (lw_at lw_m5 51 rfl) rfl
theorem q1061 : (Jvm.Cond.static ({ cls := "RowenTongue", name := "bind", desc := "(LRowenTongue$Open;LRowenTongue$Type;)V" } : Jvm.MethodName)) ∈ lw_all := lw_g (lw_at lw_m5 52 rfl) rfl
theorem q1062 : (Jvm.Cond.code ({ cls := "RowenTongue", name := "bind", desc := "(LRowenTongue$Open;LRowenTongue$Type;)V" } : Jvm.MethodName) prog_1_method_4_code (2 : Nat) (Option.none : Option Jvm.ClassFile.FieldType)) ∈ lw_all := lw_g (lw_at lw_m5 53 rfl) rfl
theorem q1063 : (Jvm.Cond.classLink "RowenTongue" (35 : Nat) "RowenTongue$Within") ∈ lw_all := lw_g (lw_at lw_m5 54 rfl) rfl
theorem q1065 : (Jvm.Cond.methodLink "RowenTongue" (42 : Nat) ({ cls := "RowenTongue$Within", name := "<init>", desc := "(LRowenTongue$Open;LRowenTongue$OpenRow;I)V" } : Jvm.MethodName)) ∈ lw_all := lw_g (lw_at lw_m5 56 rfl) rfl
theorem q1079 : (Jvm.Cond.methodLink "RowenTongue" (29 : Nat) ({ cls := "RowenTongue$Walk", name := "through", desc := "(LRowenTongue$Type;LRowenTongue$Walk;)V" } : Jvm.MethodName)) ∈ lw_all := lw_g (lw_at lw_m5 70 rfl) rfl
theorem q1162 : (Jvm.Cond.static ({ cls := "RowenTongue", name := "has", desc := "(II)Z" } : Jvm.MethodName)) ∈ lw_all := lw_g (lw_at lw_m5 153 rfl) rfl
theorem q1163 : (Jvm.Cond.code ({ cls := "RowenTongue", name := "has", desc := "(II)Z" } : Jvm.MethodName) prog_1_method_2_code (2 : Nat) (Option.some Jvm.ClassFile.FieldType.boolean)) ∈ lw_all := lw_g (lw_at lw_m5 154 rfl) rfl
theorem q1177 : (Jvm.Cond.methodLink "RowenTongue" (53 : Nat) ({ cls := "RowenTongue", name := "liken", desc := "(LRowenTongue$Type;)V" } : Jvm.MethodName)) ∈ lw_all := lw_g (lw_at lw_m5 168 rfl) rfl
theorem q1178 : (Jvm.Cond.static ({ cls := "RowenTongue", name := "liken", desc := "(LRowenTongue$Type;)V" } : Jvm.MethodName)) ∈ lw_all := lw_g (lw_at lw_m5 169 rfl) rfl
theorem q1179 : (Jvm.Cond.code ({ cls := "RowenTongue", name := "liken", desc := "(LRowenTongue$Type;)V" } : Jvm.MethodName) prog_1_method_3_code (1 : Nat) (Option.none : Option Jvm.ClassFile.FieldType)) ∈ lw_all := lw_g (lw_at lw_m5 170 rfl) rfl
theorem q1180 : (Jvm.Cond.classLink "RowenTongue" (26 : Nat) "RowenTongue$Likening") ∈ lw_all := lw_g (lw_at lw_m5 171 rfl) rfl
theorem q1182 : (Jvm.Cond.methodLinkNest "RowenTongue" (28 : Nat) ({ cls := "RowenTongue$Likening", name := "<init>", desc := "()V" } : Jvm.MethodName) "RowenTongue") ∈ lw_tbl := lw_at lw_m5 173 rfl
theorem q1187 : (Jvm.Cond.classLink "RowenTongue" (67 : Nat) "RowenTongue$Function") ∈ lw_all := lw_g (lw_at lw_m5 178 rfl) rfl
theorem q1188 : (Jvm.Cond.methodLink "RowenTongue" (72 : Nat) ({ cls := "RowenTongue", name := "unite", desc := "(LRowenTongue$Type;LRowenTongue$Type;)V" } : Jvm.MethodName)) ∈ lw_all := lw_g (lw_at lw_m5 179 rfl) rfl
theorem q1189 : (Jvm.Cond.classLink "RowenTongue" (82 : Nat) "RowenTongue$Bag") ∈ lw_all := lw_g (lw_at lw_m5 180 rfl) rfl
theorem q1190 : (Jvm.Cond.methodLink "RowenTongue" (91 : Nat) ({ cls := "RowenTongue", name := "uniteRows", desc := "(LRowenTongue$Row;LRowenTongue$Row;)V" } : Jvm.MethodName)) ∈ lw_all := lw_g (lw_at lw_m5 181 rfl) rfl
theorem q1191 : (Jvm.Cond.static ({ cls := "RowenTongue", name := "uniteRows", desc := "(LRowenTongue$Row;LRowenTongue$Row;)V" } : Jvm.MethodName)) ∈ lw_all := lw_g (lw_at lw_m5 182 rfl) rfl
theorem q1192 : (Jvm.Cond.code ({ cls := "RowenTongue", name := "uniteRows", desc := "(LRowenTongue$Row;LRowenTongue$Row;)V" } : Jvm.MethodName) prog_1_method_7_code (7 : Nat) (Option.none : Option Jvm.ClassFile.FieldType)) ∈ lw_all := lw_g (lw_at lw_m5 183 rfl) rfl
theorem q1193 : (Jvm.Cond.classLink "RowenTongue" (101 : Nat) "RowenTongue$Flat") ∈ lw_all := lw_g (lw_at lw_m5 184 rfl) rfl
theorem q1195 : (Jvm.Cond.methodLink "RowenTongue" (103 : Nat) ({ cls := "RowenTongue$Flat", name := "<init>", desc := "(LRowenTongue$Row;)V" } : Jvm.MethodName)) ∈ lw_all := lw_g (lw_at lw_m5 186 rfl) rfl
theorem q1214 : (Jvm.Cond.fieldLinkNest "RowenTongue" (130 : Nat) "RowenTongue$Flat" "types" "Ljava/util/ArrayList;" "RowenTongue") ∈ lw_tbl := lw_at lw_m5 205 rfl
theorem q1217 : (Jvm.Cond.fieldLinkNest "RowenTongue" (109 : Nat) "RowenTongue$Flat" "tail" "LRowenTongue$OpenRow;" "RowenTongue") ∈ lw_tbl := lw_at lw_m5 208 rfl
theorem q1222 : (Jvm.Cond.fieldLinkNest "RowenTongue" (106 : Nat) "RowenTongue$Flat" "labels" "I" "RowenTongue") ∈ lw_tbl := lw_at lw_m5 213 rfl
theorem q1230 : (Jvm.Cond.methodLink "RowenTongue" (113 : Nat) ({ cls := "RowenTongue", name := "must", desc := "(ZI)V" } : Jvm.MethodName)) ∈ lw_all := lw_g (lw_at lw_m5 221 rfl) rfl
theorem q1231 : (Jvm.Cond.static ({ cls := "RowenTongue", name := "must", desc := "(ZI)V" } : Jvm.MethodName)) ∈ lw_all := lw_g (lw_at lw_m5 222 rfl) rfl
theorem q1232 : (Jvm.Cond.code ({ cls := "RowenTongue", name := "must", desc := "(ZI)V" } : Jvm.MethodName) prog_1_method_6_code (2 : Nat) (Option.none : Option Jvm.ClassFile.FieldType)) ∈ lw_all := lw_g (lw_at lw_m5 223 rfl) rfl
theorem q1233 : (Jvm.Cond.classLink "RowenTongue" (96 : Nat) "RowenTongue$Clash") ∈ lw_all := lw_g (lw_at lw_m5 224 rfl) rfl
theorem q1234 : (Jvm.Cond.methodLink "RowenTongue" (98 : Nat) ({ cls := "RowenTongue$Clash", name := "<init>", desc := "(I)V" } : Jvm.MethodName)) ∈ lw_all := lw_g (lw_at lw_m5 225 rfl) rfl
theorem q1235 : (Jvm.Cond.methodLink "RowenTongue" (122 : Nat) ({ cls := "RowenTongue", name := "join", desc := "(LRowenTongue$Flat;LRowenTongue$Flat;II)V" } : Jvm.MethodName)) ∈ lw_all := lw_g (lw_at lw_m5 226 rfl) rfl
theorem q1236 : (Jvm.Cond.static ({ cls := "RowenTongue", name := "join", desc := "(LRowenTongue$Flat;LRowenTongue$Flat;II)V" } : Jvm.MethodName)) ∈ lw_all := lw_g (lw_at lw_m5 227 rfl) rfl
theorem q1237 : (Jvm.Cond.code ({ cls := "RowenTongue", name := "join", desc := "(LRowenTongue$Flat;LRowenTongue$Flat;II)V" } : Jvm.MethodName) prog_1_method_8_code (5 : Nat) (Option.none : Option Jvm.ClassFile.FieldType)) ∈ lw_all := lw_g (lw_at lw_m5 228 rfl) rfl
theorem q1238 : (Jvm.Cond.fieldLink "RowenTongue" (137 : Nat) "RowenTongue" "NOTHING" "LRowenTongue$Row;") ∈ lw_all := lw_g (lw_at lw_m5 229 rfl) rfl
theorem q1239 : (Jvm.Cond.classLink "RowenTongue" (118 : Nat) "RowenTongue$OpenRow") ∈ lw_all := lw_g (lw_at lw_m5 230 rfl) rfl
theorem q1240 : (Jvm.Cond.methodLink "RowenTongue" (141 : Nat) ({ cls := "java/lang/Math", name := "min", desc := "(II)I" } : Jvm.MethodName)) ∈ lw_all := lw_g (lw_at lw_m5 231 rfl) rfl
theorem q1241 : (Jvm.Cond.methodLink "RowenTongue" (148 : Nat) ({ cls := "RowenTongue$OpenRow", name := "<init>", desc := "(IZI)V" } : Jvm.MethodName)) ∈ lw_all := lw_g (lw_at lw_m5 232 rfl) rfl
theorem q1242 : (Jvm.Cond.methodLink "RowenTongue" (151 : Nat) ({ cls := "RowenTongue$Flat", name := "some", desc := "(ILRowenTongue$Row;)LRowenTongue$Row;" } : Jvm.MethodName)) ∈ lw_all := lw_g (lw_at lw_m5 233 rfl) rfl
theorem q1249 : (Jvm.Cond.methodLink "RowenTongue" (155 : Nat) ({ cls := "RowenTongue", name := "close", desc := "(LRowenTongue$OpenRow;LRowenTongue$Row;)V" } : Jvm.MethodName)) ∈ lw_all := lw_g (lw_at lw_m6 0 rfl) rfl
theorem q1250 : (Jvm.Cond.static ({ cls := "RowenTongue", name := "close", desc := "(LRowenTongue$OpenRow;LRowenTongue$Row;)V" } : Jvm.MethodName)) ∈ lw_all := lw_g (lw_at lw_m6 1 rfl) rfl
theorem q1251 : (Jvm.Cond.code ({ cls := "RowenTongue", name := "close", desc := "(LRowenTongue$OpenRow;LRowenTongue$Row;)V" } : Jvm.MethodName) prog_1_method_9_code (2 : Nat) (Option.none : Option Jvm.ClassFile.FieldType)) ∈ lw_all := lw_g (lw_at lw_m6 2 rfl) rfl
theorem q1252 : (Jvm.Cond.methodLink "RowenTongue" (159 : Nat) ({ cls := "RowenTongue$Walk", name := "through", desc := "(LRowenTongue$Row;LRowenTongue$Walk;)V" } : Jvm.MethodName)) ∈ lw_all := lw_g (lw_at lw_m6 3 rfl) rfl
theorem q1253 : (Jvm.Cond.methodLink "RowenTongue" (126 : Nat) ({ cls := "RowenTongue", name := "has", desc := "(II)Z" } : Jvm.MethodName)) ∈ lw_all := lw_g (lw_at lw_m6 4 rfl) rfl
theorem q1254 : (Jvm.Cond.classLink "RowenTongue" (58 : Nat) "RowenTongue$Type") ∈ lw_all := lw_g (lw_at lw_m6 5 rfl) rfl
theorem q1558 : (Jvm.Cond.classLink "RowenTongue" (177 : Nat) "RowenTongue$Found") ∈ lw_all := lw_g (lw_at lw_m7 69 rfl) rfl
theorem q1560 : (Jvm.Cond.methodLink "RowenTongue" (192 : Nat) ({ cls := "RowenTongue$Found", name := "<init>", desc := "(LRowenTongue$Type;LRowenTongue$Code;LRowenTongue$Wrong;[I)V" } : Jvm.MethodName)) ∈ lw_all := lw_g (lw_at lw_m7 71 rfl) rfl
theorem q1565 : (Jvm.Cond.fieldLinkNest "RowenTongue" (217 : Nat) "RowenTongue$Found" "type" "LRowenTongue$Type;" "RowenTongue") ∈ lw_tbl := lw_at lw_m7 76 rfl
theorem q1567 : (Jvm.Cond.fieldLinkNest "RowenTongue" (364 : Nat) "RowenTongue$Found" "code" "LRowenTongue$Code;" "RowenTongue") ∈ lw_tbl := lw_at lw_m7 78 rfl
theorem q1569 : (Jvm.Cond.fieldLinkNest "RowenTongue" (297 : Nat) "RowenTongue$Found" "wrong" "LRowenTongue$Wrong;" "RowenTongue") ∈ lw_tbl := lw_at lw_m7 80 rfl
theorem q1571 : (Jvm.Cond.fieldLinkNest "RowenTongue" (385 : Nat) "RowenTongue$Found" "handed" "[I" "RowenTongue") ∈ lw_tbl := lw_at lw_m7 82 rfl
theorem q1572 : (Jvm.Cond.fieldLinkNest "RowenTongue" (211 : Nat) "RowenTongue$Found" "text" "Ljava/lang/String;" "RowenTongue") ∈ lw_tbl := lw_at lw_m7 83 rfl
theorem q1588 : (Jvm.Cond.instanceMethod ({ cls := "RowenTongue", name := "size", desc := "(I)I" } : Jvm.MethodName)) ∈ lw_all := lw_g (lw_at lw_m7 99 rfl) rfl
theorem q1589 : (Jvm.Cond.selects "RowenTongue" ({ cls := "RowenTongue", name := "size", desc := "(I)I" } : Jvm.MethodName) ({ cls := "RowenTongue", name := "size", desc := "(I)I" } : Jvm.MethodName)) ∈ lw_all := lw_g (lw_at lw_m7 100 rfl) rfl
theorem q1590 : (Jvm.Cond.code ({ cls := "RowenTongue", name := "size", desc := "(I)I" } : Jvm.MethodName) prog_1_method_29_code (2 : Nat) (Option.some Jvm.ClassFile.FieldType.int)) ∈ lw_all := lw_g (lw_at lw_m7 101 rfl) rfl
theorem q1591 : (Jvm.Cond.methodLink "RowenTongue" (319 : Nat) ({ cls := "RowenTongue", name := "typeOf", desc := "(I)LRowenTongue$Found;" } : Jvm.MethodName)) ∈ lw_all := lw_g (lw_at lw_m7 102 rfl) rfl
theorem q1592 : (Jvm.Cond.privateMethod ({ cls := "RowenTongue", name := "typeOf", desc := "(I)LRowenTongue$Found;" } : Jvm.MethodName)) ∈ lw_tbl := lw_at lw_m7 103 rfl
theorem q1593 : (Jvm.Cond.instanceMethod ({ cls := "RowenTongue", name := "typeOf", desc := "(I)LRowenTongue$Found;" } : Jvm.MethodName)) ∈ lw_all := lw_g (lw_at lw_m7 104 rfl) rfl
theorem q1594 : (Jvm.Cond.code ({ cls := "RowenTongue", name := "typeOf", desc := "(I)LRowenTongue$Found;" } : Jvm.MethodName) prog_1_method_21_code (3 : Nat) (Option.some (Jvm.ClassFile.FieldType.object "RowenTongue$Found"))) ∈ lw_all := lw_g (lw_at lw_m7 105 rfl) rfl
theorem q1595 : (Jvm.Cond.methodLink "RowenTongue" (323 : Nat) ({ cls := "RowenTongue", name := "textOf", desc := "(LRowenTongue$Found;)Ljava/lang/String;" } : Jvm.MethodName)) ∈ lw_all := lw_g (lw_at lw_m7 106 rfl) rfl
theorem q1596 : (Jvm.Cond.static ({ cls := "RowenTongue", name := "textOf", desc := "(LRowenTongue$Found;)Ljava/lang/String;" } : Jvm.MethodName)) ∈ lw_all := lw_g (lw_at lw_m7 107 rfl) rfl
theorem q1597 : (Jvm.Cond.code ({ cls := "RowenTongue", name := "textOf", desc := "(LRowenTongue$Found;)Ljava/lang/String;" } : Jvm.MethodName) prog_1_method_12_code (1 : Nat) (Option.some (Jvm.ClassFile.FieldType.object "java/lang/String"))) ∈ lw_all := lw_g (lw_at lw_m7 108 rfl) rfl
theorem q1598 : (Jvm.Cond.classLink "RowenTongue" (214 : Nat) "RowenTongue$Teller") ∈ lw_all := lw_g (lw_at lw_m7 109 rfl) rfl
theorem q1600 : (Jvm.Cond.methodLinkNest "RowenTongue" (216 : Nat) ({ cls := "RowenTongue$Teller", name := "<init>", desc := "()V" } : Jvm.MethodName) "RowenTongue") ∈ lw_tbl := lw_at lw_m7 111 rfl
theorem q1615 : (Jvm.Cond.methodLink "RowenTongue" (218 : Nat) ({ cls := "RowenTongue$Teller", name := "whole", desc := "(LRowenTongue$Type;)Ljava/lang/String;" } : Jvm.MethodName)) ∈ lw_all := lw_g (lw_at lw_m7 126 rfl) rfl
theorem q1719 : (Jvm.Cond.static ({ cls := "RowenTongue", name := "cut", desc := "(Ljava/lang/StringBuilder;)Ljava/lang/String;" } : Jvm.MethodName)) ∈ lw_all := lw_g (lw_at lw_m7 230 rfl) rfl
theorem q1720 : (Jvm.Cond.code ({ cls := "RowenTongue", name := "cut", desc := "(Ljava/lang/StringBuilder;)Ljava/lang/String;" } : Jvm.MethodName) prog_1_method_11_code (1 : Nat) (Option.some (Jvm.ClassFile.FieldType.object "java/lang/String"))) ∈ lw_all := lw_g (lw_at lw_m7 231 rfl) rfl
theorem q1721 : (Jvm.Cond.methodLink "RowenTongue" (197 : Nat) ({ cls := "java/lang/StringBuilder", name := "length", desc := "()I" } : Jvm.MethodName)) ∈ lw_all := lw_g (lw_at lw_m7 232 rfl) rfl
theorem q1722 : (Jvm.Cond.methodLink "RowenTongue" (203 : Nat) ({ cls := "java/lang/StringBuilder", name := "substring", desc := "(II)Ljava/lang/String;" } : Jvm.MethodName)) ∈ lw_all := lw_g (lw_at lw_m7 233 rfl) rfl
theorem q1747 : (Jvm.Cond.methodLink "RowenTongue" (207 : Nat) ({ cls := "java/lang/StringBuilder", name := "toString", desc := "()Ljava/lang/String;" } : Jvm.MethodName)) ∈ lw_all := lw_g (lw_at lw_m8 18 rfl) rfl
theorem q1748 : (Jvm.Cond.methodLink "RowenTongue" (327 : Nat) ({ cls := "java/lang/String", name := "length", desc := "()I" } : Jvm.MethodName)) ∈ lw_all := lw_g (lw_at lw_m8 19 rfl) rfl
theorem q1753 : (Jvm.Cond.instanceMethod ({ cls := "RowenTongue", name := "sign", desc := "(II)C" } : Jvm.MethodName)) ∈ lw_all := lw_g (lw_at lw_m8 24 rfl) rfl
theorem q1754 : (Jvm.Cond.selects "RowenTongue" ({ cls := "RowenTongue", name := "sign", desc := "(II)C" } : Jvm.MethodName) ({ cls := "RowenTongue", name := "sign", desc := "(II)C" } : Jvm.MethodName)) ∈ lw_all := lw_g (lw_at lw_m8 25 rfl) rfl
theorem q1755 : (Jvm.Cond.code ({ cls := "RowenTongue", name := "sign", desc := "(II)C" } : Jvm.MethodName) prog_1_method_30_code (5 : Nat) (Option.some Jvm.ClassFile.FieldType.char)) ∈ lw_all := lw_g (lw_at lw_m8 26 rfl) rfl
theorem q1756 : (Jvm.Cond.methodLink "RowenTongue" (330 : Nat) ({ cls := "java/lang/String", name := "charAt", desc := "(I)C" } : Jvm.MethodName)) ∈ lw_all := lw_g (lw_at lw_m8 27 rfl) rfl
theorem q1775 : (Jvm.Cond.instanceMethod ({ cls := "RowenTongue", name := "areAlike", desc := "(II)Z" } : Jvm.MethodName)) ∈ lw_all := lw_g (lw_at lw_m8 46 rfl) rfl
theorem q1776 : (Jvm.Cond.selects "RowenTongue" ({ cls := "RowenTongue", name := "areAlike", desc := "(II)Z" } : Jvm.MethodName) ({ cls := "RowenTongue", name := "areAlike", desc := "(II)Z" } : Jvm.MethodName)) ∈ lw_all := lw_g (lw_at lw_m8 47 rfl) rfl
theorem q1777 : (Jvm.Cond.code ({ cls := "RowenTongue", name := "areAlike", desc := "(II)Z" } : Jvm.MethodName) prog_1_method_31_code (6 : Nat) (Option.some Jvm.ClassFile.FieldType.boolean)) ∈ lw_all := lw_g (lw_at lw_m8 48 rfl) rfl
theorem q1778 : (Jvm.Cond.methodLink "RowenTongue" (334 : Nat) ({ cls := "java/lang/String", name := "equals", desc := "(Ljava/lang/Object;)Z" } : Jvm.MethodName)) ∈ lw_all := lw_g (lw_at lw_m8 49 rfl) rfl
theorem q1783 : (Jvm.Cond.instanceMethod ({ cls := "RowenTongue", name := "run", desc := "(I)I" } : Jvm.MethodName)) ∈ lw_all := lw_g (lw_at lw_m8 54 rfl) rfl
theorem q1784 : (Jvm.Cond.selects "RowenTongue" ({ cls := "RowenTongue", name := "run", desc := "(I)I" } : Jvm.MethodName) ({ cls := "RowenTongue", name := "run", desc := "(I)I" } : Jvm.MethodName)) ∈ lw_all := lw_g (lw_at lw_m8 55 rfl) rfl
theorem q1785 : (Jvm.Cond.codeWith ({ cls := "RowenTongue", name := "run", desc := "(I)I" } : Jvm.MethodName) prog_1_method_32_code (5 : Nat) (Option.some Jvm.ClassFile.FieldType.int) [((20 : Nat), (59 : Nat), (62 : Nat), (355 : Nat))]) ∈ lw_all := lw_g (lw_at lw_m8 56 rfl) rfl
theorem q1786 : (Jvm.Cond.classLink "RowenTongue" (355 : Nat) "RowenTongue$Far") ∈ lw_all := lw_g (lw_at lw_m8 57 rfl) rfl
theorem q1787 : (Jvm.Cond.classLink "RowenTongue" (337 : Nat) "RowenTongue$Plain") ∈ lw_all := lw_g (lw_at lw_m8 58 rfl) rfl
theorem q1789 : (Jvm.Cond.methodLinkNest "RowenTongue" (339 : Nat) ({ cls := "RowenTongue$Plain", name := "<init>", desc := "()V" } : Jvm.MethodName) "RowenTongue") ∈ lw_tbl := lw_at lw_m8 60 rfl
theorem q1794 : (Jvm.Cond.fieldLinkNest "RowenTongue" (357 : Nat) "RowenTongue$Plain" "steps" "I" "RowenTongue") ∈ lw_tbl := lw_at lw_m8 65 rfl
theorem q1798 : (Jvm.Cond.classLink "RowenTongue" (198 : Nat) "java/lang/StringBuilder") ∈ lw_all := lw_g (lw_at lw_m8 69 rfl) rfl
theorem q1799 : (Jvm.Cond.methodLink "RowenTongue" (340 : Nat) ({ cls := "java/lang/StringBuilder", name := "<init>", desc := "()V" } : Jvm.MethodName)) ∈ lw_all := lw_g (lw_at lw_m8 70 rfl) rfl
theorem q1800 : (Jvm.Cond.methodLink "RowenTongue" (341 : Nat) ({ cls := "RowenTongue$Plain", name := "act", desc := "(LRowenTongue$Term;LRowenTongue$Scope;)LRowenTongue$Value;" } : Jvm.MethodName)) ∈ lw_all := lw_g (lw_at lw_m8 71 rfl) rfl
theorem q1956 : (Jvm.Cond.methodLink "RowenTongue" (345 : Nat) ({ cls := "RowenTongue$Value", name := "tell", desc := "(Ljava/lang/StringBuilder;)V" } : Jvm.MethodName)) ∈ lw_all := lw_g (lw_at lw_m8 227 rfl) rfl
theorem q1984 : (Jvm.Cond.methodLink "RowenTongue" (351 : Nat) ({ cls := "RowenTongue", name := "cut", desc := "(Ljava/lang/StringBuilder;)Ljava/lang/String;" } : Jvm.MethodName)) ∈ lw_all := lw_g (lw_at lw_m9 15 rfl) rfl
theorem q1989 : (Jvm.Cond.instanceMethod ({ cls := "RowenTongue", name := "result", desc := "(I)C" } : Jvm.MethodName)) ∈ lw_all := lw_g (lw_at lw_m9 20 rfl) rfl
theorem q1990 : (Jvm.Cond.selects "RowenTongue" ({ cls := "RowenTongue", name := "result", desc := "(I)C" } : Jvm.MethodName) ({ cls := "RowenTongue", name := "result", desc := "(I)C" } : Jvm.MethodName)) ∈ lw_all := lw_g (lw_at lw_m9 21 rfl) rfl
theorem q1991 : (Jvm.Cond.code ({ cls := "RowenTongue", name := "result", desc := "(I)C" } : Jvm.MethodName) prog_1_method_34_code (2 : Nat) (Option.some Jvm.ClassFile.FieldType.char)) ∈ lw_all := lw_g (lw_at lw_m9 22 rfl) rfl
theorem q1996 : (Jvm.Cond.instanceMethod ({ cls := "RowenTongue", name := "agrees", desc := "(I)Z" } : Jvm.MethodName)) ∈ lw_all := lw_g (lw_at lw_m9 27 rfl) rfl
theorem q1997 : (Jvm.Cond.selects "RowenTongue" ({ cls := "RowenTongue", name := "agrees", desc := "(I)Z" } : Jvm.MethodName) ({ cls := "RowenTongue", name := "agrees", desc := "(I)Z" } : Jvm.MethodName)) ∈ lw_all := lw_g (lw_at lw_m9 28 rfl) rfl
theorem q1998 : (Jvm.Cond.codeWith ({ cls := "RowenTongue", name := "agrees", desc := "(I)Z" } : Jvm.MethodName) prog_1_method_35_code (6 : Nat) (Option.some Jvm.ClassFile.FieldType.boolean) [((14 : Nat), (40 : Nat), (43 : Nat), (355 : Nat)), ((56 : Nat), (81 : Nat), (84 : Nat), (355 : Nat))]) ∈ lw_all := lw_g (lw_at lw_m9 29 rfl) rfl
theorem q1999 : (Jvm.Cond.classLink "RowenTongue" (361 : Nat) "RowenTongue$Machine") ∈ lw_all := lw_g (lw_at lw_m9 30 rfl) rfl
theorem q2001 : (Jvm.Cond.methodLinkNest "RowenTongue" (363 : Nat) ({ cls := "RowenTongue$Machine", name := "<init>", desc := "()V" } : Jvm.MethodName) "RowenTongue") ∈ lw_tbl := lw_at lw_m9 32 rfl
theorem q2009 : (Jvm.Cond.methodLinkNest "RowenTongue" (365 : Nat) ({ cls := "RowenTongue$Machine", name := "go", desc := "(LRowenTongue$Code;LRowenTongue$Bind;LRowenTongue$Slot;)LRowenTongue$Thing;" } : Jvm.MethodName) "RowenTongue") ∈ lw_tbl := lw_at lw_m9 40 rfl
theorem q2094 : (Jvm.Cond.fieldLinkNest "RowenTongue" (255 : Nat) "RowenTongue$Sum" "number" "I" "RowenTongue") ∈ lw_tbl := lw_at lw_m9 125 rfl
theorem q2120 : (Jvm.Cond.static ({ cls := "RowenTongue", name := "less", desc := "(LRowenTongue$Row;ILRowenTongue$Slot;)I" } : Jvm.MethodName)) ∈ lw_all := lw_g (lw_at lw_m9 151 rfl) rfl
theorem q2121 : (Jvm.Cond.code ({ cls := "RowenTongue", name := "less", desc := "(LRowenTongue$Row;ILRowenTongue$Slot;)I" } : Jvm.MethodName) prog_1_method_13_code (6 : Nat) (Option.some Jvm.ClassFile.FieldType.int)) ∈ lw_all := lw_g (lw_at lw_m9 152 rfl) rfl
theorem q2122 : (Jvm.Cond.methodLink "RowenTongue" (222 : Nat) ({ cls := "RowenTongue$Row", name := "now", desc := "()LRowenTongue$Row;" } : Jvm.MethodName)) ∈ lw_all := lw_g (lw_at lw_m9 153 rfl) rfl
theorem q2123 : (Jvm.Cond.classLink "RowenTongue" (227 : Nat) "RowenTongue$Cell") ∈ lw_all := lw_g (lw_at lw_m9 154 rfl) rfl
theorem q2129 : (Jvm.Cond.fieldLinkNest "RowenTongue" (235 : Nat) "RowenTongue$Slot" "place" "LRowenTongue$Place;" "RowenTongue") ∈ lw_tbl := lw_at lw_m9 160 rfl
theorem q2132 : (Jvm.Cond.fieldLinkNest "RowenTongue" (246 : Nat) "RowenTongue$Slot" "number" "I" "RowenTongue") ∈ lw_tbl := lw_at lw_m9 163 rfl
theorem q2135 : (Jvm.Cond.fieldLinkNest "RowenTongue" (249 : Nat) "RowenTongue$Slot" "next" "LRowenTongue$Slot;" "RowenTongue") ∈ lw_tbl := lw_at lw_m9 166 rfl
theorem q2255 : (Jvm.Cond.static ({ cls := "RowenTongue", name := "sumOf", desc := "(LRowenTongue$Thing;)I" } : Jvm.MethodName)) ∈ lw_all := lw_g (lw_at lw_m10 46 rfl) rfl
theorem q2256 : (Jvm.Cond.code ({ cls := "RowenTongue", name := "sumOf", desc := "(LRowenTongue$Thing;)I" } : Jvm.MethodName) prog_1_method_14_code (1 : Nat) (Option.some Jvm.ClassFile.FieldType.int)) ∈ lw_all := lw_g (lw_at lw_m10 47 rfl) rfl
theorem q2257 : (Jvm.Cond.classLink "RowenTongue" (253 : Nat) "RowenTongue$Sum") ∈ lw_all := lw_g (lw_at lw_m10 48 rfl) rfl
theorem q2320 : (Jvm.Cond.methodLink "RowenTongue" (369 : Nat) ({ cls := "RowenTongue$Thing", name := "tell", desc := "(LRowenTongue$Type;Ljava/lang/StringBuilder;)V" } : Jvm.MethodName)) ∈ lw_all := lw_g (lw_at lw_m10 111 rfl) rfl
theorem q2365 : (Jvm.Cond.instanceMethod ({ cls := "RowenTongue", name := "places", desc := "(II)I" } : Jvm.MethodName)) ∈ lw_all := lw_g (lw_at lw_m10 156 rfl) rfl
theorem q2366 : (Jvm.Cond.selects "RowenTongue" ({ cls := "RowenTongue", name := "places", desc := "(II)I" } : Jvm.MethodName) ({ cls := "RowenTongue", name := "places", desc := "(II)I" } : Jvm.MethodName)) ∈ lw_all := lw_g (lw_at lw_m10 157 rfl) rfl
theorem q2367 : (Jvm.Cond.code ({ cls := "RowenTongue", name := "places", desc := "(II)I" } : Jvm.MethodName) prog_1_method_37_code (6 : Nat) (Option.some Jvm.ClassFile.FieldType.int)) ∈ lw_all := lw_g (lw_at lw_m10 158 rfl) rfl
theorem q2368 : (Jvm.Cond.methodLink "RowenTongue" (378 : Nat) ({ cls := "RowenTongue", name := "stands", desc := "(LRowenTongue$Term;LRowenTongue$Term;)Z" } : Jvm.MethodName)) ∈ lw_all := lw_g (lw_at lw_m10 159 rfl) rfl
theorem q2369 : (Jvm.Cond.static ({ cls := "RowenTongue", name := "stands", desc := "(LRowenTongue$Term;LRowenTongue$Term;)Z" } : Jvm.MethodName)) ∈ lw_all := lw_g (lw_at lw_m10 160 rfl) rfl
theorem q2370 : (Jvm.Cond.code ({ cls := "RowenTongue", name := "stands", desc := "(LRowenTongue$Term;LRowenTongue$Term;)Z" } : Jvm.MethodName) prog_1_method_36_code (7 : Nat) (Option.some Jvm.ClassFile.FieldType.boolean)) ∈ lw_all := lw_g (lw_at lw_m10 161 rfl) rfl
theorem q2887 : (Jvm.Cond.castable "RowenTongue" "java/lang/Object") ∈ lw_tbl := lw_at lw_m12 198 rfl
theorem in_X1 : ∀ w ∈ wsX10, w ∈ lw_all := lw_in wsX10 [163, 165, 167, 169] (by decide +kernel) (by decide +kernel)
