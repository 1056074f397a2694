/-! java/lang/StringUTF16 -/
set_option maxRecDepth 100000
def RJ6 : String := "java/lang/StringUTF16"
abbrev cJ6_newBytesFor : ByteArray := prog_29_method_2_code
def yJ6_newBytesFor : MethodName := ⟨RJ6, "newBytesFor", "(I)[B"⟩
def dkwJ6_newBytesFor_0 : List UInt8 := [26, 184, 0, 11, 188, 8, 176]
abbrev dktJ6_newBytesFor_0 : List UInt8 := dkwJ6_newBytesFor_0 ++ []
theorem dksJ6_newBytesFor_0 : cJ6_newBytesFor.data.toList.drop 0 = dktJ6_newBytesFor_0 := by decide +kernel
theorem dJ6_newBytesFor_0 : decode cJ6_newBytesFor 0 = .ok (.iload_n 0, 1) := dk_26 (dk_at dksJ6_newBytesFor_0 0 rfl rfl)
theorem dJ6_newBytesFor_1 : decode cJ6_newBytesFor 1 = .ok (.invokestatic 11, 3) := dk_184 0 11 (dk_at dksJ6_newBytesFor_0 1 rfl rfl)
theorem dJ6_newBytesFor_4 : decode cJ6_newBytesFor 4 = .ok (.newarray .byte, 2) := dk_188_8 (dk_at dksJ6_newBytesFor_0 4 rfl rfl)
theorem dJ6_newBytesFor_6 : decode cJ6_newBytesFor 6 = .ok (.areturn, 1) := dk_176 (dk_at dksJ6_newBytesFor_0 6 rfl rfl)
abbrev cJ6_newBytesLength : ByteArray := prog_29_method_3_code
def yJ6_newBytesLength : MethodName := ⟨RJ6, "newBytesLength", "(I)I"⟩
def dkwJ6_newBytesLength_2 : List UInt8 := [182, 0, 32, 182, 0, 37, 183, 0, 41, 191, 26, 4, 120, 172]
abbrev dktJ6_newBytesLength_2 : List UInt8 := dkwJ6_newBytesLength_2 ++ []
def dkwJ6_newBytesLength_1 : List UInt8 := [187, 0, 23, 89, 183, 0, 25, 18, 26, 182, 0, 28, 26, 182, 0, 32, 18, 35, 182, 0, 28, 18, 20]
abbrev dktJ6_newBytesLength_1 : List UInt8 := dkwJ6_newBytesLength_1 ++ dktJ6_newBytesLength_2
def dkwJ6_newBytesLength_0 : List UInt8 := [26, 156, 0, 11, 187, 0, 17, 89, 183, 0, 19, 191, 26, 18, 20, 161, 0, 40, 187, 0, 21, 89]
abbrev dktJ6_newBytesLength_0 : List UInt8 := dkwJ6_newBytesLength_0 ++ dktJ6_newBytesLength_1
theorem dksJ6_newBytesLength_0 : cJ6_newBytesLength.data.toList.drop 0 = dktJ6_newBytesLength_0 := by decide +kernel
theorem dksJ6_newBytesLength_1 : cJ6_newBytesLength.data.toList.drop 22 = dktJ6_newBytesLength_1 := dk_seg dksJ6_newBytesLength_0 22 rfl rfl
theorem dksJ6_newBytesLength_2 : cJ6_newBytesLength.data.toList.drop 45 = dktJ6_newBytesLength_2 := dk_seg dksJ6_newBytesLength_1 23 rfl rfl
theorem dJ6_newBytesLength_0 : decode cJ6_newBytesLength 0 = .ok (.iload_n 0, 1) := dk_26 (dk_at dksJ6_newBytesLength_0 0 rfl rfl)
theorem dJ6_newBytesLength_1 : decode cJ6_newBytesLength 1 = .ok (.ifCond .ge 11, 3) := dk_156 0 11 (dk_at dksJ6_newBytesLength_0 1 rfl rfl)
theorem dJ6_newBytesLength_4 : decode cJ6_newBytesLength 4 = .ok (.new 17, 3) := dk_187 0 17 (dk_at dksJ6_newBytesLength_0 4 rfl rfl)
theorem dJ6_newBytesLength_7 : decode cJ6_newBytesLength 7 = .ok (.dup, 1) := dk_89 (dk_at dksJ6_newBytesLength_0 7 rfl rfl)
theorem dJ6_newBytesLength_8 : decode cJ6_newBytesLength 8 = .ok (.invokespecial 19, 3) := dk_183 0 19 (dk_at dksJ6_newBytesLength_0 8 rfl rfl)
theorem dJ6_newBytesLength_11 : decode cJ6_newBytesLength 11 = .ok (.athrow, 1) := dk_191 (dk_at dksJ6_newBytesLength_0 11 rfl rfl)
theorem dJ6_newBytesLength_12 : decode cJ6_newBytesLength 12 = .ok (.iload_n 0, 1) := dk_26 (dk_at dksJ6_newBytesLength_0 12 rfl rfl)
theorem dJ6_newBytesLength_13 : decode cJ6_newBytesLength 13 = .ok (.ldc 20, 2) := dk_18 20 (dk_at dksJ6_newBytesLength_0 13 rfl rfl)
theorem dJ6_newBytesLength_15 : decode cJ6_newBytesLength 15 = .ok (.if_icmp .lt 40, 3) := dk_161 0 40 (dk_at dksJ6_newBytesLength_0 15 rfl rfl)
theorem dJ6_newBytesLength_18 : decode cJ6_newBytesLength 18 = .ok (.new 21, 3) := dk_187 0 21 (dk_at dksJ6_newBytesLength_0 18 rfl rfl)
theorem dJ6_newBytesLength_21 : decode cJ6_newBytesLength 21 = .ok (.dup, 1) := dk_89 (dk_at dksJ6_newBytesLength_0 21 rfl rfl)
theorem dJ6_newBytesLength_22 : decode cJ6_newBytesLength 22 = .ok (.new 23, 3) := dk_187 0 23 (dk_at dksJ6_newBytesLength_1 0 rfl rfl)
theorem dJ6_newBytesLength_25 : decode cJ6_newBytesLength 25 = .ok (.dup, 1) := dk_89 (dk_at dksJ6_newBytesLength_1 3 rfl rfl)
theorem dJ6_newBytesLength_26 : decode cJ6_newBytesLength 26 = .ok (.invokespecial 25, 3) := dk_183 0 25 (dk_at dksJ6_newBytesLength_1 4 rfl rfl)
theorem dJ6_newBytesLength_29 : decode cJ6_newBytesLength 29 = .ok (.ldc 26, 2) := dk_18 26 (dk_at dksJ6_newBytesLength_1 7 rfl rfl)
theorem dJ6_newBytesLength_31 : decode cJ6_newBytesLength 31 = .ok (.invokevirtual 28, 3) := dk_182 0 28 (dk_at dksJ6_newBytesLength_1 9 rfl rfl)
theorem dJ6_newBytesLength_34 : decode cJ6_newBytesLength 34 = .ok (.iload_n 0, 1) := dk_26 (dk_at dksJ6_newBytesLength_1 12 rfl rfl)
theorem dJ6_newBytesLength_35 : decode cJ6_newBytesLength 35 = .ok (.invokevirtual 32, 3) := dk_182 0 32 (dk_at dksJ6_newBytesLength_1 13 rfl rfl)
theorem dJ6_newBytesLength_38 : decode cJ6_newBytesLength 38 = .ok (.ldc 35, 2) := dk_18 35 (dk_at dksJ6_newBytesLength_1 16 rfl rfl)
theorem dJ6_newBytesLength_40 : decode cJ6_newBytesLength 40 = .ok (.invokevirtual 28, 3) := dk_182 0 28 (dk_at dksJ6_newBytesLength_1 18 rfl rfl)
theorem dJ6_newBytesLength_43 : decode cJ6_newBytesLength 43 = .ok (.ldc 20, 2) := dk_18 20 (dk_at dksJ6_newBytesLength_1 21 rfl rfl)
theorem dJ6_newBytesLength_45 : decode cJ6_newBytesLength 45 = .ok (.invokevirtual 32, 3) := dk_182 0 32 (dk_at dksJ6_newBytesLength_2 0 rfl rfl)
theorem dJ6_newBytesLength_48 : decode cJ6_newBytesLength 48 = .ok (.invokevirtual 37, 3) := dk_182 0 37 (dk_at dksJ6_newBytesLength_2 3 rfl rfl)
theorem dJ6_newBytesLength_51 : decode cJ6_newBytesLength 51 = .ok (.invokespecial 41, 3) := dk_183 0 41 (dk_at dksJ6_newBytesLength_2 6 rfl rfl)
theorem dJ6_newBytesLength_54 : decode cJ6_newBytesLength 54 = .ok (.athrow, 1) := dk_191 (dk_at dksJ6_newBytesLength_2 9 rfl rfl)
theorem dJ6_newBytesLength_55 : decode cJ6_newBytesLength 55 = .ok (.iload_n 0, 1) := dk_26 (dk_at dksJ6_newBytesLength_2 10 rfl rfl)
theorem dJ6_newBytesLength_56 : decode cJ6_newBytesLength 56 = .ok (.iconst 1, 1) := dk_4 (dk_at dksJ6_newBytesLength_2 11 rfl rfl)
theorem dJ6_newBytesLength_57 : decode cJ6_newBytesLength 57 = .ok (.ishl, 1) := dk_120 (dk_at dksJ6_newBytesLength_2 12 rfl rfl)
theorem dJ6_newBytesLength_58 : decode cJ6_newBytesLength 58 = .ok (.ireturn, 1) := dk_172 (dk_at dksJ6_newBytesLength_2 13 rfl rfl)
abbrev cJ6_inflate : ByteArray := prog_29_method_86_code
def yJ6_inflate : MethodName := ⟨RJ6, "inflate", "([BI[BII)V"⟩
def dkwJ6_inflate_1 : List UInt8 := [132, 1, 1, 51, 17, 0, 255, 126, 184, 0, 111, 132, 5, 1, 167, 255, 228, 177]
abbrev dktJ6_inflate_1 : List UInt8 := dkwJ6_inflate_1 ++ []
def dkwJ6_inflate_0 : List UInt8 := [29, 21, 4, 44, 184, 0, 173, 3, 54, 5, 21, 5, 21, 4, 162, 0, 27, 44, 29, 132, 3, 1, 42, 27]
abbrev dktJ6_inflate_0 : List UInt8 := dkwJ6_inflate_0 ++ dktJ6_inflate_1
theorem dksJ6_inflate_0 : cJ6_inflate.data.toList.drop 0 = dktJ6_inflate_0 := by decide +kernel
theorem dksJ6_inflate_1 : cJ6_inflate.data.toList.drop 24 = dktJ6_inflate_1 := dk_seg dksJ6_inflate_0 24 rfl rfl
theorem dJ6_inflate_0 : decode cJ6_inflate 0 = .ok (.iload_n 3, 1) := dk_29 (dk_at dksJ6_inflate_0 0 rfl rfl)
theorem dJ6_inflate_1 : decode cJ6_inflate 1 = .ok (.iload 4, 2) := dk_21 4 (dk_at dksJ6_inflate_0 1 rfl rfl)
theorem dJ6_inflate_3 : decode cJ6_inflate 3 = .ok (.aload_n 2, 1) := dk_44 (dk_at dksJ6_inflate_0 3 rfl rfl)
theorem dJ6_inflate_4 : decode cJ6_inflate 4 = .ok (.invokestatic 173, 3) := dk_184 0 173 (dk_at dksJ6_inflate_0 4 rfl rfl)
theorem dJ6_inflate_7 : decode cJ6_inflate 7 = .ok (.iconst 0, 1) := dk_3 (dk_at dksJ6_inflate_0 7 rfl rfl)
theorem dJ6_inflate_8 : decode cJ6_inflate 8 = .ok (.istore 5, 2) := dk_54 5 (dk_at dksJ6_inflate_0 8 rfl rfl)
theorem dJ6_inflate_10 : decode cJ6_inflate 10 = .ok (.iload 5, 2) := dk_21 5 (dk_at dksJ6_inflate_0 10 rfl rfl)
theorem dJ6_inflate_12 : decode cJ6_inflate 12 = .ok (.iload 4, 2) := dk_21 4 (dk_at dksJ6_inflate_0 12 rfl rfl)
theorem dJ6_inflate_14 : decode cJ6_inflate 14 = .ok (.if_icmp .ge 27, 3) := dk_162 0 27 (dk_at dksJ6_inflate_0 14 rfl rfl)
theorem dJ6_inflate_17 : decode cJ6_inflate 17 = .ok (.aload_n 2, 1) := dk_44 (dk_at dksJ6_inflate_0 17 rfl rfl)
theorem dJ6_inflate_18 : decode cJ6_inflate 18 = .ok (.iload_n 3, 1) := dk_29 (dk_at dksJ6_inflate_0 18 rfl rfl)
theorem dJ6_inflate_19 : decode cJ6_inflate 19 = .ok (.iinc 3 1, 3) := dk_132 3 1 (dk_at dksJ6_inflate_0 19 rfl rfl)
theorem dJ6_inflate_22 : decode cJ6_inflate 22 = .ok (.aload_n 0, 1) := dk_42 (dk_at dksJ6_inflate_0 22 rfl rfl)
theorem dJ6_inflate_23 : decode cJ6_inflate 23 = .ok (.iload_n 1, 1) := dk_27 (dk_at dksJ6_inflate_0 23 rfl rfl)
theorem dJ6_inflate_24 : decode cJ6_inflate 24 = .ok (.iinc 1 1, 3) := dk_132 1 1 (dk_at dksJ6_inflate_1 0 rfl rfl)
theorem dJ6_inflate_27 : decode cJ6_inflate 27 = .ok (.baload, 1) := dk_51 (dk_at dksJ6_inflate_1 3 rfl rfl)
theorem dJ6_inflate_28 : decode cJ6_inflate 28 = .ok (.sipush 255, 3) := dk_17 0 255 (dk_at dksJ6_inflate_1 4 rfl rfl)
theorem dJ6_inflate_31 : decode cJ6_inflate 31 = .ok (.iand, 1) := dk_126 (dk_at dksJ6_inflate_1 7 rfl rfl)
theorem dJ6_inflate_32 : decode cJ6_inflate 32 = .ok (.invokestatic 111, 3) := dk_184 0 111 (dk_at dksJ6_inflate_1 8 rfl rfl)
theorem dJ6_inflate_35 : decode cJ6_inflate 35 = .ok (.iinc 5 1, 3) := dk_132 5 1 (dk_at dksJ6_inflate_1 11 rfl rfl)
theorem dJ6_inflate_38 : decode cJ6_inflate 38 = .ok (.goto (-28), 3) := dk_167 255 228 (dk_at dksJ6_inflate_1 14 rfl rfl)
theorem dJ6_inflate_41 : decode cJ6_inflate 41 = .ok (.return_, 1) := dk_177 (dk_at dksJ6_inflate_1 17 rfl rfl)
abbrev cJ6_checkBoundsOffCount : ByteArray := prog_29_method_94_code
def yJ6_checkBoundsOffCount : MethodName := ⟨RJ6, "checkBoundsOffCount", "(II[B)V"⟩
def dkwJ6_checkBoundsOffCount_0 : List UInt8 := [26, 27, 44, 184, 0, 48, 184, 1, 163, 87, 177]
abbrev dktJ6_checkBoundsOffCount_0 : List UInt8 := dkwJ6_checkBoundsOffCount_0 ++ []
theorem dksJ6_checkBoundsOffCount_0 : cJ6_checkBoundsOffCount.data.toList.drop 0 = dktJ6_checkBoundsOffCount_0 := by decide +kernel
theorem dJ6_checkBoundsOffCount_0 : decode cJ6_checkBoundsOffCount 0 = .ok (.iload_n 0, 1) := dk_26 (dk_at dksJ6_checkBoundsOffCount_0 0 rfl rfl)
theorem dJ6_checkBoundsOffCount_1 : decode cJ6_checkBoundsOffCount 1 = .ok (.iload_n 1, 1) := dk_27 (dk_at dksJ6_checkBoundsOffCount_0 1 rfl rfl)
theorem dJ6_checkBoundsOffCount_2 : decode cJ6_checkBoundsOffCount 2 = .ok (.aload_n 2, 1) := dk_44 (dk_at dksJ6_checkBoundsOffCount_0 2 rfl rfl)
theorem dJ6_checkBoundsOffCount_3 : decode cJ6_checkBoundsOffCount 3 = .ok (.invokestatic 48, 3) := dk_184 0 48 (dk_at dksJ6_checkBoundsOffCount_0 3 rfl rfl)
theorem dJ6_checkBoundsOffCount_6 : decode cJ6_checkBoundsOffCount 6 = .ok (.invokestatic 419, 3) := dk_184 1 163 (dk_at dksJ6_checkBoundsOffCount_0 6 rfl rfl)
theorem dJ6_checkBoundsOffCount_9 : decode cJ6_checkBoundsOffCount 9 = .ok (.pop, 1) := dk_87 (dk_at dksJ6_checkBoundsOffCount_0 9 rfl rfl)
theorem dJ6_checkBoundsOffCount_10 : decode cJ6_checkBoundsOffCount 10 = .ok (.return_, 1) := dk_177 (dk_at dksJ6_checkBoundsOffCount_0 10 rfl rfl)
abbrev cJ6_length : ByteArray := prog_29_method_6_code
def yJ6_length : MethodName := ⟨RJ6, "length", "([B)I"⟩
def dkwJ6_length_0 : List UInt8 := [42, 190, 4, 122, 172]
abbrev dktJ6_length_0 : List UInt8 := dkwJ6_length_0 ++ []
theorem dksJ6_length_0 : cJ6_length.data.toList.drop 0 = dktJ6_length_0 := by decide +kernel
theorem dJ6_length_0 : decode cJ6_length 0 = .ok (.aload_n 0, 1) := dk_42 (dk_at dksJ6_length_0 0 rfl rfl)
theorem dJ6_length_1 : decode cJ6_length 1 = .ok (.arraylength, 1) := dk_190 (dk_at dksJ6_length_0 1 rfl rfl)
theorem dJ6_length_2 : decode cJ6_length 2 = .ok (.iconst 1, 1) := dk_4 (dk_at dksJ6_length_0 2 rfl rfl)
theorem dJ6_length_3 : decode cJ6_length 3 = .ok (.ishr, 1) := dk_122 (dk_at dksJ6_length_0 3 rfl rfl)
theorem dJ6_length_4 : decode cJ6_length 4 = .ok (.ireturn, 1) := dk_172 (dk_at dksJ6_length_0 4 rfl rfl)
abbrev cJ6_putChar : ByteArray := prog_29_method_4_code
def yJ6_putChar : MethodName := ⟨RJ6, "putChar", "([BII)V"⟩
def dkwJ6_putChar_2 : List UInt8 := [178, 0, 63, 122, 145, 84, 177]
abbrev dktJ6_putChar_2 : List UInt8 := dkwJ6_putChar_2 ++ []
def dkwJ6_putChar_1 : List UInt8 := [183, 0, 56, 191, 27, 4, 120, 60, 42, 27, 132, 1, 1, 28, 178, 0, 59, 122, 145, 84, 42, 27, 28]
abbrev dktJ6_putChar_1 : List UInt8 := dkwJ6_putChar_1 ++ dktJ6_putChar_2
def dkwJ6_putChar_0 : List UInt8 := [178, 0, 44, 154, 0, 25, 27, 155, 0, 11, 27, 42, 184, 0, 48, 161, 0, 13, 187, 0, 52, 89, 18, 54]
abbrev dktJ6_putChar_0 : List UInt8 := dkwJ6_putChar_0 ++ dktJ6_putChar_1
theorem dksJ6_putChar_0 : cJ6_putChar.data.toList.drop 0 = dktJ6_putChar_0 := by decide +kernel
theorem dksJ6_putChar_1 : cJ6_putChar.data.toList.drop 24 = dktJ6_putChar_1 := dk_seg dksJ6_putChar_0 24 rfl rfl
theorem dksJ6_putChar_2 : cJ6_putChar.data.toList.drop 47 = dktJ6_putChar_2 := dk_seg dksJ6_putChar_1 23 rfl rfl
theorem dJ6_putChar_0 : decode cJ6_putChar 0 = .ok (.getstatic 44, 3) := dk_178 0 44 (dk_at dksJ6_putChar_0 0 rfl rfl)
theorem dJ6_putChar_3 : decode cJ6_putChar 3 = .ok (.ifCond .ne 25, 3) := dk_154 0 25 (dk_at dksJ6_putChar_0 3 rfl rfl)
theorem dJ6_putChar_6 : decode cJ6_putChar 6 = .ok (.iload_n 1, 1) := dk_27 (dk_at dksJ6_putChar_0 6 rfl rfl)
theorem dJ6_putChar_7 : decode cJ6_putChar 7 = .ok (.ifCond .lt 11, 3) := dk_155 0 11 (dk_at dksJ6_putChar_0 7 rfl rfl)
theorem dJ6_putChar_10 : decode cJ6_putChar 10 = .ok (.iload_n 1, 1) := dk_27 (dk_at dksJ6_putChar_0 10 rfl rfl)
theorem dJ6_putChar_11 : decode cJ6_putChar 11 = .ok (.aload_n 0, 1) := dk_42 (dk_at dksJ6_putChar_0 11 rfl rfl)
theorem dJ6_putChar_12 : decode cJ6_putChar 12 = .ok (.invokestatic 48, 3) := dk_184 0 48 (dk_at dksJ6_putChar_0 12 rfl rfl)
theorem dJ6_putChar_15 : decode cJ6_putChar 15 = .ok (.if_icmp .lt 13, 3) := dk_161 0 13 (dk_at dksJ6_putChar_0 15 rfl rfl)
theorem dJ6_putChar_18 : decode cJ6_putChar 18 = .ok (.new 52, 3) := dk_187 0 52 (dk_at dksJ6_putChar_0 18 rfl rfl)
theorem dJ6_putChar_21 : decode cJ6_putChar 21 = .ok (.dup, 1) := dk_89 (dk_at dksJ6_putChar_0 21 rfl rfl)
theorem dJ6_putChar_22 : decode cJ6_putChar 22 = .ok (.ldc 54, 2) := dk_18 54 (dk_at dksJ6_putChar_0 22 rfl rfl)
theorem dJ6_putChar_24 : decode cJ6_putChar 24 = .ok (.invokespecial 56, 3) := dk_183 0 56 (dk_at dksJ6_putChar_1 0 rfl rfl)
theorem dJ6_putChar_27 : decode cJ6_putChar 27 = .ok (.athrow, 1) := dk_191 (dk_at dksJ6_putChar_1 3 rfl rfl)
theorem dJ6_putChar_28 : decode cJ6_putChar 28 = .ok (.iload_n 1, 1) := dk_27 (dk_at dksJ6_putChar_1 4 rfl rfl)
theorem dJ6_putChar_29 : decode cJ6_putChar 29 = .ok (.iconst 1, 1) := dk_4 (dk_at dksJ6_putChar_1 5 rfl rfl)
theorem dJ6_putChar_30 : decode cJ6_putChar 30 = .ok (.ishl, 1) := dk_120 (dk_at dksJ6_putChar_1 6 rfl rfl)
theorem dJ6_putChar_31 : decode cJ6_putChar 31 = .ok (.istore_n 1, 1) := dk_60 (dk_at dksJ6_putChar_1 7 rfl rfl)
theorem dJ6_putChar_32 : decode cJ6_putChar 32 = .ok (.aload_n 0, 1) := dk_42 (dk_at dksJ6_putChar_1 8 rfl rfl)
theorem dJ6_putChar_33 : decode cJ6_putChar 33 = .ok (.iload_n 1, 1) := dk_27 (dk_at dksJ6_putChar_1 9 rfl rfl)
theorem dJ6_putChar_34 : decode cJ6_putChar 34 = .ok (.iinc 1 1, 3) := dk_132 1 1 (dk_at dksJ6_putChar_1 10 rfl rfl)
theorem dJ6_putChar_37 : decode cJ6_putChar 37 = .ok (.iload_n 2, 1) := dk_28 (dk_at dksJ6_putChar_1 13 rfl rfl)
theorem dJ6_putChar_38 : decode cJ6_putChar 38 = .ok (.getstatic 59, 3) := dk_178 0 59 (dk_at dksJ6_putChar_1 14 rfl rfl)
theorem dJ6_putChar_41 : decode cJ6_putChar 41 = .ok (.ishr, 1) := dk_122 (dk_at dksJ6_putChar_1 17 rfl rfl)
theorem dJ6_putChar_42 : decode cJ6_putChar 42 = .ok (.i2b, 1) := dk_145 (dk_at dksJ6_putChar_1 18 rfl rfl)
theorem dJ6_putChar_43 : decode cJ6_putChar 43 = .ok (.bastore, 1) := dk_84 (dk_at dksJ6_putChar_1 19 rfl rfl)
theorem dJ6_putChar_44 : decode cJ6_putChar 44 = .ok (.aload_n 0, 1) := dk_42 (dk_at dksJ6_putChar_1 20 rfl rfl)
theorem dJ6_putChar_45 : decode cJ6_putChar 45 = .ok (.iload_n 1, 1) := dk_27 (dk_at dksJ6_putChar_1 21 rfl rfl)
theorem dJ6_putChar_46 : decode cJ6_putChar 46 = .ok (.iload_n 2, 1) := dk_28 (dk_at dksJ6_putChar_1 22 rfl rfl)
theorem dJ6_putChar_47 : decode cJ6_putChar 47 = .ok (.getstatic 63, 3) := dk_178 0 63 (dk_at dksJ6_putChar_2 0 rfl rfl)
theorem dJ6_putChar_50 : decode cJ6_putChar 50 = .ok (.ishr, 1) := dk_122 (dk_at dksJ6_putChar_2 3 rfl rfl)
theorem dJ6_putChar_51 : decode cJ6_putChar 51 = .ok (.i2b, 1) := dk_145 (dk_at dksJ6_putChar_2 4 rfl rfl)
theorem dJ6_putChar_52 : decode cJ6_putChar 52 = .ok (.bastore, 1) := dk_84 (dk_at dksJ6_putChar_2 5 rfl rfl)
theorem dJ6_putChar_53 : decode cJ6_putChar 53 = .ok (.return_, 1) := dk_177 (dk_at dksJ6_putChar_2 6 rfl rfl)
abbrev cJ6_putCharSB : ByteArray := prog_29_method_71_code
def yJ6_putCharSB : MethodName := ⟨RJ6, "putCharSB", "([BII)V"⟩
def dkwJ6_putCharSB_0 : List UInt8 := [27, 42, 184, 0, 67, 42, 27, 28, 184, 0, 111, 177]
abbrev dktJ6_putCharSB_0 : List UInt8 := dkwJ6_putCharSB_0 ++ []
theorem dksJ6_putCharSB_0 : cJ6_putCharSB.data.toList.drop 0 = dktJ6_putCharSB_0 := by decide +kernel
theorem dJ6_putCharSB_0 : decode cJ6_putCharSB 0 = .ok (.iload_n 1, 1) := dk_27 (dk_at dksJ6_putCharSB_0 0 rfl rfl)
theorem dJ6_putCharSB_1 : decode cJ6_putCharSB 1 = .ok (.aload_n 0, 1) := dk_42 (dk_at dksJ6_putCharSB_0 1 rfl rfl)
theorem dJ6_putCharSB_2 : decode cJ6_putCharSB 2 = .ok (.invokestatic 67, 3) := dk_184 0 67 (dk_at dksJ6_putCharSB_0 2 rfl rfl)
theorem dJ6_putCharSB_5 : decode cJ6_putCharSB 5 = .ok (.aload_n 0, 1) := dk_42 (dk_at dksJ6_putCharSB_0 5 rfl rfl)
theorem dJ6_putCharSB_6 : decode cJ6_putCharSB 6 = .ok (.iload_n 1, 1) := dk_27 (dk_at dksJ6_putCharSB_0 6 rfl rfl)
theorem dJ6_putCharSB_7 : decode cJ6_putCharSB 7 = .ok (.iload_n 2, 1) := dk_28 (dk_at dksJ6_putCharSB_0 7 rfl rfl)
theorem dJ6_putCharSB_8 : decode cJ6_putCharSB 8 = .ok (.invokestatic 111, 3) := dk_184 0 111 (dk_at dksJ6_putCharSB_0 8 rfl rfl)
theorem dJ6_putCharSB_11 : decode cJ6_putCharSB 11 = .ok (.return_, 1) := dk_177 (dk_at dksJ6_putCharSB_0 11 rfl rfl)
abbrev cJ6_checkIndex : ByteArray := prog_29_method_91_code
def yJ6_checkIndex : MethodName := ⟨RJ6, "checkIndex", "(I[B)V"⟩
def dkwJ6_checkIndex_0 : List UInt8 := [26, 43, 184, 0, 48, 184, 1, 158, 177]
abbrev dktJ6_checkIndex_0 : List UInt8 := dkwJ6_checkIndex_0 ++ []
theorem dksJ6_checkIndex_0 : cJ6_checkIndex.data.toList.drop 0 = dktJ6_checkIndex_0 := by decide +kernel
theorem dJ6_checkIndex_0 : decode cJ6_checkIndex 0 = .ok (.iload_n 0, 1) := dk_26 (dk_at dksJ6_checkIndex_0 0 rfl rfl)
theorem dJ6_checkIndex_1 : decode cJ6_checkIndex 1 = .ok (.aload_n 1, 1) := dk_43 (dk_at dksJ6_checkIndex_0 1 rfl rfl)
theorem dJ6_checkIndex_2 : decode cJ6_checkIndex 2 = .ok (.invokestatic 48, 3) := dk_184 0 48 (dk_at dksJ6_checkIndex_0 2 rfl rfl)
theorem dJ6_checkIndex_5 : decode cJ6_checkIndex 5 = .ok (.invokestatic 414, 3) := dk_184 1 158 (dk_at dksJ6_checkIndex_0 5 rfl rfl)
theorem dJ6_checkIndex_8 : decode cJ6_checkIndex 8 = .ok (.return_, 1) := dk_177 (dk_at dksJ6_checkIndex_0 8 rfl rfl)
abbrev cJ6_compress : ByteArray := prog_29_method_17_code
def yJ6_compress : MethodName := ⟨RJ6, "compress", "([BII)[B"⟩
def dkwJ6_compress_2 : List UInt8 := [25, 5, 3, 45, 3, 28, 184, 0, 123, 28, 159, 0, 6, 25, 5, 176, 45, 176]
abbrev dktJ6_compress_2 : List UInt8 := dkwJ6_compress_2 ++ []
def dkwJ6_compress_1 : List UInt8 := [27, 28, 96, 184, 0, 11, 184, 0, 126, 58, 5, 25, 5, 21, 4, 184, 0, 71, 17, 0, 255, 163, 0, 16]
abbrev dktJ6_compress_1 : List UInt8 := dkwJ6_compress_1 ++ dktJ6_compress_2
def dkwJ6_compress_0 : List UInt8 := [28, 188, 8, 78, 42, 27, 45, 3, 28, 184, 0, 123, 54, 4, 21, 4, 28, 159, 0, 47, 42, 27, 4, 120]
abbrev dktJ6_compress_0 : List UInt8 := dkwJ6_compress_0 ++ dktJ6_compress_1
theorem dksJ6_compress_0 : cJ6_compress.data.toList.drop 0 = dktJ6_compress_0 := by decide +kernel
theorem dksJ6_compress_1 : cJ6_compress.data.toList.drop 24 = dktJ6_compress_1 := dk_seg dksJ6_compress_0 24 rfl rfl
theorem dksJ6_compress_2 : cJ6_compress.data.toList.drop 48 = dktJ6_compress_2 := dk_seg dksJ6_compress_1 24 rfl rfl
theorem dJ6_compress_0 : decode cJ6_compress 0 = .ok (.iload_n 2, 1) := dk_28 (dk_at dksJ6_compress_0 0 rfl rfl)
theorem dJ6_compress_1 : decode cJ6_compress 1 = .ok (.newarray .byte, 2) := dk_188_8 (dk_at dksJ6_compress_0 1 rfl rfl)
theorem dJ6_compress_3 : decode cJ6_compress 3 = .ok (.astore_n 3, 1) := dk_78 (dk_at dksJ6_compress_0 3 rfl rfl)
theorem dJ6_compress_4 : decode cJ6_compress 4 = .ok (.aload_n 0, 1) := dk_42 (dk_at dksJ6_compress_0 4 rfl rfl)
theorem dJ6_compress_5 : decode cJ6_compress 5 = .ok (.iload_n 1, 1) := dk_27 (dk_at dksJ6_compress_0 5 rfl rfl)
theorem dJ6_compress_6 : decode cJ6_compress 6 = .ok (.aload_n 3, 1) := dk_45 (dk_at dksJ6_compress_0 6 rfl rfl)
theorem dJ6_compress_7 : decode cJ6_compress 7 = .ok (.iconst 0, 1) := dk_3 (dk_at dksJ6_compress_0 7 rfl rfl)
theorem dJ6_compress_8 : decode cJ6_compress 8 = .ok (.iload_n 2, 1) := dk_28 (dk_at dksJ6_compress_0 8 rfl rfl)
theorem dJ6_compress_9 : decode cJ6_compress 9 = .ok (.invokestatic 123, 3) := dk_184 0 123 (dk_at dksJ6_compress_0 9 rfl rfl)
theorem dJ6_compress_12 : decode cJ6_compress 12 = .ok (.istore 4, 2) := dk_54 4 (dk_at dksJ6_compress_0 12 rfl rfl)
theorem dJ6_compress_14 : decode cJ6_compress 14 = .ok (.iload 4, 2) := dk_21 4 (dk_at dksJ6_compress_0 14 rfl rfl)
theorem dJ6_compress_16 : decode cJ6_compress 16 = .ok (.iload_n 2, 1) := dk_28 (dk_at dksJ6_compress_0 16 rfl rfl)
theorem dJ6_compress_17 : decode cJ6_compress 17 = .ok (.if_icmp .eq 47, 3) := dk_159 0 47 (dk_at dksJ6_compress_0 17 rfl rfl)
theorem dJ6_compress_20 : decode cJ6_compress 20 = .ok (.aload_n 0, 1) := dk_42 (dk_at dksJ6_compress_0 20 rfl rfl)
theorem dJ6_compress_21 : decode cJ6_compress 21 = .ok (.iload_n 1, 1) := dk_27 (dk_at dksJ6_compress_0 21 rfl rfl)
theorem dJ6_compress_22 : decode cJ6_compress 22 = .ok (.iconst 1, 1) := dk_4 (dk_at dksJ6_compress_0 22 rfl rfl)
theorem dJ6_compress_23 : decode cJ6_compress 23 = .ok (.ishl, 1) := dk_120 (dk_at dksJ6_compress_0 23 rfl rfl)
theorem dJ6_compress_24 : decode cJ6_compress 24 = .ok (.iload_n 1, 1) := dk_27 (dk_at dksJ6_compress_1 0 rfl rfl)
theorem dJ6_compress_25 : decode cJ6_compress 25 = .ok (.iload_n 2, 1) := dk_28 (dk_at dksJ6_compress_1 1 rfl rfl)
theorem dJ6_compress_26 : decode cJ6_compress 26 = .ok (.iadd, 1) := dk_96 (dk_at dksJ6_compress_1 2 rfl rfl)
theorem dJ6_compress_27 : decode cJ6_compress 27 = .ok (.invokestatic 11, 3) := dk_184 0 11 (dk_at dksJ6_compress_1 3 rfl rfl)
theorem dJ6_compress_30 : decode cJ6_compress 30 = .ok (.invokestatic 126, 3) := dk_184 0 126 (dk_at dksJ6_compress_1 6 rfl rfl)
theorem dJ6_compress_33 : decode cJ6_compress 33 = .ok (.astore 5, 2) := dk_58 5 (dk_at dksJ6_compress_1 9 rfl rfl)
theorem dJ6_compress_35 : decode cJ6_compress 35 = .ok (.aload 5, 2) := dk_25 5 (dk_at dksJ6_compress_1 11 rfl rfl)
theorem dJ6_compress_37 : decode cJ6_compress 37 = .ok (.iload 4, 2) := dk_21 4 (dk_at dksJ6_compress_1 13 rfl rfl)
theorem dJ6_compress_39 : decode cJ6_compress 39 = .ok (.invokestatic 71, 3) := dk_184 0 71 (dk_at dksJ6_compress_1 15 rfl rfl)
theorem dJ6_compress_42 : decode cJ6_compress 42 = .ok (.sipush 255, 3) := dk_17 0 255 (dk_at dksJ6_compress_1 18 rfl rfl)
theorem dJ6_compress_45 : decode cJ6_compress 45 = .ok (.if_icmp .gt 16, 3) := dk_163 0 16 (dk_at dksJ6_compress_1 21 rfl rfl)
theorem dJ6_compress_48 : decode cJ6_compress 48 = .ok (.aload 5, 2) := dk_25 5 (dk_at dksJ6_compress_2 0 rfl rfl)
theorem dJ6_compress_50 : decode cJ6_compress 50 = .ok (.iconst 0, 1) := dk_3 (dk_at dksJ6_compress_2 2 rfl rfl)
theorem dJ6_compress_51 : decode cJ6_compress 51 = .ok (.aload_n 3, 1) := dk_45 (dk_at dksJ6_compress_2 3 rfl rfl)
theorem dJ6_compress_52 : decode cJ6_compress 52 = .ok (.iconst 0, 1) := dk_3 (dk_at dksJ6_compress_2 4 rfl rfl)
theorem dJ6_compress_53 : decode cJ6_compress 53 = .ok (.iload_n 2, 1) := dk_28 (dk_at dksJ6_compress_2 5 rfl rfl)
theorem dJ6_compress_54 : decode cJ6_compress 54 = .ok (.invokestatic 123, 3) := dk_184 0 123 (dk_at dksJ6_compress_2 6 rfl rfl)
theorem dJ6_compress_57 : decode cJ6_compress 57 = .ok (.iload_n 2, 1) := dk_28 (dk_at dksJ6_compress_2 9 rfl rfl)
theorem dJ6_compress_58 : decode cJ6_compress 58 = .ok (.if_icmp .eq 6, 3) := dk_159 0 6 (dk_at dksJ6_compress_2 10 rfl rfl)
theorem dJ6_compress_61 : decode cJ6_compress 61 = .ok (.aload 5, 2) := dk_25 5 (dk_at dksJ6_compress_2 13 rfl rfl)
theorem dJ6_compress_63 : decode cJ6_compress 63 = .ok (.areturn, 1) := dk_176 (dk_at dksJ6_compress_2 15 rfl rfl)
theorem dJ6_compress_64 : decode cJ6_compress 64 = .ok (.aload_n 3, 1) := dk_45 (dk_at dksJ6_compress_2 16 rfl rfl)
theorem dJ6_compress_65 : decode cJ6_compress 65 = .ok (.areturn, 1) := dk_176 (dk_at dksJ6_compress_2 17 rfl rfl)
abbrev cJ6_compress_2 : ByteArray := prog_29_method_22_code
def yJ6_compress_2 : MethodName := ⟨RJ6, "compress", "([BI[BII)I"⟩
def dkwJ6_compress_2_2 : List UInt8 := [132, 5, 1, 167, 255, 216, 21, 4, 172]
abbrev dktJ6_compress_2_2 : List UInt8 := dkwJ6_compress_2_2 ++ []
def dkwJ6_compress_2_1 : List UInt8 := [21, 6, 17, 0, 255, 164, 0, 6, 21, 5, 172, 44, 29, 21, 6, 145, 84, 132, 1, 1, 132, 3, 1]
abbrev dktJ6_compress_2_1 : List UInt8 := dkwJ6_compress_2_1 ++ dktJ6_compress_2_2
def dkwJ6_compress_2_0 : List UInt8 := [27, 21, 4, 42, 184, 0, 173, 3, 54, 5, 21, 5, 21, 4, 162, 0, 39, 42, 27, 184, 0, 71, 54, 6]
abbrev dktJ6_compress_2_0 : List UInt8 := dkwJ6_compress_2_0 ++ dktJ6_compress_2_1
theorem dksJ6_compress_2_0 : cJ6_compress_2.data.toList.drop 0 = dktJ6_compress_2_0 := by decide +kernel
theorem dksJ6_compress_2_1 : cJ6_compress_2.data.toList.drop 24 = dktJ6_compress_2_1 := dk_seg dksJ6_compress_2_0 24 rfl rfl
theorem dksJ6_compress_2_2 : cJ6_compress_2.data.toList.drop 47 = dktJ6_compress_2_2 := dk_seg dksJ6_compress_2_1 23 rfl rfl
theorem dJ6_compress_2_0 : decode cJ6_compress_2 0 = .ok (.iload_n 1, 1) := dk_27 (dk_at dksJ6_compress_2_0 0 rfl rfl)
theorem dJ6_compress_2_1 : decode cJ6_compress_2 1 = .ok (.iload 4, 2) := dk_21 4 (dk_at dksJ6_compress_2_0 1 rfl rfl)
theorem dJ6_compress_2_3 : decode cJ6_compress_2 3 = .ok (.aload_n 0, 1) := dk_42 (dk_at dksJ6_compress_2_0 3 rfl rfl)
theorem dJ6_compress_2_4 : decode cJ6_compress_2 4 = .ok (.invokestatic 173, 3) := dk_184 0 173 (dk_at dksJ6_compress_2_0 4 rfl rfl)
theorem dJ6_compress_2_7 : decode cJ6_compress_2 7 = .ok (.iconst 0, 1) := dk_3 (dk_at dksJ6_compress_2_0 7 rfl rfl)
theorem dJ6_compress_2_8 : decode cJ6_compress_2 8 = .ok (.istore 5, 2) := dk_54 5 (dk_at dksJ6_compress_2_0 8 rfl rfl)
theorem dJ6_compress_2_10 : decode cJ6_compress_2 10 = .ok (.iload 5, 2) := dk_21 5 (dk_at dksJ6_compress_2_0 10 rfl rfl)
theorem dJ6_compress_2_12 : decode cJ6_compress_2 12 = .ok (.iload 4, 2) := dk_21 4 (dk_at dksJ6_compress_2_0 12 rfl rfl)
theorem dJ6_compress_2_14 : decode cJ6_compress_2 14 = .ok (.if_icmp .ge 39, 3) := dk_162 0 39 (dk_at dksJ6_compress_2_0 14 rfl rfl)
theorem dJ6_compress_2_17 : decode cJ6_compress_2 17 = .ok (.aload_n 0, 1) := dk_42 (dk_at dksJ6_compress_2_0 17 rfl rfl)
theorem dJ6_compress_2_18 : decode cJ6_compress_2 18 = .ok (.iload_n 1, 1) := dk_27 (dk_at dksJ6_compress_2_0 18 rfl rfl)
theorem dJ6_compress_2_19 : decode cJ6_compress_2 19 = .ok (.invokestatic 71, 3) := dk_184 0 71 (dk_at dksJ6_compress_2_0 19 rfl rfl)
theorem dJ6_compress_2_22 : decode cJ6_compress_2 22 = .ok (.istore 6, 2) := dk_54 6 (dk_at dksJ6_compress_2_0 22 rfl rfl)
theorem dJ6_compress_2_24 : decode cJ6_compress_2 24 = .ok (.iload 6, 2) := dk_21 6 (dk_at dksJ6_compress_2_1 0 rfl rfl)
theorem dJ6_compress_2_26 : decode cJ6_compress_2 26 = .ok (.sipush 255, 3) := dk_17 0 255 (dk_at dksJ6_compress_2_1 2 rfl rfl)
theorem dJ6_compress_2_29 : decode cJ6_compress_2 29 = .ok (.if_icmp .le 6, 3) := dk_164 0 6 (dk_at dksJ6_compress_2_1 5 rfl rfl)
theorem dJ6_compress_2_32 : decode cJ6_compress_2 32 = .ok (.iload 5, 2) := dk_21 5 (dk_at dksJ6_compress_2_1 8 rfl rfl)
theorem dJ6_compress_2_34 : decode cJ6_compress_2 34 = .ok (.ireturn, 1) := dk_172 (dk_at dksJ6_compress_2_1 10 rfl rfl)
theorem dJ6_compress_2_35 : decode cJ6_compress_2 35 = .ok (.aload_n 2, 1) := dk_44 (dk_at dksJ6_compress_2_1 11 rfl rfl)
theorem dJ6_compress_2_36 : decode cJ6_compress_2 36 = .ok (.iload_n 3, 1) := dk_29 (dk_at dksJ6_compress_2_1 12 rfl rfl)
theorem dJ6_compress_2_37 : decode cJ6_compress_2 37 = .ok (.iload 6, 2) := dk_21 6 (dk_at dksJ6_compress_2_1 13 rfl rfl)
theorem dJ6_compress_2_39 : decode cJ6_compress_2 39 = .ok (.i2b, 1) := dk_145 (dk_at dksJ6_compress_2_1 15 rfl rfl)
theorem dJ6_compress_2_40 : decode cJ6_compress_2 40 = .ok (.bastore, 1) := dk_84 (dk_at dksJ6_compress_2_1 16 rfl rfl)
theorem dJ6_compress_2_41 : decode cJ6_compress_2 41 = .ok (.iinc 1 1, 3) := dk_132 1 1 (dk_at dksJ6_compress_2_1 17 rfl rfl)
theorem dJ6_compress_2_44 : decode cJ6_compress_2 44 = .ok (.iinc 3 1, 3) := dk_132 3 1 (dk_at dksJ6_compress_2_1 20 rfl rfl)
theorem dJ6_compress_2_47 : decode cJ6_compress_2 47 = .ok (.iinc 5 1, 3) := dk_132 5 1 (dk_at dksJ6_compress_2_2 0 rfl rfl)
theorem dJ6_compress_2_50 : decode cJ6_compress_2 50 = .ok (.goto (-40), 3) := dk_167 255 216 (dk_at dksJ6_compress_2_2 3 rfl rfl)
theorem dJ6_compress_2_53 : decode cJ6_compress_2 53 = .ok (.iload 4, 2) := dk_21 4 (dk_at dksJ6_compress_2_2 6 rfl rfl)
theorem dJ6_compress_2_55 : decode cJ6_compress_2 55 = .ok (.ireturn, 1) := dk_172 (dk_at dksJ6_compress_2_2 8 rfl rfl)
abbrev cJ6_getChar : ByteArray := prog_29_method_5_code
def yJ6_getChar : MethodName := ⟨RJ6, "getChar", "([BI)C"⟩
def dkwJ6_getChar_2 : List UInt8 := [51, 17, 0, 255, 126, 178, 0, 63, 120, 128, 146, 172]
abbrev dktJ6_getChar_2 : List UInt8 := dkwJ6_getChar_2 ++ []
def dkwJ6_getChar_1 : List UInt8 := [183, 0, 56, 191, 27, 4, 120, 60, 42, 27, 132, 1, 1, 51, 17, 0, 255, 126, 178, 0, 59, 120, 42, 27]
abbrev dktJ6_getChar_1 : List UInt8 := dkwJ6_getChar_1 ++ dktJ6_getChar_2
def dkwJ6_getChar_0 : List UInt8 := [178, 0, 44, 154, 0, 25, 27, 155, 0, 11, 27, 42, 184, 0, 48, 161, 0, 13, 187, 0, 52, 89, 18, 54]
abbrev dktJ6_getChar_0 : List UInt8 := dkwJ6_getChar_0 ++ dktJ6_getChar_1
theorem dksJ6_getChar_0 : cJ6_getChar.data.toList.drop 0 = dktJ6_getChar_0 := by decide +kernel
theorem dksJ6_getChar_1 : cJ6_getChar.data.toList.drop 24 = dktJ6_getChar_1 := dk_seg dksJ6_getChar_0 24 rfl rfl
theorem dksJ6_getChar_2 : cJ6_getChar.data.toList.drop 48 = dktJ6_getChar_2 := dk_seg dksJ6_getChar_1 24 rfl rfl
theorem dJ6_getChar_0 : decode cJ6_getChar 0 = .ok (.getstatic 44, 3) := dk_178 0 44 (dk_at dksJ6_getChar_0 0 rfl rfl)
theorem dJ6_getChar_3 : decode cJ6_getChar 3 = .ok (.ifCond .ne 25, 3) := dk_154 0 25 (dk_at dksJ6_getChar_0 3 rfl rfl)
theorem dJ6_getChar_6 : decode cJ6_getChar 6 = .ok (.iload_n 1, 1) := dk_27 (dk_at dksJ6_getChar_0 6 rfl rfl)
theorem dJ6_getChar_7 : decode cJ6_getChar 7 = .ok (.ifCond .lt 11, 3) := dk_155 0 11 (dk_at dksJ6_getChar_0 7 rfl rfl)
theorem dJ6_getChar_10 : decode cJ6_getChar 10 = .ok (.iload_n 1, 1) := dk_27 (dk_at dksJ6_getChar_0 10 rfl rfl)
theorem dJ6_getChar_11 : decode cJ6_getChar 11 = .ok (.aload_n 0, 1) := dk_42 (dk_at dksJ6_getChar_0 11 rfl rfl)
theorem dJ6_getChar_12 : decode cJ6_getChar 12 = .ok (.invokestatic 48, 3) := dk_184 0 48 (dk_at dksJ6_getChar_0 12 rfl rfl)
theorem dJ6_getChar_15 : decode cJ6_getChar 15 = .ok (.if_icmp .lt 13, 3) := dk_161 0 13 (dk_at dksJ6_getChar_0 15 rfl rfl)
theorem dJ6_getChar_18 : decode cJ6_getChar 18 = .ok (.new 52, 3) := dk_187 0 52 (dk_at dksJ6_getChar_0 18 rfl rfl)
theorem dJ6_getChar_21 : decode cJ6_getChar 21 = .ok (.dup, 1) := dk_89 (dk_at dksJ6_getChar_0 21 rfl rfl)
theorem dJ6_getChar_22 : decode cJ6_getChar 22 = .ok (.ldc 54, 2) := dk_18 54 (dk_at dksJ6_getChar_0 22 rfl rfl)
theorem dJ6_getChar_24 : decode cJ6_getChar 24 = .ok (.invokespecial 56, 3) := dk_183 0 56 (dk_at dksJ6_getChar_1 0 rfl rfl)
theorem dJ6_getChar_27 : decode cJ6_getChar 27 = .ok (.athrow, 1) := dk_191 (dk_at dksJ6_getChar_1 3 rfl rfl)
theorem dJ6_getChar_28 : decode cJ6_getChar 28 = .ok (.iload_n 1, 1) := dk_27 (dk_at dksJ6_getChar_1 4 rfl rfl)
theorem dJ6_getChar_29 : decode cJ6_getChar 29 = .ok (.iconst 1, 1) := dk_4 (dk_at dksJ6_getChar_1 5 rfl rfl)
theorem dJ6_getChar_30 : decode cJ6_getChar 30 = .ok (.ishl, 1) := dk_120 (dk_at dksJ6_getChar_1 6 rfl rfl)
theorem dJ6_getChar_31 : decode cJ6_getChar 31 = .ok (.istore_n 1, 1) := dk_60 (dk_at dksJ6_getChar_1 7 rfl rfl)
theorem dJ6_getChar_32 : decode cJ6_getChar 32 = .ok (.aload_n 0, 1) := dk_42 (dk_at dksJ6_getChar_1 8 rfl rfl)
theorem dJ6_getChar_33 : decode cJ6_getChar 33 = .ok (.iload_n 1, 1) := dk_27 (dk_at dksJ6_getChar_1 9 rfl rfl)
theorem dJ6_getChar_34 : decode cJ6_getChar 34 = .ok (.iinc 1 1, 3) := dk_132 1 1 (dk_at dksJ6_getChar_1 10 rfl rfl)
theorem dJ6_getChar_37 : decode cJ6_getChar 37 = .ok (.baload, 1) := dk_51 (dk_at dksJ6_getChar_1 13 rfl rfl)
theorem dJ6_getChar_38 : decode cJ6_getChar 38 = .ok (.sipush 255, 3) := dk_17 0 255 (dk_at dksJ6_getChar_1 14 rfl rfl)
theorem dJ6_getChar_41 : decode cJ6_getChar 41 = .ok (.iand, 1) := dk_126 (dk_at dksJ6_getChar_1 17 rfl rfl)
theorem dJ6_getChar_42 : decode cJ6_getChar 42 = .ok (.getstatic 59, 3) := dk_178 0 59 (dk_at dksJ6_getChar_1 18 rfl rfl)
theorem dJ6_getChar_45 : decode cJ6_getChar 45 = .ok (.ishl, 1) := dk_120 (dk_at dksJ6_getChar_1 21 rfl rfl)
theorem dJ6_getChar_46 : decode cJ6_getChar 46 = .ok (.aload_n 0, 1) := dk_42 (dk_at dksJ6_getChar_1 22 rfl rfl)
theorem dJ6_getChar_47 : decode cJ6_getChar 47 = .ok (.iload_n 1, 1) := dk_27 (dk_at dksJ6_getChar_1 23 rfl rfl)
theorem dJ6_getChar_48 : decode cJ6_getChar 48 = .ok (.baload, 1) := dk_51 (dk_at dksJ6_getChar_2 0 rfl rfl)
theorem dJ6_getChar_49 : decode cJ6_getChar 49 = .ok (.sipush 255, 3) := dk_17 0 255 (dk_at dksJ6_getChar_2 1 rfl rfl)
theorem dJ6_getChar_52 : decode cJ6_getChar 52 = .ok (.iand, 1) := dk_126 (dk_at dksJ6_getChar_2 4 rfl rfl)
theorem dJ6_getChar_53 : decode cJ6_getChar 53 = .ok (.getstatic 63, 3) := dk_178 0 63 (dk_at dksJ6_getChar_2 5 rfl rfl)
theorem dJ6_getChar_56 : decode cJ6_getChar 56 = .ok (.ishl, 1) := dk_120 (dk_at dksJ6_getChar_2 8 rfl rfl)
theorem dJ6_getChar_57 : decode cJ6_getChar 57 = .ok (.ior, 1) := dk_128 (dk_at dksJ6_getChar_2 9 rfl rfl)
theorem dJ6_getChar_58 : decode cJ6_getChar 58 = .ok (.i2c, 1) := dk_146 (dk_at dksJ6_getChar_2 10 rfl rfl)
theorem dJ6_getChar_59 : decode cJ6_getChar 59 = .ok (.ireturn, 1) := dk_172 (dk_at dksJ6_getChar_2 11 rfl rfl)
abbrev cJ6_coderFromArrayLen : ByteArray := prog_29_method_15_code
def yJ6_coderFromArrayLen : MethodName := ⟨RJ6, "coderFromArrayLen", "([BI)B"⟩
def dkwJ6_coderFromArrayLen_0 : List UInt8 := [27, 42, 190, 100, 16, 31, 124, 145, 172]
abbrev dktJ6_coderFromArrayLen_0 : List UInt8 := dkwJ6_coderFromArrayLen_0 ++ []
theorem dksJ6_coderFromArrayLen_0 : cJ6_coderFromArrayLen.data.toList.drop 0 = dktJ6_coderFromArrayLen_0 := by decide +kernel
theorem dJ6_coderFromArrayLen_0 : decode cJ6_coderFromArrayLen 0 = .ok (.iload_n 1, 1) := dk_27 (dk_at dksJ6_coderFromArrayLen_0 0 rfl rfl)
theorem dJ6_coderFromArrayLen_1 : decode cJ6_coderFromArrayLen 1 = .ok (.aload_n 0, 1) := dk_42 (dk_at dksJ6_coderFromArrayLen_0 1 rfl rfl)
theorem dJ6_coderFromArrayLen_2 : decode cJ6_coderFromArrayLen 2 = .ok (.arraylength, 1) := dk_190 (dk_at dksJ6_coderFromArrayLen_0 2 rfl rfl)
theorem dJ6_coderFromArrayLen_3 : decode cJ6_coderFromArrayLen 3 = .ok (.isub, 1) := dk_100 (dk_at dksJ6_coderFromArrayLen_0 3 rfl rfl)
theorem dJ6_coderFromArrayLen_4 : decode cJ6_coderFromArrayLen 4 = .ok (.bipush 31, 2) := dk_16 31 (dk_at dksJ6_coderFromArrayLen_0 4 rfl rfl)
theorem dJ6_coderFromArrayLen_6 : decode cJ6_coderFromArrayLen 6 = .ok (.iushr, 1) := dk_124 (dk_at dksJ6_coderFromArrayLen_0 6 rfl rfl)
theorem dJ6_coderFromArrayLen_7 : decode cJ6_coderFromArrayLen 7 = .ok (.i2b, 1) := dk_145 (dk_at dksJ6_coderFromArrayLen_0 7 rfl rfl)
theorem dJ6_coderFromArrayLen_8 : decode cJ6_coderFromArrayLen 8 = .ok (.ireturn, 1) := dk_172 (dk_at dksJ6_coderFromArrayLen_0 8 rfl rfl)
abbrev cJ6_hashCode : ByteArray := prog_29_method_39_code
def yJ6_hashCode : MethodName := ⟨RJ6, "hashCode", "([B)I"⟩
def dkwJ6_hashCode_2 : List UInt8 := [3, 167, 0, 22, 42, 3, 184, 0, 71, 167, 0, 14, 42, 3, 42, 190, 4, 122, 3, 8, 184, 0, 220, 172]
abbrev dktJ6_hashCode_2 : List UInt8 := dkwJ6_hashCode_2 ++ []
def dkwJ6_hashCode_1 : List UInt8 := [171, 0, 0, 0, 0, 38, 0, 0, 0, 2, 0, 0, 0, 0, 0, 0, 0, 26, 0, 0, 0, 2, 0, 0, 0, 30]
abbrev dktJ6_hashCode_1 : List UInt8 := dkwJ6_hashCode_1 ++ dktJ6_hashCode_2
def dkwJ6_hashCode_0 : List UInt8 := [42, 190]
abbrev dktJ6_hashCode_0 : List UInt8 := dkwJ6_hashCode_0 ++ dktJ6_hashCode_1
theorem dksJ6_hashCode_0 : cJ6_hashCode.data.toList.drop 0 = dktJ6_hashCode_0 := by decide +kernel
theorem dksJ6_hashCode_1 : cJ6_hashCode.data.toList.drop 2 = dktJ6_hashCode_1 := dk_seg dksJ6_hashCode_0 2 rfl rfl
theorem dksJ6_hashCode_2 : cJ6_hashCode.data.toList.drop 28 = dktJ6_hashCode_2 := dk_seg dksJ6_hashCode_1 26 rfl rfl
theorem dJ6_hashCode_0 : decode cJ6_hashCode 0 = .ok (.aload_n 0, 1) := dk_42 (dk_at dksJ6_hashCode_0 0 rfl rfl)
theorem dJ6_hashCode_1 : decode cJ6_hashCode 1 = .ok (.arraylength, 1) := dk_190 (dk_at dksJ6_hashCode_0 1 rfl rfl)
theorem dJ6_hashCode_2 : decode cJ6_hashCode 2 = .ok (.lookupswitch 38 #[(0, 26), (2, 30)], 26) := by decide +kernel
theorem dJ6_hashCode_28 : decode cJ6_hashCode 28 = .ok (.iconst 0, 1) := dk_3 (dk_at dksJ6_hashCode_2 0 rfl rfl)
theorem dJ6_hashCode_29 : decode cJ6_hashCode 29 = .ok (.goto 22, 3) := dk_167 0 22 (dk_at dksJ6_hashCode_2 1 rfl rfl)
theorem dJ6_hashCode_32 : decode cJ6_hashCode 32 = .ok (.aload_n 0, 1) := dk_42 (dk_at dksJ6_hashCode_2 4 rfl rfl)
theorem dJ6_hashCode_33 : decode cJ6_hashCode 33 = .ok (.iconst 0, 1) := dk_3 (dk_at dksJ6_hashCode_2 5 rfl rfl)
theorem dJ6_hashCode_34 : decode cJ6_hashCode 34 = .ok (.invokestatic 71, 3) := dk_184 0 71 (dk_at dksJ6_hashCode_2 6 rfl rfl)
theorem dJ6_hashCode_37 : decode cJ6_hashCode 37 = .ok (.goto 14, 3) := dk_167 0 14 (dk_at dksJ6_hashCode_2 9 rfl rfl)
theorem dJ6_hashCode_40 : decode cJ6_hashCode 40 = .ok (.aload_n 0, 1) := dk_42 (dk_at dksJ6_hashCode_2 12 rfl rfl)
theorem dJ6_hashCode_41 : decode cJ6_hashCode 41 = .ok (.iconst 0, 1) := dk_3 (dk_at dksJ6_hashCode_2 13 rfl rfl)
theorem dJ6_hashCode_42 : decode cJ6_hashCode 42 = .ok (.aload_n 0, 1) := dk_42 (dk_at dksJ6_hashCode_2 14 rfl rfl)
theorem dJ6_hashCode_43 : decode cJ6_hashCode 43 = .ok (.arraylength, 1) := dk_190 (dk_at dksJ6_hashCode_2 15 rfl rfl)
theorem dJ6_hashCode_44 : decode cJ6_hashCode 44 = .ok (.iconst 1, 1) := dk_4 (dk_at dksJ6_hashCode_2 16 rfl rfl)
theorem dJ6_hashCode_45 : decode cJ6_hashCode 45 = .ok (.ishr, 1) := dk_122 (dk_at dksJ6_hashCode_2 17 rfl rfl)
theorem dJ6_hashCode_46 : decode cJ6_hashCode 46 = .ok (.iconst 0, 1) := dk_3 (dk_at dksJ6_hashCode_2 18 rfl rfl)
theorem dJ6_hashCode_47 : decode cJ6_hashCode 47 = .ok (.iconst 5, 1) := dk_8 (dk_at dksJ6_hashCode_2 19 rfl rfl)
theorem dJ6_hashCode_48 : decode cJ6_hashCode 48 = .ok (.invokestatic 220, 3) := dk_184 0 220 (dk_at dksJ6_hashCode_2 20 rfl rfl)
theorem dJ6_hashCode_51 : decode cJ6_hashCode 51 = .ok (.ireturn, 1) := dk_172 (dk_at dksJ6_hashCode_2 23 rfl rfl)
abbrev cJ6_charAt : ByteArray := prog_29_method_83_code
def yJ6_charAt : MethodName := ⟨RJ6, "charAt", "([BI)C"⟩
def dkwJ6_charAt_0 : List UInt8 := [27, 42, 184, 0, 67, 42, 27, 184, 0, 71, 172]
abbrev dktJ6_charAt_0 : List UInt8 := dkwJ6_charAt_0 ++ []
theorem dksJ6_charAt_0 : cJ6_charAt.data.toList.drop 0 = dktJ6_charAt_0 := by decide +kernel
theorem dJ6_charAt_0 : decode cJ6_charAt 0 = .ok (.iload_n 1, 1) := dk_27 (dk_at dksJ6_charAt_0 0 rfl rfl)
theorem dJ6_charAt_1 : decode cJ6_charAt 1 = .ok (.aload_n 0, 1) := dk_42 (dk_at dksJ6_charAt_0 1 rfl rfl)
theorem dJ6_charAt_2 : decode cJ6_charAt 2 = .ok (.invokestatic 67, 3) := dk_184 0 67 (dk_at dksJ6_charAt_0 2 rfl rfl)
theorem dJ6_charAt_5 : decode cJ6_charAt 5 = .ok (.aload_n 0, 1) := dk_42 (dk_at dksJ6_charAt_0 5 rfl rfl)
theorem dJ6_charAt_6 : decode cJ6_charAt 6 = .ok (.iload_n 1, 1) := dk_27 (dk_at dksJ6_charAt_0 6 rfl rfl)
theorem dJ6_charAt_7 : decode cJ6_charAt 7 = .ok (.invokestatic 71, 3) := dk_184 0 71 (dk_at dksJ6_charAt_0 7 rfl rfl)
theorem dJ6_charAt_10 : decode cJ6_charAt 10 = .ok (.ireturn, 1) := dk_172 (dk_at dksJ6_charAt_0 10 rfl rfl)
theorem q136 : (Jvm.Cond.initialized "java/lang/StringUTF16") ∈ lw_all := lw_g (lw_at lw_m1 13 rfl) rfl
theorem q401 : (Jvm.Cond.static ({ cls := "java/lang/StringUTF16", name := "newBytesFor", desc := "(I)[B" } : Jvm.MethodName)) ∈ lw_all := lw_g (lw_at lw_m2 38 rfl) rfl
theorem q402 : (Jvm.Cond.code ({ cls := "java/lang/StringUTF16", name := "newBytesFor", desc := "(I)[B" } : Jvm.MethodName) prog_29_method_2_code (1 : Nat) (Option.some (Jvm.ClassFile.FieldType.array Jvm.ClassFile.FieldType.byte))) ∈ lw_all := lw_g (lw_at lw_m2 39 rfl) rfl
theorem q403 : (Jvm.Cond.methodLink "java/lang/StringUTF16" (11 : Nat) ({ cls := "java/lang/StringUTF16", name := "newBytesLength", desc := "(I)I" } : Jvm.MethodName)) ∈ lw_all := lw_g (lw_at lw_m2 40 rfl) rfl
theorem q404 : (Jvm.Cond.static ({ cls := "java/lang/StringUTF16", name := "newBytesLength", desc := "(I)I" } : Jvm.MethodName)) ∈ lw_all := lw_g (lw_at lw_m2 41 rfl) rfl
theorem q405 : (Jvm.Cond.code ({ cls := "java/lang/StringUTF16", name := "newBytesLength", desc := "(I)I" } : Jvm.MethodName) prog_29_method_3_code (1 : Nat) (Option.some Jvm.ClassFile.FieldType.int)) ∈ lw_all := lw_g (lw_at lw_m2 42 rfl) rfl
theorem q406 : (Jvm.Cond.constant "java/lang/StringUTF16" (20 : Nat) (1073741823 : Int32)) ∈ lw_all := lw_g (lw_at lw_m2 43 rfl) rfl
theorem q478 : (Jvm.Cond.static ({ cls := "java/lang/StringUTF16", name := "inflate", desc := "([BI[BII)V" } : Jvm.MethodName)) ∈ lw_all := lw_g (lw_at lw_m2 115 rfl) rfl
theorem q479 : (Jvm.Cond.code ({ cls := "java/lang/StringUTF16", name := "inflate", desc := "([BI[BII)V" } : Jvm.MethodName) prog_29_method_86_code (6 : Nat) (Option.none : Option Jvm.ClassFile.FieldType)) ∈ lw_all := lw_g (lw_at lw_m2 116 rfl) rfl
theorem q480 : (Jvm.Cond.methodLink "java/lang/StringUTF16" (173 : Nat) ({ cls := "java/lang/StringUTF16", name := "checkBoundsOffCount", desc := "(II[B)V" } : Jvm.MethodName)) ∈ lw_all := lw_g (lw_at lw_m2 117 rfl) rfl
theorem q481 : (Jvm.Cond.static ({ cls := "java/lang/StringUTF16", name := "checkBoundsOffCount", desc := "(II[B)V" } : Jvm.MethodName)) ∈ lw_all := lw_g (lw_at lw_m2 118 rfl) rfl
theorem q482 : (Jvm.Cond.code ({ cls := "java/lang/StringUTF16", name := "checkBoundsOffCount", desc := "(II[B)V" } : Jvm.MethodName) prog_29_method_94_code (3 : Nat) (Option.none : Option Jvm.ClassFile.FieldType)) ∈ lw_all := lw_g (lw_at lw_m2 119 rfl) rfl
theorem q483 : (Jvm.Cond.methodLink "java/lang/StringUTF16" (48 : Nat) ({ cls := "java/lang/StringUTF16", name := "length", desc := "([B)I" } : Jvm.MethodName)) ∈ lw_all := lw_g (lw_at lw_m2 120 rfl) rfl
theorem q484 : (Jvm.Cond.static ({ cls := "java/lang/StringUTF16", name := "length", desc := "([B)I" } : Jvm.MethodName)) ∈ lw_all := lw_g (lw_at lw_m2 121 rfl) rfl
theorem q485 : (Jvm.Cond.code ({ cls := "java/lang/StringUTF16", name := "length", desc := "([B)I" } : Jvm.MethodName) prog_29_method_6_code (1 : Nat) (Option.some Jvm.ClassFile.FieldType.int)) ∈ lw_all := lw_g (lw_at lw_m2 122 rfl) rfl
theorem q486 : (Jvm.Cond.methodLink "java/lang/StringUTF16" (419 : Nat) ({ cls := "java/lang/String", name := "checkBoundsOffCount", desc := "(III)I" } : Jvm.MethodName)) ∈ lw_all := lw_g (lw_at lw_m2 123 rfl) rfl
theorem q494 : (Jvm.Cond.methodLink "java/lang/StringUTF16" (111 : Nat) ({ cls := "java/lang/StringUTF16", name := "putChar", desc := "([BII)V" } : Jvm.MethodName)) ∈ lw_all := lw_g (lw_at lw_m2 131 rfl) rfl
theorem q495 : (Jvm.Cond.static ({ cls := "java/lang/StringUTF16", name := "putChar", desc := "([BII)V" } : Jvm.MethodName)) ∈ lw_all := lw_g (lw_at lw_m2 132 rfl) rfl
theorem q496 : (Jvm.Cond.code ({ cls := "java/lang/StringUTF16", name := "putChar", desc := "([BII)V" } : Jvm.MethodName) prog_29_method_4_code (3 : Nat) (Option.none : Option Jvm.ClassFile.FieldType)) ∈ lw_all := lw_g (lw_at lw_m2 133 rfl) rfl
theorem q497 : (Jvm.Cond.fieldLink "java/lang/StringUTF16" (44 : Nat) "java/lang/StringUTF16" "$assertionsDisabled" "Z") ∈ lw_all := lw_g (lw_at lw_m2 134 rfl) rfl
theorem q498 : (Jvm.Cond.laysStatic "java/lang/StringUTF16" "$assertionsDisabled" "Z") ∈ lw_tbl := lw_at lw_m2 135 rfl
theorem q499 : (Jvm.Cond.fieldLink "java/lang/StringUTF16" (59 : Nat) "java/lang/StringUTF16" "HI_BYTE_SHIFT" "I") ∈ lw_all := lw_g (lw_at lw_m2 136 rfl) rfl
theorem q500 : (Jvm.Cond.laysStatic "java/lang/StringUTF16" "HI_BYTE_SHIFT" "I") ∈ lw_tbl := lw_at lw_m2 137 rfl
theorem q501 : (Jvm.Cond.fieldLink "java/lang/StringUTF16" (63 : Nat) "java/lang/StringUTF16" "LO_BYTE_SHIFT" "I") ∈ lw_all := lw_g (lw_at lw_m2 138 rfl) rfl
theorem q502 : (Jvm.Cond.laysStatic "java/lang/StringUTF16" "LO_BYTE_SHIFT" "I") ∈ lw_tbl := lw_at lw_m2 139 rfl
theorem q504 : (Jvm.Cond.static ({ cls := "java/lang/StringUTF16", name := "putCharSB", desc := "([BII)V" } : Jvm.MethodName)) ∈ lw_all := lw_g (lw_at lw_m2 141 rfl) rfl
theorem q505 : (Jvm.Cond.code ({ cls := "java/lang/StringUTF16", name := "putCharSB", desc := "([BII)V" } : Jvm.MethodName) prog_29_method_71_code (3 : Nat) (Option.none : Option Jvm.ClassFile.FieldType)) ∈ lw_all := lw_g (lw_at lw_m2 142 rfl) rfl
theorem q506 : (Jvm.Cond.methodLink "java/lang/StringUTF16" (67 : Nat) ({ cls := "java/lang/StringUTF16", name := "checkIndex", desc := "(I[B)V" } : Jvm.MethodName)) ∈ lw_all := lw_g (lw_at lw_m2 143 rfl) rfl
theorem q507 : (Jvm.Cond.static ({ cls := "java/lang/StringUTF16", name := "checkIndex", desc := "(I[B)V" } : Jvm.MethodName)) ∈ lw_all := lw_g (lw_at lw_m2 144 rfl) rfl
theorem q508 : (Jvm.Cond.code ({ cls := "java/lang/StringUTF16", name := "checkIndex", desc := "(I[B)V" } : Jvm.MethodName) prog_29_method_91_code (2 : Nat) (Option.none : Option Jvm.ClassFile.FieldType)) ∈ lw_all := lw_g (lw_at lw_m2 145 rfl) rfl
theorem q509 : (Jvm.Cond.methodLink "java/lang/StringUTF16" (414 : Nat) ({ cls := "java/lang/String", name := "checkIndex", desc := "(II)V" } : Jvm.MethodName)) ∈ lw_all := lw_g (lw_at lw_m2 146 rfl) rfl
theorem q553 : (Jvm.Cond.static ({ cls := "java/lang/StringUTF16", name := "compress", desc := "([BII)[B" } : Jvm.MethodName)) ∈ lw_all := lw_g (lw_at lw_m2 190 rfl) rfl
theorem q554 : (Jvm.Cond.code ({ cls := "java/lang/StringUTF16", name := "compress", desc := "([BII)[B" } : Jvm.MethodName) prog_29_method_17_code (6 : Nat) (Option.some (Jvm.ClassFile.FieldType.array Jvm.ClassFile.FieldType.byte))) ∈ lw_all := lw_g (lw_at lw_m2 191 rfl) rfl
theorem q555 : (Jvm.Cond.methodLink "java/lang/StringUTF16" (123 : Nat) ({ cls := "java/lang/StringUTF16", name := "compress", desc := "([BI[BII)I" } : Jvm.MethodName)) ∈ lw_all := lw_g (lw_at lw_m2 192 rfl) rfl
theorem q556 : (Jvm.Cond.static ({ cls := "java/lang/StringUTF16", name := "compress", desc := "([BI[BII)I" } : Jvm.MethodName)) ∈ lw_all := lw_g (lw_at lw_m2 193 rfl) rfl
theorem q557 : (Jvm.Cond.code ({ cls := "java/lang/StringUTF16", name := "compress", desc := "([BI[BII)I" } : Jvm.MethodName) prog_29_method_22_code (7 : Nat) (Option.some Jvm.ClassFile.FieldType.int)) ∈ lw_all := lw_g (lw_at lw_m2 194 rfl) rfl
theorem q558 : (Jvm.Cond.methodLink "java/lang/StringUTF16" (71 : Nat) ({ cls := "java/lang/StringUTF16", name := "getChar", desc := "([BI)C" } : Jvm.MethodName)) ∈ lw_all := lw_g (lw_at lw_m2 195 rfl) rfl
theorem q559 : (Jvm.Cond.static ({ cls := "java/lang/StringUTF16", name := "getChar", desc := "([BI)C" } : Jvm.MethodName)) ∈ lw_all := lw_g (lw_at lw_m2 196 rfl) rfl
theorem q560 : (Jvm.Cond.code ({ cls := "java/lang/StringUTF16", name := "getChar", desc := "([BI)C" } : Jvm.MethodName) prog_29_method_5_code (2 : Nat) (Option.some Jvm.ClassFile.FieldType.char)) ∈ lw_all := lw_g (lw_at lw_m2 197 rfl) rfl
theorem q561 : (Jvm.Cond.methodLink "java/lang/StringUTF16" (126 : Nat) ({ cls := "java/util/Arrays", name := "copyOfRange", desc := "([BII)[B" } : Jvm.MethodName)) ∈ lw_all := lw_g (lw_at lw_m2 198 rfl) rfl
theorem q563 : (Jvm.Cond.static ({ cls := "java/lang/StringUTF16", name := "coderFromArrayLen", desc := "([BI)B" } : Jvm.MethodName)) ∈ lw_all := lw_g (lw_at lw_m2 200 rfl) rfl
theorem q564 : (Jvm.Cond.code ({ cls := "java/lang/StringUTF16", name := "coderFromArrayLen", desc := "([BI)B" } : Jvm.MethodName) prog_29_method_15_code (2 : Nat) (Option.some Jvm.ClassFile.FieldType.byte)) ∈ lw_all := lw_g (lw_at lw_m2 201 rfl) rfl
theorem q655 : (Jvm.Cond.static ({ cls := "java/lang/StringUTF16", name := "hashCode", desc := "([B)I" } : Jvm.MethodName)) ∈ lw_all := lw_g (lw_at lw_m3 52 rfl) rfl
theorem q656 : (Jvm.Cond.code ({ cls := "java/lang/StringUTF16", name := "hashCode", desc := "([B)I" } : Jvm.MethodName) prog_29_method_39_code (1 : Nat) (Option.some Jvm.ClassFile.FieldType.int)) ∈ lw_all := lw_g (lw_at lw_m3 53 rfl) rfl
theorem q657 : (Jvm.Cond.methodLink "java/lang/StringUTF16" (220 : Nat) ({ cls := "jdk/internal/util/ArraysSupport", name := "vectorizedHashCode", desc := "(Ljava/lang/Object;IIII)I" } : Jvm.MethodName)) ∈ lw_all := lw_g (lw_at lw_m3 54 rfl) rfl
theorem q1850 : (Jvm.Cond.static ({ cls := "java/lang/StringUTF16", name := "charAt", desc := "([BI)C" } : Jvm.MethodName)) ∈ lw_all := lw_g (lw_at lw_m8 47 rfl) rfl
theorem q1851 : (Jvm.Cond.code ({ cls := "java/lang/StringUTF16", name := "charAt", desc := "([BI)C" } : Jvm.MethodName) prog_29_method_83_code (2 : Nat) (Option.some Jvm.ClassFile.FieldType.char)) ∈ lw_all := lw_g (lw_at lw_m8 48 rfl) rfl
/-! jdk/internal/util/ArraysSupport -/
set_option maxRecDepth 100000
def RJ7 : String := "jdk/internal/util/ArraysSupport"
abbrev cJ7_newLength : ByteArray := prog_46_method_27_code
def yJ7_newLength : MethodName := ⟨RJ7, "newLength", "(III)I"⟩
def dkwJ7_newLength_1 : List UInt8 := [184, 0, 201, 172]
abbrev dktJ7_newLength_1 : List UInt8 := dkwJ7_newLength_1 ++ []
def dkwJ7_newLength_0 : List UInt8 := [26, 27, 28, 184, 0, 194, 96, 62, 3, 29, 162, 0, 11, 29, 18, 200, 163, 0, 5, 29, 172, 26, 27]
abbrev dktJ7_newLength_0 : List UInt8 := dkwJ7_newLength_0 ++ dktJ7_newLength_1
theorem dksJ7_newLength_0 : cJ7_newLength.data.toList.drop 0 = dktJ7_newLength_0 := by decide +kernel
theorem dksJ7_newLength_1 : cJ7_newLength.data.toList.drop 23 = dktJ7_newLength_1 := dk_seg dksJ7_newLength_0 23 rfl rfl
theorem dJ7_newLength_0 : decode cJ7_newLength 0 = .ok (.iload_n 0, 1) := dk_26 (dk_at dksJ7_newLength_0 0 rfl rfl)
theorem dJ7_newLength_1 : decode cJ7_newLength 1 = .ok (.iload_n 1, 1) := dk_27 (dk_at dksJ7_newLength_0 1 rfl rfl)
theorem dJ7_newLength_2 : decode cJ7_newLength 2 = .ok (.iload_n 2, 1) := dk_28 (dk_at dksJ7_newLength_0 2 rfl rfl)
theorem dJ7_newLength_3 : decode cJ7_newLength 3 = .ok (.invokestatic 194, 3) := dk_184 0 194 (dk_at dksJ7_newLength_0 3 rfl rfl)
theorem dJ7_newLength_6 : decode cJ7_newLength 6 = .ok (.iadd, 1) := dk_96 (dk_at dksJ7_newLength_0 6 rfl rfl)
theorem dJ7_newLength_7 : decode cJ7_newLength 7 = .ok (.istore_n 3, 1) := dk_62 (dk_at dksJ7_newLength_0 7 rfl rfl)
theorem dJ7_newLength_8 : decode cJ7_newLength 8 = .ok (.iconst 0, 1) := dk_3 (dk_at dksJ7_newLength_0 8 rfl rfl)
theorem dJ7_newLength_9 : decode cJ7_newLength 9 = .ok (.iload_n 3, 1) := dk_29 (dk_at dksJ7_newLength_0 9 rfl rfl)
theorem dJ7_newLength_10 : decode cJ7_newLength 10 = .ok (.if_icmp .ge 11, 3) := dk_162 0 11 (dk_at dksJ7_newLength_0 10 rfl rfl)
theorem dJ7_newLength_13 : decode cJ7_newLength 13 = .ok (.iload_n 3, 1) := dk_29 (dk_at dksJ7_newLength_0 13 rfl rfl)
theorem dJ7_newLength_14 : decode cJ7_newLength 14 = .ok (.ldc 200, 2) := dk_18 200 (dk_at dksJ7_newLength_0 14 rfl rfl)
theorem dJ7_newLength_16 : decode cJ7_newLength 16 = .ok (.if_icmp .gt 5, 3) := dk_163 0 5 (dk_at dksJ7_newLength_0 16 rfl rfl)
theorem dJ7_newLength_19 : decode cJ7_newLength 19 = .ok (.iload_n 3, 1) := dk_29 (dk_at dksJ7_newLength_0 19 rfl rfl)
theorem dJ7_newLength_20 : decode cJ7_newLength 20 = .ok (.ireturn, 1) := dk_172 (dk_at dksJ7_newLength_0 20 rfl rfl)
theorem dJ7_newLength_21 : decode cJ7_newLength 21 = .ok (.iload_n 0, 1) := dk_26 (dk_at dksJ7_newLength_0 21 rfl rfl)
theorem dJ7_newLength_22 : decode cJ7_newLength 22 = .ok (.iload_n 1, 1) := dk_27 (dk_at dksJ7_newLength_0 22 rfl rfl)
theorem dJ7_newLength_23 : decode cJ7_newLength 23 = .ok (.invokestatic 201, 3) := dk_184 0 201 (dk_at dksJ7_newLength_1 0 rfl rfl)
theorem dJ7_newLength_26 : decode cJ7_newLength 26 = .ok (.ireturn, 1) := dk_172 (dk_at dksJ7_newLength_1 3 rfl rfl)
abbrev cJ7_hugeLength : ByteArray := prog_46_method_28_code
def yJ7_hugeLength : MethodName := ⟨RJ7, "hugeLength", "(II)I"⟩
def dkwJ7_hugeLength_2 : List UInt8 := [191, 28, 18, 200, 163, 0, 6, 18, 200, 172, 28, 172]
abbrev dktJ7_hugeLength_2 : List UInt8 := dkwJ7_hugeLength_2 ++ []
def dkwJ7_hugeLength_1 : List UInt8 := [26, 182, 0, 98, 18, 208, 182, 0, 94, 27, 182, 0, 98, 18, 210, 182, 0, 94, 182, 0, 101, 183, 0, 212]
abbrev dktJ7_hugeLength_1 : List UInt8 := dkwJ7_hugeLength_1 ++ dktJ7_hugeLength_2
def dkwJ7_hugeLength_0 : List UInt8 := [26, 27, 96, 61, 28, 156, 0, 44, 187, 0, 204, 89, 187, 0, 89, 89, 183, 0, 91, 18, 206, 182, 0, 94]
abbrev dktJ7_hugeLength_0 : List UInt8 := dkwJ7_hugeLength_0 ++ dktJ7_hugeLength_1
theorem dksJ7_hugeLength_0 : cJ7_hugeLength.data.toList.drop 0 = dktJ7_hugeLength_0 := by decide +kernel
theorem dksJ7_hugeLength_1 : cJ7_hugeLength.data.toList.drop 24 = dktJ7_hugeLength_1 := dk_seg dksJ7_hugeLength_0 24 rfl rfl
theorem dksJ7_hugeLength_2 : cJ7_hugeLength.data.toList.drop 48 = dktJ7_hugeLength_2 := dk_seg dksJ7_hugeLength_1 24 rfl rfl
theorem dJ7_hugeLength_0 : decode cJ7_hugeLength 0 = .ok (.iload_n 0, 1) := dk_26 (dk_at dksJ7_hugeLength_0 0 rfl rfl)
theorem dJ7_hugeLength_1 : decode cJ7_hugeLength 1 = .ok (.iload_n 1, 1) := dk_27 (dk_at dksJ7_hugeLength_0 1 rfl rfl)
theorem dJ7_hugeLength_2 : decode cJ7_hugeLength 2 = .ok (.iadd, 1) := dk_96 (dk_at dksJ7_hugeLength_0 2 rfl rfl)
theorem dJ7_hugeLength_3 : decode cJ7_hugeLength 3 = .ok (.istore_n 2, 1) := dk_61 (dk_at dksJ7_hugeLength_0 3 rfl rfl)
theorem dJ7_hugeLength_4 : decode cJ7_hugeLength 4 = .ok (.iload_n 2, 1) := dk_28 (dk_at dksJ7_hugeLength_0 4 rfl rfl)
theorem dJ7_hugeLength_5 : decode cJ7_hugeLength 5 = .ok (.ifCond .ge 44, 3) := dk_156 0 44 (dk_at dksJ7_hugeLength_0 5 rfl rfl)
theorem dJ7_hugeLength_8 : decode cJ7_hugeLength 8 = .ok (.new 204, 3) := dk_187 0 204 (dk_at dksJ7_hugeLength_0 8 rfl rfl)
theorem dJ7_hugeLength_11 : decode cJ7_hugeLength 11 = .ok (.dup, 1) := dk_89 (dk_at dksJ7_hugeLength_0 11 rfl rfl)
theorem dJ7_hugeLength_12 : decode cJ7_hugeLength 12 = .ok (.new 89, 3) := dk_187 0 89 (dk_at dksJ7_hugeLength_0 12 rfl rfl)
theorem dJ7_hugeLength_15 : decode cJ7_hugeLength 15 = .ok (.dup, 1) := dk_89 (dk_at dksJ7_hugeLength_0 15 rfl rfl)
theorem dJ7_hugeLength_16 : decode cJ7_hugeLength 16 = .ok (.invokespecial 91, 3) := dk_183 0 91 (dk_at dksJ7_hugeLength_0 16 rfl rfl)
theorem dJ7_hugeLength_19 : decode cJ7_hugeLength 19 = .ok (.ldc 206, 2) := dk_18 206 (dk_at dksJ7_hugeLength_0 19 rfl rfl)
theorem dJ7_hugeLength_21 : decode cJ7_hugeLength 21 = .ok (.invokevirtual 94, 3) := dk_182 0 94 (dk_at dksJ7_hugeLength_0 21 rfl rfl)
theorem dJ7_hugeLength_24 : decode cJ7_hugeLength 24 = .ok (.iload_n 0, 1) := dk_26 (dk_at dksJ7_hugeLength_1 0 rfl rfl)
theorem dJ7_hugeLength_25 : decode cJ7_hugeLength 25 = .ok (.invokevirtual 98, 3) := dk_182 0 98 (dk_at dksJ7_hugeLength_1 1 rfl rfl)
theorem dJ7_hugeLength_28 : decode cJ7_hugeLength 28 = .ok (.ldc 208, 2) := dk_18 208 (dk_at dksJ7_hugeLength_1 4 rfl rfl)
theorem dJ7_hugeLength_30 : decode cJ7_hugeLength 30 = .ok (.invokevirtual 94, 3) := dk_182 0 94 (dk_at dksJ7_hugeLength_1 6 rfl rfl)
theorem dJ7_hugeLength_33 : decode cJ7_hugeLength 33 = .ok (.iload_n 1, 1) := dk_27 (dk_at dksJ7_hugeLength_1 9 rfl rfl)
theorem dJ7_hugeLength_34 : decode cJ7_hugeLength 34 = .ok (.invokevirtual 98, 3) := dk_182 0 98 (dk_at dksJ7_hugeLength_1 10 rfl rfl)
theorem dJ7_hugeLength_37 : decode cJ7_hugeLength 37 = .ok (.ldc 210, 2) := dk_18 210 (dk_at dksJ7_hugeLength_1 13 rfl rfl)
theorem dJ7_hugeLength_39 : decode cJ7_hugeLength 39 = .ok (.invokevirtual 94, 3) := dk_182 0 94 (dk_at dksJ7_hugeLength_1 15 rfl rfl)
theorem dJ7_hugeLength_42 : decode cJ7_hugeLength 42 = .ok (.invokevirtual 101, 3) := dk_182 0 101 (dk_at dksJ7_hugeLength_1 18 rfl rfl)
theorem dJ7_hugeLength_45 : decode cJ7_hugeLength 45 = .ok (.invokespecial 212, 3) := dk_183 0 212 (dk_at dksJ7_hugeLength_1 21 rfl rfl)
theorem dJ7_hugeLength_48 : decode cJ7_hugeLength 48 = .ok (.athrow, 1) := dk_191 (dk_at dksJ7_hugeLength_2 0 rfl rfl)
theorem dJ7_hugeLength_49 : decode cJ7_hugeLength 49 = .ok (.iload_n 2, 1) := dk_28 (dk_at dksJ7_hugeLength_2 1 rfl rfl)
theorem dJ7_hugeLength_50 : decode cJ7_hugeLength 50 = .ok (.ldc 200, 2) := dk_18 200 (dk_at dksJ7_hugeLength_2 2 rfl rfl)
theorem dJ7_hugeLength_52 : decode cJ7_hugeLength 52 = .ok (.if_icmp .gt 6, 3) := dk_163 0 6 (dk_at dksJ7_hugeLength_2 4 rfl rfl)
theorem dJ7_hugeLength_55 : decode cJ7_hugeLength 55 = .ok (.ldc 200, 2) := dk_18 200 (dk_at dksJ7_hugeLength_2 7 rfl rfl)
theorem dJ7_hugeLength_57 : decode cJ7_hugeLength 57 = .ok (.ireturn, 1) := dk_172 (dk_at dksJ7_hugeLength_2 9 rfl rfl)
theorem dJ7_hugeLength_58 : decode cJ7_hugeLength 58 = .ok (.iload_n 2, 1) := dk_28 (dk_at dksJ7_hugeLength_2 10 rfl rfl)
theorem dJ7_hugeLength_59 : decode cJ7_hugeLength 59 = .ok (.ireturn, 1) := dk_172 (dk_at dksJ7_hugeLength_2 11 rfl rfl)
abbrev cJ7_vectorizedHashCode : ByteArray := prog_46_method_4_code
def yJ7_vectorizedHashCode : MethodName := ⟨RJ7, "vectorizedHashCode", "(Ljava/lang/Object;IIII)I"⟩
def dkwJ7_vectorizedHashCode_6 : List UInt8 := [183, 0, 91, 18, 92, 182, 0, 94, 21, 4, 182, 0, 98, 182, 0, 101, 183, 0, 105, 191, 172]
abbrev dktJ7_vectorizedHashCode_6 : List UInt8 := dkwJ7_vectorizedHashCode_6 ++ []
def dkwJ7_vectorizedHashCode_5 : List UInt8 := [167, 0, 44, 29, 42, 192, 0, 82, 27, 28, 184, 0, 84, 167, 0, 31, 187, 0, 87, 89, 187, 0, 89, 89]
abbrev dktJ7_vectorizedHashCode_5 : List UInt8 := dkwJ7_vectorizedHashCode_5 ++ dktJ7_vectorizedHashCode_6
def dkwJ7_vectorizedHashCode_4 : List UInt8 := [29, 42, 192, 0, 60, 27, 28, 184, 0, 75, 167, 0, 57, 29, 42, 192, 0, 77, 27, 28, 184, 0, 79]
abbrev dktJ7_vectorizedHashCode_4 : List UInt8 := dkwJ7_vectorizedHashCode_4 ++ dktJ7_vectorizedHashCode_5
def dkwJ7_vectorizedHashCode_3 : List UInt8 := [192, 0, 60, 27, 28, 184, 0, 66, 167, 0, 83, 29, 42, 192, 0, 69, 27, 28, 184, 0, 71, 167, 0, 70]
abbrev dktJ7_vectorizedHashCode_3 : List UInt8 := dkwJ7_vectorizedHashCode_3 ++ dktJ7_vectorizedHashCode_4
def dkwJ7_vectorizedHashCode_2 : List UInt8 := [29, 42, 192, 0, 60, 27, 28, 184, 0, 62, 167, 0, 103, 42, 193, 0, 60, 153, 0, 16, 29, 42]
abbrev dktJ7_vectorizedHashCode_2 : List UInt8 := dkwJ7_vectorizedHashCode_2 ++ dktJ7_vectorizedHashCode_3
def dkwJ7_vectorizedHashCode_1 : List UInt8 := [170, 0, 0, 0, 0, 127, 0, 0, 0, 4, 0, 0, 0, 10, 0, 0, 0, 42, 0, 0, 0, 55, 0, 0, 0, 127, 0, 0, 0, 127, 0, 0, 0, 88, 0, 0, 0, 101, 0, 0, 0, 114]
abbrev dktJ7_vectorizedHashCode_1 : List UInt8 := dkwJ7_vectorizedHashCode_1 ++ dktJ7_vectorizedHashCode_2
def dkwJ7_vectorizedHashCode_0 : List UInt8 := [21, 4]
abbrev dktJ7_vectorizedHashCode_0 : List UInt8 := dkwJ7_vectorizedHashCode_0 ++ dktJ7_vectorizedHashCode_1
theorem dksJ7_vectorizedHashCode_0 : cJ7_vectorizedHashCode.data.toList.drop 0 = dktJ7_vectorizedHashCode_0 := by decide +kernel
theorem dksJ7_vectorizedHashCode_1 : cJ7_vectorizedHashCode.data.toList.drop 2 = dktJ7_vectorizedHashCode_1 := dk_seg dksJ7_vectorizedHashCode_0 2 rfl rfl
theorem dksJ7_vectorizedHashCode_2 : cJ7_vectorizedHashCode.data.toList.drop 44 = dktJ7_vectorizedHashCode_2 := dk_seg dksJ7_vectorizedHashCode_1 42 rfl rfl
theorem dksJ7_vectorizedHashCode_3 : cJ7_vectorizedHashCode.data.toList.drop 66 = dktJ7_vectorizedHashCode_3 := dk_seg dksJ7_vectorizedHashCode_2 22 rfl rfl
theorem dksJ7_vectorizedHashCode_4 : cJ7_vectorizedHashCode.data.toList.drop 90 = dktJ7_vectorizedHashCode_4 := dk_seg dksJ7_vectorizedHashCode_3 24 rfl rfl
theorem dksJ7_vectorizedHashCode_5 : cJ7_vectorizedHashCode.data.toList.drop 113 = dktJ7_vectorizedHashCode_5 := dk_seg dksJ7_vectorizedHashCode_4 23 rfl rfl
theorem dksJ7_vectorizedHashCode_6 : cJ7_vectorizedHashCode.data.toList.drop 137 = dktJ7_vectorizedHashCode_6 := dk_seg dksJ7_vectorizedHashCode_5 24 rfl rfl
theorem dJ7_vectorizedHashCode_0 : decode cJ7_vectorizedHashCode 0 = .ok (.iload 4, 2) := dk_21 4 (dk_at dksJ7_vectorizedHashCode_0 0 rfl rfl)
theorem dJ7_vectorizedHashCode_2 : decode cJ7_vectorizedHashCode 2 = .ok (.tableswitch 127 4 10 #[42, 55, 127, 127, 88, 101, 114], 42) := by decide +kernel
theorem dJ7_vectorizedHashCode_44 : decode cJ7_vectorizedHashCode 44 = .ok (.iload_n 3, 1) := dk_29 (dk_at dksJ7_vectorizedHashCode_2 0 rfl rfl)
theorem dJ7_vectorizedHashCode_45 : decode cJ7_vectorizedHashCode 45 = .ok (.aload_n 0, 1) := dk_42 (dk_at dksJ7_vectorizedHashCode_2 1 rfl rfl)
theorem dJ7_vectorizedHashCode_46 : decode cJ7_vectorizedHashCode 46 = .ok (.checkcast 60, 3) := dk_192 0 60 (dk_at dksJ7_vectorizedHashCode_2 2 rfl rfl)
theorem dJ7_vectorizedHashCode_49 : decode cJ7_vectorizedHashCode 49 = .ok (.iload_n 1, 1) := dk_27 (dk_at dksJ7_vectorizedHashCode_2 5 rfl rfl)
theorem dJ7_vectorizedHashCode_50 : decode cJ7_vectorizedHashCode 50 = .ok (.iload_n 2, 1) := dk_28 (dk_at dksJ7_vectorizedHashCode_2 6 rfl rfl)
theorem dJ7_vectorizedHashCode_51 : decode cJ7_vectorizedHashCode 51 = .ok (.invokestatic 62, 3) := dk_184 0 62 (dk_at dksJ7_vectorizedHashCode_2 7 rfl rfl)
theorem dJ7_vectorizedHashCode_54 : decode cJ7_vectorizedHashCode 54 = .ok (.goto 103, 3) := dk_167 0 103 (dk_at dksJ7_vectorizedHashCode_2 10 rfl rfl)
theorem dJ7_vectorizedHashCode_57 : decode cJ7_vectorizedHashCode 57 = .ok (.aload_n 0, 1) := dk_42 (dk_at dksJ7_vectorizedHashCode_2 13 rfl rfl)
theorem dJ7_vectorizedHashCode_58 : decode cJ7_vectorizedHashCode 58 = .ok (.instanceof 60, 3) := dk_193 0 60 (dk_at dksJ7_vectorizedHashCode_2 14 rfl rfl)
theorem dJ7_vectorizedHashCode_61 : decode cJ7_vectorizedHashCode 61 = .ok (.ifCond .eq 16, 3) := dk_153 0 16 (dk_at dksJ7_vectorizedHashCode_2 17 rfl rfl)
theorem dJ7_vectorizedHashCode_64 : decode cJ7_vectorizedHashCode 64 = .ok (.iload_n 3, 1) := dk_29 (dk_at dksJ7_vectorizedHashCode_2 20 rfl rfl)
theorem dJ7_vectorizedHashCode_65 : decode cJ7_vectorizedHashCode 65 = .ok (.aload_n 0, 1) := dk_42 (dk_at dksJ7_vectorizedHashCode_2 21 rfl rfl)
theorem dJ7_vectorizedHashCode_66 : decode cJ7_vectorizedHashCode 66 = .ok (.checkcast 60, 3) := dk_192 0 60 (dk_at dksJ7_vectorizedHashCode_3 0 rfl rfl)
theorem dJ7_vectorizedHashCode_69 : decode cJ7_vectorizedHashCode 69 = .ok (.iload_n 1, 1) := dk_27 (dk_at dksJ7_vectorizedHashCode_3 3 rfl rfl)
theorem dJ7_vectorizedHashCode_70 : decode cJ7_vectorizedHashCode 70 = .ok (.iload_n 2, 1) := dk_28 (dk_at dksJ7_vectorizedHashCode_3 4 rfl rfl)
theorem dJ7_vectorizedHashCode_71 : decode cJ7_vectorizedHashCode 71 = .ok (.invokestatic 66, 3) := dk_184 0 66 (dk_at dksJ7_vectorizedHashCode_3 5 rfl rfl)
theorem dJ7_vectorizedHashCode_74 : decode cJ7_vectorizedHashCode 74 = .ok (.goto 83, 3) := dk_167 0 83 (dk_at dksJ7_vectorizedHashCode_3 8 rfl rfl)
theorem dJ7_vectorizedHashCode_77 : decode cJ7_vectorizedHashCode 77 = .ok (.iload_n 3, 1) := dk_29 (dk_at dksJ7_vectorizedHashCode_3 11 rfl rfl)
theorem dJ7_vectorizedHashCode_78 : decode cJ7_vectorizedHashCode 78 = .ok (.aload_n 0, 1) := dk_42 (dk_at dksJ7_vectorizedHashCode_3 12 rfl rfl)
theorem dJ7_vectorizedHashCode_79 : decode cJ7_vectorizedHashCode 79 = .ok (.checkcast 69, 3) := dk_192 0 69 (dk_at dksJ7_vectorizedHashCode_3 13 rfl rfl)
theorem dJ7_vectorizedHashCode_82 : decode cJ7_vectorizedHashCode 82 = .ok (.iload_n 1, 1) := dk_27 (dk_at dksJ7_vectorizedHashCode_3 16 rfl rfl)
theorem dJ7_vectorizedHashCode_83 : decode cJ7_vectorizedHashCode 83 = .ok (.iload_n 2, 1) := dk_28 (dk_at dksJ7_vectorizedHashCode_3 17 rfl rfl)
theorem dJ7_vectorizedHashCode_84 : decode cJ7_vectorizedHashCode 84 = .ok (.invokestatic 71, 3) := dk_184 0 71 (dk_at dksJ7_vectorizedHashCode_3 18 rfl rfl)
theorem dJ7_vectorizedHashCode_87 : decode cJ7_vectorizedHashCode 87 = .ok (.goto 70, 3) := dk_167 0 70 (dk_at dksJ7_vectorizedHashCode_3 21 rfl rfl)
theorem dJ7_vectorizedHashCode_90 : decode cJ7_vectorizedHashCode 90 = .ok (.iload_n 3, 1) := dk_29 (dk_at dksJ7_vectorizedHashCode_4 0 rfl rfl)
theorem dJ7_vectorizedHashCode_91 : decode cJ7_vectorizedHashCode 91 = .ok (.aload_n 0, 1) := dk_42 (dk_at dksJ7_vectorizedHashCode_4 1 rfl rfl)
theorem dJ7_vectorizedHashCode_92 : decode cJ7_vectorizedHashCode 92 = .ok (.checkcast 60, 3) := dk_192 0 60 (dk_at dksJ7_vectorizedHashCode_4 2 rfl rfl)
theorem dJ7_vectorizedHashCode_95 : decode cJ7_vectorizedHashCode 95 = .ok (.iload_n 1, 1) := dk_27 (dk_at dksJ7_vectorizedHashCode_4 5 rfl rfl)
theorem dJ7_vectorizedHashCode_96 : decode cJ7_vectorizedHashCode 96 = .ok (.iload_n 2, 1) := dk_28 (dk_at dksJ7_vectorizedHashCode_4 6 rfl rfl)
theorem dJ7_vectorizedHashCode_97 : decode cJ7_vectorizedHashCode 97 = .ok (.invokestatic 75, 3) := dk_184 0 75 (dk_at dksJ7_vectorizedHashCode_4 7 rfl rfl)
theorem dJ7_vectorizedHashCode_100 : decode cJ7_vectorizedHashCode 100 = .ok (.goto 57, 3) := dk_167 0 57 (dk_at dksJ7_vectorizedHashCode_4 10 rfl rfl)
theorem dJ7_vectorizedHashCode_103 : decode cJ7_vectorizedHashCode 103 = .ok (.iload_n 3, 1) := dk_29 (dk_at dksJ7_vectorizedHashCode_4 13 rfl rfl)
theorem dJ7_vectorizedHashCode_104 : decode cJ7_vectorizedHashCode 104 = .ok (.aload_n 0, 1) := dk_42 (dk_at dksJ7_vectorizedHashCode_4 14 rfl rfl)
theorem dJ7_vectorizedHashCode_105 : decode cJ7_vectorizedHashCode 105 = .ok (.checkcast 77, 3) := dk_192 0 77 (dk_at dksJ7_vectorizedHashCode_4 15 rfl rfl)
theorem dJ7_vectorizedHashCode_108 : decode cJ7_vectorizedHashCode 108 = .ok (.iload_n 1, 1) := dk_27 (dk_at dksJ7_vectorizedHashCode_4 18 rfl rfl)
theorem dJ7_vectorizedHashCode_109 : decode cJ7_vectorizedHashCode 109 = .ok (.iload_n 2, 1) := dk_28 (dk_at dksJ7_vectorizedHashCode_4 19 rfl rfl)
theorem dJ7_vectorizedHashCode_110 : decode cJ7_vectorizedHashCode 110 = .ok (.invokestatic 79, 3) := dk_184 0 79 (dk_at dksJ7_vectorizedHashCode_4 20 rfl rfl)
theorem dJ7_vectorizedHashCode_113 : decode cJ7_vectorizedHashCode 113 = .ok (.goto 44, 3) := dk_167 0 44 (dk_at dksJ7_vectorizedHashCode_5 0 rfl rfl)
theorem dJ7_vectorizedHashCode_116 : decode cJ7_vectorizedHashCode 116 = .ok (.iload_n 3, 1) := dk_29 (dk_at dksJ7_vectorizedHashCode_5 3 rfl rfl)
theorem dJ7_vectorizedHashCode_117 : decode cJ7_vectorizedHashCode 117 = .ok (.aload_n 0, 1) := dk_42 (dk_at dksJ7_vectorizedHashCode_5 4 rfl rfl)
theorem dJ7_vectorizedHashCode_118 : decode cJ7_vectorizedHashCode 118 = .ok (.checkcast 82, 3) := dk_192 0 82 (dk_at dksJ7_vectorizedHashCode_5 5 rfl rfl)
theorem dJ7_vectorizedHashCode_121 : decode cJ7_vectorizedHashCode 121 = .ok (.iload_n 1, 1) := dk_27 (dk_at dksJ7_vectorizedHashCode_5 8 rfl rfl)
theorem dJ7_vectorizedHashCode_122 : decode cJ7_vectorizedHashCode 122 = .ok (.iload_n 2, 1) := dk_28 (dk_at dksJ7_vectorizedHashCode_5 9 rfl rfl)
theorem dJ7_vectorizedHashCode_123 : decode cJ7_vectorizedHashCode 123 = .ok (.invokestatic 84, 3) := dk_184 0 84 (dk_at dksJ7_vectorizedHashCode_5 10 rfl rfl)
theorem dJ7_vectorizedHashCode_126 : decode cJ7_vectorizedHashCode 126 = .ok (.goto 31, 3) := dk_167 0 31 (dk_at dksJ7_vectorizedHashCode_5 13 rfl rfl)
theorem dJ7_vectorizedHashCode_129 : decode cJ7_vectorizedHashCode 129 = .ok (.new 87, 3) := dk_187 0 87 (dk_at dksJ7_vectorizedHashCode_5 16 rfl rfl)
theorem dJ7_vectorizedHashCode_132 : decode cJ7_vectorizedHashCode 132 = .ok (.dup, 1) := dk_89 (dk_at dksJ7_vectorizedHashCode_5 19 rfl rfl)
theorem dJ7_vectorizedHashCode_133 : decode cJ7_vectorizedHashCode 133 = .ok (.new 89, 3) := dk_187 0 89 (dk_at dksJ7_vectorizedHashCode_5 20 rfl rfl)
theorem dJ7_vectorizedHashCode_136 : decode cJ7_vectorizedHashCode 136 = .ok (.dup, 1) := dk_89 (dk_at dksJ7_vectorizedHashCode_5 23 rfl rfl)
theorem dJ7_vectorizedHashCode_137 : decode cJ7_vectorizedHashCode 137 = .ok (.invokespecial 91, 3) := dk_183 0 91 (dk_at dksJ7_vectorizedHashCode_6 0 rfl rfl)
theorem dJ7_vectorizedHashCode_140 : decode cJ7_vectorizedHashCode 140 = .ok (.ldc 92, 2) := dk_18 92 (dk_at dksJ7_vectorizedHashCode_6 3 rfl rfl)
theorem dJ7_vectorizedHashCode_142 : decode cJ7_vectorizedHashCode 142 = .ok (.invokevirtual 94, 3) := dk_182 0 94 (dk_at dksJ7_vectorizedHashCode_6 5 rfl rfl)
theorem dJ7_vectorizedHashCode_145 : decode cJ7_vectorizedHashCode 145 = .ok (.iload 4, 2) := dk_21 4 (dk_at dksJ7_vectorizedHashCode_6 8 rfl rfl)
theorem dJ7_vectorizedHashCode_147 : decode cJ7_vectorizedHashCode 147 = .ok (.invokevirtual 98, 3) := dk_182 0 98 (dk_at dksJ7_vectorizedHashCode_6 10 rfl rfl)
theorem dJ7_vectorizedHashCode_150 : decode cJ7_vectorizedHashCode 150 = .ok (.invokevirtual 101, 3) := dk_182 0 101 (dk_at dksJ7_vectorizedHashCode_6 13 rfl rfl)
theorem dJ7_vectorizedHashCode_153 : decode cJ7_vectorizedHashCode 153 = .ok (.invokespecial 105, 3) := dk_183 0 105 (dk_at dksJ7_vectorizedHashCode_6 16 rfl rfl)
theorem dJ7_vectorizedHashCode_156 : decode cJ7_vectorizedHashCode 156 = .ok (.athrow, 1) := dk_191 (dk_at dksJ7_vectorizedHashCode_6 19 rfl rfl)
theorem dJ7_vectorizedHashCode_157 : decode cJ7_vectorizedHashCode 157 = .ok (.ireturn, 1) := dk_172 (dk_at dksJ7_vectorizedHashCode_6 20 rfl rfl)
abbrev cJ7_signedHashCode : ByteArray := prog_46_method_5_code
def yJ7_signedHashCode : MethodName := ⟨RJ7, "signedHashCode", "(I[BII)I"⟩
def dkwJ7_signedHashCode_1 : List UInt8 := [17, 0, 255, 126, 96, 59, 132, 5, 1, 167, 255, 232, 26, 172]
abbrev dktJ7_signedHashCode_1 : List UInt8 := dkwJ7_signedHashCode_1 ++ []
def dkwJ7_signedHashCode_0 : List UInt8 := [28, 29, 96, 54, 4, 28, 54, 5, 21, 5, 21, 4, 162, 0, 23, 16, 31, 26, 104, 43, 21, 5, 51]
abbrev dktJ7_signedHashCode_0 : List UInt8 := dkwJ7_signedHashCode_0 ++ dktJ7_signedHashCode_1
theorem dksJ7_signedHashCode_0 : cJ7_signedHashCode.data.toList.drop 0 = dktJ7_signedHashCode_0 := by decide +kernel
theorem dksJ7_signedHashCode_1 : cJ7_signedHashCode.data.toList.drop 23 = dktJ7_signedHashCode_1 := dk_seg dksJ7_signedHashCode_0 23 rfl rfl
theorem dJ7_signedHashCode_0 : decode cJ7_signedHashCode 0 = .ok (.iload_n 2, 1) := dk_28 (dk_at dksJ7_signedHashCode_0 0 rfl rfl)
theorem dJ7_signedHashCode_1 : decode cJ7_signedHashCode 1 = .ok (.iload_n 3, 1) := dk_29 (dk_at dksJ7_signedHashCode_0 1 rfl rfl)
theorem dJ7_signedHashCode_2 : decode cJ7_signedHashCode 2 = .ok (.iadd, 1) := dk_96 (dk_at dksJ7_signedHashCode_0 2 rfl rfl)
theorem dJ7_signedHashCode_3 : decode cJ7_signedHashCode 3 = .ok (.istore 4, 2) := dk_54 4 (dk_at dksJ7_signedHashCode_0 3 rfl rfl)
theorem dJ7_signedHashCode_5 : decode cJ7_signedHashCode 5 = .ok (.iload_n 2, 1) := dk_28 (dk_at dksJ7_signedHashCode_0 5 rfl rfl)
theorem dJ7_signedHashCode_6 : decode cJ7_signedHashCode 6 = .ok (.istore 5, 2) := dk_54 5 (dk_at dksJ7_signedHashCode_0 6 rfl rfl)
theorem dJ7_signedHashCode_8 : decode cJ7_signedHashCode 8 = .ok (.iload 5, 2) := dk_21 5 (dk_at dksJ7_signedHashCode_0 8 rfl rfl)
theorem dJ7_signedHashCode_10 : decode cJ7_signedHashCode 10 = .ok (.iload 4, 2) := dk_21 4 (dk_at dksJ7_signedHashCode_0 10 rfl rfl)
theorem dJ7_signedHashCode_12 : decode cJ7_signedHashCode 12 = .ok (.if_icmp .ge 23, 3) := dk_162 0 23 (dk_at dksJ7_signedHashCode_0 12 rfl rfl)
theorem dJ7_signedHashCode_15 : decode cJ7_signedHashCode 15 = .ok (.bipush 31, 2) := dk_16 31 (dk_at dksJ7_signedHashCode_0 15 rfl rfl)
theorem dJ7_signedHashCode_17 : decode cJ7_signedHashCode 17 = .ok (.iload_n 0, 1) := dk_26 (dk_at dksJ7_signedHashCode_0 17 rfl rfl)
theorem dJ7_signedHashCode_18 : decode cJ7_signedHashCode 18 = .ok (.imul, 1) := dk_104 (dk_at dksJ7_signedHashCode_0 18 rfl rfl)
theorem dJ7_signedHashCode_19 : decode cJ7_signedHashCode 19 = .ok (.aload_n 1, 1) := dk_43 (dk_at dksJ7_signedHashCode_0 19 rfl rfl)
theorem dJ7_signedHashCode_20 : decode cJ7_signedHashCode 20 = .ok (.iload 5, 2) := dk_21 5 (dk_at dksJ7_signedHashCode_0 20 rfl rfl)
theorem dJ7_signedHashCode_22 : decode cJ7_signedHashCode 22 = .ok (.baload, 1) := dk_51 (dk_at dksJ7_signedHashCode_0 22 rfl rfl)
theorem dJ7_signedHashCode_23 : decode cJ7_signedHashCode 23 = .ok (.sipush 255, 3) := dk_17 0 255 (dk_at dksJ7_signedHashCode_1 0 rfl rfl)
theorem dJ7_signedHashCode_26 : decode cJ7_signedHashCode 26 = .ok (.iand, 1) := dk_126 (dk_at dksJ7_signedHashCode_1 3 rfl rfl)
theorem dJ7_signedHashCode_27 : decode cJ7_signedHashCode 27 = .ok (.iadd, 1) := dk_96 (dk_at dksJ7_signedHashCode_1 4 rfl rfl)
theorem dJ7_signedHashCode_28 : decode cJ7_signedHashCode 28 = .ok (.istore_n 0, 1) := dk_59 (dk_at dksJ7_signedHashCode_1 5 rfl rfl)
theorem dJ7_signedHashCode_29 : decode cJ7_signedHashCode 29 = .ok (.iinc 5 1, 3) := dk_132 5 1 (dk_at dksJ7_signedHashCode_1 6 rfl rfl)
theorem dJ7_signedHashCode_32 : decode cJ7_signedHashCode 32 = .ok (.goto (-24), 3) := dk_167 255 232 (dk_at dksJ7_signedHashCode_1 9 rfl rfl)
theorem dJ7_signedHashCode_35 : decode cJ7_signedHashCode 35 = .ok (.iload_n 0, 1) := dk_26 (dk_at dksJ7_signedHashCode_1 12 rfl rfl)
theorem dJ7_signedHashCode_36 : decode cJ7_signedHashCode 36 = .ok (.ireturn, 1) := dk_172 (dk_at dksJ7_signedHashCode_1 13 rfl rfl)
abbrev cJ7_utf16hashCode : ByteArray := prog_46_method_10_code
def yJ7_utf16hashCode : MethodName := ⟨RJ7, "utf16hashCode", "(I[BII)I"⟩
def dkwJ7_utf16hashCode_1 : List UInt8 := [21, 5, 185, 0, 110, 3, 0, 96, 59, 132, 5, 1, 167, 255, 229, 26, 172]
abbrev dktJ7_utf16hashCode_1 : List UInt8 := dkwJ7_utf16hashCode_1 ++ []
def dkwJ7_utf16hashCode_0 : List UInt8 := [28, 29, 96, 54, 4, 28, 54, 5, 21, 5, 21, 4, 162, 0, 26, 16, 31, 26, 104, 178, 0, 106, 43]
abbrev dktJ7_utf16hashCode_0 : List UInt8 := dkwJ7_utf16hashCode_0 ++ dktJ7_utf16hashCode_1
theorem dksJ7_utf16hashCode_0 : cJ7_utf16hashCode.data.toList.drop 0 = dktJ7_utf16hashCode_0 := by decide +kernel
theorem dksJ7_utf16hashCode_1 : cJ7_utf16hashCode.data.toList.drop 23 = dktJ7_utf16hashCode_1 := dk_seg dksJ7_utf16hashCode_0 23 rfl rfl
theorem dJ7_utf16hashCode_0 : decode cJ7_utf16hashCode 0 = .ok (.iload_n 2, 1) := dk_28 (dk_at dksJ7_utf16hashCode_0 0 rfl rfl)
theorem dJ7_utf16hashCode_1 : decode cJ7_utf16hashCode 1 = .ok (.iload_n 3, 1) := dk_29 (dk_at dksJ7_utf16hashCode_0 1 rfl rfl)
theorem dJ7_utf16hashCode_2 : decode cJ7_utf16hashCode 2 = .ok (.iadd, 1) := dk_96 (dk_at dksJ7_utf16hashCode_0 2 rfl rfl)
theorem dJ7_utf16hashCode_3 : decode cJ7_utf16hashCode 3 = .ok (.istore 4, 2) := dk_54 4 (dk_at dksJ7_utf16hashCode_0 3 rfl rfl)
theorem dJ7_utf16hashCode_5 : decode cJ7_utf16hashCode 5 = .ok (.iload_n 2, 1) := dk_28 (dk_at dksJ7_utf16hashCode_0 5 rfl rfl)
theorem dJ7_utf16hashCode_6 : decode cJ7_utf16hashCode 6 = .ok (.istore 5, 2) := dk_54 5 (dk_at dksJ7_utf16hashCode_0 6 rfl rfl)
theorem dJ7_utf16hashCode_8 : decode cJ7_utf16hashCode 8 = .ok (.iload 5, 2) := dk_21 5 (dk_at dksJ7_utf16hashCode_0 8 rfl rfl)
theorem dJ7_utf16hashCode_10 : decode cJ7_utf16hashCode 10 = .ok (.iload 4, 2) := dk_21 4 (dk_at dksJ7_utf16hashCode_0 10 rfl rfl)
theorem dJ7_utf16hashCode_12 : decode cJ7_utf16hashCode 12 = .ok (.if_icmp .ge 26, 3) := dk_162 0 26 (dk_at dksJ7_utf16hashCode_0 12 rfl rfl)
theorem dJ7_utf16hashCode_15 : decode cJ7_utf16hashCode 15 = .ok (.bipush 31, 2) := dk_16 31 (dk_at dksJ7_utf16hashCode_0 15 rfl rfl)
theorem dJ7_utf16hashCode_17 : decode cJ7_utf16hashCode 17 = .ok (.iload_n 0, 1) := dk_26 (dk_at dksJ7_utf16hashCode_0 17 rfl rfl)
theorem dJ7_utf16hashCode_18 : decode cJ7_utf16hashCode 18 = .ok (.imul, 1) := dk_104 (dk_at dksJ7_utf16hashCode_0 18 rfl rfl)
theorem dJ7_utf16hashCode_19 : decode cJ7_utf16hashCode 19 = .ok (.getstatic 106, 3) := dk_178 0 106 (dk_at dksJ7_utf16hashCode_0 19 rfl rfl)
theorem dJ7_utf16hashCode_22 : decode cJ7_utf16hashCode 22 = .ok (.aload_n 1, 1) := dk_43 (dk_at dksJ7_utf16hashCode_0 22 rfl rfl)
theorem dJ7_utf16hashCode_23 : decode cJ7_utf16hashCode 23 = .ok (.iload 5, 2) := dk_21 5 (dk_at dksJ7_utf16hashCode_1 0 rfl rfl)
theorem dJ7_utf16hashCode_25 : decode cJ7_utf16hashCode 25 = .ok (.invokeinterface 110 3, 5) := by decide +kernel
theorem dJ7_utf16hashCode_30 : decode cJ7_utf16hashCode 30 = .ok (.iadd, 1) := dk_96 (dk_at dksJ7_utf16hashCode_1 7 rfl rfl)
theorem dJ7_utf16hashCode_31 : decode cJ7_utf16hashCode 31 = .ok (.istore_n 0, 1) := dk_59 (dk_at dksJ7_utf16hashCode_1 8 rfl rfl)
theorem dJ7_utf16hashCode_32 : decode cJ7_utf16hashCode 32 = .ok (.iinc 5 1, 3) := dk_132 5 1 (dk_at dksJ7_utf16hashCode_1 9 rfl rfl)
theorem dJ7_utf16hashCode_35 : decode cJ7_utf16hashCode 35 = .ok (.goto (-27), 3) := dk_167 255 229 (dk_at dksJ7_utf16hashCode_1 12 rfl rfl)
theorem dJ7_utf16hashCode_38 : decode cJ7_utf16hashCode 38 = .ok (.iload_n 0, 1) := dk_26 (dk_at dksJ7_utf16hashCode_1 15 rfl rfl)
theorem dJ7_utf16hashCode_39 : decode cJ7_utf16hashCode 39 = .ok (.ireturn, 1) := dk_172 (dk_at dksJ7_utf16hashCode_1 16 rfl rfl)
abbrev cJ7_hashCode : ByteArray := prog_46_method_7_code
def yJ7_hashCode : MethodName := ⟨RJ7, "hashCode", "(I[CII)I"⟩
def dkwJ7_hashCode_1 : List UInt8 := [59, 132, 5, 1, 167, 255, 236, 26, 172]
abbrev dktJ7_hashCode_1 : List UInt8 := dkwJ7_hashCode_1 ++ []
def dkwJ7_hashCode_0 : List UInt8 := [28, 29, 96, 54, 4, 28, 54, 5, 21, 5, 21, 4, 162, 0, 19, 16, 31, 26, 104, 43, 21, 5, 52, 96]
abbrev dktJ7_hashCode_0 : List UInt8 := dkwJ7_hashCode_0 ++ dktJ7_hashCode_1
theorem dksJ7_hashCode_0 : cJ7_hashCode.data.toList.drop 0 = dktJ7_hashCode_0 := by decide +kernel
theorem dksJ7_hashCode_1 : cJ7_hashCode.data.toList.drop 24 = dktJ7_hashCode_1 := dk_seg dksJ7_hashCode_0 24 rfl rfl
theorem dJ7_hashCode_0 : decode cJ7_hashCode 0 = .ok (.iload_n 2, 1) := dk_28 (dk_at dksJ7_hashCode_0 0 rfl rfl)
theorem dJ7_hashCode_1 : decode cJ7_hashCode 1 = .ok (.iload_n 3, 1) := dk_29 (dk_at dksJ7_hashCode_0 1 rfl rfl)
theorem dJ7_hashCode_2 : decode cJ7_hashCode 2 = .ok (.iadd, 1) := dk_96 (dk_at dksJ7_hashCode_0 2 rfl rfl)
theorem dJ7_hashCode_3 : decode cJ7_hashCode 3 = .ok (.istore 4, 2) := dk_54 4 (dk_at dksJ7_hashCode_0 3 rfl rfl)
theorem dJ7_hashCode_5 : decode cJ7_hashCode 5 = .ok (.iload_n 2, 1) := dk_28 (dk_at dksJ7_hashCode_0 5 rfl rfl)
theorem dJ7_hashCode_6 : decode cJ7_hashCode 6 = .ok (.istore 5, 2) := dk_54 5 (dk_at dksJ7_hashCode_0 6 rfl rfl)
theorem dJ7_hashCode_8 : decode cJ7_hashCode 8 = .ok (.iload 5, 2) := dk_21 5 (dk_at dksJ7_hashCode_0 8 rfl rfl)
theorem dJ7_hashCode_10 : decode cJ7_hashCode 10 = .ok (.iload 4, 2) := dk_21 4 (dk_at dksJ7_hashCode_0 10 rfl rfl)
theorem dJ7_hashCode_12 : decode cJ7_hashCode 12 = .ok (.if_icmp .ge 19, 3) := dk_162 0 19 (dk_at dksJ7_hashCode_0 12 rfl rfl)
theorem dJ7_hashCode_15 : decode cJ7_hashCode 15 = .ok (.bipush 31, 2) := dk_16 31 (dk_at dksJ7_hashCode_0 15 rfl rfl)
theorem dJ7_hashCode_17 : decode cJ7_hashCode 17 = .ok (.iload_n 0, 1) := dk_26 (dk_at dksJ7_hashCode_0 17 rfl rfl)
theorem dJ7_hashCode_18 : decode cJ7_hashCode 18 = .ok (.imul, 1) := dk_104 (dk_at dksJ7_hashCode_0 18 rfl rfl)
theorem dJ7_hashCode_19 : decode cJ7_hashCode 19 = .ok (.aload_n 1, 1) := dk_43 (dk_at dksJ7_hashCode_0 19 rfl rfl)
theorem dJ7_hashCode_20 : decode cJ7_hashCode 20 = .ok (.iload 5, 2) := dk_21 5 (dk_at dksJ7_hashCode_0 20 rfl rfl)
theorem dJ7_hashCode_22 : decode cJ7_hashCode 22 = .ok (.caload, 1) := dk_52 (dk_at dksJ7_hashCode_0 22 rfl rfl)
theorem dJ7_hashCode_23 : decode cJ7_hashCode 23 = .ok (.iadd, 1) := dk_96 (dk_at dksJ7_hashCode_0 23 rfl rfl)
theorem dJ7_hashCode_24 : decode cJ7_hashCode 24 = .ok (.istore_n 0, 1) := dk_59 (dk_at dksJ7_hashCode_1 0 rfl rfl)
theorem dJ7_hashCode_25 : decode cJ7_hashCode 25 = .ok (.iinc 5 1, 3) := dk_132 5 1 (dk_at dksJ7_hashCode_1 1 rfl rfl)
theorem dJ7_hashCode_28 : decode cJ7_hashCode 28 = .ok (.goto (-20), 3) := dk_167 255 236 (dk_at dksJ7_hashCode_1 4 rfl rfl)
theorem dJ7_hashCode_31 : decode cJ7_hashCode 31 = .ok (.iload_n 0, 1) := dk_26 (dk_at dksJ7_hashCode_1 7 rfl rfl)
theorem dJ7_hashCode_32 : decode cJ7_hashCode 32 = .ok (.ireturn, 1) := dk_172 (dk_at dksJ7_hashCode_1 8 rfl rfl)
abbrev cJ7_hashCode_2 : ByteArray := prog_46_method_6_code
def yJ7_hashCode_2 : MethodName := ⟨RJ7, "hashCode", "(I[BII)I"⟩
def dkwJ7_hashCode_2_1 : List UInt8 := [59, 132, 5, 1, 167, 255, 236, 26, 172]
abbrev dktJ7_hashCode_2_1 : List UInt8 := dkwJ7_hashCode_2_1 ++ []
def dkwJ7_hashCode_2_0 : List UInt8 := [28, 29, 96, 54, 4, 28, 54, 5, 21, 5, 21, 4, 162, 0, 19, 16, 31, 26, 104, 43, 21, 5, 51, 96]
abbrev dktJ7_hashCode_2_0 : List UInt8 := dkwJ7_hashCode_2_0 ++ dktJ7_hashCode_2_1
theorem dksJ7_hashCode_2_0 : cJ7_hashCode_2.data.toList.drop 0 = dktJ7_hashCode_2_0 := by decide +kernel
theorem dksJ7_hashCode_2_1 : cJ7_hashCode_2.data.toList.drop 24 = dktJ7_hashCode_2_1 := dk_seg dksJ7_hashCode_2_0 24 rfl rfl
theorem dJ7_hashCode_2_0 : decode cJ7_hashCode_2 0 = .ok (.iload_n 2, 1) := dk_28 (dk_at dksJ7_hashCode_2_0 0 rfl rfl)
theorem dJ7_hashCode_2_1 : decode cJ7_hashCode_2 1 = .ok (.iload_n 3, 1) := dk_29 (dk_at dksJ7_hashCode_2_0 1 rfl rfl)
theorem dJ7_hashCode_2_2 : decode cJ7_hashCode_2 2 = .ok (.iadd, 1) := dk_96 (dk_at dksJ7_hashCode_2_0 2 rfl rfl)
theorem dJ7_hashCode_2_3 : decode cJ7_hashCode_2 3 = .ok (.istore 4, 2) := dk_54 4 (dk_at dksJ7_hashCode_2_0 3 rfl rfl)
theorem dJ7_hashCode_2_5 : decode cJ7_hashCode_2 5 = .ok (.iload_n 2, 1) := dk_28 (dk_at dksJ7_hashCode_2_0 5 rfl rfl)
theorem dJ7_hashCode_2_6 : decode cJ7_hashCode_2 6 = .ok (.istore 5, 2) := dk_54 5 (dk_at dksJ7_hashCode_2_0 6 rfl rfl)
theorem dJ7_hashCode_2_8 : decode cJ7_hashCode_2 8 = .ok (.iload 5, 2) := dk_21 5 (dk_at dksJ7_hashCode_2_0 8 rfl rfl)
theorem dJ7_hashCode_2_10 : decode cJ7_hashCode_2 10 = .ok (.iload 4, 2) := dk_21 4 (dk_at dksJ7_hashCode_2_0 10 rfl rfl)
theorem dJ7_hashCode_2_12 : decode cJ7_hashCode_2 12 = .ok (.if_icmp .ge 19, 3) := dk_162 0 19 (dk_at dksJ7_hashCode_2_0 12 rfl rfl)
theorem dJ7_hashCode_2_15 : decode cJ7_hashCode_2 15 = .ok (.bipush 31, 2) := dk_16 31 (dk_at dksJ7_hashCode_2_0 15 rfl rfl)
theorem dJ7_hashCode_2_17 : decode cJ7_hashCode_2 17 = .ok (.iload_n 0, 1) := dk_26 (dk_at dksJ7_hashCode_2_0 17 rfl rfl)
theorem dJ7_hashCode_2_18 : decode cJ7_hashCode_2 18 = .ok (.imul, 1) := dk_104 (dk_at dksJ7_hashCode_2_0 18 rfl rfl)
theorem dJ7_hashCode_2_19 : decode cJ7_hashCode_2 19 = .ok (.aload_n 1, 1) := dk_43 (dk_at dksJ7_hashCode_2_0 19 rfl rfl)
theorem dJ7_hashCode_2_20 : decode cJ7_hashCode_2 20 = .ok (.iload 5, 2) := dk_21 5 (dk_at dksJ7_hashCode_2_0 20 rfl rfl)
theorem dJ7_hashCode_2_22 : decode cJ7_hashCode_2 22 = .ok (.baload, 1) := dk_51 (dk_at dksJ7_hashCode_2_0 22 rfl rfl)
theorem dJ7_hashCode_2_23 : decode cJ7_hashCode_2 23 = .ok (.iadd, 1) := dk_96 (dk_at dksJ7_hashCode_2_0 23 rfl rfl)
theorem dJ7_hashCode_2_24 : decode cJ7_hashCode_2 24 = .ok (.istore_n 0, 1) := dk_59 (dk_at dksJ7_hashCode_2_1 0 rfl rfl)
theorem dJ7_hashCode_2_25 : decode cJ7_hashCode_2 25 = .ok (.iinc 5 1, 3) := dk_132 5 1 (dk_at dksJ7_hashCode_2_1 1 rfl rfl)
theorem dJ7_hashCode_2_28 : decode cJ7_hashCode_2 28 = .ok (.goto (-20), 3) := dk_167 255 236 (dk_at dksJ7_hashCode_2_1 4 rfl rfl)
theorem dJ7_hashCode_2_31 : decode cJ7_hashCode_2 31 = .ok (.iload_n 0, 1) := dk_26 (dk_at dksJ7_hashCode_2_1 7 rfl rfl)
theorem dJ7_hashCode_2_32 : decode cJ7_hashCode_2 32 = .ok (.ireturn, 1) := dk_172 (dk_at dksJ7_hashCode_2_1 8 rfl rfl)
abbrev cJ7_hashCode_3 : ByteArray := prog_46_method_8_code
def yJ7_hashCode_3 : MethodName := ⟨RJ7, "hashCode", "(I[SII)I"⟩
def dkwJ7_hashCode_3_1 : List UInt8 := [59, 132, 5, 1, 167, 255, 236, 26, 172]
abbrev dktJ7_hashCode_3_1 : List UInt8 := dkwJ7_hashCode_3_1 ++ []
def dkwJ7_hashCode_3_0 : List UInt8 := [28, 29, 96, 54, 4, 28, 54, 5, 21, 5, 21, 4, 162, 0, 19, 16, 31, 26, 104, 43, 21, 5, 53, 96]
abbrev dktJ7_hashCode_3_0 : List UInt8 := dkwJ7_hashCode_3_0 ++ dktJ7_hashCode_3_1
theorem dksJ7_hashCode_3_0 : cJ7_hashCode_3.data.toList.drop 0 = dktJ7_hashCode_3_0 := by decide +kernel
theorem dksJ7_hashCode_3_1 : cJ7_hashCode_3.data.toList.drop 24 = dktJ7_hashCode_3_1 := dk_seg dksJ7_hashCode_3_0 24 rfl rfl
theorem dJ7_hashCode_3_0 : decode cJ7_hashCode_3 0 = .ok (.iload_n 2, 1) := dk_28 (dk_at dksJ7_hashCode_3_0 0 rfl rfl)
theorem dJ7_hashCode_3_1 : decode cJ7_hashCode_3 1 = .ok (.iload_n 3, 1) := dk_29 (dk_at dksJ7_hashCode_3_0 1 rfl rfl)
theorem dJ7_hashCode_3_2 : decode cJ7_hashCode_3 2 = .ok (.iadd, 1) := dk_96 (dk_at dksJ7_hashCode_3_0 2 rfl rfl)
theorem dJ7_hashCode_3_3 : decode cJ7_hashCode_3 3 = .ok (.istore 4, 2) := dk_54 4 (dk_at dksJ7_hashCode_3_0 3 rfl rfl)
theorem dJ7_hashCode_3_5 : decode cJ7_hashCode_3 5 = .ok (.iload_n 2, 1) := dk_28 (dk_at dksJ7_hashCode_3_0 5 rfl rfl)
theorem dJ7_hashCode_3_6 : decode cJ7_hashCode_3 6 = .ok (.istore 5, 2) := dk_54 5 (dk_at dksJ7_hashCode_3_0 6 rfl rfl)
theorem dJ7_hashCode_3_8 : decode cJ7_hashCode_3 8 = .ok (.iload 5, 2) := dk_21 5 (dk_at dksJ7_hashCode_3_0 8 rfl rfl)
theorem dJ7_hashCode_3_10 : decode cJ7_hashCode_3 10 = .ok (.iload 4, 2) := dk_21 4 (dk_at dksJ7_hashCode_3_0 10 rfl rfl)
theorem dJ7_hashCode_3_12 : decode cJ7_hashCode_3 12 = .ok (.if_icmp .ge 19, 3) := dk_162 0 19 (dk_at dksJ7_hashCode_3_0 12 rfl rfl)
theorem dJ7_hashCode_3_15 : decode cJ7_hashCode_3 15 = .ok (.bipush 31, 2) := dk_16 31 (dk_at dksJ7_hashCode_3_0 15 rfl rfl)
theorem dJ7_hashCode_3_17 : decode cJ7_hashCode_3 17 = .ok (.iload_n 0, 1) := dk_26 (dk_at dksJ7_hashCode_3_0 17 rfl rfl)
theorem dJ7_hashCode_3_18 : decode cJ7_hashCode_3 18 = .ok (.imul, 1) := dk_104 (dk_at dksJ7_hashCode_3_0 18 rfl rfl)
theorem dJ7_hashCode_3_19 : decode cJ7_hashCode_3 19 = .ok (.aload_n 1, 1) := dk_43 (dk_at dksJ7_hashCode_3_0 19 rfl rfl)
theorem dJ7_hashCode_3_20 : decode cJ7_hashCode_3 20 = .ok (.iload 5, 2) := dk_21 5 (dk_at dksJ7_hashCode_3_0 20 rfl rfl)
theorem dJ7_hashCode_3_22 : decode cJ7_hashCode_3 22 = .ok (.saload, 1) := dk_53 (dk_at dksJ7_hashCode_3_0 22 rfl rfl)
theorem dJ7_hashCode_3_23 : decode cJ7_hashCode_3 23 = .ok (.iadd, 1) := dk_96 (dk_at dksJ7_hashCode_3_0 23 rfl rfl)
theorem dJ7_hashCode_3_24 : decode cJ7_hashCode_3 24 = .ok (.istore_n 0, 1) := dk_59 (dk_at dksJ7_hashCode_3_1 0 rfl rfl)
theorem dJ7_hashCode_3_25 : decode cJ7_hashCode_3 25 = .ok (.iinc 5 1, 3) := dk_132 5 1 (dk_at dksJ7_hashCode_3_1 1 rfl rfl)
theorem dJ7_hashCode_3_28 : decode cJ7_hashCode_3 28 = .ok (.goto (-20), 3) := dk_167 255 236 (dk_at dksJ7_hashCode_3_1 4 rfl rfl)
theorem dJ7_hashCode_3_31 : decode cJ7_hashCode_3 31 = .ok (.iload_n 0, 1) := dk_26 (dk_at dksJ7_hashCode_3_1 7 rfl rfl)
theorem dJ7_hashCode_3_32 : decode cJ7_hashCode_3 32 = .ok (.ireturn, 1) := dk_172 (dk_at dksJ7_hashCode_3_1 8 rfl rfl)
abbrev cJ7_hashCode_4 : ByteArray := prog_46_method_9_code
def yJ7_hashCode_4 : MethodName := ⟨RJ7, "hashCode", "(I[III)I"⟩
def dkwJ7_hashCode_4_1 : List UInt8 := [59, 132, 5, 1, 167, 255, 236, 26, 172]
abbrev dktJ7_hashCode_4_1 : List UInt8 := dkwJ7_hashCode_4_1 ++ []
def dkwJ7_hashCode_4_0 : List UInt8 := [28, 29, 96, 54, 4, 28, 54, 5, 21, 5, 21, 4, 162, 0, 19, 16, 31, 26, 104, 43, 21, 5, 46, 96]
abbrev dktJ7_hashCode_4_0 : List UInt8 := dkwJ7_hashCode_4_0 ++ dktJ7_hashCode_4_1
theorem dksJ7_hashCode_4_0 : cJ7_hashCode_4.data.toList.drop 0 = dktJ7_hashCode_4_0 := by decide +kernel
theorem dksJ7_hashCode_4_1 : cJ7_hashCode_4.data.toList.drop 24 = dktJ7_hashCode_4_1 := dk_seg dksJ7_hashCode_4_0 24 rfl rfl
theorem dJ7_hashCode_4_0 : decode cJ7_hashCode_4 0 = .ok (.iload_n 2, 1) := dk_28 (dk_at dksJ7_hashCode_4_0 0 rfl rfl)
theorem dJ7_hashCode_4_1 : decode cJ7_hashCode_4 1 = .ok (.iload_n 3, 1) := dk_29 (dk_at dksJ7_hashCode_4_0 1 rfl rfl)
theorem dJ7_hashCode_4_2 : decode cJ7_hashCode_4 2 = .ok (.iadd, 1) := dk_96 (dk_at dksJ7_hashCode_4_0 2 rfl rfl)
theorem dJ7_hashCode_4_3 : decode cJ7_hashCode_4 3 = .ok (.istore 4, 2) := dk_54 4 (dk_at dksJ7_hashCode_4_0 3 rfl rfl)
theorem dJ7_hashCode_4_5 : decode cJ7_hashCode_4 5 = .ok (.iload_n 2, 1) := dk_28 (dk_at dksJ7_hashCode_4_0 5 rfl rfl)
theorem dJ7_hashCode_4_6 : decode cJ7_hashCode_4 6 = .ok (.istore 5, 2) := dk_54 5 (dk_at dksJ7_hashCode_4_0 6 rfl rfl)
theorem dJ7_hashCode_4_8 : decode cJ7_hashCode_4 8 = .ok (.iload 5, 2) := dk_21 5 (dk_at dksJ7_hashCode_4_0 8 rfl rfl)
theorem dJ7_hashCode_4_10 : decode cJ7_hashCode_4 10 = .ok (.iload 4, 2) := dk_21 4 (dk_at dksJ7_hashCode_4_0 10 rfl rfl)
theorem dJ7_hashCode_4_12 : decode cJ7_hashCode_4 12 = .ok (.if_icmp .ge 19, 3) := dk_162 0 19 (dk_at dksJ7_hashCode_4_0 12 rfl rfl)
theorem dJ7_hashCode_4_15 : decode cJ7_hashCode_4 15 = .ok (.bipush 31, 2) := dk_16 31 (dk_at dksJ7_hashCode_4_0 15 rfl rfl)
theorem dJ7_hashCode_4_17 : decode cJ7_hashCode_4 17 = .ok (.iload_n 0, 1) := dk_26 (dk_at dksJ7_hashCode_4_0 17 rfl rfl)
theorem dJ7_hashCode_4_18 : decode cJ7_hashCode_4 18 = .ok (.imul, 1) := dk_104 (dk_at dksJ7_hashCode_4_0 18 rfl rfl)
theorem dJ7_hashCode_4_19 : decode cJ7_hashCode_4 19 = .ok (.aload_n 1, 1) := dk_43 (dk_at dksJ7_hashCode_4_0 19 rfl rfl)
theorem dJ7_hashCode_4_20 : decode cJ7_hashCode_4 20 = .ok (.iload 5, 2) := dk_21 5 (dk_at dksJ7_hashCode_4_0 20 rfl rfl)
theorem dJ7_hashCode_4_22 : decode cJ7_hashCode_4 22 = .ok (.iaload, 1) := dk_46 (dk_at dksJ7_hashCode_4_0 22 rfl rfl)
theorem dJ7_hashCode_4_23 : decode cJ7_hashCode_4 23 = .ok (.iadd, 1) := dk_96 (dk_at dksJ7_hashCode_4_0 23 rfl rfl)
theorem dJ7_hashCode_4_24 : decode cJ7_hashCode_4 24 = .ok (.istore_n 0, 1) := dk_59 (dk_at dksJ7_hashCode_4_1 0 rfl rfl)
theorem dJ7_hashCode_4_25 : decode cJ7_hashCode_4 25 = .ok (.iinc 5 1, 3) := dk_132 5 1 (dk_at dksJ7_hashCode_4_1 1 rfl rfl)
theorem dJ7_hashCode_4_28 : decode cJ7_hashCode_4 28 = .ok (.goto (-20), 3) := dk_167 255 236 (dk_at dksJ7_hashCode_4_1 4 rfl rfl)
theorem dJ7_hashCode_4_31 : decode cJ7_hashCode_4 31 = .ok (.iload_n 0, 1) := dk_26 (dk_at dksJ7_hashCode_4_1 7 rfl rfl)
theorem dJ7_hashCode_4_32 : decode cJ7_hashCode_4 32 = .ok (.ireturn, 1) := dk_172 (dk_at dksJ7_hashCode_4_1 8 rfl rfl)
theorem q137 : (Jvm.Cond.initialized "jdk/internal/util/ArraysSupport") ∈ lw_all := lw_g (lw_at lw_m1 14 rfl) rfl
theorem q436 : (Jvm.Cond.static ({ cls := "jdk/internal/util/ArraysSupport", name := "newLength", desc := "(III)I" } : Jvm.MethodName)) ∈ lw_all := lw_g (lw_at lw_m2 73 rfl) rfl
theorem q437 : (Jvm.Cond.code ({ cls := "jdk/internal/util/ArraysSupport", name := "newLength", desc := "(III)I" } : Jvm.MethodName) prog_46_method_27_code (4 : Nat) (Option.some Jvm.ClassFile.FieldType.int)) ∈ lw_all := lw_g (lw_at lw_m2 74 rfl) rfl
theorem q438 : (Jvm.Cond.methodLink "jdk/internal/util/ArraysSupport" (194 : Nat) ({ cls := "java/lang/Math", name := "max", desc := "(II)I" } : Jvm.MethodName)) ∈ lw_all := lw_g (lw_at lw_m2 75 rfl) rfl
theorem q441 : (Jvm.Cond.constant "jdk/internal/util/ArraysSupport" (200 : Nat) (2147483639 : Int32)) ∈ lw_all := lw_g (lw_at lw_m2 78 rfl) rfl
theorem q442 : (Jvm.Cond.methodLink "jdk/internal/util/ArraysSupport" (201 : Nat) ({ cls := "jdk/internal/util/ArraysSupport", name := "hugeLength", desc := "(II)I" } : Jvm.MethodName)) ∈ lw_all := lw_g (lw_at lw_m2 79 rfl) rfl
theorem q443 : (Jvm.Cond.static ({ cls := "jdk/internal/util/ArraysSupport", name := "hugeLength", desc := "(II)I" } : Jvm.MethodName)) ∈ lw_all := lw_g (lw_at lw_m2 80 rfl) rfl
theorem q444 : (Jvm.Cond.code ({ cls := "jdk/internal/util/ArraysSupport", name := "hugeLength", desc := "(II)I" } : Jvm.MethodName) prog_46_method_28_code (3 : Nat) (Option.some Jvm.ClassFile.FieldType.int)) ∈ lw_all := lw_g (lw_at lw_m2 81 rfl) rfl
theorem q617 : (Jvm.Cond.static ({ cls := "jdk/internal/util/ArraysSupport", name := "vectorizedHashCode", desc := "(Ljava/lang/Object;IIII)I" } : Jvm.MethodName)) ∈ lw_all := lw_g (lw_at lw_m3 14 rfl) rfl
theorem q618 : (Jvm.Cond.code ({ cls := "jdk/internal/util/ArraysSupport", name := "vectorizedHashCode", desc := "(Ljava/lang/Object;IIII)I" } : Jvm.MethodName) prog_46_method_4_code (5 : Nat) (Option.some Jvm.ClassFile.FieldType.int)) ∈ lw_all := lw_g (lw_at lw_m3 15 rfl) rfl
theorem q619 : (Jvm.Cond.classLink "jdk/internal/util/ArraysSupport" (60 : Nat) "[B") ∈ lw_all := lw_g (lw_at lw_m3 16 rfl) rfl
theorem q620 : (Jvm.Cond.methodLink "jdk/internal/util/ArraysSupport" (62 : Nat) ({ cls := "jdk/internal/util/ArraysSupport", name := "signedHashCode", desc := "(I[BII)I" } : Jvm.MethodName)) ∈ lw_all := lw_g (lw_at lw_m3 17 rfl) rfl
theorem q621 : (Jvm.Cond.static ({ cls := "jdk/internal/util/ArraysSupport", name := "signedHashCode", desc := "(I[BII)I" } : Jvm.MethodName)) ∈ lw_all := lw_g (lw_at lw_m3 18 rfl) rfl
theorem q622 : (Jvm.Cond.code ({ cls := "jdk/internal/util/ArraysSupport", name := "signedHashCode", desc := "(I[BII)I" } : Jvm.MethodName) prog_46_method_5_code (6 : Nat) (Option.some Jvm.ClassFile.FieldType.int)) ∈ lw_all := lw_g (lw_at lw_m3 19 rfl) rfl
theorem q623 : (Jvm.Cond.methodLink "jdk/internal/util/ArraysSupport" (66 : Nat) ({ cls := "jdk/internal/util/ArraysSupport", name := "utf16hashCode", desc := "(I[BII)I" } : Jvm.MethodName)) ∈ lw_all := lw_g (lw_at lw_m3 20 rfl) rfl
theorem q624 : (Jvm.Cond.static ({ cls := "jdk/internal/util/ArraysSupport", name := "utf16hashCode", desc := "(I[BII)I" } : Jvm.MethodName)) ∈ lw_all := lw_g (lw_at lw_m3 21 rfl) rfl
theorem q625 : (Jvm.Cond.code ({ cls := "jdk/internal/util/ArraysSupport", name := "utf16hashCode", desc := "(I[BII)I" } : Jvm.MethodName) prog_46_method_10_code (6 : Nat) (Option.some Jvm.ClassFile.FieldType.int)) ∈ lw_all := lw_g (lw_at lw_m3 22 rfl) rfl
theorem q626 : (Jvm.Cond.fieldLink "jdk/internal/util/ArraysSupport" (106 : Nat) "jdk/internal/util/ArraysSupport" "JLA" "Ljdk/internal/access/JavaLangAccess;") ∈ lw_all := lw_g (lw_at lw_m3 23 rfl) rfl
theorem q627 : (Jvm.Cond.laysStatic "jdk/internal/util/ArraysSupport" "JLA" "Ljdk/internal/access/JavaLangAccess;") ∈ lw_tbl := lw_at lw_m3 24 rfl
theorem q628 : (Jvm.Cond.interfaceEntry "jdk/internal/util/ArraysSupport" (110 : Nat)) ∈ lw_tbl := lw_at lw_m3 25 rfl
theorem q629 : (Jvm.Cond.methodLink "jdk/internal/util/ArraysSupport" (110 : Nat) ({ cls := "jdk/internal/access/JavaLangAccess", name := "getUTF16Char", desc := "([BI)C" } : Jvm.MethodName)) ∈ lw_all := lw_g (lw_at lw_m3 26 rfl) rfl
theorem q639 : (Jvm.Cond.classLink "jdk/internal/util/ArraysSupport" (69 : Nat) "[C") ∈ lw_all := lw_g (lw_at lw_m3 36 rfl) rfl
theorem q640 : (Jvm.Cond.methodLink "jdk/internal/util/ArraysSupport" (71 : Nat) ({ cls := "jdk/internal/util/ArraysSupport", name := "hashCode", desc := "(I[CII)I" } : Jvm.MethodName)) ∈ lw_all := lw_g (lw_at lw_m3 37 rfl) rfl
theorem q641 : (Jvm.Cond.static ({ cls := "jdk/internal/util/ArraysSupport", name := "hashCode", desc := "(I[CII)I" } : Jvm.MethodName)) ∈ lw_all := lw_g (lw_at lw_m3 38 rfl) rfl
theorem q642 : (Jvm.Cond.code ({ cls := "jdk/internal/util/ArraysSupport", name := "hashCode", desc := "(I[CII)I" } : Jvm.MethodName) prog_46_method_7_code (6 : Nat) (Option.some Jvm.ClassFile.FieldType.int)) ∈ lw_all := lw_g (lw_at lw_m3 39 rfl) rfl
theorem q643 : (Jvm.Cond.methodLink "jdk/internal/util/ArraysSupport" (75 : Nat) ({ cls := "jdk/internal/util/ArraysSupport", name := "hashCode", desc := "(I[BII)I" } : Jvm.MethodName)) ∈ lw_all := lw_g (lw_at lw_m3 40 rfl) rfl
theorem q644 : (Jvm.Cond.static ({ cls := "jdk/internal/util/ArraysSupport", name := "hashCode", desc := "(I[BII)I" } : Jvm.MethodName)) ∈ lw_all := lw_g (lw_at lw_m3 41 rfl) rfl
theorem q645 : (Jvm.Cond.code ({ cls := "jdk/internal/util/ArraysSupport", name := "hashCode", desc := "(I[BII)I" } : Jvm.MethodName) prog_46_method_6_code (6 : Nat) (Option.some Jvm.ClassFile.FieldType.int)) ∈ lw_all := lw_g (lw_at lw_m3 42 rfl) rfl
theorem q646 : (Jvm.Cond.classLink "jdk/internal/util/ArraysSupport" (77 : Nat) "[S") ∈ lw_all := lw_g (lw_at lw_m3 43 rfl) rfl
theorem q647 : (Jvm.Cond.methodLink "jdk/internal/util/ArraysSupport" (79 : Nat) ({ cls := "jdk/internal/util/ArraysSupport", name := "hashCode", desc := "(I[SII)I" } : Jvm.MethodName)) ∈ lw_all := lw_g (lw_at lw_m3 44 rfl) rfl
theorem q648 : (Jvm.Cond.static ({ cls := "jdk/internal/util/ArraysSupport", name := "hashCode", desc := "(I[SII)I" } : Jvm.MethodName)) ∈ lw_all := lw_g (lw_at lw_m3 45 rfl) rfl
theorem q649 : (Jvm.Cond.code ({ cls := "jdk/internal/util/ArraysSupport", name := "hashCode", desc := "(I[SII)I" } : Jvm.MethodName) prog_46_method_8_code (6 : Nat) (Option.some Jvm.ClassFile.FieldType.int)) ∈ lw_all := lw_g (lw_at lw_m3 46 rfl) rfl
theorem q650 : (Jvm.Cond.classLink "jdk/internal/util/ArraysSupport" (82 : Nat) "[I") ∈ lw_all := lw_g (lw_at lw_m3 47 rfl) rfl
theorem q651 : (Jvm.Cond.methodLink "jdk/internal/util/ArraysSupport" (84 : Nat) ({ cls := "jdk/internal/util/ArraysSupport", name := "hashCode", desc := "(I[III)I" } : Jvm.MethodName)) ∈ lw_all := lw_g (lw_at lw_m3 48 rfl) rfl
theorem q652 : (Jvm.Cond.static ({ cls := "jdk/internal/util/ArraysSupport", name := "hashCode", desc := "(I[III)I" } : Jvm.MethodName)) ∈ lw_all := lw_g (lw_at lw_m3 49 rfl) rfl
theorem q653 : (Jvm.Cond.code ({ cls := "jdk/internal/util/ArraysSupport", name := "hashCode", desc := "(I[III)I" } : Jvm.MethodName) prog_46_method_9_code (6 : Nat) (Option.some Jvm.ClassFile.FieldType.int)) ∈ lw_all := lw_g (lw_at lw_m3 50 rfl) rfl
/-! java/lang/Math -/
set_option maxRecDepth 100000
def RJ8 : String := "java/lang/Math"
abbrev cJ8_max : ByteArray := prog_24_method_65_code
def yJ8_max : MethodName := ⟨RJ8, "max", "(II)I"⟩
def dkwJ8_max_0 : List UInt8 := [26, 27, 161, 0, 7, 26, 167, 0, 4, 27, 172]
abbrev dktJ8_max_0 : List UInt8 := dkwJ8_max_0 ++ []
theorem dksJ8_max_0 : cJ8_max.data.toList.drop 0 = dktJ8_max_0 := by decide +kernel
theorem dJ8_max_0 : decode cJ8_max 0 = .ok (.iload_n 0, 1) := dk_26 (dk_at dksJ8_max_0 0 rfl rfl)
theorem dJ8_max_1 : decode cJ8_max 1 = .ok (.iload_n 1, 1) := dk_27 (dk_at dksJ8_max_0 1 rfl rfl)
theorem dJ8_max_2 : decode cJ8_max 2 = .ok (.if_icmp .lt 7, 3) := dk_161 0 7 (dk_at dksJ8_max_0 2 rfl rfl)
theorem dJ8_max_5 : decode cJ8_max 5 = .ok (.iload_n 0, 1) := dk_26 (dk_at dksJ8_max_0 5 rfl rfl)
theorem dJ8_max_6 : decode cJ8_max 6 = .ok (.goto 4, 3) := dk_167 0 4 (dk_at dksJ8_max_0 6 rfl rfl)
theorem dJ8_max_9 : decode cJ8_max 9 = .ok (.iload_n 1, 1) := dk_27 (dk_at dksJ8_max_0 9 rfl rfl)
theorem dJ8_max_10 : decode cJ8_max 10 = .ok (.ireturn, 1) := dk_172 (dk_at dksJ8_max_0 10 rfl rfl)
abbrev cJ8_min : ByteArray := prog_24_method_69_code
def yJ8_min : MethodName := ⟨RJ8, "min", "(II)I"⟩
def dkwJ8_min_0 : List UInt8 := [26, 27, 163, 0, 7, 26, 167, 0, 4, 27, 172]
abbrev dktJ8_min_0 : List UInt8 := dkwJ8_min_0 ++ []
theorem dksJ8_min_0 : cJ8_min.data.toList.drop 0 = dktJ8_min_0 := by decide +kernel
theorem dJ8_min_0 : decode cJ8_min 0 = .ok (.iload_n 0, 1) := dk_26 (dk_at dksJ8_min_0 0 rfl rfl)
theorem dJ8_min_1 : decode cJ8_min 1 = .ok (.iload_n 1, 1) := dk_27 (dk_at dksJ8_min_0 1 rfl rfl)
theorem dJ8_min_2 : decode cJ8_min 2 = .ok (.if_icmp .gt 7, 3) := dk_163 0 7 (dk_at dksJ8_min_0 2 rfl rfl)
theorem dJ8_min_5 : decode cJ8_min 5 = .ok (.iload_n 0, 1) := dk_26 (dk_at dksJ8_min_0 5 rfl rfl)
theorem dJ8_min_6 : decode cJ8_min 6 = .ok (.goto 4, 3) := dk_167 0 4 (dk_at dksJ8_min_0 6 rfl rfl)
theorem dJ8_min_9 : decode cJ8_min 9 = .ok (.iload_n 1, 1) := dk_27 (dk_at dksJ8_min_0 9 rfl rfl)
theorem dJ8_min_10 : decode cJ8_min 10 = .ok (.ireturn, 1) := dk_172 (dk_at dksJ8_min_0 10 rfl rfl)
theorem q138 : (Jvm.Cond.initialized "java/lang/Math") ∈ lw_all := lw_g (lw_at lw_m1 15 rfl) rfl
theorem q439 : (Jvm.Cond.static ({ cls := "java/lang/Math", name := "max", desc := "(II)I" } : Jvm.MethodName)) ∈ lw_all := lw_g (lw_at lw_m2 76 rfl) rfl
theorem q440 : (Jvm.Cond.code ({ cls := "java/lang/Math", name := "max", desc := "(II)I" } : Jvm.MethodName) prog_24_method_65_code (2 : Nat) (Option.some Jvm.ClassFile.FieldType.int)) ∈ lw_all := lw_g (lw_at lw_m2 77 rfl) rfl
theorem q457 : (Jvm.Cond.static ({ cls := "java/lang/Math", name := "min", desc := "(II)I" } : Jvm.MethodName)) ∈ lw_all := lw_g (lw_at lw_m2 94 rfl) rfl
theorem q458 : (Jvm.Cond.code ({ cls := "java/lang/Math", name := "min", desc := "(II)I" } : Jvm.MethodName) prog_24_method_69_code (2 : Nat) (Option.some Jvm.ClassFile.FieldType.int)) ∈ lw_all := lw_g (lw_at lw_m2 95 rfl) rfl
/-! java/util/Arrays -/
set_option maxRecDepth 100000
def RJ9 : String := "java/util/Arrays"
abbrev cJ9_copyOf : ByteArray := prog_38_method_121_code
def yJ9_copyOf : MethodName := ⟨RJ9, "copyOf", "([BI)[B"⟩
def dkwJ9_copyOf_1 : List UInt8 := [27, 184, 1, 48, 184, 0, 150, 44, 176]
abbrev dktJ9_copyOf_1 : List UInt8 := dkwJ9_copyOf_1 ++ []
def dkwJ9_copyOf_0 : List UInt8 := [27, 42, 190, 160, 0, 11, 42, 182, 1, 54, 192, 1, 55, 176, 27, 188, 8, 77, 42, 3, 44, 3, 42, 190]
abbrev dktJ9_copyOf_0 : List UInt8 := dkwJ9_copyOf_0 ++ dktJ9_copyOf_1
theorem dksJ9_copyOf_0 : cJ9_copyOf.data.toList.drop 0 = dktJ9_copyOf_0 := by decide +kernel
theorem dksJ9_copyOf_1 : cJ9_copyOf.data.toList.drop 24 = dktJ9_copyOf_1 := dk_seg dksJ9_copyOf_0 24 rfl rfl
theorem dJ9_copyOf_0 : decode cJ9_copyOf 0 = .ok (.iload_n 1, 1) := dk_27 (dk_at dksJ9_copyOf_0 0 rfl rfl)
theorem dJ9_copyOf_1 : decode cJ9_copyOf 1 = .ok (.aload_n 0, 1) := dk_42 (dk_at dksJ9_copyOf_0 1 rfl rfl)
theorem dJ9_copyOf_2 : decode cJ9_copyOf 2 = .ok (.arraylength, 1) := dk_190 (dk_at dksJ9_copyOf_0 2 rfl rfl)
theorem dJ9_copyOf_3 : decode cJ9_copyOf 3 = .ok (.if_icmp .ne 11, 3) := dk_160 0 11 (dk_at dksJ9_copyOf_0 3 rfl rfl)
theorem dJ9_copyOf_6 : decode cJ9_copyOf 6 = .ok (.aload_n 0, 1) := dk_42 (dk_at dksJ9_copyOf_0 6 rfl rfl)
theorem dJ9_copyOf_7 : decode cJ9_copyOf 7 = .ok (.invokevirtual 310, 3) := dk_182 1 54 (dk_at dksJ9_copyOf_0 7 rfl rfl)
theorem dJ9_copyOf_10 : decode cJ9_copyOf 10 = .ok (.checkcast 311, 3) := dk_192 1 55 (dk_at dksJ9_copyOf_0 10 rfl rfl)
theorem dJ9_copyOf_13 : decode cJ9_copyOf 13 = .ok (.areturn, 1) := dk_176 (dk_at dksJ9_copyOf_0 13 rfl rfl)
theorem dJ9_copyOf_14 : decode cJ9_copyOf 14 = .ok (.iload_n 1, 1) := dk_27 (dk_at dksJ9_copyOf_0 14 rfl rfl)
theorem dJ9_copyOf_15 : decode cJ9_copyOf 15 = .ok (.newarray .byte, 2) := dk_188_8 (dk_at dksJ9_copyOf_0 15 rfl rfl)
theorem dJ9_copyOf_17 : decode cJ9_copyOf 17 = .ok (.astore_n 2, 1) := dk_77 (dk_at dksJ9_copyOf_0 17 rfl rfl)
theorem dJ9_copyOf_18 : decode cJ9_copyOf 18 = .ok (.aload_n 0, 1) := dk_42 (dk_at dksJ9_copyOf_0 18 rfl rfl)
theorem dJ9_copyOf_19 : decode cJ9_copyOf 19 = .ok (.iconst 0, 1) := dk_3 (dk_at dksJ9_copyOf_0 19 rfl rfl)
theorem dJ9_copyOf_20 : decode cJ9_copyOf 20 = .ok (.aload_n 2, 1) := dk_44 (dk_at dksJ9_copyOf_0 20 rfl rfl)
theorem dJ9_copyOf_21 : decode cJ9_copyOf 21 = .ok (.iconst 0, 1) := dk_3 (dk_at dksJ9_copyOf_0 21 rfl rfl)
theorem dJ9_copyOf_22 : decode cJ9_copyOf 22 = .ok (.aload_n 0, 1) := dk_42 (dk_at dksJ9_copyOf_0 22 rfl rfl)
theorem dJ9_copyOf_23 : decode cJ9_copyOf 23 = .ok (.arraylength, 1) := dk_190 (dk_at dksJ9_copyOf_0 23 rfl rfl)
theorem dJ9_copyOf_24 : decode cJ9_copyOf 24 = .ok (.iload_n 1, 1) := dk_27 (dk_at dksJ9_copyOf_1 0 rfl rfl)
theorem dJ9_copyOf_25 : decode cJ9_copyOf 25 = .ok (.invokestatic 304, 3) := dk_184 1 48 (dk_at dksJ9_copyOf_1 1 rfl rfl)
theorem dJ9_copyOf_28 : decode cJ9_copyOf 28 = .ok (.invokestatic 150, 3) := dk_184 0 150 (dk_at dksJ9_copyOf_1 4 rfl rfl)
theorem dJ9_copyOf_31 : decode cJ9_copyOf 31 = .ok (.aload_n 2, 1) := dk_44 (dk_at dksJ9_copyOf_1 7 rfl rfl)
theorem dJ9_copyOf_32 : decode cJ9_copyOf 32 = .ok (.areturn, 1) := dk_176 (dk_at dksJ9_copyOf_1 8 rfl rfl)
abbrev cJ9_copyOfRange : ByteArray := prog_38_method_132_code
def yJ9_copyOfRange : MethodName := ⟨RJ9, "copyOfRange", "([BII)[B"⟩
def dkwJ9_copyOfRange_1 : List UInt8 := [176]
abbrev dktJ9_copyOfRange_1 : List UInt8 := dkwJ9_copyOfRange_1 ++ []
def dkwJ9_copyOfRange_0 : List UInt8 := [27, 154, 0, 9, 28, 42, 190, 159, 0, 10, 42, 27, 28, 184, 1, 83, 176, 42, 182, 1, 54, 192, 1, 55]
abbrev dktJ9_copyOfRange_0 : List UInt8 := dkwJ9_copyOfRange_0 ++ dktJ9_copyOfRange_1
theorem dksJ9_copyOfRange_0 : cJ9_copyOfRange.data.toList.drop 0 = dktJ9_copyOfRange_0 := by decide +kernel
theorem dksJ9_copyOfRange_1 : cJ9_copyOfRange.data.toList.drop 24 = dktJ9_copyOfRange_1 := dk_seg dksJ9_copyOfRange_0 24 rfl rfl
theorem dJ9_copyOfRange_0 : decode cJ9_copyOfRange 0 = .ok (.iload_n 1, 1) := dk_27 (dk_at dksJ9_copyOfRange_0 0 rfl rfl)
theorem dJ9_copyOfRange_1 : decode cJ9_copyOfRange 1 = .ok (.ifCond .ne 9, 3) := dk_154 0 9 (dk_at dksJ9_copyOfRange_0 1 rfl rfl)
theorem dJ9_copyOfRange_4 : decode cJ9_copyOfRange 4 = .ok (.iload_n 2, 1) := dk_28 (dk_at dksJ9_copyOfRange_0 4 rfl rfl)
theorem dJ9_copyOfRange_5 : decode cJ9_copyOfRange 5 = .ok (.aload_n 0, 1) := dk_42 (dk_at dksJ9_copyOfRange_0 5 rfl rfl)
theorem dJ9_copyOfRange_6 : decode cJ9_copyOfRange 6 = .ok (.arraylength, 1) := dk_190 (dk_at dksJ9_copyOfRange_0 6 rfl rfl)
theorem dJ9_copyOfRange_7 : decode cJ9_copyOfRange 7 = .ok (.if_icmp .eq 10, 3) := dk_159 0 10 (dk_at dksJ9_copyOfRange_0 7 rfl rfl)
theorem dJ9_copyOfRange_10 : decode cJ9_copyOfRange 10 = .ok (.aload_n 0, 1) := dk_42 (dk_at dksJ9_copyOfRange_0 10 rfl rfl)
theorem dJ9_copyOfRange_11 : decode cJ9_copyOfRange 11 = .ok (.iload_n 1, 1) := dk_27 (dk_at dksJ9_copyOfRange_0 11 rfl rfl)
theorem dJ9_copyOfRange_12 : decode cJ9_copyOfRange 12 = .ok (.iload_n 2, 1) := dk_28 (dk_at dksJ9_copyOfRange_0 12 rfl rfl)
theorem dJ9_copyOfRange_13 : decode cJ9_copyOfRange 13 = .ok (.invokestatic 339, 3) := dk_184 1 83 (dk_at dksJ9_copyOfRange_0 13 rfl rfl)
theorem dJ9_copyOfRange_16 : decode cJ9_copyOfRange 16 = .ok (.areturn, 1) := dk_176 (dk_at dksJ9_copyOfRange_0 16 rfl rfl)
theorem dJ9_copyOfRange_17 : decode cJ9_copyOfRange 17 = .ok (.aload_n 0, 1) := dk_42 (dk_at dksJ9_copyOfRange_0 17 rfl rfl)
theorem dJ9_copyOfRange_18 : decode cJ9_copyOfRange 18 = .ok (.invokevirtual 310, 3) := dk_182 1 54 (dk_at dksJ9_copyOfRange_0 18 rfl rfl)
theorem dJ9_copyOfRange_21 : decode cJ9_copyOfRange 21 = .ok (.checkcast 311, 3) := dk_192 1 55 (dk_at dksJ9_copyOfRange_0 21 rfl rfl)
theorem dJ9_copyOfRange_24 : decode cJ9_copyOfRange 24 = .ok (.areturn, 1) := dk_176 (dk_at dksJ9_copyOfRange_1 0 rfl rfl)
abbrev cJ9_copyOfRangeByte : ByteArray := prog_38_method_133_code
def yJ9_copyOfRangeByte : MethodName := ⟨RJ9, "copyOfRangeByte", "([BII)[B"⟩
def dkwJ9_copyOfRangeByte_1 : List UInt8 := [184, 1, 48, 184, 0, 150, 25, 4, 176]
abbrev dktJ9_copyOfRangeByte_1 : List UInt8 := dkwJ9_copyOfRangeByte_1 ++ []
def dkwJ9_copyOfRangeByte_0 : List UInt8 := [27, 28, 184, 1, 87, 28, 27, 100, 62, 29, 188, 8, 58, 4, 42, 27, 25, 4, 3, 42, 190, 27, 100, 29]
abbrev dktJ9_copyOfRangeByte_0 : List UInt8 := dkwJ9_copyOfRangeByte_0 ++ dktJ9_copyOfRangeByte_1
theorem dksJ9_copyOfRangeByte_0 : cJ9_copyOfRangeByte.data.toList.drop 0 = dktJ9_copyOfRangeByte_0 := by decide +kernel
theorem dksJ9_copyOfRangeByte_1 : cJ9_copyOfRangeByte.data.toList.drop 24 = dktJ9_copyOfRangeByte_1 := dk_seg dksJ9_copyOfRangeByte_0 24 rfl rfl
theorem dJ9_copyOfRangeByte_0 : decode cJ9_copyOfRangeByte 0 = .ok (.iload_n 1, 1) := dk_27 (dk_at dksJ9_copyOfRangeByte_0 0 rfl rfl)
theorem dJ9_copyOfRangeByte_1 : decode cJ9_copyOfRangeByte 1 = .ok (.iload_n 2, 1) := dk_28 (dk_at dksJ9_copyOfRangeByte_0 1 rfl rfl)
theorem dJ9_copyOfRangeByte_2 : decode cJ9_copyOfRangeByte 2 = .ok (.invokestatic 343, 3) := dk_184 1 87 (dk_at dksJ9_copyOfRangeByte_0 2 rfl rfl)
theorem dJ9_copyOfRangeByte_5 : decode cJ9_copyOfRangeByte 5 = .ok (.iload_n 2, 1) := dk_28 (dk_at dksJ9_copyOfRangeByte_0 5 rfl rfl)
theorem dJ9_copyOfRangeByte_6 : decode cJ9_copyOfRangeByte 6 = .ok (.iload_n 1, 1) := dk_27 (dk_at dksJ9_copyOfRangeByte_0 6 rfl rfl)
theorem dJ9_copyOfRangeByte_7 : decode cJ9_copyOfRangeByte 7 = .ok (.isub, 1) := dk_100 (dk_at dksJ9_copyOfRangeByte_0 7 rfl rfl)
theorem dJ9_copyOfRangeByte_8 : decode cJ9_copyOfRangeByte 8 = .ok (.istore_n 3, 1) := dk_62 (dk_at dksJ9_copyOfRangeByte_0 8 rfl rfl)
theorem dJ9_copyOfRangeByte_9 : decode cJ9_copyOfRangeByte 9 = .ok (.iload_n 3, 1) := dk_29 (dk_at dksJ9_copyOfRangeByte_0 9 rfl rfl)
theorem dJ9_copyOfRangeByte_10 : decode cJ9_copyOfRangeByte 10 = .ok (.newarray .byte, 2) := dk_188_8 (dk_at dksJ9_copyOfRangeByte_0 10 rfl rfl)
theorem dJ9_copyOfRangeByte_12 : decode cJ9_copyOfRangeByte 12 = .ok (.astore 4, 2) := dk_58 4 (dk_at dksJ9_copyOfRangeByte_0 12 rfl rfl)
theorem dJ9_copyOfRangeByte_14 : decode cJ9_copyOfRangeByte 14 = .ok (.aload_n 0, 1) := dk_42 (dk_at dksJ9_copyOfRangeByte_0 14 rfl rfl)
theorem dJ9_copyOfRangeByte_15 : decode cJ9_copyOfRangeByte 15 = .ok (.iload_n 1, 1) := dk_27 (dk_at dksJ9_copyOfRangeByte_0 15 rfl rfl)
theorem dJ9_copyOfRangeByte_16 : decode cJ9_copyOfRangeByte 16 = .ok (.aload 4, 2) := dk_25 4 (dk_at dksJ9_copyOfRangeByte_0 16 rfl rfl)
theorem dJ9_copyOfRangeByte_18 : decode cJ9_copyOfRangeByte 18 = .ok (.iconst 0, 1) := dk_3 (dk_at dksJ9_copyOfRangeByte_0 18 rfl rfl)
theorem dJ9_copyOfRangeByte_19 : decode cJ9_copyOfRangeByte 19 = .ok (.aload_n 0, 1) := dk_42 (dk_at dksJ9_copyOfRangeByte_0 19 rfl rfl)
theorem dJ9_copyOfRangeByte_20 : decode cJ9_copyOfRangeByte 20 = .ok (.arraylength, 1) := dk_190 (dk_at dksJ9_copyOfRangeByte_0 20 rfl rfl)
theorem dJ9_copyOfRangeByte_21 : decode cJ9_copyOfRangeByte 21 = .ok (.iload_n 1, 1) := dk_27 (dk_at dksJ9_copyOfRangeByte_0 21 rfl rfl)
theorem dJ9_copyOfRangeByte_22 : decode cJ9_copyOfRangeByte 22 = .ok (.isub, 1) := dk_100 (dk_at dksJ9_copyOfRangeByte_0 22 rfl rfl)
theorem dJ9_copyOfRangeByte_23 : decode cJ9_copyOfRangeByte 23 = .ok (.iload_n 3, 1) := dk_29 (dk_at dksJ9_copyOfRangeByte_0 23 rfl rfl)
theorem dJ9_copyOfRangeByte_24 : decode cJ9_copyOfRangeByte 24 = .ok (.invokestatic 304, 3) := dk_184 1 48 (dk_at dksJ9_copyOfRangeByte_1 0 rfl rfl)
theorem dJ9_copyOfRangeByte_27 : decode cJ9_copyOfRangeByte 27 = .ok (.invokestatic 150, 3) := dk_184 0 150 (dk_at dksJ9_copyOfRangeByte_1 3 rfl rfl)
theorem dJ9_copyOfRangeByte_30 : decode cJ9_copyOfRangeByte 30 = .ok (.aload 4, 2) := dk_25 4 (dk_at dksJ9_copyOfRangeByte_1 6 rfl rfl)
theorem dJ9_copyOfRangeByte_32 : decode cJ9_copyOfRangeByte 32 = .ok (.areturn, 1) := dk_176 (dk_at dksJ9_copyOfRangeByte_1 8 rfl rfl)
abbrev cJ9_checkLength : ByteArray := prog_38_method_131_code
def yJ9_checkLength : MethodName := ⟨RJ9, "checkLength", "(II)V"⟩
def dkwJ9_checkLength_1 : List UInt8 := [182, 0, 50, 27, 182, 0, 54, 182, 0, 61, 183, 0, 65, 191, 177]
abbrev dktJ9_checkLength_1 : List UInt8 := dkwJ9_checkLength_1 ++ []
def dkwJ9_checkLength_0 : List UInt8 := [27, 26, 162, 0, 35, 187, 0, 43, 89, 187, 0, 45, 89, 183, 0, 47, 26, 182, 0, 54, 19, 1, 81]
abbrev dktJ9_checkLength_0 : List UInt8 := dkwJ9_checkLength_0 ++ dktJ9_checkLength_1
theorem dksJ9_checkLength_0 : cJ9_checkLength.data.toList.drop 0 = dktJ9_checkLength_0 := by decide +kernel
theorem dksJ9_checkLength_1 : cJ9_checkLength.data.toList.drop 23 = dktJ9_checkLength_1 := dk_seg dksJ9_checkLength_0 23 rfl rfl
theorem dJ9_checkLength_0 : decode cJ9_checkLength 0 = .ok (.iload_n 1, 1) := dk_27 (dk_at dksJ9_checkLength_0 0 rfl rfl)
theorem dJ9_checkLength_1 : decode cJ9_checkLength 1 = .ok (.iload_n 0, 1) := dk_26 (dk_at dksJ9_checkLength_0 1 rfl rfl)
theorem dJ9_checkLength_2 : decode cJ9_checkLength 2 = .ok (.if_icmp .ge 35, 3) := dk_162 0 35 (dk_at dksJ9_checkLength_0 2 rfl rfl)
theorem dJ9_checkLength_5 : decode cJ9_checkLength 5 = .ok (.new 43, 3) := dk_187 0 43 (dk_at dksJ9_checkLength_0 5 rfl rfl)
theorem dJ9_checkLength_8 : decode cJ9_checkLength 8 = .ok (.dup, 1) := dk_89 (dk_at dksJ9_checkLength_0 8 rfl rfl)
theorem dJ9_checkLength_9 : decode cJ9_checkLength 9 = .ok (.new 45, 3) := dk_187 0 45 (dk_at dksJ9_checkLength_0 9 rfl rfl)
theorem dJ9_checkLength_12 : decode cJ9_checkLength 12 = .ok (.dup, 1) := dk_89 (dk_at dksJ9_checkLength_0 12 rfl rfl)
theorem dJ9_checkLength_13 : decode cJ9_checkLength 13 = .ok (.invokespecial 47, 3) := dk_183 0 47 (dk_at dksJ9_checkLength_0 13 rfl rfl)
theorem dJ9_checkLength_16 : decode cJ9_checkLength 16 = .ok (.iload_n 0, 1) := dk_26 (dk_at dksJ9_checkLength_0 16 rfl rfl)
theorem dJ9_checkLength_17 : decode cJ9_checkLength 17 = .ok (.invokevirtual 54, 3) := dk_182 0 54 (dk_at dksJ9_checkLength_0 17 rfl rfl)
theorem dJ9_checkLength_20 : decode cJ9_checkLength 20 = .ok (.ldc_w 337, 3) := dk_19 1 81 (dk_at dksJ9_checkLength_0 20 rfl rfl)
theorem dJ9_checkLength_23 : decode cJ9_checkLength 23 = .ok (.invokevirtual 50, 3) := dk_182 0 50 (dk_at dksJ9_checkLength_1 0 rfl rfl)
theorem dJ9_checkLength_26 : decode cJ9_checkLength 26 = .ok (.iload_n 1, 1) := dk_27 (dk_at dksJ9_checkLength_1 3 rfl rfl)
theorem dJ9_checkLength_27 : decode cJ9_checkLength 27 = .ok (.invokevirtual 54, 3) := dk_182 0 54 (dk_at dksJ9_checkLength_1 4 rfl rfl)
theorem dJ9_checkLength_30 : decode cJ9_checkLength 30 = .ok (.invokevirtual 61, 3) := dk_182 0 61 (dk_at dksJ9_checkLength_1 7 rfl rfl)
theorem dJ9_checkLength_33 : decode cJ9_checkLength 33 = .ok (.invokespecial 65, 3) := dk_183 0 65 (dk_at dksJ9_checkLength_1 10 rfl rfl)
theorem dJ9_checkLength_36 : decode cJ9_checkLength 36 = .ok (.athrow, 1) := dk_191 (dk_at dksJ9_checkLength_1 13 rfl rfl)
theorem dJ9_checkLength_37 : decode cJ9_checkLength 37 = .ok (.return_, 1) := dk_177 (dk_at dksJ9_checkLength_1 14 rfl rfl)
abbrev cJ9_copyOf_2 : ByteArray := prog_38_method_119_code
def yJ9_copyOf_2 : MethodName := ⟨RJ9, "copyOf", "([Ljava/lang/Object;I)[Ljava/lang/Object;"⟩
def dkwJ9_copyOf_2_0 : List UInt8 := [42, 27, 42, 182, 0, 86, 184, 1, 44, 176]
abbrev dktJ9_copyOf_2_0 : List UInt8 := dkwJ9_copyOf_2_0 ++ []
theorem dksJ9_copyOf_2_0 : cJ9_copyOf_2.data.toList.drop 0 = dktJ9_copyOf_2_0 := by decide +kernel
theorem dJ9_copyOf_2_0 : decode cJ9_copyOf_2 0 = .ok (.aload_n 0, 1) := dk_42 (dk_at dksJ9_copyOf_2_0 0 rfl rfl)
theorem dJ9_copyOf_2_1 : decode cJ9_copyOf_2 1 = .ok (.iload_n 1, 1) := dk_27 (dk_at dksJ9_copyOf_2_0 1 rfl rfl)
theorem dJ9_copyOf_2_2 : decode cJ9_copyOf_2 2 = .ok (.aload_n 0, 1) := dk_42 (dk_at dksJ9_copyOf_2_0 2 rfl rfl)
theorem dJ9_copyOf_2_3 : decode cJ9_copyOf_2 3 = .ok (.invokevirtual 86, 3) := dk_182 0 86 (dk_at dksJ9_copyOf_2_0 3 rfl rfl)
theorem dJ9_copyOf_2_6 : decode cJ9_copyOf_2 6 = .ok (.invokestatic 300, 3) := dk_184 1 44 (dk_at dksJ9_copyOf_2_0 6 rfl rfl)
theorem dJ9_copyOf_2_9 : decode cJ9_copyOf_2 9 = .ok (.areturn, 1) := dk_176 (dk_at dksJ9_copyOf_2_0 9 rfl rfl)
abbrev cJ9_copyOf_3 : ByteArray := prog_38_method_120_code
def yJ9_copyOf_3 : MethodName := ⟨RJ9, "copyOf", "([Ljava/lang/Object;ILjava/lang/Class;)[Ljava/lang/Object;"⟩
def dkwJ9_copyOf_3_1 : List UInt8 := [78, 42, 3, 45, 3, 42, 190, 27, 184, 1, 48, 184, 0, 150, 45, 176]
abbrev dktJ9_copyOf_3_1 : List UInt8 := dkwJ9_copyOf_3_1 ++ []
def dkwJ9_copyOf_3_0 : List UInt8 := [44, 18, 110, 166, 0, 10, 27, 189, 0, 2, 167, 0, 14, 44, 182, 0, 90, 27, 184, 0, 95, 192, 0, 110]
abbrev dktJ9_copyOf_3_0 : List UInt8 := dkwJ9_copyOf_3_0 ++ dktJ9_copyOf_3_1
theorem dksJ9_copyOf_3_0 : cJ9_copyOf_3.data.toList.drop 0 = dktJ9_copyOf_3_0 := by decide +kernel
theorem dksJ9_copyOf_3_1 : cJ9_copyOf_3.data.toList.drop 24 = dktJ9_copyOf_3_1 := dk_seg dksJ9_copyOf_3_0 24 rfl rfl
theorem dJ9_copyOf_3_0 : decode cJ9_copyOf_3 0 = .ok (.aload_n 2, 1) := dk_44 (dk_at dksJ9_copyOf_3_0 0 rfl rfl)
theorem dJ9_copyOf_3_1 : decode cJ9_copyOf_3 1 = .ok (.ldc 110, 2) := dk_18 110 (dk_at dksJ9_copyOf_3_0 1 rfl rfl)
theorem dJ9_copyOf_3_3 : decode cJ9_copyOf_3 3 = .ok (.if_acmp .ne 10, 3) := dk_166 0 10 (dk_at dksJ9_copyOf_3_0 3 rfl rfl)
theorem dJ9_copyOf_3_6 : decode cJ9_copyOf_3 6 = .ok (.iload_n 1, 1) := dk_27 (dk_at dksJ9_copyOf_3_0 6 rfl rfl)
theorem dJ9_copyOf_3_7 : decode cJ9_copyOf_3 7 = .ok (.anewarray 2, 3) := dk_189 0 2 (dk_at dksJ9_copyOf_3_0 7 rfl rfl)
theorem dJ9_copyOf_3_10 : decode cJ9_copyOf_3 10 = .ok (.goto 14, 3) := dk_167 0 14 (dk_at dksJ9_copyOf_3_0 10 rfl rfl)
theorem dJ9_copyOf_3_13 : decode cJ9_copyOf_3 13 = .ok (.aload_n 2, 1) := dk_44 (dk_at dksJ9_copyOf_3_0 13 rfl rfl)
theorem dJ9_copyOf_3_14 : decode cJ9_copyOf_3 14 = .ok (.invokevirtual 90, 3) := dk_182 0 90 (dk_at dksJ9_copyOf_3_0 14 rfl rfl)
theorem dJ9_copyOf_3_17 : decode cJ9_copyOf_3 17 = .ok (.iload_n 1, 1) := dk_27 (dk_at dksJ9_copyOf_3_0 17 rfl rfl)
theorem dJ9_copyOf_3_18 : decode cJ9_copyOf_3 18 = .ok (.invokestatic 95, 3) := dk_184 0 95 (dk_at dksJ9_copyOf_3_0 18 rfl rfl)
theorem dJ9_copyOf_3_21 : decode cJ9_copyOf_3 21 = .ok (.checkcast 110, 3) := dk_192 0 110 (dk_at dksJ9_copyOf_3_0 21 rfl rfl)
theorem dJ9_copyOf_3_24 : decode cJ9_copyOf_3 24 = .ok (.astore_n 3, 1) := dk_78 (dk_at dksJ9_copyOf_3_1 0 rfl rfl)
theorem dJ9_copyOf_3_25 : decode cJ9_copyOf_3 25 = .ok (.aload_n 0, 1) := dk_42 (dk_at dksJ9_copyOf_3_1 1 rfl rfl)
theorem dJ9_copyOf_3_26 : decode cJ9_copyOf_3 26 = .ok (.iconst 0, 1) := dk_3 (dk_at dksJ9_copyOf_3_1 2 rfl rfl)
theorem dJ9_copyOf_3_27 : decode cJ9_copyOf_3 27 = .ok (.aload_n 3, 1) := dk_45 (dk_at dksJ9_copyOf_3_1 3 rfl rfl)
theorem dJ9_copyOf_3_28 : decode cJ9_copyOf_3 28 = .ok (.iconst 0, 1) := dk_3 (dk_at dksJ9_copyOf_3_1 4 rfl rfl)
theorem dJ9_copyOf_3_29 : decode cJ9_copyOf_3 29 = .ok (.aload_n 0, 1) := dk_42 (dk_at dksJ9_copyOf_3_1 5 rfl rfl)
theorem dJ9_copyOf_3_30 : decode cJ9_copyOf_3 30 = .ok (.arraylength, 1) := dk_190 (dk_at dksJ9_copyOf_3_1 6 rfl rfl)
theorem dJ9_copyOf_3_31 : decode cJ9_copyOf_3 31 = .ok (.iload_n 1, 1) := dk_27 (dk_at dksJ9_copyOf_3_1 7 rfl rfl)
theorem dJ9_copyOf_3_32 : decode cJ9_copyOf_3 32 = .ok (.invokestatic 304, 3) := dk_184 1 48 (dk_at dksJ9_copyOf_3_1 8 rfl rfl)
theorem dJ9_copyOf_3_35 : decode cJ9_copyOf_3 35 = .ok (.invokestatic 150, 3) := dk_184 0 150 (dk_at dksJ9_copyOf_3_1 11 rfl rfl)
theorem dJ9_copyOf_3_38 : decode cJ9_copyOf_3 38 = .ok (.aload_n 3, 1) := dk_45 (dk_at dksJ9_copyOf_3_1 14 rfl rfl)
theorem dJ9_copyOf_3_39 : decode cJ9_copyOf_3 39 = .ok (.areturn, 1) := dk_176 (dk_at dksJ9_copyOf_3_1 15 rfl rfl)
theorem q139 : (Jvm.Cond.initialized "java/util/Arrays") ∈ lw_all := lw_g (lw_at lw_m1 16 rfl) rfl
theorem q447 : (Jvm.Cond.static ({ cls := "java/util/Arrays", name := "copyOf", desc := "([BI)[B" } : Jvm.MethodName)) ∈ lw_all := lw_g (lw_at lw_m2 84 rfl) rfl
theorem q448 : (Jvm.Cond.code ({ cls := "java/util/Arrays", name := "copyOf", desc := "([BI)[B" } : Jvm.MethodName) prog_38_method_121_code (3 : Nat) (Option.some (Jvm.ClassFile.FieldType.array Jvm.ClassFile.FieldType.byte))) ∈ lw_all := lw_g (lw_at lw_m2 85 rfl) rfl
theorem q449 : (Jvm.Cond.methodLink "java/util/Arrays" (310 : Nat) ({ cls := "[B", name := "clone", desc := "()Ljava/lang/Object;" } : Jvm.MethodName)) ∈ lw_all := lw_g (lw_at lw_m2 86 rfl) rfl
theorem q455 : (Jvm.Cond.classLink "java/util/Arrays" (311 : Nat) "[B") ∈ lw_all := lw_g (lw_at lw_m2 92 rfl) rfl
theorem q456 : (Jvm.Cond.methodLink "java/util/Arrays" (304 : Nat) ({ cls := "java/lang/Math", name := "min", desc := "(II)I" } : Jvm.MethodName)) ∈ lw_all := lw_g (lw_at lw_m2 93 rfl) rfl
theorem q459 : (Jvm.Cond.methodLink "java/util/Arrays" (150 : Nat) ({ cls := "java/lang/System", name := "arraycopy", desc := "(Ljava/lang/Object;ILjava/lang/Object;II)V" } : Jvm.MethodName)) ∈ lw_all := lw_g (lw_at lw_m2 96 rfl) rfl
theorem q543 : (Jvm.Cond.static ({ cls := "java/util/Arrays", name := "copyOfRange", desc := "([BII)[B" } : Jvm.MethodName)) ∈ lw_all := lw_g (lw_at lw_m2 180 rfl) rfl
theorem q544 : (Jvm.Cond.code ({ cls := "java/util/Arrays", name := "copyOfRange", desc := "([BII)[B" } : Jvm.MethodName) prog_38_method_132_code (3 : Nat) (Option.some (Jvm.ClassFile.FieldType.array Jvm.ClassFile.FieldType.byte))) ∈ lw_all := lw_g (lw_at lw_m2 181 rfl) rfl
theorem q545 : (Jvm.Cond.methodLink "java/util/Arrays" (339 : Nat) ({ cls := "java/util/Arrays", name := "copyOfRangeByte", desc := "([BII)[B" } : Jvm.MethodName)) ∈ lw_all := lw_g (lw_at lw_m2 182 rfl) rfl
theorem q546 : (Jvm.Cond.static ({ cls := "java/util/Arrays", name := "copyOfRangeByte", desc := "([BII)[B" } : Jvm.MethodName)) ∈ lw_all := lw_g (lw_at lw_m2 183 rfl) rfl
theorem q547 : (Jvm.Cond.code ({ cls := "java/util/Arrays", name := "copyOfRangeByte", desc := "([BII)[B" } : Jvm.MethodName) prog_38_method_133_code (5 : Nat) (Option.some (Jvm.ClassFile.FieldType.array Jvm.ClassFile.FieldType.byte))) ∈ lw_all := lw_g (lw_at lw_m2 184 rfl) rfl
theorem q548 : (Jvm.Cond.methodLink "java/util/Arrays" (343 : Nat) ({ cls := "java/util/Arrays", name := "checkLength", desc := "(II)V" } : Jvm.MethodName)) ∈ lw_all := lw_g (lw_at lw_m2 185 rfl) rfl
theorem q549 : (Jvm.Cond.static ({ cls := "java/util/Arrays", name := "checkLength", desc := "(II)V" } : Jvm.MethodName)) ∈ lw_all := lw_g (lw_at lw_m2 186 rfl) rfl
theorem q550 : (Jvm.Cond.code ({ cls := "java/util/Arrays", name := "checkLength", desc := "(II)V" } : Jvm.MethodName) prog_38_method_131_code (2 : Nat) (Option.none : Option Jvm.ClassFile.FieldType)) ∈ lw_all := lw_g (lw_at lw_m2 187 rfl) rfl
theorem q818 : (Jvm.Cond.static ({ cls := "java/util/Arrays", name := "copyOf", desc := "([Ljava/lang/Object;I)[Ljava/lang/Object;" } : Jvm.MethodName)) ∈ lw_all := lw_g (lw_at lw_m3 215 rfl) rfl
theorem q819 : (Jvm.Cond.code ({ cls := "java/util/Arrays", name := "copyOf", desc := "([Ljava/lang/Object;I)[Ljava/lang/Object;" } : Jvm.MethodName) prog_38_method_119_code (2 : Nat) (Option.some (Jvm.ClassFile.FieldType.array (Jvm.ClassFile.FieldType.object "java/lang/Object")))) ∈ lw_all := lw_g (lw_at lw_m3 216 rfl) rfl
theorem q820 : (Jvm.Cond.methodLink "java/util/Arrays" (86 : Nat) ({ cls := "java/lang/Object", name := "getClass", desc := "()Ljava/lang/Class;" } : Jvm.MethodName)) ∈ lw_all := lw_g (lw_at lw_m3 217 rfl) rfl
theorem q843 : (Jvm.Cond.methodLink "java/util/Arrays" (300 : Nat) ({ cls := "java/util/Arrays", name := "copyOf", desc := "([Ljava/lang/Object;ILjava/lang/Class;)[Ljava/lang/Object;" } : Jvm.MethodName)) ∈ lw_all := lw_g (lw_at lw_m4 0 rfl) rfl
theorem q844 : (Jvm.Cond.static ({ cls := "java/util/Arrays", name := "copyOf", desc := "([Ljava/lang/Object;ILjava/lang/Class;)[Ljava/lang/Object;" } : Jvm.MethodName)) ∈ lw_all := lw_g (lw_at lw_m4 1 rfl) rfl
theorem q845 : (Jvm.Cond.code ({ cls := "java/util/Arrays", name := "copyOf", desc := "([Ljava/lang/Object;ILjava/lang/Class;)[Ljava/lang/Object;" } : Jvm.MethodName) prog_38_method_120_code (4 : Nat) (Option.some (Jvm.ClassFile.FieldType.array (Jvm.ClassFile.FieldType.object "java/lang/Object")))) ∈ lw_all := lw_g (lw_at lw_m4 2 rfl) rfl
theorem q846 : (Jvm.Cond.classLink "java/util/Arrays" (110 : Nat) "[Ljava/lang/Object;") ∈ lw_all := lw_g (lw_at lw_m4 3 rfl) rfl
theorem q848 : (Jvm.Cond.classLink "java/util/Arrays" (2 : Nat) "java/lang/Object") ∈ lw_all := lw_g (lw_at lw_m4 5 rfl) rfl
/-! java/lang/StringLatin1 -/
set_option maxRecDepth 100000
def RJ10 : String := "java/lang/StringLatin1"
abbrev cJ10_canEncode : ByteArray := prog_28_method_3_code
def yJ10_canEncode : MethodName := ⟨RJ10, "canEncode", "(C)Z"⟩
def dkwJ10_canEncode_0 : List UInt8 := [26, 17, 0, 255, 163, 0, 7, 4, 167, 0, 4, 3, 172]
abbrev dktJ10_canEncode_0 : List UInt8 := dkwJ10_canEncode_0 ++ []
theorem dksJ10_canEncode_0 : cJ10_canEncode.data.toList.drop 0 = dktJ10_canEncode_0 := by decide +kernel
theorem dJ10_canEncode_0 : decode cJ10_canEncode 0 = .ok (.iload_n 0, 1) := dk_26 (dk_at dksJ10_canEncode_0 0 rfl rfl)
theorem dJ10_canEncode_1 : decode cJ10_canEncode 1 = .ok (.sipush 255, 3) := dk_17 0 255 (dk_at dksJ10_canEncode_0 1 rfl rfl)
theorem dJ10_canEncode_4 : decode cJ10_canEncode 4 = .ok (.if_icmp .gt 7, 3) := dk_163 0 7 (dk_at dksJ10_canEncode_0 4 rfl rfl)
theorem dJ10_canEncode_7 : decode cJ10_canEncode 7 = .ok (.iconst 1, 1) := dk_4 (dk_at dksJ10_canEncode_0 7 rfl rfl)
theorem dJ10_canEncode_8 : decode cJ10_canEncode 8 = .ok (.goto 4, 3) := dk_167 0 4 (dk_at dksJ10_canEncode_0 8 rfl rfl)
theorem dJ10_canEncode_11 : decode cJ10_canEncode 11 = .ok (.iconst 0, 1) := dk_3 (dk_at dksJ10_canEncode_0 11 rfl rfl)
theorem dJ10_canEncode_12 : decode cJ10_canEncode 12 = .ok (.ireturn, 1) := dk_172 (dk_at dksJ10_canEncode_0 12 rfl rfl)
abbrev cJ10_inflate : ByteArray := prog_28_method_50_code
def yJ10_inflate : MethodName := ⟨RJ10, "inflate", "([BI[BII)V"⟩
def dkwJ10_inflate_0 : List UInt8 := [42, 27, 44, 29, 21, 4, 184, 0, 240, 177]
abbrev dktJ10_inflate_0 : List UInt8 := dkwJ10_inflate_0 ++ []
theorem dksJ10_inflate_0 : cJ10_inflate.data.toList.drop 0 = dktJ10_inflate_0 := by decide +kernel
theorem dJ10_inflate_0 : decode cJ10_inflate 0 = .ok (.aload_n 0, 1) := dk_42 (dk_at dksJ10_inflate_0 0 rfl rfl)
theorem dJ10_inflate_1 : decode cJ10_inflate 1 = .ok (.iload_n 1, 1) := dk_27 (dk_at dksJ10_inflate_0 1 rfl rfl)
theorem dJ10_inflate_2 : decode cJ10_inflate 2 = .ok (.aload_n 2, 1) := dk_44 (dk_at dksJ10_inflate_0 2 rfl rfl)
theorem dJ10_inflate_3 : decode cJ10_inflate 3 = .ok (.iload_n 3, 1) := dk_29 (dk_at dksJ10_inflate_0 3 rfl rfl)
theorem dJ10_inflate_4 : decode cJ10_inflate 4 = .ok (.iload 4, 2) := dk_21 4 (dk_at dksJ10_inflate_0 4 rfl rfl)
theorem dJ10_inflate_6 : decode cJ10_inflate 6 = .ok (.invokestatic 240, 3) := dk_184 0 240 (dk_at dksJ10_inflate_0 6 rfl rfl)
theorem dJ10_inflate_9 : decode cJ10_inflate 9 = .ok (.return_, 1) := dk_177 (dk_at dksJ10_inflate_0 9 rfl rfl)
abbrev cJ10_hashCode : ByteArray := prog_28_method_21_code
def yJ10_hashCode : MethodName := ⟨RJ10, "hashCode", "([B)I"⟩
def dkwJ10_hashCode_2 : List UInt8 := [3, 167, 0, 22, 42, 3, 51, 17, 0, 255, 126, 167, 0, 12, 42, 3, 42, 190, 3, 7, 184, 0, 84, 172]
abbrev dktJ10_hashCode_2 : List UInt8 := dkwJ10_hashCode_2 ++ []
def dkwJ10_hashCode_1 : List UInt8 := [171, 0, 0, 0, 0, 40, 0, 0, 0, 2, 0, 0, 0, 0, 0, 0, 0, 26, 0, 0, 0, 1, 0, 0, 0, 30]
abbrev dktJ10_hashCode_1 : List UInt8 := dkwJ10_hashCode_1 ++ dktJ10_hashCode_2
def dkwJ10_hashCode_0 : List UInt8 := [42, 190]
abbrev dktJ10_hashCode_0 : List UInt8 := dkwJ10_hashCode_0 ++ dktJ10_hashCode_1
theorem dksJ10_hashCode_0 : cJ10_hashCode.data.toList.drop 0 = dktJ10_hashCode_0 := by decide +kernel
theorem dksJ10_hashCode_1 : cJ10_hashCode.data.toList.drop 2 = dktJ10_hashCode_1 := dk_seg dksJ10_hashCode_0 2 rfl rfl
theorem dksJ10_hashCode_2 : cJ10_hashCode.data.toList.drop 28 = dktJ10_hashCode_2 := dk_seg dksJ10_hashCode_1 26 rfl rfl
theorem dJ10_hashCode_0 : decode cJ10_hashCode 0 = .ok (.aload_n 0, 1) := dk_42 (dk_at dksJ10_hashCode_0 0 rfl rfl)
theorem dJ10_hashCode_1 : decode cJ10_hashCode 1 = .ok (.arraylength, 1) := dk_190 (dk_at dksJ10_hashCode_0 1 rfl rfl)
theorem dJ10_hashCode_2 : decode cJ10_hashCode 2 = .ok (.lookupswitch 40 #[(0, 26), (1, 30)], 26) := by decide +kernel
theorem dJ10_hashCode_28 : decode cJ10_hashCode 28 = .ok (.iconst 0, 1) := dk_3 (dk_at dksJ10_hashCode_2 0 rfl rfl)
theorem dJ10_hashCode_29 : decode cJ10_hashCode 29 = .ok (.goto 22, 3) := dk_167 0 22 (dk_at dksJ10_hashCode_2 1 rfl rfl)
theorem dJ10_hashCode_32 : decode cJ10_hashCode 32 = .ok (.aload_n 0, 1) := dk_42 (dk_at dksJ10_hashCode_2 4 rfl rfl)
theorem dJ10_hashCode_33 : decode cJ10_hashCode 33 = .ok (.iconst 0, 1) := dk_3 (dk_at dksJ10_hashCode_2 5 rfl rfl)
theorem dJ10_hashCode_34 : decode cJ10_hashCode 34 = .ok (.baload, 1) := dk_51 (dk_at dksJ10_hashCode_2 6 rfl rfl)
theorem dJ10_hashCode_35 : decode cJ10_hashCode 35 = .ok (.sipush 255, 3) := dk_17 0 255 (dk_at dksJ10_hashCode_2 7 rfl rfl)
theorem dJ10_hashCode_38 : decode cJ10_hashCode 38 = .ok (.iand, 1) := dk_126 (dk_at dksJ10_hashCode_2 10 rfl rfl)
theorem dJ10_hashCode_39 : decode cJ10_hashCode 39 = .ok (.goto 12, 3) := dk_167 0 12 (dk_at dksJ10_hashCode_2 11 rfl rfl)
theorem dJ10_hashCode_42 : decode cJ10_hashCode 42 = .ok (.aload_n 0, 1) := dk_42 (dk_at dksJ10_hashCode_2 14 rfl rfl)
theorem dJ10_hashCode_43 : decode cJ10_hashCode 43 = .ok (.iconst 0, 1) := dk_3 (dk_at dksJ10_hashCode_2 15 rfl rfl)
theorem dJ10_hashCode_44 : decode cJ10_hashCode 44 = .ok (.aload_n 0, 1) := dk_42 (dk_at dksJ10_hashCode_2 16 rfl rfl)
theorem dJ10_hashCode_45 : decode cJ10_hashCode 45 = .ok (.arraylength, 1) := dk_190 (dk_at dksJ10_hashCode_2 17 rfl rfl)
theorem dJ10_hashCode_46 : decode cJ10_hashCode 46 = .ok (.iconst 0, 1) := dk_3 (dk_at dksJ10_hashCode_2 18 rfl rfl)
theorem dJ10_hashCode_47 : decode cJ10_hashCode 47 = .ok (.iconst 4, 1) := dk_7 (dk_at dksJ10_hashCode_2 19 rfl rfl)
theorem dJ10_hashCode_48 : decode cJ10_hashCode 48 = .ok (.invokestatic 84, 3) := dk_184 0 84 (dk_at dksJ10_hashCode_2 20 rfl rfl)
theorem dJ10_hashCode_51 : decode cJ10_hashCode 51 = .ok (.ireturn, 1) := dk_172 (dk_at dksJ10_hashCode_2 23 rfl rfl)
abbrev cJ10_equals : ByteArray := prog_28_method_13_code
def yJ10_equals : MethodName := ⟨RJ10, "equals", "([B[B)Z"⟩
def dkwJ10_equals_1 : List UInt8 := [3, 172, 132, 2, 1, 167, 255, 236, 4, 172, 3, 172]
abbrev dktJ10_equals_1 : List UInt8 := dkwJ10_equals_1 ++ []
def dkwJ10_equals_0 : List UInt8 := [42, 190, 43, 190, 160, 0, 30, 3, 61, 28, 42, 190, 162, 0, 20, 42, 28, 51, 43, 28, 51, 159, 0, 5]
abbrev dktJ10_equals_0 : List UInt8 := dkwJ10_equals_0 ++ dktJ10_equals_1
theorem dksJ10_equals_0 : cJ10_equals.data.toList.drop 0 = dktJ10_equals_0 := by decide +kernel
theorem dksJ10_equals_1 : cJ10_equals.data.toList.drop 24 = dktJ10_equals_1 := dk_seg dksJ10_equals_0 24 rfl rfl
theorem dJ10_equals_0 : decode cJ10_equals 0 = .ok (.aload_n 0, 1) := dk_42 (dk_at dksJ10_equals_0 0 rfl rfl)
theorem dJ10_equals_1 : decode cJ10_equals 1 = .ok (.arraylength, 1) := dk_190 (dk_at dksJ10_equals_0 1 rfl rfl)
theorem dJ10_equals_2 : decode cJ10_equals 2 = .ok (.aload_n 1, 1) := dk_43 (dk_at dksJ10_equals_0 2 rfl rfl)
theorem dJ10_equals_3 : decode cJ10_equals 3 = .ok (.arraylength, 1) := dk_190 (dk_at dksJ10_equals_0 3 rfl rfl)
theorem dJ10_equals_4 : decode cJ10_equals 4 = .ok (.if_icmp .ne 30, 3) := dk_160 0 30 (dk_at dksJ10_equals_0 4 rfl rfl)
theorem dJ10_equals_7 : decode cJ10_equals 7 = .ok (.iconst 0, 1) := dk_3 (dk_at dksJ10_equals_0 7 rfl rfl)
theorem dJ10_equals_8 : decode cJ10_equals 8 = .ok (.istore_n 2, 1) := dk_61 (dk_at dksJ10_equals_0 8 rfl rfl)
theorem dJ10_equals_9 : decode cJ10_equals 9 = .ok (.iload_n 2, 1) := dk_28 (dk_at dksJ10_equals_0 9 rfl rfl)
theorem dJ10_equals_10 : decode cJ10_equals 10 = .ok (.aload_n 0, 1) := dk_42 (dk_at dksJ10_equals_0 10 rfl rfl)
theorem dJ10_equals_11 : decode cJ10_equals 11 = .ok (.arraylength, 1) := dk_190 (dk_at dksJ10_equals_0 11 rfl rfl)
theorem dJ10_equals_12 : decode cJ10_equals 12 = .ok (.if_icmp .ge 20, 3) := dk_162 0 20 (dk_at dksJ10_equals_0 12 rfl rfl)
theorem dJ10_equals_15 : decode cJ10_equals 15 = .ok (.aload_n 0, 1) := dk_42 (dk_at dksJ10_equals_0 15 rfl rfl)
theorem dJ10_equals_16 : decode cJ10_equals 16 = .ok (.iload_n 2, 1) := dk_28 (dk_at dksJ10_equals_0 16 rfl rfl)
theorem dJ10_equals_17 : decode cJ10_equals 17 = .ok (.baload, 1) := dk_51 (dk_at dksJ10_equals_0 17 rfl rfl)
theorem dJ10_equals_18 : decode cJ10_equals 18 = .ok (.aload_n 1, 1) := dk_43 (dk_at dksJ10_equals_0 18 rfl rfl)
theorem dJ10_equals_19 : decode cJ10_equals 19 = .ok (.iload_n 2, 1) := dk_28 (dk_at dksJ10_equals_0 19 rfl rfl)
theorem dJ10_equals_20 : decode cJ10_equals 20 = .ok (.baload, 1) := dk_51 (dk_at dksJ10_equals_0 20 rfl rfl)
theorem dJ10_equals_21 : decode cJ10_equals 21 = .ok (.if_icmp .eq 5, 3) := dk_159 0 5 (dk_at dksJ10_equals_0 21 rfl rfl)
theorem dJ10_equals_24 : decode cJ10_equals 24 = .ok (.iconst 0, 1) := dk_3 (dk_at dksJ10_equals_1 0 rfl rfl)
theorem dJ10_equals_25 : decode cJ10_equals 25 = .ok (.ireturn, 1) := dk_172 (dk_at dksJ10_equals_1 1 rfl rfl)
theorem dJ10_equals_26 : decode cJ10_equals 26 = .ok (.iinc 2 1, 3) := dk_132 2 1 (dk_at dksJ10_equals_1 2 rfl rfl)
theorem dJ10_equals_29 : decode cJ10_equals 29 = .ok (.goto (-20), 3) := dk_167 255 236 (dk_at dksJ10_equals_1 5 rfl rfl)
theorem dJ10_equals_32 : decode cJ10_equals 32 = .ok (.iconst 1, 1) := dk_4 (dk_at dksJ10_equals_1 8 rfl rfl)
theorem dJ10_equals_33 : decode cJ10_equals 33 = .ok (.ireturn, 1) := dk_172 (dk_at dksJ10_equals_1 9 rfl rfl)
theorem dJ10_equals_34 : decode cJ10_equals 34 = .ok (.iconst 0, 1) := dk_3 (dk_at dksJ10_equals_1 10 rfl rfl)
theorem dJ10_equals_35 : decode cJ10_equals 35 = .ok (.ireturn, 1) := dk_172 (dk_at dksJ10_equals_1 11 rfl rfl)
abbrev cJ10_charAt : ByteArray := prog_28_method_2_code
def yJ10_charAt : MethodName := ⟨RJ10, "charAt", "([BI)C"⟩
def dkwJ10_charAt_0 : List UInt8 := [27, 42, 190, 184, 0, 9, 42, 27, 51, 17, 0, 255, 126, 146, 172]
abbrev dktJ10_charAt_0 : List UInt8 := dkwJ10_charAt_0 ++ []
theorem dksJ10_charAt_0 : cJ10_charAt.data.toList.drop 0 = dktJ10_charAt_0 := by decide +kernel
theorem dJ10_charAt_0 : decode cJ10_charAt 0 = .ok (.iload_n 1, 1) := dk_27 (dk_at dksJ10_charAt_0 0 rfl rfl)
theorem dJ10_charAt_1 : decode cJ10_charAt 1 = .ok (.aload_n 0, 1) := dk_42 (dk_at dksJ10_charAt_0 1 rfl rfl)
theorem dJ10_charAt_2 : decode cJ10_charAt 2 = .ok (.arraylength, 1) := dk_190 (dk_at dksJ10_charAt_0 2 rfl rfl)
theorem dJ10_charAt_3 : decode cJ10_charAt 3 = .ok (.invokestatic 9, 3) := dk_184 0 9 (dk_at dksJ10_charAt_0 3 rfl rfl)
theorem dJ10_charAt_6 : decode cJ10_charAt 6 = .ok (.aload_n 0, 1) := dk_42 (dk_at dksJ10_charAt_0 6 rfl rfl)
theorem dJ10_charAt_7 : decode cJ10_charAt 7 = .ok (.iload_n 1, 1) := dk_27 (dk_at dksJ10_charAt_0 7 rfl rfl)
theorem dJ10_charAt_8 : decode cJ10_charAt 8 = .ok (.baload, 1) := dk_51 (dk_at dksJ10_charAt_0 8 rfl rfl)
theorem dJ10_charAt_9 : decode cJ10_charAt 9 = .ok (.sipush 255, 3) := dk_17 0 255 (dk_at dksJ10_charAt_0 9 rfl rfl)
theorem dJ10_charAt_12 : decode cJ10_charAt 12 = .ok (.iand, 1) := dk_126 (dk_at dksJ10_charAt_0 12 rfl rfl)
theorem dJ10_charAt_13 : decode cJ10_charAt 13 = .ok (.i2c, 1) := dk_146 (dk_at dksJ10_charAt_0 13 rfl rfl)
theorem dJ10_charAt_14 : decode cJ10_charAt 14 = .ok (.ireturn, 1) := dk_172 (dk_at dksJ10_charAt_0 14 rfl rfl)
theorem q141 : (Jvm.Cond.initialized "java/lang/StringLatin1") ∈ lw_all := lw_g (lw_at lw_m1 18 rfl) rfl
theorem q468 : (Jvm.Cond.static ({ cls := "java/lang/StringLatin1", name := "canEncode", desc := "(C)Z" } : Jvm.MethodName)) ∈ lw_all := lw_g (lw_at lw_m2 105 rfl) rfl
theorem q469 : (Jvm.Cond.code ({ cls := "java/lang/StringLatin1", name := "canEncode", desc := "(C)Z" } : Jvm.MethodName) prog_28_method_3_code (1 : Nat) (Option.some Jvm.ClassFile.FieldType.boolean)) ∈ lw_all := lw_g (lw_at lw_m2 106 rfl) rfl
theorem q475 : (Jvm.Cond.static ({ cls := "java/lang/StringLatin1", name := "inflate", desc := "([BI[BII)V" } : Jvm.MethodName)) ∈ lw_all := lw_g (lw_at lw_m2 112 rfl) rfl
theorem q476 : (Jvm.Cond.code ({ cls := "java/lang/StringLatin1", name := "inflate", desc := "([BI[BII)V" } : Jvm.MethodName) prog_28_method_50_code (5 : Nat) (Option.none : Option Jvm.ClassFile.FieldType)) ∈ lw_all := lw_g (lw_at lw_m2 113 rfl) rfl
theorem q477 : (Jvm.Cond.methodLink "java/lang/StringLatin1" (240 : Nat) ({ cls := "java/lang/StringUTF16", name := "inflate", desc := "([BI[BII)V" } : Jvm.MethodName)) ∈ lw_all := lw_g (lw_at lw_m2 114 rfl) rfl
theorem q614 : (Jvm.Cond.static ({ cls := "java/lang/StringLatin1", name := "hashCode", desc := "([B)I" } : Jvm.MethodName)) ∈ lw_all := lw_g (lw_at lw_m3 11 rfl) rfl
theorem q615 : (Jvm.Cond.code ({ cls := "java/lang/StringLatin1", name := "hashCode", desc := "([B)I" } : Jvm.MethodName) prog_28_method_21_code (1 : Nat) (Option.some Jvm.ClassFile.FieldType.int)) ∈ lw_all := lw_g (lw_at lw_m3 12 rfl) rfl
theorem q616 : (Jvm.Cond.methodLink "java/lang/StringLatin1" (84 : Nat) ({ cls := "jdk/internal/util/ArraysSupport", name := "vectorizedHashCode", desc := "(Ljava/lang/Object;IIII)I" } : Jvm.MethodName)) ∈ lw_all := lw_g (lw_at lw_m3 13 rfl) rfl
theorem q665 : (Jvm.Cond.static ({ cls := "java/lang/StringLatin1", name := "equals", desc := "([B[B)Z" } : Jvm.MethodName)) ∈ lw_all := lw_g (lw_at lw_m3 62 rfl) rfl
theorem q666 : (Jvm.Cond.code ({ cls := "java/lang/StringLatin1", name := "equals", desc := "([B[B)Z" } : Jvm.MethodName) prog_28_method_13_code (3 : Nat) (Option.some Jvm.ClassFile.FieldType.boolean)) ∈ lw_all := lw_g (lw_at lw_m3 63 rfl) rfl
theorem q1846 : (Jvm.Cond.static ({ cls := "java/lang/StringLatin1", name := "charAt", desc := "([BI)C" } : Jvm.MethodName)) ∈ lw_all := lw_g (lw_at lw_m8 43 rfl) rfl
theorem q1847 : (Jvm.Cond.code ({ cls := "java/lang/StringLatin1", name := "charAt", desc := "([BI)C" } : Jvm.MethodName) prog_28_method_2_code (2 : Nat) (Option.some Jvm.ClassFile.FieldType.char)) ∈ lw_all := lw_g (lw_at lw_m8 44 rfl) rfl
theorem q1848 : (Jvm.Cond.methodLink "java/lang/StringLatin1" (9 : Nat) ({ cls := "java/lang/String", name := "checkIndex", desc := "(II)V" } : Jvm.MethodName)) ∈ lw_all := lw_g (lw_at lw_m8 45 rfl) rfl
/-! jdk/internal/util/Preconditions -/
set_option maxRecDepth 100000
def RJ11 : String := "jdk/internal/util/Preconditions"
abbrev cJ11_checkFromIndexSize : ByteArray := prog_47_method_13_code
def yJ11_checkFromIndexSize : MethodName := ⟨RJ11, "checkFromIndexSize", "(IIILjava/util/function/BiFunction;)I"⟩
def dkwJ11_checkFromIndexSize_1 : List UInt8 := [172]
abbrev dktJ11_checkFromIndexSize_1 : List UInt8 := dkwJ11_checkFromIndexSize_1 ++ []
def dkwJ11_checkFromIndexSize_0 : List UInt8 := [28, 26, 128, 27, 128, 155, 0, 10, 27, 28, 26, 100, 164, 0, 11, 45, 26, 27, 28, 184, 0, 103, 191, 26]
abbrev dktJ11_checkFromIndexSize_0 : List UInt8 := dkwJ11_checkFromIndexSize_0 ++ dktJ11_checkFromIndexSize_1
theorem dksJ11_checkFromIndexSize_0 : cJ11_checkFromIndexSize.data.toList.drop 0 = dktJ11_checkFromIndexSize_0 := by decide +kernel
theorem dksJ11_checkFromIndexSize_1 : cJ11_checkFromIndexSize.data.toList.drop 24 = dktJ11_checkFromIndexSize_1 := dk_seg dksJ11_checkFromIndexSize_0 24 rfl rfl
theorem dJ11_checkFromIndexSize_0 : decode cJ11_checkFromIndexSize 0 = .ok (.iload_n 2, 1) := dk_28 (dk_at dksJ11_checkFromIndexSize_0 0 rfl rfl)
theorem dJ11_checkFromIndexSize_1 : decode cJ11_checkFromIndexSize 1 = .ok (.iload_n 0, 1) := dk_26 (dk_at dksJ11_checkFromIndexSize_0 1 rfl rfl)
theorem dJ11_checkFromIndexSize_2 : decode cJ11_checkFromIndexSize 2 = .ok (.ior, 1) := dk_128 (dk_at dksJ11_checkFromIndexSize_0 2 rfl rfl)
theorem dJ11_checkFromIndexSize_3 : decode cJ11_checkFromIndexSize 3 = .ok (.iload_n 1, 1) := dk_27 (dk_at dksJ11_checkFromIndexSize_0 3 rfl rfl)
theorem dJ11_checkFromIndexSize_4 : decode cJ11_checkFromIndexSize 4 = .ok (.ior, 1) := dk_128 (dk_at dksJ11_checkFromIndexSize_0 4 rfl rfl)
theorem dJ11_checkFromIndexSize_5 : decode cJ11_checkFromIndexSize 5 = .ok (.ifCond .lt 10, 3) := dk_155 0 10 (dk_at dksJ11_checkFromIndexSize_0 5 rfl rfl)
theorem dJ11_checkFromIndexSize_8 : decode cJ11_checkFromIndexSize 8 = .ok (.iload_n 1, 1) := dk_27 (dk_at dksJ11_checkFromIndexSize_0 8 rfl rfl)
theorem dJ11_checkFromIndexSize_9 : decode cJ11_checkFromIndexSize 9 = .ok (.iload_n 2, 1) := dk_28 (dk_at dksJ11_checkFromIndexSize_0 9 rfl rfl)
theorem dJ11_checkFromIndexSize_10 : decode cJ11_checkFromIndexSize 10 = .ok (.iload_n 0, 1) := dk_26 (dk_at dksJ11_checkFromIndexSize_0 10 rfl rfl)
theorem dJ11_checkFromIndexSize_11 : decode cJ11_checkFromIndexSize 11 = .ok (.isub, 1) := dk_100 (dk_at dksJ11_checkFromIndexSize_0 11 rfl rfl)
theorem dJ11_checkFromIndexSize_12 : decode cJ11_checkFromIndexSize 12 = .ok (.if_icmp .le 11, 3) := dk_164 0 11 (dk_at dksJ11_checkFromIndexSize_0 12 rfl rfl)
theorem dJ11_checkFromIndexSize_15 : decode cJ11_checkFromIndexSize 15 = .ok (.aload_n 3, 1) := dk_45 (dk_at dksJ11_checkFromIndexSize_0 15 rfl rfl)
theorem dJ11_checkFromIndexSize_16 : decode cJ11_checkFromIndexSize 16 = .ok (.iload_n 0, 1) := dk_26 (dk_at dksJ11_checkFromIndexSize_0 16 rfl rfl)
theorem dJ11_checkFromIndexSize_17 : decode cJ11_checkFromIndexSize 17 = .ok (.iload_n 1, 1) := dk_27 (dk_at dksJ11_checkFromIndexSize_0 17 rfl rfl)
theorem dJ11_checkFromIndexSize_18 : decode cJ11_checkFromIndexSize 18 = .ok (.iload_n 2, 1) := dk_28 (dk_at dksJ11_checkFromIndexSize_0 18 rfl rfl)
theorem dJ11_checkFromIndexSize_19 : decode cJ11_checkFromIndexSize 19 = .ok (.invokestatic 103, 3) := dk_184 0 103 (dk_at dksJ11_checkFromIndexSize_0 19 rfl rfl)
theorem dJ11_checkFromIndexSize_22 : decode cJ11_checkFromIndexSize 22 = .ok (.athrow, 1) := dk_191 (dk_at dksJ11_checkFromIndexSize_0 22 rfl rfl)
theorem dJ11_checkFromIndexSize_23 : decode cJ11_checkFromIndexSize 23 = .ok (.iload_n 0, 1) := dk_26 (dk_at dksJ11_checkFromIndexSize_0 23 rfl rfl)
theorem dJ11_checkFromIndexSize_24 : decode cJ11_checkFromIndexSize 24 = .ok (.ireturn, 1) := dk_172 (dk_at dksJ11_checkFromIndexSize_1 0 rfl rfl)
abbrev cJ11_checkIndex : ByteArray := prog_47_method_11_code
def yJ11_checkIndex : MethodName := ⟨RJ11, "checkIndex", "(IILjava/util/function/BiFunction;)I"⟩
def dkwJ11_checkIndex_0 : List UInt8 := [26, 155, 0, 8, 26, 27, 161, 0, 10, 44, 26, 27, 184, 0, 95, 191, 26, 172]
abbrev dktJ11_checkIndex_0 : List UInt8 := dkwJ11_checkIndex_0 ++ []
theorem dksJ11_checkIndex_0 : cJ11_checkIndex.data.toList.drop 0 = dktJ11_checkIndex_0 := by decide +kernel
theorem dJ11_checkIndex_0 : decode cJ11_checkIndex 0 = .ok (.iload_n 0, 1) := dk_26 (dk_at dksJ11_checkIndex_0 0 rfl rfl)
theorem dJ11_checkIndex_1 : decode cJ11_checkIndex 1 = .ok (.ifCond .lt 8, 3) := dk_155 0 8 (dk_at dksJ11_checkIndex_0 1 rfl rfl)
theorem dJ11_checkIndex_4 : decode cJ11_checkIndex 4 = .ok (.iload_n 0, 1) := dk_26 (dk_at dksJ11_checkIndex_0 4 rfl rfl)
theorem dJ11_checkIndex_5 : decode cJ11_checkIndex 5 = .ok (.iload_n 1, 1) := dk_27 (dk_at dksJ11_checkIndex_0 5 rfl rfl)
theorem dJ11_checkIndex_6 : decode cJ11_checkIndex 6 = .ok (.if_icmp .lt 10, 3) := dk_161 0 10 (dk_at dksJ11_checkIndex_0 6 rfl rfl)
theorem dJ11_checkIndex_9 : decode cJ11_checkIndex 9 = .ok (.aload_n 2, 1) := dk_44 (dk_at dksJ11_checkIndex_0 9 rfl rfl)
theorem dJ11_checkIndex_10 : decode cJ11_checkIndex 10 = .ok (.iload_n 0, 1) := dk_26 (dk_at dksJ11_checkIndex_0 10 rfl rfl)
theorem dJ11_checkIndex_11 : decode cJ11_checkIndex 11 = .ok (.iload_n 1, 1) := dk_27 (dk_at dksJ11_checkIndex_0 11 rfl rfl)
theorem dJ11_checkIndex_12 : decode cJ11_checkIndex 12 = .ok (.invokestatic 95, 3) := dk_184 0 95 (dk_at dksJ11_checkIndex_0 12 rfl rfl)
theorem dJ11_checkIndex_15 : decode cJ11_checkIndex 15 = .ok (.athrow, 1) := dk_191 (dk_at dksJ11_checkIndex_0 15 rfl rfl)
theorem dJ11_checkIndex_16 : decode cJ11_checkIndex 16 = .ok (.iload_n 0, 1) := dk_26 (dk_at dksJ11_checkIndex_0 16 rfl rfl)
theorem dJ11_checkIndex_17 : decode cJ11_checkIndex 17 = .ok (.ireturn, 1) := dk_172 (dk_at dksJ11_checkIndex_0 17 rfl rfl)
theorem q142 : (Jvm.Cond.initialized "jdk/internal/util/Preconditions") ∈ lw_all := lw_g (lw_at lw_m1 19 rfl) rfl
theorem q490 : (Jvm.Cond.laysStatic "jdk/internal/util/Preconditions" "SIOOBE_FORMATTER" "Ljava/util/function/BiFunction;") ∈ lw_tbl := lw_at lw_m2 127 rfl
theorem q492 : (Jvm.Cond.static ({ cls := "jdk/internal/util/Preconditions", name := "checkFromIndexSize", desc := "(IIILjava/util/function/BiFunction;)I" } : Jvm.MethodName)) ∈ lw_all := lw_g (lw_at lw_m2 129 rfl) rfl
theorem q493 : (Jvm.Cond.code ({ cls := "jdk/internal/util/Preconditions", name := "checkFromIndexSize", desc := "(IIILjava/util/function/BiFunction;)I" } : Jvm.MethodName) prog_47_method_13_code (4 : Nat) (Option.some Jvm.ClassFile.FieldType.int)) ∈ lw_all := lw_g (lw_at lw_m2 130 rfl) rfl
theorem q513 : (Jvm.Cond.static ({ cls := "jdk/internal/util/Preconditions", name := "checkIndex", desc := "(IILjava/util/function/BiFunction;)I" } : Jvm.MethodName)) ∈ lw_all := lw_g (lw_at lw_m2 150 rfl) rfl
theorem q514 : (Jvm.Cond.code ({ cls := "jdk/internal/util/Preconditions", name := "checkIndex", desc := "(IILjava/util/function/BiFunction;)I" } : Jvm.MethodName) prog_47_method_11_code (3 : Nat) (Option.some Jvm.ClassFile.FieldType.int)) ∈ lw_all := lw_g (lw_at lw_m2 151 rfl) rfl
/-! java/util/Objects -/
set_option maxRecDepth 100000
def RJ12 : String := "java/util/Objects"
abbrev cJ12_checkIndex : ByteArray := prog_42_method_17_code
def yJ12_checkIndex : MethodName := ⟨RJ12, "checkIndex", "(II)I"⟩
def dkwJ12_checkIndex_0 : List UInt8 := [26, 27, 1, 184, 0, 105, 172]
abbrev dktJ12_checkIndex_0 : List UInt8 := dkwJ12_checkIndex_0 ++ []
theorem dksJ12_checkIndex_0 : cJ12_checkIndex.data.toList.drop 0 = dktJ12_checkIndex_0 := by decide +kernel
theorem dJ12_checkIndex_0 : decode cJ12_checkIndex 0 = .ok (.iload_n 0, 1) := dk_26 (dk_at dksJ12_checkIndex_0 0 rfl rfl)
theorem dJ12_checkIndex_1 : decode cJ12_checkIndex 1 = .ok (.iload_n 1, 1) := dk_27 (dk_at dksJ12_checkIndex_0 1 rfl rfl)
theorem dJ12_checkIndex_2 : decode cJ12_checkIndex 2 = .ok (.aconst_null, 1) := dk_1 (dk_at dksJ12_checkIndex_0 2 rfl rfl)
theorem dJ12_checkIndex_3 : decode cJ12_checkIndex 3 = .ok (.invokestatic 105, 3) := dk_184 0 105 (dk_at dksJ12_checkIndex_0 3 rfl rfl)
theorem dJ12_checkIndex_6 : decode cJ12_checkIndex 6 = .ok (.ireturn, 1) := dk_172 (dk_at dksJ12_checkIndex_0 6 rfl rfl)
theorem q144 : (Jvm.Cond.initialized "java/util/Objects") ∈ lw_all := lw_g (lw_at lw_m1 21 rfl) rfl
theorem q754 : (Jvm.Cond.static ({ cls := "java/util/Objects", name := "checkIndex", desc := "(II)I" } : Jvm.MethodName)) ∈ lw_all := lw_g (lw_at lw_m3 151 rfl) rfl
theorem q755 : (Jvm.Cond.code ({ cls := "java/util/Objects", name := "checkIndex", desc := "(II)I" } : Jvm.MethodName) prog_42_method_17_code (2 : Nat) (Option.some Jvm.ClassFile.FieldType.int)) ∈ lw_all := lw_g (lw_at lw_m3 152 rfl) rfl
theorem q756 : (Jvm.Cond.methodLink "java/util/Objects" (105 : Nat) ({ cls := "jdk/internal/util/Preconditions", name := "checkIndex", desc := "(IILjava/util/function/BiFunction;)I" } : Jvm.MethodName)) ∈ lw_all := lw_g (lw_at lw_m3 153 rfl) rfl
/-! java/lang/Throwable -/
set_option maxRecDepth 100000
def RJ13 : String := "java/lang/Throwable"
def TJ13 : u_T := fun k => match k with
  | 0 => ("java/lang/Throwable", "cause", "Ljava/lang/Throwable;", false)
  | 1 => ("java/lang/Throwable", "stackTrace", "[Ljava/lang/StackTraceElement;", false)
  | 2 => ("java/lang/Throwable", "suppressedExceptions", "Ljava/util/List;", false)
  | 3 => ("java/lang/Throwable", "detailMessage", "Ljava/lang/String;", false)
  | _ => ("java/lang/Throwable", "backtrace", "Ljava/lang/Object;", false)
def tyJ13 : Nat → FieldType := fun k => match k with
  | 0 => .object "java/lang/Throwable"
  | 1 => .array (.object "java/lang/StackTraceElement")
  | 2 => .object "java/util/List"
  | 3 => .object "java/lang/String"
  | _ => .object "java/lang/Object"
abbrev wsJ130 : List Cond := u_ws RJ13 TJ13 5
theorem nmJ13 : ∀ a, a < 5 → ∀ b, b < 5 → a ≠ b → (TJ13 a).2.1 ≠ (TJ13 b).2.1 := by decide +kernel
theorem tyJ13_ok : ∀ k, k < 5 → parseFieldDescriptor (TJ13 k).2.2.1 = some (tyJ13 k) := by decide +kernel
abbrev cJ13_init : ByteArray := prog_32_method_1_code
def yJ13_init : MethodName := ⟨RJ13, "<init>", "()V"⟩
def dkwJ13_init_1 : List UInt8 := [182, 0, 27, 87, 177]
abbrev dktJ13_init_1 : List UInt8 := dkwJ13_init_1 ++ []
def dkwJ13_init_0 : List UInt8 := [42, 183, 0, 1, 42, 42, 181, 0, 7, 42, 178, 0, 13, 181, 0, 17, 42, 178, 0, 20, 181, 0, 24, 42]
abbrev dktJ13_init_0 : List UInt8 := dkwJ13_init_0 ++ dktJ13_init_1
theorem dksJ13_init_0 : cJ13_init.data.toList.drop 0 = dktJ13_init_0 := by decide +kernel
theorem dksJ13_init_1 : cJ13_init.data.toList.drop 24 = dktJ13_init_1 := dk_seg dksJ13_init_0 24 rfl rfl
theorem dJ13_init_0 : decode cJ13_init 0 = .ok (.aload_n 0, 1) := dk_42 (dk_at dksJ13_init_0 0 rfl rfl)
theorem dJ13_init_1 : decode cJ13_init 1 = .ok (.invokespecial 1, 3) := dk_183 0 1 (dk_at dksJ13_init_0 1 rfl rfl)
theorem dJ13_init_4 : decode cJ13_init 4 = .ok (.aload_n 0, 1) := dk_42 (dk_at dksJ13_init_0 4 rfl rfl)
theorem dJ13_init_5 : decode cJ13_init 5 = .ok (.aload_n 0, 1) := dk_42 (dk_at dksJ13_init_0 5 rfl rfl)
theorem dJ13_init_6 : decode cJ13_init 6 = .ok (.putfield 7, 3) := dk_181 0 7 (dk_at dksJ13_init_0 6 rfl rfl)
theorem dJ13_init_9 : decode cJ13_init 9 = .ok (.aload_n 0, 1) := dk_42 (dk_at dksJ13_init_0 9 rfl rfl)
theorem dJ13_init_10 : decode cJ13_init 10 = .ok (.getstatic 13, 3) := dk_178 0 13 (dk_at dksJ13_init_0 10 rfl rfl)
theorem dJ13_init_13 : decode cJ13_init 13 = .ok (.putfield 17, 3) := dk_181 0 17 (dk_at dksJ13_init_0 13 rfl rfl)
theorem dJ13_init_16 : decode cJ13_init 16 = .ok (.aload_n 0, 1) := dk_42 (dk_at dksJ13_init_0 16 rfl rfl)
theorem dJ13_init_17 : decode cJ13_init 17 = .ok (.getstatic 20, 3) := dk_178 0 20 (dk_at dksJ13_init_0 17 rfl rfl)
theorem dJ13_init_20 : decode cJ13_init 20 = .ok (.putfield 24, 3) := dk_181 0 24 (dk_at dksJ13_init_0 20 rfl rfl)
theorem dJ13_init_23 : decode cJ13_init 23 = .ok (.aload_n 0, 1) := dk_42 (dk_at dksJ13_init_0 23 rfl rfl)
theorem dJ13_init_24 : decode cJ13_init 24 = .ok (.invokevirtual 27, 3) := dk_182 0 27 (dk_at dksJ13_init_1 0 rfl rfl)
theorem dJ13_init_27 : decode cJ13_init 27 = .ok (.pop, 1) := dk_87 (dk_at dksJ13_init_1 3 rfl rfl)
theorem dJ13_init_28 : decode cJ13_init 28 = .ok (.return_, 1) := dk_177 (dk_at dksJ13_init_1 4 rfl rfl)
theorem q152 : (Jvm.Cond.initialized "java/lang/Throwable") ∈ lw_all := lw_g (lw_at lw_m1 29 rfl) rfl
theorem q1597 : (Jvm.Cond.declares ({ cls := "java/lang/Throwable", name := "<init>", desc := "()V" } : Jvm.MethodName)) ∈ lw_tbl := lw_at lw_m7 34 rfl
theorem q1598 : (Jvm.Cond.declares ({ cls := "java/lang/Throwable", name := "<init>", desc := "(Ljava/lang/String;)V" } : Jvm.MethodName)) ∈ lw_tbl := lw_at lw_m7 35 rfl
theorem q1602 : (Jvm.Cond.lays "java/lang/Throwable" "java/lang/Throwable" "cause" "Ljava/lang/Throwable;") ∈ lw_all := lw_g (lw_at lw_m7 39 rfl) rfl
theorem q1604 : (Jvm.Cond.lays "java/lang/Throwable" "java/lang/Throwable" "stackTrace" "[Ljava/lang/StackTraceElement;") ∈ lw_all := lw_g (lw_at lw_m7 41 rfl) rfl
theorem q1606 : (Jvm.Cond.lays "java/lang/Throwable" "java/lang/Throwable" "suppressedExceptions" "Ljava/util/List;") ∈ lw_all := lw_g (lw_at lw_m7 43 rfl) rfl
theorem q1608 : (Jvm.Cond.lays "java/lang/Throwable" "java/lang/Throwable" "detailMessage" "Ljava/lang/String;") ∈ lw_all := lw_g (lw_at lw_m7 45 rfl) rfl
theorem q1610 : (Jvm.Cond.lays "java/lang/Throwable" "java/lang/Throwable" "backtrace" "Ljava/lang/Object;") ∈ lw_all := lw_g (lw_at lw_m7 47 rfl) rfl
theorem q1611 : (Jvm.Cond.fieldLink "java/lang/Throwable" (198 : Nat) "java/lang/Throwable" "backtrace" "Ljava/lang/Object;") ∈ lw_all := lw_g (lw_at lw_m7 48 rfl) rfl
theorem q1612 : (Jvm.Cond.superclass "java/lang/Throwable" "java/lang/Object") ∈ lw_all := lw_g (lw_at lw_m7 49 rfl) rfl
theorem q1613 : (Jvm.Cond.instanceMethod ({ cls := "java/lang/Throwable", name := "<init>", desc := "()V" } : Jvm.MethodName)) ∈ lw_all := lw_g (lw_at lw_m7 50 rfl) rfl
theorem q1614 : (Jvm.Cond.code ({ cls := "java/lang/Throwable", name := "<init>", desc := "()V" } : Jvm.MethodName) prog_32_method_1_code (1 : Nat) (Option.none : Option Jvm.ClassFile.FieldType)) ∈ lw_all := lw_g (lw_at lw_m7 51 rfl) rfl
theorem q1615 : (Jvm.Cond.methodLink "java/lang/Throwable" (1 : Nat) ({ cls := "java/lang/Object", name := "<init>", desc := "()V" } : Jvm.MethodName)) ∈ lw_all := lw_g (lw_at lw_m7 52 rfl) rfl
theorem q1616 : (Jvm.Cond.fieldLink "java/lang/Throwable" (13 : Nat) "java/lang/Throwable" "UNASSIGNED_STACK" "[Ljava/lang/StackTraceElement;") ∈ lw_all := lw_g (lw_at lw_m7 53 rfl) rfl
theorem q1617 : (Jvm.Cond.laysStatic "java/lang/Throwable" "UNASSIGNED_STACK" "[Ljava/lang/StackTraceElement;") ∈ lw_tbl := lw_at lw_m7 54 rfl
theorem q1618 : (Jvm.Cond.fieldLink "java/lang/Throwable" (20 : Nat) "java/lang/Throwable" "SUPPRESSED_SENTINEL" "Ljava/util/List;") ∈ lw_all := lw_g (lw_at lw_m7 55 rfl) rfl
theorem q1619 : (Jvm.Cond.laysStatic "java/lang/Throwable" "SUPPRESSED_SENTINEL" "Ljava/util/List;") ∈ lw_tbl := lw_at lw_m7 56 rfl
theorem q1620 : (Jvm.Cond.methodLink "java/lang/Throwable" (27 : Nat) ({ cls := "java/lang/Throwable", name := "fillInStackTrace", desc := "()Ljava/lang/Throwable;" } : Jvm.MethodName)) ∈ lw_all := lw_g (lw_at lw_m7 57 rfl) rfl
theorem q1621 : (Jvm.Cond.instanceMethod ({ cls := "java/lang/Throwable", name := "fillInStackTrace", desc := "()Ljava/lang/Throwable;" } : Jvm.MethodName)) ∈ lw_all := lw_g (lw_at lw_m7 58 rfl) rfl
theorem q1622 : (Jvm.Cond.sameMethod "java/lang/Throwable" "java/lang/Throwable" "fillInStackTrace" "()Ljava/lang/Throwable;") ∈ lw_all := lw_g (lw_at lw_m7 59 rfl) rfl
theorem q1623 : (Jvm.Cond.codeSync ({ cls := "java/lang/Throwable", name := "fillInStackTrace", desc := "()Ljava/lang/Throwable;" } : Jvm.MethodName) prog_32_method_18_code (1 : Nat) (Option.some (Jvm.ClassFile.FieldType.object "java/lang/Throwable"))) ∈ lw_all := lw_g (lw_at lw_m7 60 rfl) rfl
theorem q1624 : (Jvm.Cond.methodLink "java/lang/Throwable" (202 : Nat) ({ cls := "java/lang/Throwable", name := "fillInStackTrace", desc := "(I)Ljava/lang/Throwable;" } : Jvm.MethodName)) ∈ lw_all := lw_g (lw_at lw_m7 61 rfl) rfl
theorem q1625 : (Jvm.Cond.privateMethod ({ cls := "java/lang/Throwable", name := "fillInStackTrace", desc := "(I)Ljava/lang/Throwable;" } : Jvm.MethodName)) ∈ lw_tbl := lw_at lw_m7 62 rfl
theorem q1626 : (Jvm.Cond.instanceMethod ({ cls := "java/lang/Throwable", name := "fillInStackTrace", desc := "(I)Ljava/lang/Throwable;" } : Jvm.MethodName)) ∈ lw_all := lw_g (lw_at lw_m7 63 rfl) rfl
theorem q1627 : (Jvm.Cond.instantiable "java/lang/Throwable" (6 : Nat)) ∈ lw_all := lw_g (lw_at lw_m7 64 rfl) rfl
theorem q1628 : (Jvm.Cond.native ({ cls := "java/lang/Throwable", name := "fillInStackTrace", desc := "(I)Ljava/lang/Throwable;" } : Jvm.MethodName)) ∈ lw_all := lw_g (lw_at lw_m7 65 rfl) rfl
theorem q1639 : (Jvm.Cond.fieldLink "java/lang/Throwable" (198 : Nat) "java/lang/Throwable" "backtrace" "Ljava/lang/Object;") ∈ lw_all := lw_g (lw_at lw_m7 76 rfl) rfl
theorem q1640 : (Jvm.Cond.fieldLink "java/lang/Throwable" (7 : Nat) "java/lang/Throwable" "cause" "Ljava/lang/Throwable;") ∈ lw_all := lw_g (lw_at lw_m7 77 rfl) rfl
theorem q1641 : (Jvm.Cond.fieldLink "java/lang/Throwable" (17 : Nat) "java/lang/Throwable" "stackTrace" "[Ljava/lang/StackTraceElement;") ∈ lw_all := lw_g (lw_at lw_m7 78 rfl) rfl
theorem q1642 : (Jvm.Cond.fieldLink "java/lang/Throwable" (24 : Nat) "java/lang/Throwable" "suppressedExceptions" "Ljava/util/List;") ∈ lw_all := lw_g (lw_at lw_m7 79 rfl) rfl
theorem q1643 : (Jvm.Cond.soleField "java/lang/Throwable" "backtrace") ∈ lw_all := lw_g (lw_at lw_m7 80 rfl) rfl
theorem q1644 : (Jvm.Cond.soleField "java/lang/Throwable" "detailMessage") ∈ lw_all := lw_g (lw_at lw_m7 81 rfl) rfl
theorem q1645 : (Jvm.Cond.soleField "java/lang/Throwable" "cause") ∈ lw_all := lw_g (lw_at lw_m7 82 rfl) rfl
theorem q1646 : (Jvm.Cond.soleField "java/lang/Throwable" "stackTrace") ∈ lw_all := lw_g (lw_at lw_m7 83 rfl) rfl
theorem q1648 : (Jvm.Cond.soleField "java/lang/Throwable" "depth") ∈ lw_all := lw_g (lw_at lw_m7 85 rfl) rfl
theorem q1649 : (Jvm.Cond.soleField "java/lang/Throwable" "suppressedExceptions") ∈ lw_all := lw_g (lw_at lw_m7 86 rfl) rfl
theorem q2354 : (Jvm.Cond.sameMethod "java/lang/Throwable" "java/lang/Throwable" "fillInStackTrace" "(I)Ljava/lang/Throwable;") ∈ lw_all := lw_g (lw_at lw_m10 71 rfl) rfl
theorem q2378 : (Jvm.Cond.castable "java/lang/Throwable" "java/lang/Object") ∈ lw_tbl := lw_at lw_m10 95 rfl
theorem in_J13 : ∀ w ∈ wsJ130, w ∈ lw_all := lw_in wsJ130 [1602, 1604, 1606, 1608, 1610] (by decide +kernel) (by decide +kernel)
/-! java/lang/Exception -/
set_option maxRecDepth 100000
def RJ14 : String := "java/lang/Exception"
abbrev cJ14_init : ByteArray := prog_22_method_1_code
def yJ14_init : MethodName := ⟨RJ14, "<init>", "()V"⟩
theorem dJ14_init_0 : decode cJ14_init 0 = .ok (.aload_n 0, 1) := by decide +kernel
theorem dJ14_init_1 : decode cJ14_init 1 = .ok (.invokespecial 1, 3) := by decide +kernel
theorem dJ14_init_4 : decode cJ14_init 4 = .ok (.return_, 1) := by decide +kernel
theorem q153 : (Jvm.Cond.initialized "java/lang/Exception") ∈ lw_all := lw_g (lw_at lw_m1 30 rfl) rfl
theorem q1595 : (Jvm.Cond.declares ({ cls := "java/lang/Exception", name := "<init>", desc := "()V" } : Jvm.MethodName)) ∈ lw_tbl := lw_at lw_m7 32 rfl
theorem q1596 : (Jvm.Cond.declares ({ cls := "java/lang/Exception", name := "<init>", desc := "(Ljava/lang/String;)V" } : Jvm.MethodName)) ∈ lw_tbl := lw_at lw_m7 33 rfl
theorem q1636 : (Jvm.Cond.instanceMethod ({ cls := "java/lang/Exception", name := "<init>", desc := "()V" } : Jvm.MethodName)) ∈ lw_all := lw_g (lw_at lw_m7 73 rfl) rfl
theorem q1637 : (Jvm.Cond.code ({ cls := "java/lang/Exception", name := "<init>", desc := "()V" } : Jvm.MethodName) prog_22_method_1_code (1 : Nat) (Option.none : Option Jvm.ClassFile.FieldType)) ∈ lw_all := lw_g (lw_at lw_m7 74 rfl) rfl
theorem q1638 : (Jvm.Cond.methodLink "java/lang/Exception" (1 : Nat) ({ cls := "java/lang/Throwable", name := "<init>", desc := "()V" } : Jvm.MethodName)) ∈ lw_all := lw_g (lw_at lw_m7 75 rfl) rfl
/-! java/lang/RuntimeException -/
set_option maxRecDepth 100000
def RJ15 : String := "java/lang/RuntimeException"
abbrev cJ15_init : ByteArray := prog_25_method_1_code
def yJ15_init : MethodName := ⟨RJ15, "<init>", "()V"⟩
theorem dJ15_init_0 : decode cJ15_init 0 = .ok (.aload_n 0, 1) := by decide +kernel
theorem dJ15_init_1 : decode cJ15_init 1 = .ok (.invokespecial 1, 3) := by decide +kernel
theorem dJ15_init_4 : decode cJ15_init 4 = .ok (.return_, 1) := by decide +kernel
theorem q154 : (Jvm.Cond.initialized "java/lang/RuntimeException") ∈ lw_all := lw_g (lw_at lw_m1 31 rfl) rfl
theorem q1593 : (Jvm.Cond.declares ({ cls := "java/lang/RuntimeException", name := "<init>", desc := "()V" } : Jvm.MethodName)) ∈ lw_tbl := lw_at lw_m7 30 rfl
theorem q1594 : (Jvm.Cond.declares ({ cls := "java/lang/RuntimeException", name := "<init>", desc := "(Ljava/lang/String;)V" } : Jvm.MethodName)) ∈ lw_tbl := lw_at lw_m7 31 rfl
theorem q1633 : (Jvm.Cond.instanceMethod ({ cls := "java/lang/RuntimeException", name := "<init>", desc := "()V" } : Jvm.MethodName)) ∈ lw_all := lw_g (lw_at lw_m7 70 rfl) rfl
theorem q1634 : (Jvm.Cond.code ({ cls := "java/lang/RuntimeException", name := "<init>", desc := "()V" } : Jvm.MethodName) prog_25_method_1_code (1 : Nat) (Option.none : Option Jvm.ClassFile.FieldType)) ∈ lw_all := lw_g (lw_at lw_m7 71 rfl) rfl
theorem q1635 : (Jvm.Cond.methodLink "java/lang/RuntimeException" (1 : Nat) ({ cls := "java/lang/Exception", name := "<init>", desc := "()V" } : Jvm.MethodName)) ∈ lw_all := lw_g (lw_at lw_m7 72 rfl) rfl
/-! java/util/NoSuchElementException -/
set_option maxRecDepth 100000
def RJ16 : String := "java/util/NoSuchElementException"
def TJ16 : u_T := fun k => match k with
  | 0 => ("java/lang/Throwable", "cause", "Ljava/lang/Throwable;", false)
  | 1 => ("java/lang/Throwable", "stackTrace", "[Ljava/lang/StackTraceElement;", false)
  | 2 => ("java/lang/Throwable", "suppressedExceptions", "Ljava/util/List;", false)
  | 3 => ("java/lang/Throwable", "detailMessage", "Ljava/lang/String;", false)
  | 4 => ("java/lang/Throwable", "backtrace", "Ljava/lang/Object;", false)
  | _ => ("java/lang/Throwable", "depth", "I", false)
def tyJ16 : Nat → FieldType := fun k => match k with
  | 0 => .object "java/lang/Throwable"
  | 1 => .array (.object "java/lang/StackTraceElement")
  | 2 => .object "java/util/List"
  | 3 => .object "java/lang/String"
  | 4 => .object "java/lang/Object"
  | _ => .int
abbrev wsJ160 : List Cond := u_ws RJ16 TJ16 6
theorem nmJ16 : ∀ a, a < 6 → ∀ b, b < 6 → a ≠ b → (TJ16 a).2.1 ≠ (TJ16 b).2.1 := by decide +kernel
theorem tyJ16_ok : ∀ k, k < 6 → parseFieldDescriptor (TJ16 k).2.2.1 = some (tyJ16 k) := by decide +kernel
abbrev cJ16_init : ByteArray := prog_41_method_1_code
def yJ16_init : MethodName := ⟨RJ16, "<init>", "()V"⟩
theorem dJ16_init_0 : decode cJ16_init 0 = .ok (.aload_n 0, 1) := by decide +kernel
theorem dJ16_init_1 : decode cJ16_init 1 = .ok (.invokespecial 1, 3) := by decide +kernel
theorem dJ16_init_4 : decode cJ16_init 4 = .ok (.return_, 1) := by decide +kernel
theorem q155 : (Jvm.Cond.initialized "java/util/NoSuchElementException") ∈ lw_all := lw_g (lw_at lw_m1 32 rfl) rfl
theorem q841 : (Jvm.Cond.selects "java/util/NoSuchElementException" ({ cls := "java/lang/Object", name := "getClass", desc := "()Ljava/lang/Class;" } : Jvm.MethodName) ({ cls := "java/lang/Object", name := "getClass", desc := "()Ljava/lang/Class;" } : Jvm.MethodName)) ∈ lw_all := lw_g (lw_at lw_m3 238 rfl) rfl
theorem q1591 : (Jvm.Cond.instantiable "java/util/NoSuchElementException" (6 : Nat)) ∈ lw_all := lw_g (lw_at lw_m7 28 rfl) rfl
theorem q1592 : (Jvm.Cond.castable "java/util/NoSuchElementException" "java/util/NoSuchElementException") ∈ lw_tbl := lw_at lw_m7 29 rfl
theorem q1599 : (Jvm.Cond.selects "java/util/NoSuchElementException" ({ cls := "java/lang/Throwable", name := "fillInStackTrace", desc := "(I)Ljava/lang/Throwable;" } : Jvm.MethodName) ({ cls := "java/lang/Throwable", name := "fillInStackTrace", desc := "(I)Ljava/lang/Throwable;" } : Jvm.MethodName)) ∈ lw_all := lw_g (lw_at lw_m7 36 rfl) rfl
theorem q1600 : (Jvm.Cond.selects "java/util/NoSuchElementException" ({ cls := "java/lang/Throwable", name := "fillInStackTrace", desc := "()Ljava/lang/Throwable;" } : Jvm.MethodName) ({ cls := "java/lang/Throwable", name := "fillInStackTrace", desc := "()Ljava/lang/Throwable;" } : Jvm.MethodName)) ∈ lw_all := lw_g (lw_at lw_m7 37 rfl) rfl
theorem q1601 : (Jvm.Cond.lays "java/util/NoSuchElementException" "java/lang/Throwable" "cause" "Ljava/lang/Throwable;") ∈ lw_all := lw_g (lw_at lw_m7 38 rfl) rfl
theorem q1603 : (Jvm.Cond.lays "java/util/NoSuchElementException" "java/lang/Throwable" "stackTrace" "[Ljava/lang/StackTraceElement;") ∈ lw_all := lw_g (lw_at lw_m7 40 rfl) rfl
theorem q1605 : (Jvm.Cond.lays "java/util/NoSuchElementException" "java/lang/Throwable" "suppressedExceptions" "Ljava/util/List;") ∈ lw_all := lw_g (lw_at lw_m7 42 rfl) rfl
theorem q1607 : (Jvm.Cond.lays "java/util/NoSuchElementException" "java/lang/Throwable" "detailMessage" "Ljava/lang/String;") ∈ lw_all := lw_g (lw_at lw_m7 44 rfl) rfl
theorem q1609 : (Jvm.Cond.lays "java/util/NoSuchElementException" "java/lang/Throwable" "backtrace" "Ljava/lang/Object;") ∈ lw_all := lw_g (lw_at lw_m7 46 rfl) rfl
theorem q1630 : (Jvm.Cond.instanceMethod ({ cls := "java/util/NoSuchElementException", name := "<init>", desc := "()V" } : Jvm.MethodName)) ∈ lw_all := lw_g (lw_at lw_m7 67 rfl) rfl
theorem q1631 : (Jvm.Cond.code ({ cls := "java/util/NoSuchElementException", name := "<init>", desc := "()V" } : Jvm.MethodName) prog_41_method_1_code (1 : Nat) (Option.none : Option Jvm.ClassFile.FieldType)) ∈ lw_all := lw_g (lw_at lw_m7 68 rfl) rfl
theorem q1632 : (Jvm.Cond.methodLink "java/util/NoSuchElementException" (1 : Nat) ({ cls := "java/lang/RuntimeException", name := "<init>", desc := "()V" } : Jvm.MethodName)) ∈ lw_all := lw_g (lw_at lw_m7 69 rfl) rfl
theorem q1647 : (Jvm.Cond.lays "java/util/NoSuchElementException" "java/lang/Throwable" "depth" "I") ∈ lw_all := lw_g (lw_at lw_m7 84 rfl) rfl
theorem q1650 : (Jvm.Cond.superclass "java/util/NoSuchElementException" "java/lang/RuntimeException") ∈ lw_all := lw_g (lw_at lw_m7 87 rfl) rfl
theorem q2377 : (Jvm.Cond.castable "java/util/NoSuchElementException" "java/lang/Object") ∈ lw_tbl := lw_at lw_m10 94 rfl
theorem in_J16 : ∀ w ∈ wsJ160, w ∈ lw_all := lw_in wsJ160 [1601, 1603, 1605, 1607, 1609, 1647] (by decide +kernel) (by decide +kernel)
/-! java/lang/Object -/
set_option maxRecDepth 100000
def RJ17 : String := "java/lang/Object"
abbrev cJ17_init : ByteArray := object_method_1_code
def yJ17_init : MethodName := ⟨RJ17, "<init>", "()V"⟩
theorem dJ17_init_0 : decode cJ17_init 0 = .ok (.return_, 1) := by decide +kernel
theorem q162 : (Jvm.Cond.instanceMethod ({ cls := "java/lang/Object", name := "<init>", desc := "()V" } : Jvm.MethodName)) ∈ lw_all := lw_g (lw_at lw_m1 39 rfl) rfl
theorem q163 : (Jvm.Cond.code ({ cls := "java/lang/Object", name := "<init>", desc := "()V" } : Jvm.MethodName) object_method_1_code (1 : Nat) (Option.none : Option Jvm.ClassFile.FieldType)) ∈ lw_all := lw_g (lw_at lw_m1 40 rfl) rfl
theorem q451 : (Jvm.Cond.native ({ cls := "java/lang/Object", name := "clone", desc := "()Ljava/lang/Object;" } : Jvm.MethodName)) ∈ lw_all := lw_g (lw_at lw_m2 88 rfl) rfl
theorem q452 : (Jvm.Cond.instanceMethod ({ cls := "java/lang/Object", name := "clone", desc := "()Ljava/lang/Object;" } : Jvm.MethodName)) ∈ lw_all := lw_g (lw_at lw_m2 89 rfl) rfl
theorem q821 : (Jvm.Cond.instanceMethod ({ cls := "java/lang/Object", name := "getClass", desc := "()Ljava/lang/Class;" } : Jvm.MethodName)) ∈ lw_all := lw_g (lw_at lw_m3 218 rfl) rfl
theorem q822 : (Jvm.Cond.sameMethod "java/lang/Object" "java/lang/Object" "getClass" "()Ljava/lang/Class;") ∈ lw_all := lw_g (lw_at lw_m3 219 rfl) rfl
theorem q842 : (Jvm.Cond.native ({ cls := "java/lang/Object", name := "getClass", desc := "()Ljava/lang/Class;" } : Jvm.MethodName)) ∈ lw_all := lw_g (lw_at lw_m3 239 rfl) rfl
theorem q2355 : (Jvm.Cond.initialized "java/lang/Object") ∈ lw_all := lw_g (lw_at lw_m10 72 rfl) rfl
theorem q2381 : (Jvm.Cond.declares ({ cls := "java/lang/Object", name := "getClass", desc := "()Ljava/lang/Class;" } : Jvm.MethodName)) ∈ lw_tbl := lw_at lw_m10 98 rfl
/-! java/lang/System$2 -/
set_option maxRecDepth 100000
def RJ18 : String := "java/lang/System$2"
abbrev cJ18_getUTF16Char : ByteArray := prog_31_method_45_code
def yJ18_getUTF16Char : MethodName := ⟨RJ18, "getUTF16Char", "([BI)C"⟩
def dkwJ18_getUTF16Char_0 : List UInt8 := [43, 28, 184, 0, 185, 172]
abbrev dktJ18_getUTF16Char_0 : List UInt8 := dkwJ18_getUTF16Char_0 ++ []
theorem dksJ18_getUTF16Char_0 : cJ18_getUTF16Char.data.toList.drop 0 = dktJ18_getUTF16Char_0 := by decide +kernel
theorem dJ18_getUTF16Char_0 : decode cJ18_getUTF16Char 0 = .ok (.aload_n 1, 1) := dk_43 (dk_at dksJ18_getUTF16Char_0 0 rfl rfl)
theorem dJ18_getUTF16Char_1 : decode cJ18_getUTF16Char 1 = .ok (.iload_n 2, 1) := dk_28 (dk_at dksJ18_getUTF16Char_0 1 rfl rfl)
theorem dJ18_getUTF16Char_2 : decode cJ18_getUTF16Char 2 = .ok (.invokestatic 185, 3) := dk_184 0 185 (dk_at dksJ18_getUTF16Char_0 2 rfl rfl)
theorem dJ18_getUTF16Char_5 : decode cJ18_getUTF16Char 5 = .ok (.ireturn, 1) := dk_172 (dk_at dksJ18_getUTF16Char_0 5 rfl rfl)
theorem q632 : (Jvm.Cond.castable "java/lang/System$2" "jdk/internal/access/JavaLangAccess") ∈ lw_tbl := lw_at lw_m3 29 rfl
theorem q633 : (Jvm.Cond.selects "java/lang/System$2" ({ cls := "jdk/internal/access/JavaLangAccess", name := "getUTF16Char", desc := "([BI)C" } : Jvm.MethodName) ({ cls := "java/lang/System$2", name := "getUTF16Char", desc := "([BI)C" } : Jvm.MethodName)) ∈ lw_all := lw_g (lw_at lw_m3 30 rfl) rfl
theorem q634 : (Jvm.Cond.unhidden "java/lang/System$2" "getUTF16Char" "([BI)C") ∈ lw_tbl := lw_at lw_m3 31 rfl
theorem q635 : (Jvm.Cond.instanceMethod ({ cls := "java/lang/System$2", name := "getUTF16Char", desc := "([BI)C" } : Jvm.MethodName)) ∈ lw_all := lw_g (lw_at lw_m3 32 rfl) rfl
theorem q636 : (Jvm.Cond.publicMethod ({ cls := "java/lang/System$2", name := "getUTF16Char", desc := "([BI)C" } : Jvm.MethodName)) ∈ lw_tbl := lw_at lw_m3 33 rfl
theorem q637 : (Jvm.Cond.code ({ cls := "java/lang/System$2", name := "getUTF16Char", desc := "([BI)C" } : Jvm.MethodName) prog_31_method_45_code (3 : Nat) (Option.some Jvm.ClassFile.FieldType.char)) ∈ lw_all := lw_g (lw_at lw_m3 34 rfl) rfl
theorem q638 : (Jvm.Cond.methodLink "java/lang/System$2" (185 : Nat) ({ cls := "java/lang/StringUTF16", name := "getChar", desc := "([BI)C" } : Jvm.MethodName)) ∈ lw_all := lw_g (lw_at lw_m3 35 rfl) rfl
theorem q839 : (Jvm.Cond.selects "java/lang/System$2" ({ cls := "java/lang/Object", name := "getClass", desc := "()Ljava/lang/Class;" } : Jvm.MethodName) ({ cls := "java/lang/Object", name := "getClass", desc := "()Ljava/lang/Class;" } : Jvm.MethodName)) ∈ lw_all := lw_g (lw_at lw_m3 236 rfl) rfl
theorem q2368 : (Jvm.Cond.castable "java/lang/System$2" "java/lang/Object") ∈ lw_tbl := lw_at lw_m10 85 rfl
