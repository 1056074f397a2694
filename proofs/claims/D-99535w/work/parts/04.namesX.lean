/-! RoofRegatta$Tokens -/
set_option maxRecDepth 100000
def RX4 : String := "RoofRegatta$Tokens"
def TX4 : u_T := fun k => match k with
  | 0 => ("RoofRegatta$Tokens", "text", "[B", true)
  | 1 => ("RoofRegatta$Tokens", "size", "I", true)
  | _ => ("RoofRegatta$Tokens", "at", "I", false)
def tyX4 : Nat → FieldType := fun k => match k with
  | 0 => .array .byte
  | 1 => .int
  | _ => .int
abbrev wsX40 : List Cond := u_ws RX4 TX4 3
theorem nmX4 : ∀ a, a < 3 → ∀ b, b < 3 → a ≠ b → (TX4 a).2.1 ≠ (TX4 b).2.1 := by decide +kernel
theorem tyX4_ok : ∀ k, k < 3 → parseFieldDescriptor (TX4 k).2.2.1 = some (tyX4 k) := by decide +kernel
abbrev cX4_init : ByteArray := prog_12_method_1_code
def yX4_init : MethodName := ⟨RX4, "<init>", "([BI)V"⟩
def dkwX4_init_0 : List UInt8 := [42, 183, 0, 3, 42, 43, 181, 0, 9, 42, 28, 181, 0, 15, 177]
abbrev dktX4_init_0 : List UInt8 := dkwX4_init_0 ++ []
theorem dksX4_init_0 : cX4_init.data.toList.drop 0 = dktX4_init_0 := by decide +kernel
theorem dX4_init_0 : decode cX4_init 0 = .ok (.aload_n 0, 1) := dk_42 (dk_at dksX4_init_0 0 rfl rfl)
theorem dX4_init_1 : decode cX4_init 1 = .ok (.invokespecial 3, 3) := dk_183 0 3 (dk_at dksX4_init_0 1 rfl rfl)
theorem dX4_init_4 : decode cX4_init 4 = .ok (.aload_n 0, 1) := dk_42 (dk_at dksX4_init_0 4 rfl rfl)
theorem dX4_init_5 : decode cX4_init 5 = .ok (.aload_n 1, 1) := dk_43 (dk_at dksX4_init_0 5 rfl rfl)
theorem dX4_init_6 : decode cX4_init 6 = .ok (.putfield 9, 3) := dk_181 0 9 (dk_at dksX4_init_0 6 rfl rfl)
theorem dX4_init_9 : decode cX4_init 9 = .ok (.aload_n 0, 1) := dk_42 (dk_at dksX4_init_0 9 rfl rfl)
theorem dX4_init_10 : decode cX4_init 10 = .ok (.iload_n 2, 1) := dk_28 (dk_at dksX4_init_0 10 rfl rfl)
theorem dX4_init_11 : decode cX4_init 11 = .ok (.putfield 15, 3) := dk_181 0 15 (dk_at dksX4_init_0 11 rfl rfl)
theorem dX4_init_14 : decode cX4_init 14 = .ok (.return_, 1) := dk_177 (dk_at dksX4_init_0 14 rfl rfl)
abbrev cX4_next : ByteArray := prog_12_method_3_code
def yX4_next : MethodName := ⟨RX4, "next", "()LRoofRegatta$Token;"⟩
def dkwX4_next_12 : List UInt8 := [28, 18, 28, 183, 0, 30, 176]
abbrev dktX4_next_12 : List UInt8 := dkwX4_next_12 ++ []
def dkwX4_next_11 : List UInt8 := [180, 0, 19, 4, 96, 181, 0, 19, 187, 0, 26, 89, 28, 16, 59, 160, 0, 7, 7, 167, 0, 4, 3, 27]
abbrev dktX4_next_11 : List UInt8 := dkwX4_next_11 ++ dktX4_next_12
def dkwX4_next_10 : List UInt8 := [164, 0, 7, 3, 167, 0, 4, 6, 27, 28, 18, 28, 183, 0, 30, 176, 42, 182, 0, 22, 61, 42, 89]
abbrev dktX4_next_10 : List UInt8 := dkwX4_next_10 ++ dktX4_next_11
def dkwX4_next_9 : List UInt8 := [180, 0, 19, 4, 96, 181, 0, 19, 167, 255, 209, 187, 0, 26, 89, 42, 180, 0, 19, 27, 100, 6]
abbrev dktX4_next_9 : List UInt8 := dkwX4_next_9 ++ dktX4_next_10
def dkwX4_next_8 : List UInt8 := [180, 0, 19, 27, 100, 6, 162, 0, 16, 16, 10, 28, 104, 42, 182, 0, 22, 96, 16, 48, 100, 61, 42, 89]
abbrev dktX4_next_8 : List UInt8 := dkwX4_next_8 ++ dktX4_next_9
def dkwX4_next_7 : List UInt8 := [184, 0, 33, 153, 0, 82, 3, 61, 42, 182, 0, 22, 16, 48, 16, 57, 184, 0, 33, 153, 0, 39, 42]
abbrev dktX4_next_7 : List UInt8 := dkwX4_next_7 ++ dktX4_next_8
def dkwX4_next_6 : List UInt8 := [167, 0, 4, 5, 27, 3, 44, 182, 0, 44, 183, 0, 30, 176, 42, 182, 0, 22, 16, 48, 16, 57]
abbrev dktX4_next_6 : List UInt8 := dkwX4_next_6 ++ dktX4_next_7
def dkwX4_next_5 : List UInt8 := [181, 0, 19, 167, 255, 211, 187, 0, 26, 89, 42, 180, 0, 19, 27, 100, 16, 8, 164, 0, 7, 3]
abbrev dktX4_next_5 : List UInt8 := dkwX4_next_5 ++ dktX4_next_6
def dkwX4_next_4 : List UInt8 := [16, 8, 162, 0, 13, 44, 42, 182, 0, 22, 146, 182, 0, 40, 87, 42, 89, 180, 0, 19, 4, 96]
abbrev dktX4_next_4 : List UInt8 := dkwX4_next_4 ++ dktX4_next_5
def dkwX4_next_3 : List UInt8 := [183, 0, 39, 77, 42, 182, 0, 22, 16, 97, 16, 122, 184, 0, 33, 153, 0, 37, 42, 180, 0, 19, 27, 100]
abbrev dktX4_next_3 : List UInt8 := dkwX4_next_3 ++ dktX4_next_4
def dkwX4_next_2 : List UInt8 := [183, 0, 30, 176, 42, 182, 0, 22, 16, 97, 16, 122, 184, 0, 33, 153, 0, 89, 187, 0, 37, 89]
abbrev dktX4_next_2 : List UInt8 := dkwX4_next_2 ++ dktX4_next_3
def dkwX4_next_1 : List UInt8 := [180, 0, 19, 60, 42, 180, 0, 19, 42, 180, 0, 15, 160, 0, 16, 187, 0, 26, 89, 4, 27, 3, 18, 28]
abbrev dktX4_next_1 : List UInt8 := dkwX4_next_1 ++ dktX4_next_2
def dkwX4_next_0 : List UInt8 := [42, 182, 0, 22, 16, 32, 160, 0, 16, 42, 89, 180, 0, 19, 4, 96, 181, 0, 19, 167, 255, 237, 42]
abbrev dktX4_next_0 : List UInt8 := dkwX4_next_0 ++ dktX4_next_1
theorem dksX4_next_0 : cX4_next.data.toList.drop 0 = dktX4_next_0 := by decide +kernel
theorem dksX4_next_1 : cX4_next.data.toList.drop 23 = dktX4_next_1 := dk_seg dksX4_next_0 23 rfl rfl
theorem dksX4_next_2 : cX4_next.data.toList.drop 47 = dktX4_next_2 := dk_seg dksX4_next_1 24 rfl rfl
theorem dksX4_next_3 : cX4_next.data.toList.drop 69 = dktX4_next_3 := dk_seg dksX4_next_2 22 rfl rfl
theorem dksX4_next_4 : cX4_next.data.toList.drop 93 = dktX4_next_4 := dk_seg dksX4_next_3 24 rfl rfl
theorem dksX4_next_5 : cX4_next.data.toList.drop 115 = dktX4_next_5 := dk_seg dksX4_next_4 22 rfl rfl
theorem dksX4_next_6 : cX4_next.data.toList.drop 137 = dktX4_next_6 := dk_seg dksX4_next_5 22 rfl rfl
theorem dksX4_next_7 : cX4_next.data.toList.drop 159 = dktX4_next_7 := dk_seg dksX4_next_6 22 rfl rfl
theorem dksX4_next_8 : cX4_next.data.toList.drop 182 = dktX4_next_8 := dk_seg dksX4_next_7 23 rfl rfl
theorem dksX4_next_9 : cX4_next.data.toList.drop 206 = dktX4_next_9 := dk_seg dksX4_next_8 24 rfl rfl
theorem dksX4_next_10 : cX4_next.data.toList.drop 228 = dktX4_next_10 := dk_seg dksX4_next_9 22 rfl rfl
theorem dksX4_next_11 : cX4_next.data.toList.drop 251 = dktX4_next_11 := dk_seg dksX4_next_10 23 rfl rfl
theorem dksX4_next_12 : cX4_next.data.toList.drop 275 = dktX4_next_12 := dk_seg dksX4_next_11 24 rfl rfl
theorem dX4_next_0 : decode cX4_next 0 = .ok (.aload_n 0, 1) := dk_42 (dk_at dksX4_next_0 0 rfl rfl)
theorem dX4_next_1 : decode cX4_next 1 = .ok (.invokevirtual 22, 3) := dk_182 0 22 (dk_at dksX4_next_0 1 rfl rfl)
theorem dX4_next_4 : decode cX4_next 4 = .ok (.bipush 32, 2) := dk_16 32 (dk_at dksX4_next_0 4 rfl rfl)
theorem dX4_next_6 : decode cX4_next 6 = .ok (.if_icmp .ne 16, 3) := dk_160 0 16 (dk_at dksX4_next_0 6 rfl rfl)
theorem dX4_next_9 : decode cX4_next 9 = .ok (.aload_n 0, 1) := dk_42 (dk_at dksX4_next_0 9 rfl rfl)
theorem dX4_next_10 : decode cX4_next 10 = .ok (.dup, 1) := dk_89 (dk_at dksX4_next_0 10 rfl rfl)
theorem dX4_next_11 : decode cX4_next 11 = .ok (.getfield 19, 3) := dk_180 0 19 (dk_at dksX4_next_0 11 rfl rfl)
theorem dX4_next_14 : decode cX4_next 14 = .ok (.iconst 1, 1) := dk_4 (dk_at dksX4_next_0 14 rfl rfl)
theorem dX4_next_15 : decode cX4_next 15 = .ok (.iadd, 1) := dk_96 (dk_at dksX4_next_0 15 rfl rfl)
theorem dX4_next_16 : decode cX4_next 16 = .ok (.putfield 19, 3) := dk_181 0 19 (dk_at dksX4_next_0 16 rfl rfl)
theorem dX4_next_19 : decode cX4_next 19 = .ok (.goto (-19), 3) := dk_167 255 237 (dk_at dksX4_next_0 19 rfl rfl)
theorem dX4_next_22 : decode cX4_next 22 = .ok (.aload_n 0, 1) := dk_42 (dk_at dksX4_next_0 22 rfl rfl)
theorem dX4_next_23 : decode cX4_next 23 = .ok (.getfield 19, 3) := dk_180 0 19 (dk_at dksX4_next_1 0 rfl rfl)
theorem dX4_next_26 : decode cX4_next 26 = .ok (.istore_n 1, 1) := dk_60 (dk_at dksX4_next_1 3 rfl rfl)
theorem dX4_next_27 : decode cX4_next 27 = .ok (.aload_n 0, 1) := dk_42 (dk_at dksX4_next_1 4 rfl rfl)
theorem dX4_next_28 : decode cX4_next 28 = .ok (.getfield 19, 3) := dk_180 0 19 (dk_at dksX4_next_1 5 rfl rfl)
theorem dX4_next_31 : decode cX4_next 31 = .ok (.aload_n 0, 1) := dk_42 (dk_at dksX4_next_1 8 rfl rfl)
theorem dX4_next_32 : decode cX4_next 32 = .ok (.getfield 15, 3) := dk_180 0 15 (dk_at dksX4_next_1 9 rfl rfl)
theorem dX4_next_35 : decode cX4_next 35 = .ok (.if_icmp .ne 16, 3) := dk_160 0 16 (dk_at dksX4_next_1 12 rfl rfl)
theorem dX4_next_38 : decode cX4_next 38 = .ok (.new 26, 3) := dk_187 0 26 (dk_at dksX4_next_1 15 rfl rfl)
theorem dX4_next_41 : decode cX4_next 41 = .ok (.dup, 1) := dk_89 (dk_at dksX4_next_1 18 rfl rfl)
theorem dX4_next_42 : decode cX4_next 42 = .ok (.iconst 1, 1) := dk_4 (dk_at dksX4_next_1 19 rfl rfl)
theorem dX4_next_43 : decode cX4_next 43 = .ok (.iload_n 1, 1) := dk_27 (dk_at dksX4_next_1 20 rfl rfl)
theorem dX4_next_44 : decode cX4_next 44 = .ok (.iconst 0, 1) := dk_3 (dk_at dksX4_next_1 21 rfl rfl)
theorem dX4_next_45 : decode cX4_next 45 = .ok (.ldc 28, 2) := dk_18 28 (dk_at dksX4_next_1 22 rfl rfl)
theorem dX4_next_47 : decode cX4_next 47 = .ok (.invokespecial 30, 3) := dk_183 0 30 (dk_at dksX4_next_2 0 rfl rfl)
theorem dX4_next_50 : decode cX4_next 50 = .ok (.areturn, 1) := dk_176 (dk_at dksX4_next_2 3 rfl rfl)
theorem dX4_next_51 : decode cX4_next 51 = .ok (.aload_n 0, 1) := dk_42 (dk_at dksX4_next_2 4 rfl rfl)
theorem dX4_next_52 : decode cX4_next 52 = .ok (.invokevirtual 22, 3) := dk_182 0 22 (dk_at dksX4_next_2 5 rfl rfl)
theorem dX4_next_55 : decode cX4_next 55 = .ok (.bipush 97, 2) := dk_16 97 (dk_at dksX4_next_2 8 rfl rfl)
theorem dX4_next_57 : decode cX4_next 57 = .ok (.bipush 122, 2) := dk_16 122 (dk_at dksX4_next_2 10 rfl rfl)
theorem dX4_next_59 : decode cX4_next 59 = .ok (.invokestatic 33, 3) := dk_184 0 33 (dk_at dksX4_next_2 12 rfl rfl)
theorem dX4_next_62 : decode cX4_next 62 = .ok (.ifCond .eq 89, 3) := dk_153 0 89 (dk_at dksX4_next_2 15 rfl rfl)
theorem dX4_next_65 : decode cX4_next 65 = .ok (.new 37, 3) := dk_187 0 37 (dk_at dksX4_next_2 18 rfl rfl)
theorem dX4_next_68 : decode cX4_next 68 = .ok (.dup, 1) := dk_89 (dk_at dksX4_next_2 21 rfl rfl)
theorem dX4_next_69 : decode cX4_next 69 = .ok (.invokespecial 39, 3) := dk_183 0 39 (dk_at dksX4_next_3 0 rfl rfl)
theorem dX4_next_72 : decode cX4_next 72 = .ok (.astore_n 2, 1) := dk_77 (dk_at dksX4_next_3 3 rfl rfl)
theorem dX4_next_73 : decode cX4_next 73 = .ok (.aload_n 0, 1) := dk_42 (dk_at dksX4_next_3 4 rfl rfl)
theorem dX4_next_74 : decode cX4_next 74 = .ok (.invokevirtual 22, 3) := dk_182 0 22 (dk_at dksX4_next_3 5 rfl rfl)
theorem dX4_next_77 : decode cX4_next 77 = .ok (.bipush 97, 2) := dk_16 97 (dk_at dksX4_next_3 8 rfl rfl)
theorem dX4_next_79 : decode cX4_next 79 = .ok (.bipush 122, 2) := dk_16 122 (dk_at dksX4_next_3 10 rfl rfl)
theorem dX4_next_81 : decode cX4_next 81 = .ok (.invokestatic 33, 3) := dk_184 0 33 (dk_at dksX4_next_3 12 rfl rfl)
theorem dX4_next_84 : decode cX4_next 84 = .ok (.ifCond .eq 37, 3) := dk_153 0 37 (dk_at dksX4_next_3 15 rfl rfl)
theorem dX4_next_87 : decode cX4_next 87 = .ok (.aload_n 0, 1) := dk_42 (dk_at dksX4_next_3 18 rfl rfl)
theorem dX4_next_88 : decode cX4_next 88 = .ok (.getfield 19, 3) := dk_180 0 19 (dk_at dksX4_next_3 19 rfl rfl)
theorem dX4_next_91 : decode cX4_next 91 = .ok (.iload_n 1, 1) := dk_27 (dk_at dksX4_next_3 22 rfl rfl)
theorem dX4_next_92 : decode cX4_next 92 = .ok (.isub, 1) := dk_100 (dk_at dksX4_next_3 23 rfl rfl)
theorem dX4_next_93 : decode cX4_next 93 = .ok (.bipush 8, 2) := dk_16 8 (dk_at dksX4_next_4 0 rfl rfl)
theorem dX4_next_95 : decode cX4_next 95 = .ok (.if_icmp .ge 13, 3) := dk_162 0 13 (dk_at dksX4_next_4 2 rfl rfl)
theorem dX4_next_98 : decode cX4_next 98 = .ok (.aload_n 2, 1) := dk_44 (dk_at dksX4_next_4 5 rfl rfl)
theorem dX4_next_99 : decode cX4_next 99 = .ok (.aload_n 0, 1) := dk_42 (dk_at dksX4_next_4 6 rfl rfl)
theorem dX4_next_100 : decode cX4_next 100 = .ok (.invokevirtual 22, 3) := dk_182 0 22 (dk_at dksX4_next_4 7 rfl rfl)
theorem dX4_next_103 : decode cX4_next 103 = .ok (.i2c, 1) := dk_146 (dk_at dksX4_next_4 10 rfl rfl)
theorem dX4_next_104 : decode cX4_next 104 = .ok (.invokevirtual 40, 3) := dk_182 0 40 (dk_at dksX4_next_4 11 rfl rfl)
theorem dX4_next_107 : decode cX4_next 107 = .ok (.pop, 1) := dk_87 (dk_at dksX4_next_4 14 rfl rfl)
theorem dX4_next_108 : decode cX4_next 108 = .ok (.aload_n 0, 1) := dk_42 (dk_at dksX4_next_4 15 rfl rfl)
theorem dX4_next_109 : decode cX4_next 109 = .ok (.dup, 1) := dk_89 (dk_at dksX4_next_4 16 rfl rfl)
theorem dX4_next_110 : decode cX4_next 110 = .ok (.getfield 19, 3) := dk_180 0 19 (dk_at dksX4_next_4 17 rfl rfl)
theorem dX4_next_113 : decode cX4_next 113 = .ok (.iconst 1, 1) := dk_4 (dk_at dksX4_next_4 20 rfl rfl)
theorem dX4_next_114 : decode cX4_next 114 = .ok (.iadd, 1) := dk_96 (dk_at dksX4_next_4 21 rfl rfl)
theorem dX4_next_115 : decode cX4_next 115 = .ok (.putfield 19, 3) := dk_181 0 19 (dk_at dksX4_next_5 0 rfl rfl)
theorem dX4_next_118 : decode cX4_next 118 = .ok (.goto (-45), 3) := dk_167 255 211 (dk_at dksX4_next_5 3 rfl rfl)
theorem dX4_next_121 : decode cX4_next 121 = .ok (.new 26, 3) := dk_187 0 26 (dk_at dksX4_next_5 6 rfl rfl)
theorem dX4_next_124 : decode cX4_next 124 = .ok (.dup, 1) := dk_89 (dk_at dksX4_next_5 9 rfl rfl)
theorem dX4_next_125 : decode cX4_next 125 = .ok (.aload_n 0, 1) := dk_42 (dk_at dksX4_next_5 10 rfl rfl)
theorem dX4_next_126 : decode cX4_next 126 = .ok (.getfield 19, 3) := dk_180 0 19 (dk_at dksX4_next_5 11 rfl rfl)
theorem dX4_next_129 : decode cX4_next 129 = .ok (.iload_n 1, 1) := dk_27 (dk_at dksX4_next_5 14 rfl rfl)
theorem dX4_next_130 : decode cX4_next 130 = .ok (.isub, 1) := dk_100 (dk_at dksX4_next_5 15 rfl rfl)
theorem dX4_next_131 : decode cX4_next 131 = .ok (.bipush 8, 2) := dk_16 8 (dk_at dksX4_next_5 16 rfl rfl)
theorem dX4_next_133 : decode cX4_next 133 = .ok (.if_icmp .le 7, 3) := dk_164 0 7 (dk_at dksX4_next_5 18 rfl rfl)
theorem dX4_next_136 : decode cX4_next 136 = .ok (.iconst 0, 1) := dk_3 (dk_at dksX4_next_5 21 rfl rfl)
theorem dX4_next_137 : decode cX4_next 137 = .ok (.goto 4, 3) := dk_167 0 4 (dk_at dksX4_next_6 0 rfl rfl)
theorem dX4_next_140 : decode cX4_next 140 = .ok (.iconst 2, 1) := dk_5 (dk_at dksX4_next_6 3 rfl rfl)
theorem dX4_next_141 : decode cX4_next 141 = .ok (.iload_n 1, 1) := dk_27 (dk_at dksX4_next_6 4 rfl rfl)
theorem dX4_next_142 : decode cX4_next 142 = .ok (.iconst 0, 1) := dk_3 (dk_at dksX4_next_6 5 rfl rfl)
theorem dX4_next_143 : decode cX4_next 143 = .ok (.aload_n 2, 1) := dk_44 (dk_at dksX4_next_6 6 rfl rfl)
theorem dX4_next_144 : decode cX4_next 144 = .ok (.invokevirtual 44, 3) := dk_182 0 44 (dk_at dksX4_next_6 7 rfl rfl)
theorem dX4_next_147 : decode cX4_next 147 = .ok (.invokespecial 30, 3) := dk_183 0 30 (dk_at dksX4_next_6 10 rfl rfl)
theorem dX4_next_150 : decode cX4_next 150 = .ok (.areturn, 1) := dk_176 (dk_at dksX4_next_6 13 rfl rfl)
theorem dX4_next_151 : decode cX4_next 151 = .ok (.aload_n 0, 1) := dk_42 (dk_at dksX4_next_6 14 rfl rfl)
theorem dX4_next_152 : decode cX4_next 152 = .ok (.invokevirtual 22, 3) := dk_182 0 22 (dk_at dksX4_next_6 15 rfl rfl)
theorem dX4_next_155 : decode cX4_next 155 = .ok (.bipush 48, 2) := dk_16 48 (dk_at dksX4_next_6 18 rfl rfl)
theorem dX4_next_157 : decode cX4_next 157 = .ok (.bipush 57, 2) := dk_16 57 (dk_at dksX4_next_6 20 rfl rfl)
theorem dX4_next_159 : decode cX4_next 159 = .ok (.invokestatic 33, 3) := dk_184 0 33 (dk_at dksX4_next_7 0 rfl rfl)
theorem dX4_next_162 : decode cX4_next 162 = .ok (.ifCond .eq 82, 3) := dk_153 0 82 (dk_at dksX4_next_7 3 rfl rfl)
theorem dX4_next_165 : decode cX4_next 165 = .ok (.iconst 0, 1) := dk_3 (dk_at dksX4_next_7 6 rfl rfl)
theorem dX4_next_166 : decode cX4_next 166 = .ok (.istore_n 2, 1) := dk_61 (dk_at dksX4_next_7 7 rfl rfl)
theorem dX4_next_167 : decode cX4_next 167 = .ok (.aload_n 0, 1) := dk_42 (dk_at dksX4_next_7 8 rfl rfl)
theorem dX4_next_168 : decode cX4_next 168 = .ok (.invokevirtual 22, 3) := dk_182 0 22 (dk_at dksX4_next_7 9 rfl rfl)
theorem dX4_next_171 : decode cX4_next 171 = .ok (.bipush 48, 2) := dk_16 48 (dk_at dksX4_next_7 12 rfl rfl)
theorem dX4_next_173 : decode cX4_next 173 = .ok (.bipush 57, 2) := dk_16 57 (dk_at dksX4_next_7 14 rfl rfl)
theorem dX4_next_175 : decode cX4_next 175 = .ok (.invokestatic 33, 3) := dk_184 0 33 (dk_at dksX4_next_7 16 rfl rfl)
theorem dX4_next_178 : decode cX4_next 178 = .ok (.ifCond .eq 39, 3) := dk_153 0 39 (dk_at dksX4_next_7 19 rfl rfl)
theorem dX4_next_181 : decode cX4_next 181 = .ok (.aload_n 0, 1) := dk_42 (dk_at dksX4_next_7 22 rfl rfl)
theorem dX4_next_182 : decode cX4_next 182 = .ok (.getfield 19, 3) := dk_180 0 19 (dk_at dksX4_next_8 0 rfl rfl)
theorem dX4_next_185 : decode cX4_next 185 = .ok (.iload_n 1, 1) := dk_27 (dk_at dksX4_next_8 3 rfl rfl)
theorem dX4_next_186 : decode cX4_next 186 = .ok (.isub, 1) := dk_100 (dk_at dksX4_next_8 4 rfl rfl)
theorem dX4_next_187 : decode cX4_next 187 = .ok (.iconst 3, 1) := dk_6 (dk_at dksX4_next_8 5 rfl rfl)
theorem dX4_next_188 : decode cX4_next 188 = .ok (.if_icmp .ge 16, 3) := dk_162 0 16 (dk_at dksX4_next_8 6 rfl rfl)
theorem dX4_next_191 : decode cX4_next 191 = .ok (.bipush 10, 2) := dk_16 10 (dk_at dksX4_next_8 9 rfl rfl)
theorem dX4_next_193 : decode cX4_next 193 = .ok (.iload_n 2, 1) := dk_28 (dk_at dksX4_next_8 11 rfl rfl)
theorem dX4_next_194 : decode cX4_next 194 = .ok (.imul, 1) := dk_104 (dk_at dksX4_next_8 12 rfl rfl)
theorem dX4_next_195 : decode cX4_next 195 = .ok (.aload_n 0, 1) := dk_42 (dk_at dksX4_next_8 13 rfl rfl)
theorem dX4_next_196 : decode cX4_next 196 = .ok (.invokevirtual 22, 3) := dk_182 0 22 (dk_at dksX4_next_8 14 rfl rfl)
theorem dX4_next_199 : decode cX4_next 199 = .ok (.iadd, 1) := dk_96 (dk_at dksX4_next_8 17 rfl rfl)
theorem dX4_next_200 : decode cX4_next 200 = .ok (.bipush 48, 2) := dk_16 48 (dk_at dksX4_next_8 18 rfl rfl)
theorem dX4_next_202 : decode cX4_next 202 = .ok (.isub, 1) := dk_100 (dk_at dksX4_next_8 20 rfl rfl)
theorem dX4_next_203 : decode cX4_next 203 = .ok (.istore_n 2, 1) := dk_61 (dk_at dksX4_next_8 21 rfl rfl)
theorem dX4_next_204 : decode cX4_next 204 = .ok (.aload_n 0, 1) := dk_42 (dk_at dksX4_next_8 22 rfl rfl)
theorem dX4_next_205 : decode cX4_next 205 = .ok (.dup, 1) := dk_89 (dk_at dksX4_next_8 23 rfl rfl)
theorem dX4_next_206 : decode cX4_next 206 = .ok (.getfield 19, 3) := dk_180 0 19 (dk_at dksX4_next_9 0 rfl rfl)
theorem dX4_next_209 : decode cX4_next 209 = .ok (.iconst 1, 1) := dk_4 (dk_at dksX4_next_9 3 rfl rfl)
theorem dX4_next_210 : decode cX4_next 210 = .ok (.iadd, 1) := dk_96 (dk_at dksX4_next_9 4 rfl rfl)
theorem dX4_next_211 : decode cX4_next 211 = .ok (.putfield 19, 3) := dk_181 0 19 (dk_at dksX4_next_9 5 rfl rfl)
theorem dX4_next_214 : decode cX4_next 214 = .ok (.goto (-47), 3) := dk_167 255 209 (dk_at dksX4_next_9 8 rfl rfl)
theorem dX4_next_217 : decode cX4_next 217 = .ok (.new 26, 3) := dk_187 0 26 (dk_at dksX4_next_9 11 rfl rfl)
theorem dX4_next_220 : decode cX4_next 220 = .ok (.dup, 1) := dk_89 (dk_at dksX4_next_9 14 rfl rfl)
theorem dX4_next_221 : decode cX4_next 221 = .ok (.aload_n 0, 1) := dk_42 (dk_at dksX4_next_9 15 rfl rfl)
theorem dX4_next_222 : decode cX4_next 222 = .ok (.getfield 19, 3) := dk_180 0 19 (dk_at dksX4_next_9 16 rfl rfl)
theorem dX4_next_225 : decode cX4_next 225 = .ok (.iload_n 1, 1) := dk_27 (dk_at dksX4_next_9 19 rfl rfl)
theorem dX4_next_226 : decode cX4_next 226 = .ok (.isub, 1) := dk_100 (dk_at dksX4_next_9 20 rfl rfl)
theorem dX4_next_227 : decode cX4_next 227 = .ok (.iconst 3, 1) := dk_6 (dk_at dksX4_next_9 21 rfl rfl)
theorem dX4_next_228 : decode cX4_next 228 = .ok (.if_icmp .le 7, 3) := dk_164 0 7 (dk_at dksX4_next_10 0 rfl rfl)
theorem dX4_next_231 : decode cX4_next 231 = .ok (.iconst 0, 1) := dk_3 (dk_at dksX4_next_10 3 rfl rfl)
theorem dX4_next_232 : decode cX4_next 232 = .ok (.goto 4, 3) := dk_167 0 4 (dk_at dksX4_next_10 4 rfl rfl)
theorem dX4_next_235 : decode cX4_next 235 = .ok (.iconst 3, 1) := dk_6 (dk_at dksX4_next_10 7 rfl rfl)
theorem dX4_next_236 : decode cX4_next 236 = .ok (.iload_n 1, 1) := dk_27 (dk_at dksX4_next_10 8 rfl rfl)
theorem dX4_next_237 : decode cX4_next 237 = .ok (.iload_n 2, 1) := dk_28 (dk_at dksX4_next_10 9 rfl rfl)
theorem dX4_next_238 : decode cX4_next 238 = .ok (.ldc 28, 2) := dk_18 28 (dk_at dksX4_next_10 10 rfl rfl)
theorem dX4_next_240 : decode cX4_next 240 = .ok (.invokespecial 30, 3) := dk_183 0 30 (dk_at dksX4_next_10 12 rfl rfl)
theorem dX4_next_243 : decode cX4_next 243 = .ok (.areturn, 1) := dk_176 (dk_at dksX4_next_10 15 rfl rfl)
theorem dX4_next_244 : decode cX4_next 244 = .ok (.aload_n 0, 1) := dk_42 (dk_at dksX4_next_10 16 rfl rfl)
theorem dX4_next_245 : decode cX4_next 245 = .ok (.invokevirtual 22, 3) := dk_182 0 22 (dk_at dksX4_next_10 17 rfl rfl)
theorem dX4_next_248 : decode cX4_next 248 = .ok (.istore_n 2, 1) := dk_61 (dk_at dksX4_next_10 20 rfl rfl)
theorem dX4_next_249 : decode cX4_next 249 = .ok (.aload_n 0, 1) := dk_42 (dk_at dksX4_next_10 21 rfl rfl)
theorem dX4_next_250 : decode cX4_next 250 = .ok (.dup, 1) := dk_89 (dk_at dksX4_next_10 22 rfl rfl)
theorem dX4_next_251 : decode cX4_next 251 = .ok (.getfield 19, 3) := dk_180 0 19 (dk_at dksX4_next_11 0 rfl rfl)
theorem dX4_next_254 : decode cX4_next 254 = .ok (.iconst 1, 1) := dk_4 (dk_at dksX4_next_11 3 rfl rfl)
theorem dX4_next_255 : decode cX4_next 255 = .ok (.iadd, 1) := dk_96 (dk_at dksX4_next_11 4 rfl rfl)
theorem dX4_next_256 : decode cX4_next 256 = .ok (.putfield 19, 3) := dk_181 0 19 (dk_at dksX4_next_11 5 rfl rfl)
theorem dX4_next_259 : decode cX4_next 259 = .ok (.new 26, 3) := dk_187 0 26 (dk_at dksX4_next_11 8 rfl rfl)
theorem dX4_next_262 : decode cX4_next 262 = .ok (.dup, 1) := dk_89 (dk_at dksX4_next_11 11 rfl rfl)
theorem dX4_next_263 : decode cX4_next 263 = .ok (.iload_n 2, 1) := dk_28 (dk_at dksX4_next_11 12 rfl rfl)
theorem dX4_next_264 : decode cX4_next 264 = .ok (.bipush 59, 2) := dk_16 59 (dk_at dksX4_next_11 13 rfl rfl)
theorem dX4_next_266 : decode cX4_next 266 = .ok (.if_icmp .ne 7, 3) := dk_160 0 7 (dk_at dksX4_next_11 15 rfl rfl)
theorem dX4_next_269 : decode cX4_next 269 = .ok (.iconst 4, 1) := dk_7 (dk_at dksX4_next_11 18 rfl rfl)
theorem dX4_next_270 : decode cX4_next 270 = .ok (.goto 4, 3) := dk_167 0 4 (dk_at dksX4_next_11 19 rfl rfl)
theorem dX4_next_273 : decode cX4_next 273 = .ok (.iconst 0, 1) := dk_3 (dk_at dksX4_next_11 22 rfl rfl)
theorem dX4_next_274 : decode cX4_next 274 = .ok (.iload_n 1, 1) := dk_27 (dk_at dksX4_next_11 23 rfl rfl)
theorem dX4_next_275 : decode cX4_next 275 = .ok (.iload_n 2, 1) := dk_28 (dk_at dksX4_next_12 0 rfl rfl)
theorem dX4_next_276 : decode cX4_next 276 = .ok (.ldc 28, 2) := dk_18 28 (dk_at dksX4_next_12 1 rfl rfl)
theorem dX4_next_278 : decode cX4_next 278 = .ok (.invokespecial 30, 3) := dk_183 0 30 (dk_at dksX4_next_12 3 rfl rfl)
theorem dX4_next_281 : decode cX4_next 281 = .ok (.areturn, 1) := dk_176 (dk_at dksX4_next_12 6 rfl rfl)
abbrev cX4_look : ByteArray := prog_12_method_2_code
def yX4_look : MethodName := ⟨RX4, "look", "()I"⟩
def dkwX4_look_1 : List UInt8 := [167, 0, 4, 2, 172]
abbrev dktX4_look_1 : List UInt8 := dkwX4_look_1 ++ []
def dkwX4_look_0 : List UInt8 := [42, 180, 0, 19, 42, 180, 0, 15, 162, 0, 19, 42, 180, 0, 9, 42, 180, 0, 19, 51, 17, 0, 255, 126]
abbrev dktX4_look_0 : List UInt8 := dkwX4_look_0 ++ dktX4_look_1
theorem dksX4_look_0 : cX4_look.data.toList.drop 0 = dktX4_look_0 := by decide +kernel
theorem dksX4_look_1 : cX4_look.data.toList.drop 24 = dktX4_look_1 := dk_seg dksX4_look_0 24 rfl rfl
theorem dX4_look_0 : decode cX4_look 0 = .ok (.aload_n 0, 1) := dk_42 (dk_at dksX4_look_0 0 rfl rfl)
theorem dX4_look_1 : decode cX4_look 1 = .ok (.getfield 19, 3) := dk_180 0 19 (dk_at dksX4_look_0 1 rfl rfl)
theorem dX4_look_4 : decode cX4_look 4 = .ok (.aload_n 0, 1) := dk_42 (dk_at dksX4_look_0 4 rfl rfl)
theorem dX4_look_5 : decode cX4_look 5 = .ok (.getfield 15, 3) := dk_180 0 15 (dk_at dksX4_look_0 5 rfl rfl)
theorem dX4_look_8 : decode cX4_look 8 = .ok (.if_icmp .ge 19, 3) := dk_162 0 19 (dk_at dksX4_look_0 8 rfl rfl)
theorem dX4_look_11 : decode cX4_look 11 = .ok (.aload_n 0, 1) := dk_42 (dk_at dksX4_look_0 11 rfl rfl)
theorem dX4_look_12 : decode cX4_look 12 = .ok (.getfield 9, 3) := dk_180 0 9 (dk_at dksX4_look_0 12 rfl rfl)
theorem dX4_look_15 : decode cX4_look 15 = .ok (.aload_n 0, 1) := dk_42 (dk_at dksX4_look_0 15 rfl rfl)
theorem dX4_look_16 : decode cX4_look 16 = .ok (.getfield 19, 3) := dk_180 0 19 (dk_at dksX4_look_0 16 rfl rfl)
theorem dX4_look_19 : decode cX4_look 19 = .ok (.baload, 1) := dk_51 (dk_at dksX4_look_0 19 rfl rfl)
theorem dX4_look_20 : decode cX4_look 20 = .ok (.sipush 255, 3) := dk_17 0 255 (dk_at dksX4_look_0 20 rfl rfl)
theorem dX4_look_23 : decode cX4_look 23 = .ok (.iand, 1) := dk_126 (dk_at dksX4_look_0 23 rfl rfl)
theorem dX4_look_24 : decode cX4_look 24 = .ok (.goto 4, 3) := dk_167 0 4 (dk_at dksX4_look_1 0 rfl rfl)
theorem dX4_look_27 : decode cX4_look 27 = .ok (.iconst (-1), 1) := dk_2 (dk_at dksX4_look_1 3 rfl rfl)
theorem dX4_look_28 : decode cX4_look 28 = .ok (.ireturn, 1) := dk_172 (dk_at dksX4_look_1 4 rfl rfl)
theorem q130 : (Jvm.Cond.initialized "RoofRegatta$Tokens") ∈ lw_all := lw_g (lw_at lw_m1 7 rfl) rfl
theorem q268 : (Jvm.Cond.instantiable "RoofRegatta$Tokens" (3 : Nat)) ∈ lw_all := lw_g (lw_at lw_m1 145 rfl) rfl
theorem q270 : (Jvm.Cond.instanceMethod ({ cls := "RoofRegatta$Tokens", name := "<init>", desc := "([BI)V" } : Jvm.MethodName)) ∈ lw_all := lw_g (lw_at lw_m1 147 rfl) rfl
theorem q271 : (Jvm.Cond.code ({ cls := "RoofRegatta$Tokens", name := "<init>", desc := "([BI)V" } : Jvm.MethodName) prog_12_method_1_code (3 : Nat) (Option.none : Option Jvm.ClassFile.FieldType)) ∈ lw_all := lw_g (lw_at lw_m1 148 rfl) rfl
theorem q272 : (Jvm.Cond.methodLink "RoofRegatta$Tokens" (3 : Nat) ({ cls := "java/lang/Object", name := "<init>", desc := "()V" } : Jvm.MethodName)) ∈ lw_all := lw_g (lw_at lw_m1 149 rfl) rfl
theorem q273 : (Jvm.Cond.fieldLink "RoofRegatta$Tokens" (9 : Nat) "RoofRegatta$Tokens" "text" "[B") ∈ lw_all := lw_g (lw_at lw_m1 150 rfl) rfl
theorem q274 : (Jvm.Cond.fieldLink "RoofRegatta$Tokens" (15 : Nat) "RoofRegatta$Tokens" "size" "I") ∈ lw_all := lw_g (lw_at lw_m1 151 rfl) rfl
theorem q275 : (Jvm.Cond.fieldLink "RoofRegatta$Tokens" (19 : Nat) "RoofRegatta$Tokens" "at" "I") ∈ lw_all := lw_g (lw_at lw_m1 152 rfl) rfl
theorem q276 : (Jvm.Cond.laysFinal "RoofRegatta$Tokens" "RoofRegatta$Tokens" "text" "[B") ∈ lw_all := lw_g (lw_at lw_m1 153 rfl) rfl
theorem q277 : (Jvm.Cond.soleField "RoofRegatta$Tokens" "text") ∈ lw_all := lw_g (lw_at lw_m1 154 rfl) rfl
theorem q278 : (Jvm.Cond.laysFinal "RoofRegatta$Tokens" "RoofRegatta$Tokens" "size" "I") ∈ lw_all := lw_g (lw_at lw_m1 155 rfl) rfl
theorem q279 : (Jvm.Cond.soleField "RoofRegatta$Tokens" "size") ∈ lw_all := lw_g (lw_at lw_m1 156 rfl) rfl
theorem q280 : (Jvm.Cond.lays "RoofRegatta$Tokens" "RoofRegatta$Tokens" "at" "I") ∈ lw_all := lw_g (lw_at lw_m1 157 rfl) rfl
theorem q281 : (Jvm.Cond.soleField "RoofRegatta$Tokens" "at") ∈ lw_all := lw_g (lw_at lw_m1 158 rfl) rfl
theorem q282 : (Jvm.Cond.superclass "RoofRegatta$Tokens" "java/lang/Object") ∈ lw_all := lw_g (lw_at lw_m1 159 rfl) rfl
theorem q357 : (Jvm.Cond.instanceMethod ({ cls := "RoofRegatta$Tokens", name := "next", desc := "()LRoofRegatta$Token;" } : Jvm.MethodName)) ∈ lw_all := lw_g (lw_at lw_m1 234 rfl) rfl
theorem q358 : (Jvm.Cond.selects "RoofRegatta$Tokens" ({ cls := "RoofRegatta$Tokens", name := "next", desc := "()LRoofRegatta$Token;" } : Jvm.MethodName) ({ cls := "RoofRegatta$Tokens", name := "next", desc := "()LRoofRegatta$Token;" } : Jvm.MethodName)) ∈ lw_all := lw_g (lw_at lw_m1 235 rfl) rfl
theorem q359 : (Jvm.Cond.code ({ cls := "RoofRegatta$Tokens", name := "next", desc := "()LRoofRegatta$Token;" } : Jvm.MethodName) prog_12_method_3_code (3 : Nat) (Option.some (Jvm.ClassFile.FieldType.object "RoofRegatta$Token"))) ∈ lw_all := lw_g (lw_at lw_m1 236 rfl) rfl
theorem q360 : (Jvm.Cond.methodLink "RoofRegatta$Tokens" (22 : Nat) ({ cls := "RoofRegatta$Tokens", name := "look", desc := "()I" } : Jvm.MethodName)) ∈ lw_all := lw_g (lw_at lw_m1 237 rfl) rfl
theorem q361 : (Jvm.Cond.privateMethod ({ cls := "RoofRegatta$Tokens", name := "look", desc := "()I" } : Jvm.MethodName)) ∈ lw_tbl := lw_at lw_m1 238 rfl
theorem q362 : (Jvm.Cond.instanceMethod ({ cls := "RoofRegatta$Tokens", name := "look", desc := "()I" } : Jvm.MethodName)) ∈ lw_all := lw_g (lw_at lw_m1 239 rfl) rfl
theorem q363 : (Jvm.Cond.code ({ cls := "RoofRegatta$Tokens", name := "look", desc := "()I" } : Jvm.MethodName) prog_12_method_2_code (1 : Nat) (Option.some Jvm.ClassFile.FieldType.int)) ∈ lw_all := lw_g (lw_at lw_m2 0 rfl) rfl
theorem q364 : (Jvm.Cond.classLink "RoofRegatta$Tokens" (26 : Nat) "RoofRegatta$Token") ∈ lw_all := lw_g (lw_at lw_m2 1 rfl) rfl
theorem q366 : (Jvm.Cond.stringRef "RoofRegatta$Tokens" (28 : Nat) "") ∈ lw_tbl := lw_at lw_m2 3 rfl
theorem q367 : (Jvm.Cond.methodLink "RoofRegatta$Tokens" (30 : Nat) ({ cls := "RoofRegatta$Token", name := "<init>", desc := "(IIILjava/lang/String;)V" } : Jvm.MethodName)) ∈ lw_all := lw_g (lw_at lw_m2 4 rfl) rfl
theorem q388 : (Jvm.Cond.methodLinkNest "RoofRegatta$Tokens" (33 : Nat) ({ cls := "RoofRegatta", name := "in", desc := "(III)Z" } : Jvm.MethodName) "RoofRegatta") ∈ lw_tbl := lw_at lw_m2 25 rfl
theorem q389 : (Jvm.Cond.classLink "RoofRegatta$Tokens" (37 : Nat) "java/lang/StringBuilder") ∈ lw_all := lw_g (lw_at lw_m2 26 rfl) rfl
theorem q391 : (Jvm.Cond.methodLink "RoofRegatta$Tokens" (39 : Nat) ({ cls := "java/lang/StringBuilder", name := "<init>", desc := "()V" } : Jvm.MethodName)) ∈ lw_all := lw_g (lw_at lw_m2 28 rfl) rfl
theorem q420 : (Jvm.Cond.methodLink "RoofRegatta$Tokens" (40 : Nat) ({ cls := "java/lang/StringBuilder", name := "append", desc := "(C)Ljava/lang/StringBuilder;" } : Jvm.MethodName)) ∈ lw_all := lw_g (lw_at lw_m2 57 rfl) rfl
theorem q515 : (Jvm.Cond.methodLink "RoofRegatta$Tokens" (44 : Nat) ({ cls := "java/lang/StringBuilder", name := "toString", desc := "()Ljava/lang/String;" } : Jvm.MethodName)) ∈ lw_all := lw_g (lw_at lw_m2 152 rfl) rfl
theorem q834 : (Jvm.Cond.selects "RoofRegatta$Tokens" ({ cls := "java/lang/Object", name := "getClass", desc := "()Ljava/lang/Class;" } : Jvm.MethodName) ({ cls := "java/lang/Object", name := "getClass", desc := "()Ljava/lang/Class;" } : Jvm.MethodName)) ∈ lw_all := lw_g (lw_at lw_m3 231 rfl) rfl
theorem q2363 : (Jvm.Cond.castable "RoofRegatta$Tokens" "java/lang/Object") ∈ lw_tbl := lw_at lw_m10 80 rfl
theorem in_X4 : ∀ w ∈ wsX40, w ∈ lw_all := lw_in wsX40 [276, 278, 280] (by decide +kernel) (by decide +kernel)
/-! RoofRegatta$Regatta -/
set_option maxRecDepth 100000
def RX5 : String := "RoofRegatta$Regatta"
def TX5 : u_T := fun k => match k with
  | 0 => ("RoofRegatta$Regatta", "water", "I", false)
  | 1 => ("RoofRegatta$Regatta", "bridge", "I", false)
  | 2 => ("RoofRegatta$Regatta", "storey", "I", false)
  | 3 => ("RoofRegatta$Regatta", "rain", "I", false)
  | 4 => ("RoofRegatta$Regatta", "by", "I", false)
  | 5 => ("RoofRegatta$Regatta", "friendships", "I", false)
  | 6 => ("RoofRegatta$Regatta", "manyPrizes", "I", false)
  | 7 => ("RoofRegatta$Regatta", "prizes", "[I", true)
  | 8 => ("RoofRegatta$Regatta", "bends", "Ljava/util/ArrayList;", true)
  | 9 => ("RoofRegatta$Regatta", "houses", "Ljava/util/ArrayList;", true)
  | 10 => ("RoofRegatta$Regatta", "lodgers", "Ljava/util/ArrayList;", true)
  | _ => ("RoofRegatta$Regatta", "seen", "Ljava/util/ArrayList;", true)
def tyX5 : Nat → FieldType := fun k => match k with
  | 0 => .int
  | 1 => .int
  | 2 => .int
  | 3 => .int
  | 4 => .int
  | 5 => .int
  | 6 => .int
  | 7 => .array .int
  | 8 => .object "java/util/ArrayList"
  | 9 => .object "java/util/ArrayList"
  | 10 => .object "java/util/ArrayList"
  | _ => .object "java/util/ArrayList"
abbrev wsX50 : List Cond := u_ws RX5 TX5 12
theorem nmX5 : ∀ a, a < 12 → ∀ b, b < 12 → a ≠ b → (TX5 a).2.1 ≠ (TX5 b).2.1 := by decide +kernel
theorem tyX5_ok : ∀ k, k < 12 → parseFieldDescriptor (TX5 k).2.2.1 = some (tyX5 k) := by decide +kernel
abbrev cX5_init : ByteArray := prog_7_method_1_code
def yX5_init : MethodName := ⟨RX5, "<init>", "()V"⟩
def dkwX5_init_2 : List UInt8 := [187, 0, 15, 89, 183, 0, 17, 181, 0, 28, 177]
abbrev dktX5_init_2 : List UInt8 := dkwX5_init_2 ++ []
def dkwX5_init_1 : List UInt8 := [187, 0, 15, 89, 183, 0, 17, 181, 0, 22, 42, 187, 0, 15, 89, 183, 0, 17, 181, 0, 25, 42]
abbrev dktX5_init_1 : List UInt8 := dkwX5_init_1 ++ dktX5_init_2
def dkwX5_init_0 : List UInt8 := [42, 183, 0, 3, 42, 7, 188, 10, 181, 0, 9, 42, 187, 0, 15, 89, 183, 0, 17, 181, 0, 18, 42]
abbrev dktX5_init_0 : List UInt8 := dkwX5_init_0 ++ dktX5_init_1
theorem dksX5_init_0 : cX5_init.data.toList.drop 0 = dktX5_init_0 := by decide +kernel
theorem dksX5_init_1 : cX5_init.data.toList.drop 23 = dktX5_init_1 := dk_seg dksX5_init_0 23 rfl rfl
theorem dksX5_init_2 : cX5_init.data.toList.drop 45 = dktX5_init_2 := dk_seg dksX5_init_1 22 rfl rfl
theorem dX5_init_0 : decode cX5_init 0 = .ok (.aload_n 0, 1) := dk_42 (dk_at dksX5_init_0 0 rfl rfl)
theorem dX5_init_1 : decode cX5_init 1 = .ok (.invokespecial 3, 3) := dk_183 0 3 (dk_at dksX5_init_0 1 rfl rfl)
theorem dX5_init_4 : decode cX5_init 4 = .ok (.aload_n 0, 1) := dk_42 (dk_at dksX5_init_0 4 rfl rfl)
theorem dX5_init_5 : decode cX5_init 5 = .ok (.iconst 4, 1) := dk_7 (dk_at dksX5_init_0 5 rfl rfl)
theorem dX5_init_6 : decode cX5_init 6 = .ok (.newarray .int, 2) := dk_188_10 (dk_at dksX5_init_0 6 rfl rfl)
theorem dX5_init_8 : decode cX5_init 8 = .ok (.putfield 9, 3) := dk_181 0 9 (dk_at dksX5_init_0 8 rfl rfl)
theorem dX5_init_11 : decode cX5_init 11 = .ok (.aload_n 0, 1) := dk_42 (dk_at dksX5_init_0 11 rfl rfl)
theorem dX5_init_12 : decode cX5_init 12 = .ok (.new 15, 3) := dk_187 0 15 (dk_at dksX5_init_0 12 rfl rfl)
theorem dX5_init_15 : decode cX5_init 15 = .ok (.dup, 1) := dk_89 (dk_at dksX5_init_0 15 rfl rfl)
theorem dX5_init_16 : decode cX5_init 16 = .ok (.invokespecial 17, 3) := dk_183 0 17 (dk_at dksX5_init_0 16 rfl rfl)
theorem dX5_init_19 : decode cX5_init 19 = .ok (.putfield 18, 3) := dk_181 0 18 (dk_at dksX5_init_0 19 rfl rfl)
theorem dX5_init_22 : decode cX5_init 22 = .ok (.aload_n 0, 1) := dk_42 (dk_at dksX5_init_0 22 rfl rfl)
theorem dX5_init_23 : decode cX5_init 23 = .ok (.new 15, 3) := dk_187 0 15 (dk_at dksX5_init_1 0 rfl rfl)
theorem dX5_init_26 : decode cX5_init 26 = .ok (.dup, 1) := dk_89 (dk_at dksX5_init_1 3 rfl rfl)
theorem dX5_init_27 : decode cX5_init 27 = .ok (.invokespecial 17, 3) := dk_183 0 17 (dk_at dksX5_init_1 4 rfl rfl)
theorem dX5_init_30 : decode cX5_init 30 = .ok (.putfield 22, 3) := dk_181 0 22 (dk_at dksX5_init_1 7 rfl rfl)
theorem dX5_init_33 : decode cX5_init 33 = .ok (.aload_n 0, 1) := dk_42 (dk_at dksX5_init_1 10 rfl rfl)
theorem dX5_init_34 : decode cX5_init 34 = .ok (.new 15, 3) := dk_187 0 15 (dk_at dksX5_init_1 11 rfl rfl)
theorem dX5_init_37 : decode cX5_init 37 = .ok (.dup, 1) := dk_89 (dk_at dksX5_init_1 14 rfl rfl)
theorem dX5_init_38 : decode cX5_init 38 = .ok (.invokespecial 17, 3) := dk_183 0 17 (dk_at dksX5_init_1 15 rfl rfl)
theorem dX5_init_41 : decode cX5_init 41 = .ok (.putfield 25, 3) := dk_181 0 25 (dk_at dksX5_init_1 18 rfl rfl)
theorem dX5_init_44 : decode cX5_init 44 = .ok (.aload_n 0, 1) := dk_42 (dk_at dksX5_init_1 21 rfl rfl)
theorem dX5_init_45 : decode cX5_init 45 = .ok (.new 15, 3) := dk_187 0 15 (dk_at dksX5_init_2 0 rfl rfl)
theorem dX5_init_48 : decode cX5_init 48 = .ok (.dup, 1) := dk_89 (dk_at dksX5_init_2 3 rfl rfl)
theorem dX5_init_49 : decode cX5_init 49 = .ok (.invokespecial 17, 3) := dk_183 0 17 (dk_at dksX5_init_2 4 rfl rfl)
theorem dX5_init_52 : decode cX5_init 52 = .ok (.putfield 28, 3) := dk_181 0 28 (dk_at dksX5_init_2 7 rfl rfl)
theorem dX5_init_55 : decode cX5_init 55 = .ok (.return_, 1) := dk_177 (dk_at dksX5_init_2 10 rfl rfl)
abbrev cX5_bend : ByteArray := prog_7_method_2_code
def yX5_bend : MethodName := ⟨RX5, "bend", "(Ljava/lang/String;)I"⟩
def dkwX5_bend_1 : List UInt8 := [180, 0, 41, 43, 182, 0, 45, 153, 0, 5, 28, 172, 132, 2, 1, 167, 255, 219, 2, 172]
abbrev dktX5_bend_1 : List UInt8 := dkwX5_bend_1 ++ []
def dkwX5_bend_0 : List UInt8 := [3, 61, 28, 42, 180, 0, 18, 182, 0, 31, 162, 0, 32, 42, 180, 0, 18, 28, 182, 0, 35, 192, 0, 39]
abbrev dktX5_bend_0 : List UInt8 := dkwX5_bend_0 ++ dktX5_bend_1
theorem dksX5_bend_0 : cX5_bend.data.toList.drop 0 = dktX5_bend_0 := by decide +kernel
theorem dksX5_bend_1 : cX5_bend.data.toList.drop 24 = dktX5_bend_1 := dk_seg dksX5_bend_0 24 rfl rfl
theorem dX5_bend_0 : decode cX5_bend 0 = .ok (.iconst 0, 1) := dk_3 (dk_at dksX5_bend_0 0 rfl rfl)
theorem dX5_bend_1 : decode cX5_bend 1 = .ok (.istore_n 2, 1) := dk_61 (dk_at dksX5_bend_0 1 rfl rfl)
theorem dX5_bend_2 : decode cX5_bend 2 = .ok (.iload_n 2, 1) := dk_28 (dk_at dksX5_bend_0 2 rfl rfl)
theorem dX5_bend_3 : decode cX5_bend 3 = .ok (.aload_n 0, 1) := dk_42 (dk_at dksX5_bend_0 3 rfl rfl)
theorem dX5_bend_4 : decode cX5_bend 4 = .ok (.getfield 18, 3) := dk_180 0 18 (dk_at dksX5_bend_0 4 rfl rfl)
theorem dX5_bend_7 : decode cX5_bend 7 = .ok (.invokevirtual 31, 3) := dk_182 0 31 (dk_at dksX5_bend_0 7 rfl rfl)
theorem dX5_bend_10 : decode cX5_bend 10 = .ok (.if_icmp .ge 32, 3) := dk_162 0 32 (dk_at dksX5_bend_0 10 rfl rfl)
theorem dX5_bend_13 : decode cX5_bend 13 = .ok (.aload_n 0, 1) := dk_42 (dk_at dksX5_bend_0 13 rfl rfl)
theorem dX5_bend_14 : decode cX5_bend 14 = .ok (.getfield 18, 3) := dk_180 0 18 (dk_at dksX5_bend_0 14 rfl rfl)
theorem dX5_bend_17 : decode cX5_bend 17 = .ok (.iload_n 2, 1) := dk_28 (dk_at dksX5_bend_0 17 rfl rfl)
theorem dX5_bend_18 : decode cX5_bend 18 = .ok (.invokevirtual 35, 3) := dk_182 0 35 (dk_at dksX5_bend_0 18 rfl rfl)
theorem dX5_bend_21 : decode cX5_bend 21 = .ok (.checkcast 39, 3) := dk_192 0 39 (dk_at dksX5_bend_0 21 rfl rfl)
theorem dX5_bend_24 : decode cX5_bend 24 = .ok (.getfield 41, 3) := dk_180 0 41 (dk_at dksX5_bend_1 0 rfl rfl)
theorem dX5_bend_27 : decode cX5_bend 27 = .ok (.aload_n 1, 1) := dk_43 (dk_at dksX5_bend_1 3 rfl rfl)
theorem dX5_bend_28 : decode cX5_bend 28 = .ok (.invokevirtual 45, 3) := dk_182 0 45 (dk_at dksX5_bend_1 4 rfl rfl)
theorem dX5_bend_31 : decode cX5_bend 31 = .ok (.ifCond .eq 5, 3) := dk_153 0 5 (dk_at dksX5_bend_1 7 rfl rfl)
theorem dX5_bend_34 : decode cX5_bend 34 = .ok (.iload_n 2, 1) := dk_28 (dk_at dksX5_bend_1 10 rfl rfl)
theorem dX5_bend_35 : decode cX5_bend 35 = .ok (.ireturn, 1) := dk_172 (dk_at dksX5_bend_1 11 rfl rfl)
theorem dX5_bend_36 : decode cX5_bend 36 = .ok (.iinc 2 1, 3) := dk_132 2 1 (dk_at dksX5_bend_1 12 rfl rfl)
theorem dX5_bend_39 : decode cX5_bend 39 = .ok (.goto (-37), 3) := dk_167 255 219 (dk_at dksX5_bend_1 15 rfl rfl)
theorem dX5_bend_42 : decode cX5_bend 42 = .ok (.iconst (-1), 1) := dk_2 (dk_at dksX5_bend_1 18 rfl rfl)
theorem dX5_bend_43 : decode cX5_bend 43 = .ok (.ireturn, 1) := dk_172 (dk_at dksX5_bend_1 19 rfl rfl)
abbrev cX5_house : ByteArray := prog_7_method_3_code
def yX5_house : MethodName := ⟨RX5, "house", "(Ljava/lang/String;)I"⟩
def dkwX5_house_1 : List UInt8 := [180, 0, 53, 43, 182, 0, 45, 153, 0, 5, 28, 172, 132, 2, 1, 167, 255, 219, 2, 172]
abbrev dktX5_house_1 : List UInt8 := dkwX5_house_1 ++ []
def dkwX5_house_0 : List UInt8 := [3, 61, 28, 42, 180, 0, 22, 182, 0, 31, 162, 0, 32, 42, 180, 0, 22, 28, 182, 0, 35, 192, 0, 51]
abbrev dktX5_house_0 : List UInt8 := dkwX5_house_0 ++ dktX5_house_1
theorem dksX5_house_0 : cX5_house.data.toList.drop 0 = dktX5_house_0 := by decide +kernel
theorem dksX5_house_1 : cX5_house.data.toList.drop 24 = dktX5_house_1 := dk_seg dksX5_house_0 24 rfl rfl
theorem dX5_house_0 : decode cX5_house 0 = .ok (.iconst 0, 1) := dk_3 (dk_at dksX5_house_0 0 rfl rfl)
theorem dX5_house_1 : decode cX5_house 1 = .ok (.istore_n 2, 1) := dk_61 (dk_at dksX5_house_0 1 rfl rfl)
theorem dX5_house_2 : decode cX5_house 2 = .ok (.iload_n 2, 1) := dk_28 (dk_at dksX5_house_0 2 rfl rfl)
theorem dX5_house_3 : decode cX5_house 3 = .ok (.aload_n 0, 1) := dk_42 (dk_at dksX5_house_0 3 rfl rfl)
theorem dX5_house_4 : decode cX5_house 4 = .ok (.getfield 22, 3) := dk_180 0 22 (dk_at dksX5_house_0 4 rfl rfl)
theorem dX5_house_7 : decode cX5_house 7 = .ok (.invokevirtual 31, 3) := dk_182 0 31 (dk_at dksX5_house_0 7 rfl rfl)
theorem dX5_house_10 : decode cX5_house 10 = .ok (.if_icmp .ge 32, 3) := dk_162 0 32 (dk_at dksX5_house_0 10 rfl rfl)
theorem dX5_house_13 : decode cX5_house 13 = .ok (.aload_n 0, 1) := dk_42 (dk_at dksX5_house_0 13 rfl rfl)
theorem dX5_house_14 : decode cX5_house 14 = .ok (.getfield 22, 3) := dk_180 0 22 (dk_at dksX5_house_0 14 rfl rfl)
theorem dX5_house_17 : decode cX5_house 17 = .ok (.iload_n 2, 1) := dk_28 (dk_at dksX5_house_0 17 rfl rfl)
theorem dX5_house_18 : decode cX5_house 18 = .ok (.invokevirtual 35, 3) := dk_182 0 35 (dk_at dksX5_house_0 18 rfl rfl)
theorem dX5_house_21 : decode cX5_house 21 = .ok (.checkcast 51, 3) := dk_192 0 51 (dk_at dksX5_house_0 21 rfl rfl)
theorem dX5_house_24 : decode cX5_house 24 = .ok (.getfield 53, 3) := dk_180 0 53 (dk_at dksX5_house_1 0 rfl rfl)
theorem dX5_house_27 : decode cX5_house 27 = .ok (.aload_n 1, 1) := dk_43 (dk_at dksX5_house_1 3 rfl rfl)
theorem dX5_house_28 : decode cX5_house 28 = .ok (.invokevirtual 45, 3) := dk_182 0 45 (dk_at dksX5_house_1 4 rfl rfl)
theorem dX5_house_31 : decode cX5_house 31 = .ok (.ifCond .eq 5, 3) := dk_153 0 5 (dk_at dksX5_house_1 7 rfl rfl)
theorem dX5_house_34 : decode cX5_house 34 = .ok (.iload_n 2, 1) := dk_28 (dk_at dksX5_house_1 10 rfl rfl)
theorem dX5_house_35 : decode cX5_house 35 = .ok (.ireturn, 1) := dk_172 (dk_at dksX5_house_1 11 rfl rfl)
theorem dX5_house_36 : decode cX5_house 36 = .ok (.iinc 2 1, 3) := dk_132 2 1 (dk_at dksX5_house_1 12 rfl rfl)
theorem dX5_house_39 : decode cX5_house 39 = .ok (.goto (-37), 3) := dk_167 255 219 (dk_at dksX5_house_1 15 rfl rfl)
theorem dX5_house_42 : decode cX5_house 42 = .ok (.iconst (-1), 1) := dk_2 (dk_at dksX5_house_1 18 rfl rfl)
theorem dX5_house_43 : decode cX5_house 43 = .ok (.ireturn, 1) := dk_172 (dk_at dksX5_house_1 19 rfl rfl)
abbrev cX5_lodger : ByteArray := prog_7_method_4_code
def yX5_lodger : MethodName := ⟨RX5, "lodger", "(Ljava/lang/String;)I"⟩
def dkwX5_lodger_1 : List UInt8 := [180, 0, 56, 43, 182, 0, 45, 153, 0, 5, 28, 172, 132, 2, 1, 167, 255, 219, 2, 172]
abbrev dktX5_lodger_1 : List UInt8 := dkwX5_lodger_1 ++ []
def dkwX5_lodger_0 : List UInt8 := [3, 61, 28, 42, 180, 0, 25, 182, 0, 31, 162, 0, 32, 42, 180, 0, 25, 28, 182, 0, 35, 192, 0, 54]
abbrev dktX5_lodger_0 : List UInt8 := dkwX5_lodger_0 ++ dktX5_lodger_1
theorem dksX5_lodger_0 : cX5_lodger.data.toList.drop 0 = dktX5_lodger_0 := by decide +kernel
theorem dksX5_lodger_1 : cX5_lodger.data.toList.drop 24 = dktX5_lodger_1 := dk_seg dksX5_lodger_0 24 rfl rfl
theorem dX5_lodger_0 : decode cX5_lodger 0 = .ok (.iconst 0, 1) := dk_3 (dk_at dksX5_lodger_0 0 rfl rfl)
theorem dX5_lodger_1 : decode cX5_lodger 1 = .ok (.istore_n 2, 1) := dk_61 (dk_at dksX5_lodger_0 1 rfl rfl)
theorem dX5_lodger_2 : decode cX5_lodger 2 = .ok (.iload_n 2, 1) := dk_28 (dk_at dksX5_lodger_0 2 rfl rfl)
theorem dX5_lodger_3 : decode cX5_lodger 3 = .ok (.aload_n 0, 1) := dk_42 (dk_at dksX5_lodger_0 3 rfl rfl)
theorem dX5_lodger_4 : decode cX5_lodger 4 = .ok (.getfield 25, 3) := dk_180 0 25 (dk_at dksX5_lodger_0 4 rfl rfl)
theorem dX5_lodger_7 : decode cX5_lodger 7 = .ok (.invokevirtual 31, 3) := dk_182 0 31 (dk_at dksX5_lodger_0 7 rfl rfl)
theorem dX5_lodger_10 : decode cX5_lodger 10 = .ok (.if_icmp .ge 32, 3) := dk_162 0 32 (dk_at dksX5_lodger_0 10 rfl rfl)
theorem dX5_lodger_13 : decode cX5_lodger 13 = .ok (.aload_n 0, 1) := dk_42 (dk_at dksX5_lodger_0 13 rfl rfl)
theorem dX5_lodger_14 : decode cX5_lodger 14 = .ok (.getfield 25, 3) := dk_180 0 25 (dk_at dksX5_lodger_0 14 rfl rfl)
theorem dX5_lodger_17 : decode cX5_lodger 17 = .ok (.iload_n 2, 1) := dk_28 (dk_at dksX5_lodger_0 17 rfl rfl)
theorem dX5_lodger_18 : decode cX5_lodger 18 = .ok (.invokevirtual 35, 3) := dk_182 0 35 (dk_at dksX5_lodger_0 18 rfl rfl)
theorem dX5_lodger_21 : decode cX5_lodger 21 = .ok (.checkcast 54, 3) := dk_192 0 54 (dk_at dksX5_lodger_0 21 rfl rfl)
theorem dX5_lodger_24 : decode cX5_lodger 24 = .ok (.getfield 56, 3) := dk_180 0 56 (dk_at dksX5_lodger_1 0 rfl rfl)
theorem dX5_lodger_27 : decode cX5_lodger 27 = .ok (.aload_n 1, 1) := dk_43 (dk_at dksX5_lodger_1 3 rfl rfl)
theorem dX5_lodger_28 : decode cX5_lodger 28 = .ok (.invokevirtual 45, 3) := dk_182 0 45 (dk_at dksX5_lodger_1 4 rfl rfl)
theorem dX5_lodger_31 : decode cX5_lodger 31 = .ok (.ifCond .eq 5, 3) := dk_153 0 5 (dk_at dksX5_lodger_1 7 rfl rfl)
theorem dX5_lodger_34 : decode cX5_lodger 34 = .ok (.iload_n 2, 1) := dk_28 (dk_at dksX5_lodger_1 10 rfl rfl)
theorem dX5_lodger_35 : decode cX5_lodger 35 = .ok (.ireturn, 1) := dk_172 (dk_at dksX5_lodger_1 11 rfl rfl)
theorem dX5_lodger_36 : decode cX5_lodger 36 = .ok (.iinc 2 1, 3) := dk_132 2 1 (dk_at dksX5_lodger_1 12 rfl rfl)
theorem dX5_lodger_39 : decode cX5_lodger 39 = .ok (.goto (-37), 3) := dk_167 255 219 (dk_at dksX5_lodger_1 15 rfl rfl)
theorem dX5_lodger_42 : decode cX5_lodger 42 = .ok (.iconst (-1), 1) := dk_2 (dk_at dksX5_lodger_1 18 rfl rfl)
theorem dX5_lodger_43 : decode cX5_lodger 43 = .ok (.ireturn, 1) := dk_172 (dk_at dksX5_lodger_1 19 rfl rfl)
abbrev cX5_aboard : ByteArray := prog_7_method_5_code
def yX5_aboard : MethodName := ⟨RX5, "aboard", "(I)I"⟩
def dkwX5_aboard_2 : List UInt8 := [172]
abbrev dktX5_aboard_2 : List UInt8 := dkwX5_aboard_2 ++ []
def dkwX5_aboard_1 : List UInt8 := [192, 0, 54, 180, 0, 57, 27, 160, 0, 7, 4, 167, 0, 4, 3, 96, 61, 132, 3, 1, 167, 255, 216, 28]
abbrev dktX5_aboard_1 : List UInt8 := dkwX5_aboard_1 ++ dktX5_aboard_2
def dkwX5_aboard_0 : List UInt8 := [3, 61, 3, 62, 29, 42, 180, 0, 25, 182, 0, 31, 162, 0, 35, 28, 42, 180, 0, 25, 29, 182, 0, 35]
abbrev dktX5_aboard_0 : List UInt8 := dkwX5_aboard_0 ++ dktX5_aboard_1
theorem dksX5_aboard_0 : cX5_aboard.data.toList.drop 0 = dktX5_aboard_0 := by decide +kernel
theorem dksX5_aboard_1 : cX5_aboard.data.toList.drop 24 = dktX5_aboard_1 := dk_seg dksX5_aboard_0 24 rfl rfl
theorem dksX5_aboard_2 : cX5_aboard.data.toList.drop 48 = dktX5_aboard_2 := dk_seg dksX5_aboard_1 24 rfl rfl
theorem dX5_aboard_0 : decode cX5_aboard 0 = .ok (.iconst 0, 1) := dk_3 (dk_at dksX5_aboard_0 0 rfl rfl)
theorem dX5_aboard_1 : decode cX5_aboard 1 = .ok (.istore_n 2, 1) := dk_61 (dk_at dksX5_aboard_0 1 rfl rfl)
theorem dX5_aboard_2 : decode cX5_aboard 2 = .ok (.iconst 0, 1) := dk_3 (dk_at dksX5_aboard_0 2 rfl rfl)
theorem dX5_aboard_3 : decode cX5_aboard 3 = .ok (.istore_n 3, 1) := dk_62 (dk_at dksX5_aboard_0 3 rfl rfl)
theorem dX5_aboard_4 : decode cX5_aboard 4 = .ok (.iload_n 3, 1) := dk_29 (dk_at dksX5_aboard_0 4 rfl rfl)
theorem dX5_aboard_5 : decode cX5_aboard 5 = .ok (.aload_n 0, 1) := dk_42 (dk_at dksX5_aboard_0 5 rfl rfl)
theorem dX5_aboard_6 : decode cX5_aboard 6 = .ok (.getfield 25, 3) := dk_180 0 25 (dk_at dksX5_aboard_0 6 rfl rfl)
theorem dX5_aboard_9 : decode cX5_aboard 9 = .ok (.invokevirtual 31, 3) := dk_182 0 31 (dk_at dksX5_aboard_0 9 rfl rfl)
theorem dX5_aboard_12 : decode cX5_aboard 12 = .ok (.if_icmp .ge 35, 3) := dk_162 0 35 (dk_at dksX5_aboard_0 12 rfl rfl)
theorem dX5_aboard_15 : decode cX5_aboard 15 = .ok (.iload_n 2, 1) := dk_28 (dk_at dksX5_aboard_0 15 rfl rfl)
theorem dX5_aboard_16 : decode cX5_aboard 16 = .ok (.aload_n 0, 1) := dk_42 (dk_at dksX5_aboard_0 16 rfl rfl)
theorem dX5_aboard_17 : decode cX5_aboard 17 = .ok (.getfield 25, 3) := dk_180 0 25 (dk_at dksX5_aboard_0 17 rfl rfl)
theorem dX5_aboard_20 : decode cX5_aboard 20 = .ok (.iload_n 3, 1) := dk_29 (dk_at dksX5_aboard_0 20 rfl rfl)
theorem dX5_aboard_21 : decode cX5_aboard 21 = .ok (.invokevirtual 35, 3) := dk_182 0 35 (dk_at dksX5_aboard_0 21 rfl rfl)
theorem dX5_aboard_24 : decode cX5_aboard 24 = .ok (.checkcast 54, 3) := dk_192 0 54 (dk_at dksX5_aboard_1 0 rfl rfl)
theorem dX5_aboard_27 : decode cX5_aboard 27 = .ok (.getfield 57, 3) := dk_180 0 57 (dk_at dksX5_aboard_1 3 rfl rfl)
theorem dX5_aboard_30 : decode cX5_aboard 30 = .ok (.iload_n 1, 1) := dk_27 (dk_at dksX5_aboard_1 6 rfl rfl)
theorem dX5_aboard_31 : decode cX5_aboard 31 = .ok (.if_icmp .ne 7, 3) := dk_160 0 7 (dk_at dksX5_aboard_1 7 rfl rfl)
theorem dX5_aboard_34 : decode cX5_aboard 34 = .ok (.iconst 1, 1) := dk_4 (dk_at dksX5_aboard_1 10 rfl rfl)
theorem dX5_aboard_35 : decode cX5_aboard 35 = .ok (.goto 4, 3) := dk_167 0 4 (dk_at dksX5_aboard_1 11 rfl rfl)
theorem dX5_aboard_38 : decode cX5_aboard 38 = .ok (.iconst 0, 1) := dk_3 (dk_at dksX5_aboard_1 14 rfl rfl)
theorem dX5_aboard_39 : decode cX5_aboard 39 = .ok (.iadd, 1) := dk_96 (dk_at dksX5_aboard_1 15 rfl rfl)
theorem dX5_aboard_40 : decode cX5_aboard 40 = .ok (.istore_n 2, 1) := dk_61 (dk_at dksX5_aboard_1 16 rfl rfl)
theorem dX5_aboard_41 : decode cX5_aboard 41 = .ok (.iinc 3 1, 3) := dk_132 3 1 (dk_at dksX5_aboard_1 17 rfl rfl)
theorem dX5_aboard_44 : decode cX5_aboard 44 = .ok (.goto (-40), 3) := dk_167 255 216 (dk_at dksX5_aboard_1 20 rfl rfl)
theorem dX5_aboard_47 : decode cX5_aboard 47 = .ok (.iload_n 2, 1) := dk_28 (dk_at dksX5_aboard_1 23 rfl rfl)
theorem dX5_aboard_48 : decode cX5_aboard 48 = .ok (.ireturn, 1) := dk_172 (dk_at dksX5_aboard_2 0 rfl rfl)
abbrev cX5_loses : ByteArray := prog_7_method_6_code
def yX5_loses : MethodName := ⟨RX5, "loses", "(I)I"⟩
def dkwX5_loses_1 : List UInt8 := [192, 0, 51, 180, 0, 65, 42, 180, 0, 68, 100, 184, 0, 71, 172]
abbrev dktX5_loses_1 : List UInt8 := dkwX5_loses_1 ++ []
def dkwX5_loses_0 : List UInt8 := [42, 180, 0, 18, 182, 0, 61, 153, 0, 7, 3, 167, 0, 26, 3, 42, 180, 0, 22, 27, 182, 0, 35]
abbrev dktX5_loses_0 : List UInt8 := dkwX5_loses_0 ++ dktX5_loses_1
theorem dksX5_loses_0 : cX5_loses.data.toList.drop 0 = dktX5_loses_0 := by decide +kernel
theorem dksX5_loses_1 : cX5_loses.data.toList.drop 23 = dktX5_loses_1 := dk_seg dksX5_loses_0 23 rfl rfl
theorem dX5_loses_0 : decode cX5_loses 0 = .ok (.aload_n 0, 1) := dk_42 (dk_at dksX5_loses_0 0 rfl rfl)
theorem dX5_loses_1 : decode cX5_loses 1 = .ok (.getfield 18, 3) := dk_180 0 18 (dk_at dksX5_loses_0 1 rfl rfl)
theorem dX5_loses_4 : decode cX5_loses 4 = .ok (.invokevirtual 61, 3) := dk_182 0 61 (dk_at dksX5_loses_0 4 rfl rfl)
theorem dX5_loses_7 : decode cX5_loses 7 = .ok (.ifCond .eq 7, 3) := dk_153 0 7 (dk_at dksX5_loses_0 7 rfl rfl)
theorem dX5_loses_10 : decode cX5_loses 10 = .ok (.iconst 0, 1) := dk_3 (dk_at dksX5_loses_0 10 rfl rfl)
theorem dX5_loses_11 : decode cX5_loses 11 = .ok (.goto 26, 3) := dk_167 0 26 (dk_at dksX5_loses_0 11 rfl rfl)
theorem dX5_loses_14 : decode cX5_loses 14 = .ok (.iconst 0, 1) := dk_3 (dk_at dksX5_loses_0 14 rfl rfl)
theorem dX5_loses_15 : decode cX5_loses 15 = .ok (.aload_n 0, 1) := dk_42 (dk_at dksX5_loses_0 15 rfl rfl)
theorem dX5_loses_16 : decode cX5_loses 16 = .ok (.getfield 22, 3) := dk_180 0 22 (dk_at dksX5_loses_0 16 rfl rfl)
theorem dX5_loses_19 : decode cX5_loses 19 = .ok (.iload_n 1, 1) := dk_27 (dk_at dksX5_loses_0 19 rfl rfl)
theorem dX5_loses_20 : decode cX5_loses 20 = .ok (.invokevirtual 35, 3) := dk_182 0 35 (dk_at dksX5_loses_0 20 rfl rfl)
theorem dX5_loses_23 : decode cX5_loses 23 = .ok (.checkcast 51, 3) := dk_192 0 51 (dk_at dksX5_loses_1 0 rfl rfl)
theorem dX5_loses_26 : decode cX5_loses 26 = .ok (.getfield 65, 3) := dk_180 0 65 (dk_at dksX5_loses_1 3 rfl rfl)
theorem dX5_loses_29 : decode cX5_loses 29 = .ok (.aload_n 0, 1) := dk_42 (dk_at dksX5_loses_1 6 rfl rfl)
theorem dX5_loses_30 : decode cX5_loses 30 = .ok (.getfield 68, 3) := dk_180 0 68 (dk_at dksX5_loses_1 7 rfl rfl)
theorem dX5_loses_33 : decode cX5_loses 33 = .ok (.isub, 1) := dk_100 (dk_at dksX5_loses_1 10 rfl rfl)
theorem dX5_loses_34 : decode cX5_loses 34 = .ok (.invokestatic 71, 3) := dk_184 0 71 (dk_at dksX5_loses_1 11 rfl rfl)
theorem dX5_loses_37 : decode cX5_loses 37 = .ok (.ireturn, 1) := dk_172 (dk_at dksX5_loses_1 14 rfl rfl)
theorem q131 : (Jvm.Cond.initialized "RoofRegatta$Regatta") ∈ lw_all := lw_g (lw_at lw_m1 8 rfl) rfl
theorem q288 : (Jvm.Cond.instantiable "RoofRegatta$Regatta" (12 : Nat)) ∈ lw_all := lw_g (lw_at lw_m1 165 rfl) rfl
theorem q290 : (Jvm.Cond.instanceMethod ({ cls := "RoofRegatta$Regatta", name := "<init>", desc := "()V" } : Jvm.MethodName)) ∈ lw_all := lw_g (lw_at lw_m1 167 rfl) rfl
theorem q291 : (Jvm.Cond.code ({ cls := "RoofRegatta$Regatta", name := "<init>", desc := "()V" } : Jvm.MethodName) prog_7_method_1_code (1 : Nat) (Option.none : Option Jvm.ClassFile.FieldType)) ∈ lw_all := lw_g (lw_at lw_m1 168 rfl) rfl
theorem q292 : (Jvm.Cond.methodLink "RoofRegatta$Regatta" (3 : Nat) ({ cls := "java/lang/Object", name := "<init>", desc := "()V" } : Jvm.MethodName)) ∈ lw_all := lw_g (lw_at lw_m1 169 rfl) rfl
theorem q293 : (Jvm.Cond.classLink "RoofRegatta$Regatta" (15 : Nat) "java/util/ArrayList") ∈ lw_all := lw_g (lw_at lw_m1 170 rfl) rfl
theorem q294 : (Jvm.Cond.methodLink "RoofRegatta$Regatta" (17 : Nat) ({ cls := "java/util/ArrayList", name := "<init>", desc := "()V" } : Jvm.MethodName)) ∈ lw_all := lw_g (lw_at lw_m1 171 rfl) rfl
theorem q297 : (Jvm.Cond.fieldLink "RoofRegatta$Regatta" (68 : Nat) "RoofRegatta$Regatta" "bridge" "I") ∈ lw_all := lw_g (lw_at lw_m1 174 rfl) rfl
theorem q313 : (Jvm.Cond.fieldLink "RoofRegatta$Regatta" (9 : Nat) "RoofRegatta$Regatta" "prizes" "[I") ∈ lw_all := lw_g (lw_at lw_m1 190 rfl) rfl
theorem q316 : (Jvm.Cond.fieldLink "RoofRegatta$Regatta" (18 : Nat) "RoofRegatta$Regatta" "bends" "Ljava/util/ArrayList;") ∈ lw_all := lw_g (lw_at lw_m1 193 rfl) rfl
theorem q320 : (Jvm.Cond.fieldLink "RoofRegatta$Regatta" (22 : Nat) "RoofRegatta$Regatta" "houses" "Ljava/util/ArrayList;") ∈ lw_all := lw_g (lw_at lw_m1 197 rfl) rfl
theorem q324 : (Jvm.Cond.fieldLink "RoofRegatta$Regatta" (25 : Nat) "RoofRegatta$Regatta" "lodgers" "Ljava/util/ArrayList;") ∈ lw_all := lw_g (lw_at lw_m1 201 rfl) rfl
theorem q328 : (Jvm.Cond.fieldLink "RoofRegatta$Regatta" (28 : Nat) "RoofRegatta$Regatta" "seen" "Ljava/util/ArrayList;") ∈ lw_all := lw_g (lw_at lw_m1 205 rfl) rfl
theorem q331 : (Jvm.Cond.lays "RoofRegatta$Regatta" "RoofRegatta$Regatta" "water" "I") ∈ lw_all := lw_g (lw_at lw_m1 208 rfl) rfl
theorem q332 : (Jvm.Cond.soleField "RoofRegatta$Regatta" "water") ∈ lw_all := lw_g (lw_at lw_m1 209 rfl) rfl
theorem q333 : (Jvm.Cond.lays "RoofRegatta$Regatta" "RoofRegatta$Regatta" "bridge" "I") ∈ lw_all := lw_g (lw_at lw_m1 210 rfl) rfl
theorem q334 : (Jvm.Cond.soleField "RoofRegatta$Regatta" "bridge") ∈ lw_all := lw_g (lw_at lw_m1 211 rfl) rfl
theorem q335 : (Jvm.Cond.lays "RoofRegatta$Regatta" "RoofRegatta$Regatta" "storey" "I") ∈ lw_all := lw_g (lw_at lw_m1 212 rfl) rfl
theorem q336 : (Jvm.Cond.soleField "RoofRegatta$Regatta" "storey") ∈ lw_all := lw_g (lw_at lw_m1 213 rfl) rfl
theorem q337 : (Jvm.Cond.lays "RoofRegatta$Regatta" "RoofRegatta$Regatta" "rain" "I") ∈ lw_all := lw_g (lw_at lw_m1 214 rfl) rfl
theorem q338 : (Jvm.Cond.soleField "RoofRegatta$Regatta" "rain") ∈ lw_all := lw_g (lw_at lw_m1 215 rfl) rfl
theorem q339 : (Jvm.Cond.lays "RoofRegatta$Regatta" "RoofRegatta$Regatta" "by" "I") ∈ lw_all := lw_g (lw_at lw_m1 216 rfl) rfl
theorem q340 : (Jvm.Cond.soleField "RoofRegatta$Regatta" "by") ∈ lw_all := lw_g (lw_at lw_m1 217 rfl) rfl
theorem q341 : (Jvm.Cond.lays "RoofRegatta$Regatta" "RoofRegatta$Regatta" "friendships" "I") ∈ lw_all := lw_g (lw_at lw_m1 218 rfl) rfl
theorem q342 : (Jvm.Cond.soleField "RoofRegatta$Regatta" "friendships") ∈ lw_all := lw_g (lw_at lw_m1 219 rfl) rfl
theorem q343 : (Jvm.Cond.lays "RoofRegatta$Regatta" "RoofRegatta$Regatta" "manyPrizes" "I") ∈ lw_all := lw_g (lw_at lw_m1 220 rfl) rfl
theorem q344 : (Jvm.Cond.soleField "RoofRegatta$Regatta" "manyPrizes") ∈ lw_all := lw_g (lw_at lw_m1 221 rfl) rfl
theorem q345 : (Jvm.Cond.laysFinal "RoofRegatta$Regatta" "RoofRegatta$Regatta" "prizes" "[I") ∈ lw_all := lw_g (lw_at lw_m1 222 rfl) rfl
theorem q346 : (Jvm.Cond.soleField "RoofRegatta$Regatta" "prizes") ∈ lw_all := lw_g (lw_at lw_m1 223 rfl) rfl
theorem q347 : (Jvm.Cond.laysFinal "RoofRegatta$Regatta" "RoofRegatta$Regatta" "bends" "Ljava/util/ArrayList;") ∈ lw_all := lw_g (lw_at lw_m1 224 rfl) rfl
theorem q348 : (Jvm.Cond.soleField "RoofRegatta$Regatta" "bends") ∈ lw_all := lw_g (lw_at lw_m1 225 rfl) rfl
theorem q349 : (Jvm.Cond.laysFinal "RoofRegatta$Regatta" "RoofRegatta$Regatta" "houses" "Ljava/util/ArrayList;") ∈ lw_all := lw_g (lw_at lw_m1 226 rfl) rfl
theorem q350 : (Jvm.Cond.soleField "RoofRegatta$Regatta" "houses") ∈ lw_all := lw_g (lw_at lw_m1 227 rfl) rfl
theorem q351 : (Jvm.Cond.laysFinal "RoofRegatta$Regatta" "RoofRegatta$Regatta" "lodgers" "Ljava/util/ArrayList;") ∈ lw_all := lw_g (lw_at lw_m1 228 rfl) rfl
theorem q352 : (Jvm.Cond.soleField "RoofRegatta$Regatta" "lodgers") ∈ lw_all := lw_g (lw_at lw_m1 229 rfl) rfl
theorem q353 : (Jvm.Cond.laysFinal "RoofRegatta$Regatta" "RoofRegatta$Regatta" "seen" "Ljava/util/ArrayList;") ∈ lw_all := lw_g (lw_at lw_m1 230 rfl) rfl
theorem q354 : (Jvm.Cond.soleField "RoofRegatta$Regatta" "seen") ∈ lw_all := lw_g (lw_at lw_m1 231 rfl) rfl
theorem q355 : (Jvm.Cond.superclass "RoofRegatta$Regatta" "java/lang/Object") ∈ lw_all := lw_g (lw_at lw_m1 232 rfl) rfl
theorem q745 : (Jvm.Cond.instanceMethod ({ cls := "RoofRegatta$Regatta", name := "bend", desc := "(Ljava/lang/String;)I" } : Jvm.MethodName)) ∈ lw_all := lw_g (lw_at lw_m3 142 rfl) rfl
theorem q746 : (Jvm.Cond.selects "RoofRegatta$Regatta" ({ cls := "RoofRegatta$Regatta", name := "bend", desc := "(Ljava/lang/String;)I" } : Jvm.MethodName) ({ cls := "RoofRegatta$Regatta", name := "bend", desc := "(Ljava/lang/String;)I" } : Jvm.MethodName)) ∈ lw_all := lw_g (lw_at lw_m3 143 rfl) rfl
theorem q747 : (Jvm.Cond.code ({ cls := "RoofRegatta$Regatta", name := "bend", desc := "(Ljava/lang/String;)I" } : Jvm.MethodName) prog_7_method_2_code (3 : Nat) (Option.some Jvm.ClassFile.FieldType.int)) ∈ lw_all := lw_g (lw_at lw_m3 144 rfl) rfl
theorem q748 : (Jvm.Cond.methodLink "RoofRegatta$Regatta" (31 : Nat) ({ cls := "java/util/ArrayList", name := "size", desc := "()I" } : Jvm.MethodName)) ∈ lw_all := lw_g (lw_at lw_m3 145 rfl) rfl
theorem q749 : (Jvm.Cond.methodLink "RoofRegatta$Regatta" (35 : Nat) ({ cls := "java/util/ArrayList", name := "get", desc := "(I)Ljava/lang/Object;" } : Jvm.MethodName)) ∈ lw_all := lw_g (lw_at lw_m3 146 rfl) rfl
theorem q761 : (Jvm.Cond.classLink "RoofRegatta$Regatta" (39 : Nat) "RoofRegatta$Bend") ∈ lw_all := lw_g (lw_at lw_m3 158 rfl) rfl
theorem q762 : (Jvm.Cond.methodLink "RoofRegatta$Regatta" (45 : Nat) ({ cls := "java/lang/String", name := "equals", desc := "(Ljava/lang/Object;)Z" } : Jvm.MethodName)) ∈ lw_all := lw_g (lw_at lw_m3 159 rfl) rfl
theorem q764 : (Jvm.Cond.instanceMethod ({ cls := "RoofRegatta$Regatta", name := "house", desc := "(Ljava/lang/String;)I" } : Jvm.MethodName)) ∈ lw_all := lw_g (lw_at lw_m3 161 rfl) rfl
theorem q765 : (Jvm.Cond.selects "RoofRegatta$Regatta" ({ cls := "RoofRegatta$Regatta", name := "house", desc := "(Ljava/lang/String;)I" } : Jvm.MethodName) ({ cls := "RoofRegatta$Regatta", name := "house", desc := "(Ljava/lang/String;)I" } : Jvm.MethodName)) ∈ lw_all := lw_g (lw_at lw_m3 162 rfl) rfl
theorem q766 : (Jvm.Cond.code ({ cls := "RoofRegatta$Regatta", name := "house", desc := "(Ljava/lang/String;)I" } : Jvm.MethodName) prog_7_method_3_code (3 : Nat) (Option.some Jvm.ClassFile.FieldType.int)) ∈ lw_all := lw_g (lw_at lw_m3 163 rfl) rfl
theorem q767 : (Jvm.Cond.classLink "RoofRegatta$Regatta" (51 : Nat) "RoofRegatta$House") ∈ lw_all := lw_g (lw_at lw_m3 164 rfl) rfl
theorem q769 : (Jvm.Cond.instanceMethod ({ cls := "RoofRegatta$Regatta", name := "lodger", desc := "(Ljava/lang/String;)I" } : Jvm.MethodName)) ∈ lw_all := lw_g (lw_at lw_m3 166 rfl) rfl
theorem q770 : (Jvm.Cond.selects "RoofRegatta$Regatta" ({ cls := "RoofRegatta$Regatta", name := "lodger", desc := "(Ljava/lang/String;)I" } : Jvm.MethodName) ({ cls := "RoofRegatta$Regatta", name := "lodger", desc := "(Ljava/lang/String;)I" } : Jvm.MethodName)) ∈ lw_all := lw_g (lw_at lw_m3 167 rfl) rfl
theorem q771 : (Jvm.Cond.code ({ cls := "RoofRegatta$Regatta", name := "lodger", desc := "(Ljava/lang/String;)I" } : Jvm.MethodName) prog_7_method_4_code (3 : Nat) (Option.some Jvm.ClassFile.FieldType.int)) ∈ lw_all := lw_g (lw_at lw_m3 168 rfl) rfl
theorem q772 : (Jvm.Cond.classLink "RoofRegatta$Regatta" (54 : Nat) "RoofRegatta$Lodger") ∈ lw_all := lw_g (lw_at lw_m3 169 rfl) rfl
theorem q778 : (Jvm.Cond.fieldLink "RoofRegatta$Regatta" (41 : Nat) "RoofRegatta$Bend" "name" "Ljava/lang/String;") ∈ lw_all := lw_g (lw_at lw_m3 175 rfl) rfl
theorem q829 : (Jvm.Cond.selects "RoofRegatta$Regatta" ({ cls := "java/lang/Object", name := "getClass", desc := "()Ljava/lang/Class;" } : Jvm.MethodName) ({ cls := "java/lang/Object", name := "getClass", desc := "()Ljava/lang/Class;" } : Jvm.MethodName)) ∈ lw_all := lw_g (lw_at lw_m3 226 rfl) rfl
theorem q870 : (Jvm.Cond.fieldLink "RoofRegatta$Regatta" (53 : Nat) "RoofRegatta$House" "name" "Ljava/lang/String;") ∈ lw_all := lw_g (lw_at lw_m4 27 rfl) rfl
theorem q877 : (Jvm.Cond.fieldLink "RoofRegatta$Regatta" (65 : Nat) "RoofRegatta$House" "storeys" "I") ∈ lw_all := lw_g (lw_at lw_m4 34 rfl) rfl
theorem q935 : (Jvm.Cond.fieldLink "RoofRegatta$Regatta" (56 : Nat) "RoofRegatta$Lodger" "name" "Ljava/lang/String;") ∈ lw_all := lw_g (lw_at lw_m4 92 rfl) rfl
theorem q944 : (Jvm.Cond.fieldLink "RoofRegatta$Regatta" (57 : Nat) "RoofRegatta$Lodger" "house" "I") ∈ lw_all := lw_g (lw_at lw_m4 101 rfl) rfl
theorem q980 : (Jvm.Cond.instanceMethod ({ cls := "RoofRegatta$Regatta", name := "aboard", desc := "(I)I" } : Jvm.MethodName)) ∈ lw_all := lw_g (lw_at lw_m4 137 rfl) rfl
theorem q981 : (Jvm.Cond.selects "RoofRegatta$Regatta" ({ cls := "RoofRegatta$Regatta", name := "aboard", desc := "(I)I" } : Jvm.MethodName) ({ cls := "RoofRegatta$Regatta", name := "aboard", desc := "(I)I" } : Jvm.MethodName)) ∈ lw_all := lw_g (lw_at lw_m4 138 rfl) rfl
theorem q982 : (Jvm.Cond.code ({ cls := "RoofRegatta$Regatta", name := "aboard", desc := "(I)I" } : Jvm.MethodName) prog_7_method_5_code (4 : Nat) (Option.some Jvm.ClassFile.FieldType.int)) ∈ lw_all := lw_g (lw_at lw_m4 139 rfl) rfl
theorem q1217 : (Jvm.Cond.instanceMethod ({ cls := "RoofRegatta$Regatta", name := "loses", desc := "(I)I" } : Jvm.MethodName)) ∈ lw_all := lw_g (lw_at lw_m5 134 rfl) rfl
theorem q1218 : (Jvm.Cond.selects "RoofRegatta$Regatta" ({ cls := "RoofRegatta$Regatta", name := "loses", desc := "(I)I" } : Jvm.MethodName) ({ cls := "RoofRegatta$Regatta", name := "loses", desc := "(I)I" } : Jvm.MethodName)) ∈ lw_all := lw_g (lw_at lw_m5 135 rfl) rfl
theorem q1219 : (Jvm.Cond.code ({ cls := "RoofRegatta$Regatta", name := "loses", desc := "(I)I" } : Jvm.MethodName) prog_7_method_6_code (2 : Nat) (Option.some Jvm.ClassFile.FieldType.int)) ∈ lw_all := lw_g (lw_at lw_m5 136 rfl) rfl
theorem q1220 : (Jvm.Cond.methodLink "RoofRegatta$Regatta" (61 : Nat) ({ cls := "java/util/ArrayList", name := "isEmpty", desc := "()Z" } : Jvm.MethodName)) ∈ lw_all := lw_g (lw_at lw_m5 137 rfl) rfl
theorem q1221 : (Jvm.Cond.methodLink "RoofRegatta$Regatta" (71 : Nat) ({ cls := "java/lang/Math", name := "max", desc := "(II)I" } : Jvm.MethodName)) ∈ lw_all := lw_g (lw_at lw_m5 138 rfl) rfl
theorem q2364 : (Jvm.Cond.castable "RoofRegatta$Regatta" "java/lang/Object") ∈ lw_tbl := lw_at lw_m10 81 rfl
theorem in_X5 : ∀ w ∈ wsX50, w ∈ lw_all := lw_in wsX50 [331, 333, 335, 337, 339, 341, 343, 345, 347, 349, 351, 353] (by decide +kernel) (by decide +kernel)
/-! RoofRegatta$Token -/
set_option maxRecDepth 100000
def RX6 : String := "RoofRegatta$Token"
def TX6 : u_T := fun k => match k with
  | 0 => ("RoofRegatta$Token", "sort", "I", true)
  | 1 => ("RoofRegatta$Token", "place", "I", true)
  | 2 => ("RoofRegatta$Token", "number", "I", true)
  | _ => ("RoofRegatta$Token", "word", "Ljava/lang/String;", true)
def tyX6 : Nat → FieldType := fun k => match k with
  | 0 => .int
  | 1 => .int
  | 2 => .int
  | _ => .object "java/lang/String"
abbrev wsX60 : List Cond := u_ws RX6 TX6 4
theorem nmX6 : ∀ a, a < 4 → ∀ b, b < 4 → a ≠ b → (TX6 a).2.1 ≠ (TX6 b).2.1 := by decide +kernel
theorem tyX6_ok : ∀ k, k < 4 → parseFieldDescriptor (TX6 k).2.2.1 = some (tyX6 k) := by decide +kernel
abbrev cX6_init : ByteArray := prog_11_method_1_code
def yX6_init : MethodName := ⟨RX6, "<init>", "(IIILjava/lang/String;)V"⟩
def dkwX6_init_1 : List UInt8 := [181, 0, 19, 177]
abbrev dktX6_init_1 : List UInt8 := dkwX6_init_1 ++ []
def dkwX6_init_0 : List UInt8 := [42, 183, 0, 1, 42, 27, 181, 0, 7, 42, 28, 181, 0, 13, 42, 29, 181, 0, 16, 42, 25, 4]
abbrev dktX6_init_0 : List UInt8 := dkwX6_init_0 ++ dktX6_init_1
theorem dksX6_init_0 : cX6_init.data.toList.drop 0 = dktX6_init_0 := by decide +kernel
theorem dksX6_init_1 : cX6_init.data.toList.drop 22 = dktX6_init_1 := dk_seg dksX6_init_0 22 rfl rfl
theorem dX6_init_0 : decode cX6_init 0 = .ok (.aload_n 0, 1) := dk_42 (dk_at dksX6_init_0 0 rfl rfl)
theorem dX6_init_1 : decode cX6_init 1 = .ok (.invokespecial 1, 3) := dk_183 0 1 (dk_at dksX6_init_0 1 rfl rfl)
theorem dX6_init_4 : decode cX6_init 4 = .ok (.aload_n 0, 1) := dk_42 (dk_at dksX6_init_0 4 rfl rfl)
theorem dX6_init_5 : decode cX6_init 5 = .ok (.iload_n 1, 1) := dk_27 (dk_at dksX6_init_0 5 rfl rfl)
theorem dX6_init_6 : decode cX6_init 6 = .ok (.putfield 7, 3) := dk_181 0 7 (dk_at dksX6_init_0 6 rfl rfl)
theorem dX6_init_9 : decode cX6_init 9 = .ok (.aload_n 0, 1) := dk_42 (dk_at dksX6_init_0 9 rfl rfl)
theorem dX6_init_10 : decode cX6_init 10 = .ok (.iload_n 2, 1) := dk_28 (dk_at dksX6_init_0 10 rfl rfl)
theorem dX6_init_11 : decode cX6_init 11 = .ok (.putfield 13, 3) := dk_181 0 13 (dk_at dksX6_init_0 11 rfl rfl)
theorem dX6_init_14 : decode cX6_init 14 = .ok (.aload_n 0, 1) := dk_42 (dk_at dksX6_init_0 14 rfl rfl)
theorem dX6_init_15 : decode cX6_init 15 = .ok (.iload_n 3, 1) := dk_29 (dk_at dksX6_init_0 15 rfl rfl)
theorem dX6_init_16 : decode cX6_init 16 = .ok (.putfield 16, 3) := dk_181 0 16 (dk_at dksX6_init_0 16 rfl rfl)
theorem dX6_init_19 : decode cX6_init 19 = .ok (.aload_n 0, 1) := dk_42 (dk_at dksX6_init_0 19 rfl rfl)
theorem dX6_init_20 : decode cX6_init 20 = .ok (.aload 4, 2) := dk_25 4 (dk_at dksX6_init_0 20 rfl rfl)
theorem dX6_init_22 : decode cX6_init 22 = .ok (.putfield 19, 3) := dk_181 0 19 (dk_at dksX6_init_1 0 rfl rfl)
theorem dX6_init_25 : decode cX6_init 25 = .ok (.return_, 1) := dk_177 (dk_at dksX6_init_1 3 rfl rfl)
abbrev cX6_is : ByteArray := prog_11_method_2_code
def yX6_is : MethodName := ⟨RX6, "is", "(Ljava/lang/String;)Z"⟩
def dkwX6_is_1 : List UInt8 := [172]
abbrev dktX6_is_1 : List UInt8 := dkwX6_is_1 ++ []
def dkwX6_is_0 : List UInt8 := [42, 180, 0, 7, 5, 160, 0, 18, 42, 180, 0, 19, 43, 182, 0, 23, 153, 0, 7, 4, 167, 0, 4, 3]
abbrev dktX6_is_0 : List UInt8 := dkwX6_is_0 ++ dktX6_is_1
theorem dksX6_is_0 : cX6_is.data.toList.drop 0 = dktX6_is_0 := by decide +kernel
theorem dksX6_is_1 : cX6_is.data.toList.drop 24 = dktX6_is_1 := dk_seg dksX6_is_0 24 rfl rfl
theorem dX6_is_0 : decode cX6_is 0 = .ok (.aload_n 0, 1) := dk_42 (dk_at dksX6_is_0 0 rfl rfl)
theorem dX6_is_1 : decode cX6_is 1 = .ok (.getfield 7, 3) := dk_180 0 7 (dk_at dksX6_is_0 1 rfl rfl)
theorem dX6_is_4 : decode cX6_is 4 = .ok (.iconst 2, 1) := dk_5 (dk_at dksX6_is_0 4 rfl rfl)
theorem dX6_is_5 : decode cX6_is 5 = .ok (.if_icmp .ne 18, 3) := dk_160 0 18 (dk_at dksX6_is_0 5 rfl rfl)
theorem dX6_is_8 : decode cX6_is 8 = .ok (.aload_n 0, 1) := dk_42 (dk_at dksX6_is_0 8 rfl rfl)
theorem dX6_is_9 : decode cX6_is 9 = .ok (.getfield 19, 3) := dk_180 0 19 (dk_at dksX6_is_0 9 rfl rfl)
theorem dX6_is_12 : decode cX6_is 12 = .ok (.aload_n 1, 1) := dk_43 (dk_at dksX6_is_0 12 rfl rfl)
theorem dX6_is_13 : decode cX6_is 13 = .ok (.invokevirtual 23, 3) := dk_182 0 23 (dk_at dksX6_is_0 13 rfl rfl)
theorem dX6_is_16 : decode cX6_is 16 = .ok (.ifCond .eq 7, 3) := dk_153 0 7 (dk_at dksX6_is_0 16 rfl rfl)
theorem dX6_is_19 : decode cX6_is 19 = .ok (.iconst 1, 1) := dk_4 (dk_at dksX6_is_0 19 rfl rfl)
theorem dX6_is_20 : decode cX6_is 20 = .ok (.goto 4, 3) := dk_167 0 4 (dk_at dksX6_is_0 20 rfl rfl)
theorem dX6_is_23 : decode cX6_is 23 = .ok (.iconst 0, 1) := dk_3 (dk_at dksX6_is_0 23 rfl rfl)
theorem dX6_is_24 : decode cX6_is 24 = .ok (.ireturn, 1) := dk_172 (dk_at dksX6_is_1 0 rfl rfl)
abbrev cX6_isName : ByteArray := prog_11_method_3_code
def yX6_isName : MethodName := ⟨RX6, "isName", "()Z"⟩
def dkwX6_isName_8 : List UInt8 := [3, 172, 4, 172]
abbrev dktX6_isName_8 : List UInt8 := dkwX6_isName_8 ++ []
def dkwX6_isName_7 : List UInt8 := [170, 0, 0, 0, 0, 0, 0, 50, 0, 0, 0, 0, 0, 0, 0, 7, 0, 0, 0, 48, 0, 0, 0, 48, 0, 0, 0, 48, 0, 0, 0, 48, 0, 0, 0, 48, 0, 0, 0, 48, 0, 0, 0, 48, 0, 0, 0, 48]
abbrev dktX6_isName_7 : List UInt8 := dkwX6_isName_7 ++ dktX6_isName_8
def dkwX6_isName_6 : List UInt8 := [61, 167, 0, 15, 43, 18, 47, 182, 0, 23, 153, 0, 6, 16, 7, 61, 28]
abbrev dktX6_isName_6 : List UInt8 := dkwX6_isName_6 ++ dktX6_isName_7
def dkwX6_isName_5 : List UInt8 := [18, 43, 182, 0, 23, 153, 0, 35, 8, 61, 167, 0, 30, 43, 18, 45, 182, 0, 23, 153, 0, 21, 16, 6]
abbrev dktX6_isName_5 : List UInt8 := dkwX6_isName_5 ++ dktX6_isName_6
def dkwX6_isName_4 : List UInt8 := [153, 0, 63, 6, 61, 167, 0, 58, 43, 18, 41, 182, 0, 23, 153, 0, 49, 7, 61, 167, 0, 44, 43]
abbrev dktX6_isName_4 : List UInt8 := dkwX6_isName_4 ++ dktX6_isName_5
def dkwX6_isName_3 : List UInt8 := [61, 167, 0, 86, 43, 18, 37, 182, 0, 23, 153, 0, 77, 5, 61, 167, 0, 72, 43, 18, 39, 182, 0, 23]
abbrev dktX6_isName_3 : List UInt8 := dkwX6_isName_3 ++ dktX6_isName_4
def dkwX6_isName_2 : List UInt8 := [43, 18, 33, 182, 0, 23, 153, 0, 105, 3, 61, 167, 0, 100, 43, 18, 35, 182, 0, 23, 153, 0, 91, 4]
abbrev dktX6_isName_2 : List UInt8 := dkwX6_isName_2 ++ dktX6_isName_3
def dkwX6_isName_1 : List UInt8 := [171, 0, 0, 0, 0, 0, 186, 0, 0, 0, 8, 171, 31, 3, 37, 0, 0, 0, 131, 180, 134, 10, 158, 0, 0, 0, 145, 190, 150, 152, 115, 0, 0, 0, 117, 0, 1, 187, 233, 0, 0, 0, 174, 0, 46, 21, 57, 0, 0, 0, 89, 5, 237, 199, 32, 0, 0, 0, 103, 6, 95, 180, 18, 0, 0, 0, 159, 64, 185, 40, 116, 0, 0, 0, 75]
abbrev dktX6_isName_1 : List UInt8 := dkwX6_isName_1 ++ dktX6_isName_2
def dkwX6_isName_0 : List UInt8 := [42, 180, 0, 7, 5, 159, 0, 5, 3, 172, 42, 180, 0, 19, 76, 2, 61, 43, 182, 0, 29]
abbrev dktX6_isName_0 : List UInt8 := dkwX6_isName_0 ++ dktX6_isName_1
theorem dksX6_isName_0 : cX6_isName.data.toList.drop 0 = dktX6_isName_0 := by decide +kernel
theorem dksX6_isName_1 : cX6_isName.data.toList.drop 21 = dktX6_isName_1 := dk_seg dksX6_isName_0 21 rfl rfl
theorem dksX6_isName_2 : cX6_isName.data.toList.drop 96 = dktX6_isName_2 := dk_seg dksX6_isName_1 75 rfl rfl
theorem dksX6_isName_3 : cX6_isName.data.toList.drop 120 = dktX6_isName_3 := dk_seg dksX6_isName_2 24 rfl rfl
theorem dksX6_isName_4 : cX6_isName.data.toList.drop 144 = dktX6_isName_4 := dk_seg dksX6_isName_3 24 rfl rfl
theorem dksX6_isName_5 : cX6_isName.data.toList.drop 167 = dktX6_isName_5 := dk_seg dksX6_isName_4 23 rfl rfl
theorem dksX6_isName_6 : cX6_isName.data.toList.drop 191 = dktX6_isName_6 := dk_seg dksX6_isName_5 24 rfl rfl
theorem dksX6_isName_7 : cX6_isName.data.toList.drop 208 = dktX6_isName_7 := dk_seg dksX6_isName_6 17 rfl rfl
theorem dksX6_isName_8 : cX6_isName.data.toList.drop 256 = dktX6_isName_8 := dk_seg dksX6_isName_7 48 rfl rfl
theorem dX6_isName_0 : decode cX6_isName 0 = .ok (.aload_n 0, 1) := dk_42 (dk_at dksX6_isName_0 0 rfl rfl)
theorem dX6_isName_1 : decode cX6_isName 1 = .ok (.getfield 7, 3) := dk_180 0 7 (dk_at dksX6_isName_0 1 rfl rfl)
theorem dX6_isName_4 : decode cX6_isName 4 = .ok (.iconst 2, 1) := dk_5 (dk_at dksX6_isName_0 4 rfl rfl)
theorem dX6_isName_5 : decode cX6_isName 5 = .ok (.if_icmp .eq 5, 3) := dk_159 0 5 (dk_at dksX6_isName_0 5 rfl rfl)
theorem dX6_isName_8 : decode cX6_isName 8 = .ok (.iconst 0, 1) := dk_3 (dk_at dksX6_isName_0 8 rfl rfl)
theorem dX6_isName_9 : decode cX6_isName 9 = .ok (.ireturn, 1) := dk_172 (dk_at dksX6_isName_0 9 rfl rfl)
theorem dX6_isName_10 : decode cX6_isName 10 = .ok (.aload_n 0, 1) := dk_42 (dk_at dksX6_isName_0 10 rfl rfl)
theorem dX6_isName_11 : decode cX6_isName 11 = .ok (.getfield 19, 3) := dk_180 0 19 (dk_at dksX6_isName_0 11 rfl rfl)
theorem dX6_isName_14 : decode cX6_isName 14 = .ok (.astore_n 1, 1) := dk_76 (dk_at dksX6_isName_0 14 rfl rfl)
theorem dX6_isName_15 : decode cX6_isName 15 = .ok (.iconst (-1), 1) := dk_2 (dk_at dksX6_isName_0 15 rfl rfl)
theorem dX6_isName_16 : decode cX6_isName 16 = .ok (.istore_n 2, 1) := dk_61 (dk_at dksX6_isName_0 16 rfl rfl)
theorem dX6_isName_17 : decode cX6_isName 17 = .ok (.aload_n 1, 1) := dk_43 (dk_at dksX6_isName_0 17 rfl rfl)
theorem dX6_isName_18 : decode cX6_isName 18 = .ok (.invokevirtual 29, 3) := dk_182 0 29 (dk_at dksX6_isName_0 18 rfl rfl)
theorem dX6_isName_21 : decode cX6_isName 21 = .ok (.lookupswitch 186 #[(-1424030939, 131), (-1266283874, 145), (-1097426829, 117), (113641, 174), (3020089, 89), (99469088, 103), (106935314, 159), (1085876340, 75)], 75) := by decide +kernel
theorem dX6_isName_96 : decode cX6_isName 96 = .ok (.aload_n 1, 1) := dk_43 (dk_at dksX6_isName_2 0 rfl rfl)
theorem dX6_isName_97 : decode cX6_isName 97 = .ok (.ldc 33, 2) := dk_18 33 (dk_at dksX6_isName_2 1 rfl rfl)
theorem dX6_isName_99 : decode cX6_isName 99 = .ok (.invokevirtual 23, 3) := dk_182 0 23 (dk_at dksX6_isName_2 3 rfl rfl)
theorem dX6_isName_102 : decode cX6_isName 102 = .ok (.ifCond .eq 105, 3) := dk_153 0 105 (dk_at dksX6_isName_2 6 rfl rfl)
theorem dX6_isName_105 : decode cX6_isName 105 = .ok (.iconst 0, 1) := dk_3 (dk_at dksX6_isName_2 9 rfl rfl)
theorem dX6_isName_106 : decode cX6_isName 106 = .ok (.istore_n 2, 1) := dk_61 (dk_at dksX6_isName_2 10 rfl rfl)
theorem dX6_isName_107 : decode cX6_isName 107 = .ok (.goto 100, 3) := dk_167 0 100 (dk_at dksX6_isName_2 11 rfl rfl)
theorem dX6_isName_110 : decode cX6_isName 110 = .ok (.aload_n 1, 1) := dk_43 (dk_at dksX6_isName_2 14 rfl rfl)
theorem dX6_isName_111 : decode cX6_isName 111 = .ok (.ldc 35, 2) := dk_18 35 (dk_at dksX6_isName_2 15 rfl rfl)
theorem dX6_isName_113 : decode cX6_isName 113 = .ok (.invokevirtual 23, 3) := dk_182 0 23 (dk_at dksX6_isName_2 17 rfl rfl)
theorem dX6_isName_116 : decode cX6_isName 116 = .ok (.ifCond .eq 91, 3) := dk_153 0 91 (dk_at dksX6_isName_2 20 rfl rfl)
theorem dX6_isName_119 : decode cX6_isName 119 = .ok (.iconst 1, 1) := dk_4 (dk_at dksX6_isName_2 23 rfl rfl)
theorem dX6_isName_120 : decode cX6_isName 120 = .ok (.istore_n 2, 1) := dk_61 (dk_at dksX6_isName_3 0 rfl rfl)
theorem dX6_isName_121 : decode cX6_isName 121 = .ok (.goto 86, 3) := dk_167 0 86 (dk_at dksX6_isName_3 1 rfl rfl)
theorem dX6_isName_124 : decode cX6_isName 124 = .ok (.aload_n 1, 1) := dk_43 (dk_at dksX6_isName_3 4 rfl rfl)
theorem dX6_isName_125 : decode cX6_isName 125 = .ok (.ldc 37, 2) := dk_18 37 (dk_at dksX6_isName_3 5 rfl rfl)
theorem dX6_isName_127 : decode cX6_isName 127 = .ok (.invokevirtual 23, 3) := dk_182 0 23 (dk_at dksX6_isName_3 7 rfl rfl)
theorem dX6_isName_130 : decode cX6_isName 130 = .ok (.ifCond .eq 77, 3) := dk_153 0 77 (dk_at dksX6_isName_3 10 rfl rfl)
theorem dX6_isName_133 : decode cX6_isName 133 = .ok (.iconst 2, 1) := dk_5 (dk_at dksX6_isName_3 13 rfl rfl)
theorem dX6_isName_134 : decode cX6_isName 134 = .ok (.istore_n 2, 1) := dk_61 (dk_at dksX6_isName_3 14 rfl rfl)
theorem dX6_isName_135 : decode cX6_isName 135 = .ok (.goto 72, 3) := dk_167 0 72 (dk_at dksX6_isName_3 15 rfl rfl)
theorem dX6_isName_138 : decode cX6_isName 138 = .ok (.aload_n 1, 1) := dk_43 (dk_at dksX6_isName_3 18 rfl rfl)
theorem dX6_isName_139 : decode cX6_isName 139 = .ok (.ldc 39, 2) := dk_18 39 (dk_at dksX6_isName_3 19 rfl rfl)
theorem dX6_isName_141 : decode cX6_isName 141 = .ok (.invokevirtual 23, 3) := dk_182 0 23 (dk_at dksX6_isName_3 21 rfl rfl)
theorem dX6_isName_144 : decode cX6_isName 144 = .ok (.ifCond .eq 63, 3) := dk_153 0 63 (dk_at dksX6_isName_4 0 rfl rfl)
theorem dX6_isName_147 : decode cX6_isName 147 = .ok (.iconst 3, 1) := dk_6 (dk_at dksX6_isName_4 3 rfl rfl)
theorem dX6_isName_148 : decode cX6_isName 148 = .ok (.istore_n 2, 1) := dk_61 (dk_at dksX6_isName_4 4 rfl rfl)
theorem dX6_isName_149 : decode cX6_isName 149 = .ok (.goto 58, 3) := dk_167 0 58 (dk_at dksX6_isName_4 5 rfl rfl)
theorem dX6_isName_152 : decode cX6_isName 152 = .ok (.aload_n 1, 1) := dk_43 (dk_at dksX6_isName_4 8 rfl rfl)
theorem dX6_isName_153 : decode cX6_isName 153 = .ok (.ldc 41, 2) := dk_18 41 (dk_at dksX6_isName_4 9 rfl rfl)
theorem dX6_isName_155 : decode cX6_isName 155 = .ok (.invokevirtual 23, 3) := dk_182 0 23 (dk_at dksX6_isName_4 11 rfl rfl)
theorem dX6_isName_158 : decode cX6_isName 158 = .ok (.ifCond .eq 49, 3) := dk_153 0 49 (dk_at dksX6_isName_4 14 rfl rfl)
theorem dX6_isName_161 : decode cX6_isName 161 = .ok (.iconst 4, 1) := dk_7 (dk_at dksX6_isName_4 17 rfl rfl)
theorem dX6_isName_162 : decode cX6_isName 162 = .ok (.istore_n 2, 1) := dk_61 (dk_at dksX6_isName_4 18 rfl rfl)
theorem dX6_isName_163 : decode cX6_isName 163 = .ok (.goto 44, 3) := dk_167 0 44 (dk_at dksX6_isName_4 19 rfl rfl)
theorem dX6_isName_166 : decode cX6_isName 166 = .ok (.aload_n 1, 1) := dk_43 (dk_at dksX6_isName_4 22 rfl rfl)
theorem dX6_isName_167 : decode cX6_isName 167 = .ok (.ldc 43, 2) := dk_18 43 (dk_at dksX6_isName_5 0 rfl rfl)
theorem dX6_isName_169 : decode cX6_isName 169 = .ok (.invokevirtual 23, 3) := dk_182 0 23 (dk_at dksX6_isName_5 2 rfl rfl)
theorem dX6_isName_172 : decode cX6_isName 172 = .ok (.ifCond .eq 35, 3) := dk_153 0 35 (dk_at dksX6_isName_5 5 rfl rfl)
theorem dX6_isName_175 : decode cX6_isName 175 = .ok (.iconst 5, 1) := dk_8 (dk_at dksX6_isName_5 8 rfl rfl)
theorem dX6_isName_176 : decode cX6_isName 176 = .ok (.istore_n 2, 1) := dk_61 (dk_at dksX6_isName_5 9 rfl rfl)
theorem dX6_isName_177 : decode cX6_isName 177 = .ok (.goto 30, 3) := dk_167 0 30 (dk_at dksX6_isName_5 10 rfl rfl)
theorem dX6_isName_180 : decode cX6_isName 180 = .ok (.aload_n 1, 1) := dk_43 (dk_at dksX6_isName_5 13 rfl rfl)
theorem dX6_isName_181 : decode cX6_isName 181 = .ok (.ldc 45, 2) := dk_18 45 (dk_at dksX6_isName_5 14 rfl rfl)
theorem dX6_isName_183 : decode cX6_isName 183 = .ok (.invokevirtual 23, 3) := dk_182 0 23 (dk_at dksX6_isName_5 16 rfl rfl)
theorem dX6_isName_186 : decode cX6_isName 186 = .ok (.ifCond .eq 21, 3) := dk_153 0 21 (dk_at dksX6_isName_5 19 rfl rfl)
theorem dX6_isName_189 : decode cX6_isName 189 = .ok (.bipush 6, 2) := dk_16 6 (dk_at dksX6_isName_5 22 rfl rfl)
theorem dX6_isName_191 : decode cX6_isName 191 = .ok (.istore_n 2, 1) := dk_61 (dk_at dksX6_isName_6 0 rfl rfl)
theorem dX6_isName_192 : decode cX6_isName 192 = .ok (.goto 15, 3) := dk_167 0 15 (dk_at dksX6_isName_6 1 rfl rfl)
theorem dX6_isName_195 : decode cX6_isName 195 = .ok (.aload_n 1, 1) := dk_43 (dk_at dksX6_isName_6 4 rfl rfl)
theorem dX6_isName_196 : decode cX6_isName 196 = .ok (.ldc 47, 2) := dk_18 47 (dk_at dksX6_isName_6 5 rfl rfl)
theorem dX6_isName_198 : decode cX6_isName 198 = .ok (.invokevirtual 23, 3) := dk_182 0 23 (dk_at dksX6_isName_6 7 rfl rfl)
theorem dX6_isName_201 : decode cX6_isName 201 = .ok (.ifCond .eq 6, 3) := dk_153 0 6 (dk_at dksX6_isName_6 10 rfl rfl)
theorem dX6_isName_204 : decode cX6_isName 204 = .ok (.bipush 7, 2) := dk_16 7 (dk_at dksX6_isName_6 13 rfl rfl)
theorem dX6_isName_206 : decode cX6_isName 206 = .ok (.istore_n 2, 1) := dk_61 (dk_at dksX6_isName_6 15 rfl rfl)
theorem dX6_isName_207 : decode cX6_isName 207 = .ok (.iload_n 2, 1) := dk_28 (dk_at dksX6_isName_6 16 rfl rfl)
theorem dX6_isName_208 : decode cX6_isName 208 = .ok (.tableswitch 50 0 7 #[48, 48, 48, 48, 48, 48, 48, 48], 48) := by decide +kernel
theorem dX6_isName_256 : decode cX6_isName 256 = .ok (.iconst 0, 1) := dk_3 (dk_at dksX6_isName_8 0 rfl rfl)
theorem dX6_isName_257 : decode cX6_isName 257 = .ok (.ireturn, 1) := dk_172 (dk_at dksX6_isName_8 1 rfl rfl)
theorem dX6_isName_258 : decode cX6_isName 258 = .ok (.iconst 1, 1) := dk_4 (dk_at dksX6_isName_8 2 rfl rfl)
theorem dX6_isName_259 : decode cX6_isName 259 = .ok (.ireturn, 1) := dk_172 (dk_at dksX6_isName_8 3 rfl rfl)
theorem q132 : (Jvm.Cond.initialized "RoofRegatta$Token") ∈ lw_all := lw_g (lw_at lw_m1 9 rfl) rfl
theorem q365 : (Jvm.Cond.instantiable "RoofRegatta$Token" (4 : Nat)) ∈ lw_all := lw_g (lw_at lw_m2 2 rfl) rfl
theorem q368 : (Jvm.Cond.instanceMethod ({ cls := "RoofRegatta$Token", name := "<init>", desc := "(IIILjava/lang/String;)V" } : Jvm.MethodName)) ∈ lw_all := lw_g (lw_at lw_m2 5 rfl) rfl
theorem q369 : (Jvm.Cond.code ({ cls := "RoofRegatta$Token", name := "<init>", desc := "(IIILjava/lang/String;)V" } : Jvm.MethodName) prog_11_method_1_code (5 : Nat) (Option.none : Option Jvm.ClassFile.FieldType)) ∈ lw_all := lw_g (lw_at lw_m2 6 rfl) rfl
theorem q370 : (Jvm.Cond.methodLink "RoofRegatta$Token" (1 : Nat) ({ cls := "java/lang/Object", name := "<init>", desc := "()V" } : Jvm.MethodName)) ∈ lw_all := lw_g (lw_at lw_m2 7 rfl) rfl
theorem q371 : (Jvm.Cond.fieldLink "RoofRegatta$Token" (7 : Nat) "RoofRegatta$Token" "sort" "I") ∈ lw_all := lw_g (lw_at lw_m2 8 rfl) rfl
theorem q373 : (Jvm.Cond.fieldLink "RoofRegatta$Token" (13 : Nat) "RoofRegatta$Token" "place" "I") ∈ lw_all := lw_g (lw_at lw_m2 10 rfl) rfl
theorem q375 : (Jvm.Cond.fieldLink "RoofRegatta$Token" (16 : Nat) "RoofRegatta$Token" "number" "I") ∈ lw_all := lw_g (lw_at lw_m2 12 rfl) rfl
theorem q377 : (Jvm.Cond.fieldLink "RoofRegatta$Token" (19 : Nat) "RoofRegatta$Token" "word" "Ljava/lang/String;") ∈ lw_all := lw_g (lw_at lw_m2 14 rfl) rfl
theorem q379 : (Jvm.Cond.laysFinal "RoofRegatta$Token" "RoofRegatta$Token" "sort" "I") ∈ lw_all := lw_g (lw_at lw_m2 16 rfl) rfl
theorem q380 : (Jvm.Cond.soleField "RoofRegatta$Token" "sort") ∈ lw_all := lw_g (lw_at lw_m2 17 rfl) rfl
theorem q381 : (Jvm.Cond.laysFinal "RoofRegatta$Token" "RoofRegatta$Token" "place" "I") ∈ lw_all := lw_g (lw_at lw_m2 18 rfl) rfl
theorem q382 : (Jvm.Cond.soleField "RoofRegatta$Token" "place") ∈ lw_all := lw_g (lw_at lw_m2 19 rfl) rfl
theorem q383 : (Jvm.Cond.laysFinal "RoofRegatta$Token" "RoofRegatta$Token" "number" "I") ∈ lw_all := lw_g (lw_at lw_m2 20 rfl) rfl
theorem q384 : (Jvm.Cond.soleField "RoofRegatta$Token" "number") ∈ lw_all := lw_g (lw_at lw_m2 21 rfl) rfl
theorem q385 : (Jvm.Cond.laysFinal "RoofRegatta$Token" "RoofRegatta$Token" "word" "Ljava/lang/String;") ∈ lw_all := lw_g (lw_at lw_m2 22 rfl) rfl
theorem q386 : (Jvm.Cond.soleField "RoofRegatta$Token" "word") ∈ lw_all := lw_g (lw_at lw_m2 23 rfl) rfl
theorem q387 : (Jvm.Cond.superclass "RoofRegatta$Token" "java/lang/Object") ∈ lw_all := lw_g (lw_at lw_m2 24 rfl) rfl
theorem q700 : (Jvm.Cond.instanceMethod ({ cls := "RoofRegatta$Token", name := "is", desc := "(Ljava/lang/String;)Z" } : Jvm.MethodName)) ∈ lw_all := lw_g (lw_at lw_m3 97 rfl) rfl
theorem q701 : (Jvm.Cond.selects "RoofRegatta$Token" ({ cls := "RoofRegatta$Token", name := "is", desc := "(Ljava/lang/String;)Z" } : Jvm.MethodName) ({ cls := "RoofRegatta$Token", name := "is", desc := "(Ljava/lang/String;)Z" } : Jvm.MethodName)) ∈ lw_all := lw_g (lw_at lw_m3 98 rfl) rfl
theorem q702 : (Jvm.Cond.code ({ cls := "RoofRegatta$Token", name := "is", desc := "(Ljava/lang/String;)Z" } : Jvm.MethodName) prog_11_method_2_code (2 : Nat) (Option.some Jvm.ClassFile.FieldType.boolean)) ∈ lw_all := lw_g (lw_at lw_m3 99 rfl) rfl
theorem q703 : (Jvm.Cond.methodLink "RoofRegatta$Token" (23 : Nat) ({ cls := "java/lang/String", name := "equals", desc := "(Ljava/lang/Object;)Z" } : Jvm.MethodName)) ∈ lw_all := lw_g (lw_at lw_m3 100 rfl) rfl
theorem q732 : (Jvm.Cond.instanceMethod ({ cls := "RoofRegatta$Token", name := "isName", desc := "()Z" } : Jvm.MethodName)) ∈ lw_all := lw_g (lw_at lw_m3 129 rfl) rfl
theorem q733 : (Jvm.Cond.selects "RoofRegatta$Token" ({ cls := "RoofRegatta$Token", name := "isName", desc := "()Z" } : Jvm.MethodName) ({ cls := "RoofRegatta$Token", name := "isName", desc := "()Z" } : Jvm.MethodName)) ∈ lw_all := lw_g (lw_at lw_m3 130 rfl) rfl
theorem q734 : (Jvm.Cond.code ({ cls := "RoofRegatta$Token", name := "isName", desc := "()Z" } : Jvm.MethodName) prog_11_method_3_code (3 : Nat) (Option.some Jvm.ClassFile.FieldType.boolean)) ∈ lw_all := lw_g (lw_at lw_m3 131 rfl) rfl
theorem q735 : (Jvm.Cond.methodLink "RoofRegatta$Token" (29 : Nat) ({ cls := "java/lang/String", name := "hashCode", desc := "()I" } : Jvm.MethodName)) ∈ lw_all := lw_g (lw_at lw_m3 132 rfl) rfl
theorem q736 : (Jvm.Cond.stringRef "RoofRegatta$Token" (33 : Nat) "regatta") ∈ lw_tbl := lw_at lw_m3 133 rfl
theorem q737 : (Jvm.Cond.stringRef "RoofRegatta$Token" (35 : Nat) "bend") ∈ lw_tbl := lw_at lw_m3 134 rfl
theorem q738 : (Jvm.Cond.stringRef "RoofRegatta$Token" (37 : Nat) "house") ∈ lw_tbl := lw_at lw_m3 135 rfl
theorem q739 : (Jvm.Cond.stringRef "RoofRegatta$Token" (39 : Nat) "lodger") ∈ lw_tbl := lw_at lw_m3 136 rfl
theorem q740 : (Jvm.Cond.stringRef "RoofRegatta$Token" (41 : Nat) "aboard") ∈ lw_tbl := lw_at lw_m3 137 rfl
theorem q741 : (Jvm.Cond.stringRef "RoofRegatta$Token" (43 : Nat) "friend") ∈ lw_tbl := lw_at lw_m3 138 rfl
theorem q742 : (Jvm.Cond.stringRef "RoofRegatta$Token" (45 : Nat) "prize") ∈ lw_tbl := lw_at lw_m3 139 rfl
theorem q743 : (Jvm.Cond.stringRef "RoofRegatta$Token" (47 : Nat) "saw") ∈ lw_tbl := lw_at lw_m3 140 rfl
theorem q833 : (Jvm.Cond.selects "RoofRegatta$Token" ({ cls := "java/lang/Object", name := "getClass", desc := "()Ljava/lang/Class;" } : Jvm.MethodName) ({ cls := "java/lang/Object", name := "getClass", desc := "()Ljava/lang/Class;" } : Jvm.MethodName)) ∈ lw_all := lw_g (lw_at lw_m3 230 rfl) rfl
theorem q2365 : (Jvm.Cond.castable "RoofRegatta$Token" "java/lang/Object") ∈ lw_tbl := lw_at lw_m10 82 rfl
theorem in_X6 : ∀ w ∈ wsX60, w ∈ lw_all := lw_in wsX60 [379, 381, 383, 385] (by decide +kernel) (by decide +kernel)
/-! RoofRegatta$Bend -/
set_option maxRecDepth 100000
def RX7 : String := "RoofRegatta$Bend"
def TX7 : u_T := fun k => match k with
  | 0 => ("RoofRegatta$Bend", "name", "Ljava/lang/String;", true)
  | 1 => ("RoofRegatta$Bend", "length", "I", false)
  | _ => ("RoofRegatta$Bend", "inside", "I", false)
def tyX7 : Nat → FieldType := fun k => match k with
  | 0 => .object "java/lang/String"
  | 1 => .int
  | _ => .int
abbrev wsX70 : List Cond := u_ws RX7 TX7 3
theorem nmX7 : ∀ a, a < 3 → ∀ b, b < 3 → a ≠ b → (TX7 a).2.1 ≠ (TX7 b).2.1 := by decide +kernel
theorem tyX7_ok : ∀ k, k < 3 → parseFieldDescriptor (TX7 k).2.2.1 = some (tyX7 k) := by decide +kernel
abbrev cX7_init : ByteArray := prog_2_method_1_code
def yX7_init : MethodName := ⟨RX7, "<init>", "(Ljava/lang/String;)V"⟩
def dkwX7_init_0 : List UInt8 := [42, 183, 0, 1, 42, 43, 181, 0, 7, 177]
abbrev dktX7_init_0 : List UInt8 := dkwX7_init_0 ++ []
theorem dksX7_init_0 : cX7_init.data.toList.drop 0 = dktX7_init_0 := by decide +kernel
theorem dX7_init_0 : decode cX7_init 0 = .ok (.aload_n 0, 1) := dk_42 (dk_at dksX7_init_0 0 rfl rfl)
theorem dX7_init_1 : decode cX7_init 1 = .ok (.invokespecial 1, 3) := dk_183 0 1 (dk_at dksX7_init_0 1 rfl rfl)
theorem dX7_init_4 : decode cX7_init 4 = .ok (.aload_n 0, 1) := dk_42 (dk_at dksX7_init_0 4 rfl rfl)
theorem dX7_init_5 : decode cX7_init 5 = .ok (.aload_n 1, 1) := dk_43 (dk_at dksX7_init_0 5 rfl rfl)
theorem dX7_init_6 : decode cX7_init 6 = .ok (.putfield 7, 3) := dk_181 0 7 (dk_at dksX7_init_0 6 rfl rfl)
theorem dX7_init_9 : decode cX7_init 9 = .ok (.return_, 1) := dk_177 (dk_at dksX7_init_0 9 rfl rfl)
theorem q143 : (Jvm.Cond.initialized "RoofRegatta$Bend") ∈ lw_all := lw_g (lw_at lw_m1 20 rfl) rfl
theorem q726 : (Jvm.Cond.instantiable "RoofRegatta$Bend" (3 : Nat)) ∈ lw_all := lw_g (lw_at lw_m3 123 rfl) rfl
theorem q774 : (Jvm.Cond.instanceMethod ({ cls := "RoofRegatta$Bend", name := "<init>", desc := "(Ljava/lang/String;)V" } : Jvm.MethodName)) ∈ lw_all := lw_g (lw_at lw_m3 171 rfl) rfl
theorem q775 : (Jvm.Cond.code ({ cls := "RoofRegatta$Bend", name := "<init>", desc := "(Ljava/lang/String;)V" } : Jvm.MethodName) prog_2_method_1_code (2 : Nat) (Option.none : Option Jvm.ClassFile.FieldType)) ∈ lw_all := lw_g (lw_at lw_m3 172 rfl) rfl
theorem q776 : (Jvm.Cond.methodLink "RoofRegatta$Bend" (1 : Nat) ({ cls := "java/lang/Object", name := "<init>", desc := "()V" } : Jvm.MethodName)) ∈ lw_all := lw_g (lw_at lw_m3 173 rfl) rfl
theorem q777 : (Jvm.Cond.fieldLink "RoofRegatta$Bend" (7 : Nat) "RoofRegatta$Bend" "name" "Ljava/lang/String;") ∈ lw_all := lw_g (lw_at lw_m3 174 rfl) rfl
theorem q786 : (Jvm.Cond.laysFinal "RoofRegatta$Bend" "RoofRegatta$Bend" "name" "Ljava/lang/String;") ∈ lw_all := lw_g (lw_at lw_m3 183 rfl) rfl
theorem q787 : (Jvm.Cond.soleField "RoofRegatta$Bend" "name") ∈ lw_all := lw_g (lw_at lw_m3 184 rfl) rfl
theorem q788 : (Jvm.Cond.lays "RoofRegatta$Bend" "RoofRegatta$Bend" "length" "I") ∈ lw_all := lw_g (lw_at lw_m3 185 rfl) rfl
theorem q789 : (Jvm.Cond.soleField "RoofRegatta$Bend" "length") ∈ lw_all := lw_g (lw_at lw_m3 186 rfl) rfl
theorem q790 : (Jvm.Cond.lays "RoofRegatta$Bend" "RoofRegatta$Bend" "inside" "I") ∈ lw_all := lw_g (lw_at lw_m3 187 rfl) rfl
theorem q791 : (Jvm.Cond.soleField "RoofRegatta$Bend" "inside") ∈ lw_all := lw_g (lw_at lw_m3 188 rfl) rfl
theorem q792 : (Jvm.Cond.superclass "RoofRegatta$Bend" "java/lang/Object") ∈ lw_all := lw_g (lw_at lw_m3 189 rfl) rfl
theorem q824 : (Jvm.Cond.selects "RoofRegatta$Bend" ({ cls := "java/lang/Object", name := "getClass", desc := "()Ljava/lang/Class;" } : Jvm.MethodName) ({ cls := "java/lang/Object", name := "getClass", desc := "()Ljava/lang/Class;" } : Jvm.MethodName)) ∈ lw_all := lw_g (lw_at lw_m3 221 rfl) rfl
theorem q2369 : (Jvm.Cond.castable "RoofRegatta$Bend" "java/lang/Object") ∈ lw_tbl := lw_at lw_m10 86 rfl
theorem in_X7 : ∀ w ∈ wsX70, w ∈ lw_all := lw_in wsX70 [786, 788, 790] (by decide +kernel) (by decide +kernel)
/-! RoofRegatta$House -/
set_option maxRecDepth 100000
def RX8 : String := "RoofRegatta$House"
def TX8 : u_T := fun k => match k with
  | 0 => ("RoofRegatta$House", "name", "Ljava/lang/String;", true)
  | 1 => ("RoofRegatta$House", "lane", "I", false)
  | 2 => ("RoofRegatta$House", "tiles", "I", false)
  | _ => ("RoofRegatta$House", "storeys", "I", false)
def tyX8 : Nat → FieldType := fun k => match k with
  | 0 => .object "java/lang/String"
  | 1 => .int
  | 2 => .int
  | _ => .int
abbrev wsX80 : List Cond := u_ws RX8 TX8 4
theorem nmX8 : ∀ a, a < 4 → ∀ b, b < 4 → a ≠ b → (TX8 a).2.1 ≠ (TX8 b).2.1 := by decide +kernel
theorem tyX8_ok : ∀ k, k < 4 → parseFieldDescriptor (TX8 k).2.2.1 = some (tyX8 k) := by decide +kernel
abbrev cX8_init : ByteArray := prog_3_method_1_code
def yX8_init : MethodName := ⟨RX8, "<init>", "(Ljava/lang/String;)V"⟩
def dkwX8_init_0 : List UInt8 := [42, 183, 0, 1, 42, 43, 181, 0, 7, 177]
abbrev dktX8_init_0 : List UInt8 := dkwX8_init_0 ++ []
theorem dksX8_init_0 : cX8_init.data.toList.drop 0 = dktX8_init_0 := by decide +kernel
theorem dX8_init_0 : decode cX8_init 0 = .ok (.aload_n 0, 1) := dk_42 (dk_at dksX8_init_0 0 rfl rfl)
theorem dX8_init_1 : decode cX8_init 1 = .ok (.invokespecial 1, 3) := dk_183 0 1 (dk_at dksX8_init_0 1 rfl rfl)
theorem dX8_init_4 : decode cX8_init 4 = .ok (.aload_n 0, 1) := dk_42 (dk_at dksX8_init_0 4 rfl rfl)
theorem dX8_init_5 : decode cX8_init 5 = .ok (.aload_n 1, 1) := dk_43 (dk_at dksX8_init_0 5 rfl rfl)
theorem dX8_init_6 : decode cX8_init 6 = .ok (.putfield 7, 3) := dk_181 0 7 (dk_at dksX8_init_0 6 rfl rfl)
theorem dX8_init_9 : decode cX8_init 9 = .ok (.return_, 1) := dk_177 (dk_at dksX8_init_0 9 rfl rfl)
abbrev cX8_kind : ByteArray := prog_3_method_2_code
def yX8_kind : MethodName := ⟨RX8, "kind", "()I"⟩
theorem dX8_kind_0 : decode cX8_kind 0 = .ok (.iconst 0, 1) := by decide +kernel
theorem dX8_kind_1 : decode cX8_kind 1 = .ok (.ireturn, 1) := by decide +kernel
abbrev cX8_weighs : ByteArray := prog_3_method_3_code
def yX8_weighs : MethodName := ⟨RX8, "weighs", "()I"⟩
theorem dX8_weighs_0 : decode cX8_weighs 0 = .ok (.aload_n 0, 1) := by decide +kernel
theorem dX8_weighs_1 : decode cX8_weighs 1 = .ok (.getfield 13, 3) := by decide +kernel
theorem dX8_weighs_4 : decode cX8_weighs 4 = .ok (.ireturn, 1) := by decide +kernel
abbrev cX8_rows : ByteArray := prog_3_method_4_code
def yX8_rows : MethodName := ⟨RX8, "rows", "(II)I"⟩
theorem dX8_rows_0 : decode cX8_rows 0 = .ok (.iload_n 1, 1) := by decide +kernel
theorem dX8_rows_1 : decode cX8_rows 1 = .ok (.ireturn, 1) := by decide +kernel
abbrev cX8_goes : ByteArray := prog_3_method_5_code
def yX8_goes : MethodName := ⟨RX8, "goes", "(LRoofRegatta$Bend;I)I"⟩
def dkwX8_goes_0 : List UInt8 := [43, 180, 0, 17, 28, 43, 180, 0, 22, 160, 0, 7, 3, 167, 0, 4, 5, 96, 172]
abbrev dktX8_goes_0 : List UInt8 := dkwX8_goes_0 ++ []
theorem dksX8_goes_0 : cX8_goes.data.toList.drop 0 = dktX8_goes_0 := by decide +kernel
theorem dX8_goes_0 : decode cX8_goes 0 = .ok (.aload_n 1, 1) := dk_43 (dk_at dksX8_goes_0 0 rfl rfl)
theorem dX8_goes_1 : decode cX8_goes 1 = .ok (.getfield 17, 3) := dk_180 0 17 (dk_at dksX8_goes_0 1 rfl rfl)
theorem dX8_goes_4 : decode cX8_goes 4 = .ok (.iload_n 2, 1) := dk_28 (dk_at dksX8_goes_0 4 rfl rfl)
theorem dX8_goes_5 : decode cX8_goes 5 = .ok (.aload_n 1, 1) := dk_43 (dk_at dksX8_goes_0 5 rfl rfl)
theorem dX8_goes_6 : decode cX8_goes 6 = .ok (.getfield 22, 3) := dk_180 0 22 (dk_at dksX8_goes_0 6 rfl rfl)
theorem dX8_goes_9 : decode cX8_goes 9 = .ok (.if_icmp .ne 7, 3) := dk_160 0 7 (dk_at dksX8_goes_0 9 rfl rfl)
theorem dX8_goes_12 : decode cX8_goes 12 = .ok (.iconst 0, 1) := dk_3 (dk_at dksX8_goes_0 12 rfl rfl)
theorem dX8_goes_13 : decode cX8_goes 13 = .ok (.goto 4, 3) := dk_167 0 4 (dk_at dksX8_goes_0 13 rfl rfl)
theorem dX8_goes_16 : decode cX8_goes 16 = .ok (.iconst 2, 1) := dk_5 (dk_at dksX8_goes_0 16 rfl rfl)
theorem dX8_goes_17 : decode cX8_goes 17 = .ok (.iadd, 1) := dk_96 (dk_at dksX8_goes_0 17 rfl rfl)
theorem dX8_goes_18 : decode cX8_goes 18 = .ok (.ireturn, 1) := dk_172 (dk_at dksX8_goes_0 18 rfl rfl)
theorem q145 : (Jvm.Cond.initialized "RoofRegatta$House") ∈ lw_all := lw_g (lw_at lw_m1 22 rfl) rfl
theorem q779 : (Jvm.Cond.fieldLink "RoofRegatta$House" (17 : Nat) "RoofRegatta$Bend" "length" "I") ∈ lw_all := lw_g (lw_at lw_m3 176 rfl) rfl
theorem q783 : (Jvm.Cond.fieldLink "RoofRegatta$House" (22 : Nat) "RoofRegatta$Bend" "inside" "I") ∈ lw_all := lw_g (lw_at lw_m3 180 rfl) rfl
theorem q825 : (Jvm.Cond.selects "RoofRegatta$House" ({ cls := "java/lang/Object", name := "getClass", desc := "()Ljava/lang/Class;" } : Jvm.MethodName) ({ cls := "java/lang/Object", name := "getClass", desc := "()Ljava/lang/Class;" } : Jvm.MethodName)) ∈ lw_all := lw_g (lw_at lw_m3 222 rfl) rfl
theorem q864 : (Jvm.Cond.instantiable "RoofRegatta$House" (4 : Nat)) ∈ lw_all := lw_g (lw_at lw_m4 21 rfl) rfl
theorem q866 : (Jvm.Cond.instanceMethod ({ cls := "RoofRegatta$House", name := "<init>", desc := "(Ljava/lang/String;)V" } : Jvm.MethodName)) ∈ lw_all := lw_g (lw_at lw_m4 23 rfl) rfl
theorem q867 : (Jvm.Cond.code ({ cls := "RoofRegatta$House", name := "<init>", desc := "(Ljava/lang/String;)V" } : Jvm.MethodName) prog_3_method_1_code (2 : Nat) (Option.none : Option Jvm.ClassFile.FieldType)) ∈ lw_all := lw_g (lw_at lw_m4 24 rfl) rfl
theorem q868 : (Jvm.Cond.methodLink "RoofRegatta$House" (1 : Nat) ({ cls := "java/lang/Object", name := "<init>", desc := "()V" } : Jvm.MethodName)) ∈ lw_all := lw_g (lw_at lw_m4 25 rfl) rfl
theorem q869 : (Jvm.Cond.fieldLink "RoofRegatta$House" (7 : Nat) "RoofRegatta$House" "name" "Ljava/lang/String;") ∈ lw_all := lw_g (lw_at lw_m4 26 rfl) rfl
theorem q873 : (Jvm.Cond.fieldLink "RoofRegatta$House" (13 : Nat) "RoofRegatta$House" "tiles" "I") ∈ lw_all := lw_g (lw_at lw_m4 30 rfl) rfl
theorem q880 : (Jvm.Cond.laysFinal "RoofRegatta$House" "RoofRegatta$House" "name" "Ljava/lang/String;") ∈ lw_all := lw_g (lw_at lw_m4 37 rfl) rfl
theorem q881 : (Jvm.Cond.soleField "RoofRegatta$House" "name") ∈ lw_all := lw_g (lw_at lw_m4 38 rfl) rfl
theorem q882 : (Jvm.Cond.lays "RoofRegatta$House" "RoofRegatta$House" "lane" "I") ∈ lw_all := lw_g (lw_at lw_m4 39 rfl) rfl
theorem q883 : (Jvm.Cond.soleField "RoofRegatta$House" "lane") ∈ lw_all := lw_g (lw_at lw_m4 40 rfl) rfl
theorem q884 : (Jvm.Cond.lays "RoofRegatta$House" "RoofRegatta$House" "tiles" "I") ∈ lw_all := lw_g (lw_at lw_m4 41 rfl) rfl
theorem q885 : (Jvm.Cond.soleField "RoofRegatta$House" "tiles") ∈ lw_all := lw_g (lw_at lw_m4 42 rfl) rfl
theorem q886 : (Jvm.Cond.lays "RoofRegatta$House" "RoofRegatta$House" "storeys" "I") ∈ lw_all := lw_g (lw_at lw_m4 43 rfl) rfl
theorem q887 : (Jvm.Cond.soleField "RoofRegatta$House" "storeys") ∈ lw_all := lw_g (lw_at lw_m4 44 rfl) rfl
theorem q888 : (Jvm.Cond.superclass "RoofRegatta$House" "java/lang/Object") ∈ lw_all := lw_g (lw_at lw_m4 45 rfl) rfl
theorem q1106 : (Jvm.Cond.instanceMethod ({ cls := "RoofRegatta$House", name := "kind", desc := "()I" } : Jvm.MethodName)) ∈ lw_all := lw_g (lw_at lw_m5 23 rfl) rfl
theorem q1107 : (Jvm.Cond.selects "RoofRegatta$House" ({ cls := "RoofRegatta$House", name := "kind", desc := "()I" } : Jvm.MethodName) ({ cls := "RoofRegatta$House", name := "kind", desc := "()I" } : Jvm.MethodName)) ∈ lw_all := lw_g (lw_at lw_m5 24 rfl) rfl
theorem q1108 : (Jvm.Cond.sameMethod "RoofRegatta$House" "RoofRegatta$House" "kind" "()I") ∈ lw_all := lw_g (lw_at lw_m5 25 rfl) rfl
theorem q1118 : (Jvm.Cond.code ({ cls := "RoofRegatta$House", name := "kind", desc := "()I" } : Jvm.MethodName) prog_3_method_2_code (1 : Nat) (Option.some Jvm.ClassFile.FieldType.int)) ∈ lw_all := lw_g (lw_at lw_m5 35 rfl) rfl
theorem q1124 : (Jvm.Cond.instanceMethod ({ cls := "RoofRegatta$House", name := "weighs", desc := "()I" } : Jvm.MethodName)) ∈ lw_all := lw_g (lw_at lw_m5 41 rfl) rfl
theorem q1125 : (Jvm.Cond.selects "RoofRegatta$House" ({ cls := "RoofRegatta$House", name := "weighs", desc := "()I" } : Jvm.MethodName) ({ cls := "RoofRegatta$House", name := "weighs", desc := "()I" } : Jvm.MethodName)) ∈ lw_all := lw_g (lw_at lw_m5 42 rfl) rfl
theorem q1126 : (Jvm.Cond.sameMethod "RoofRegatta$House" "RoofRegatta$House" "weighs" "()I") ∈ lw_all := lw_g (lw_at lw_m5 43 rfl) rfl
theorem q1133 : (Jvm.Cond.code ({ cls := "RoofRegatta$House", name := "weighs", desc := "()I" } : Jvm.MethodName) prog_3_method_3_code (1 : Nat) (Option.some Jvm.ClassFile.FieldType.int)) ∈ lw_all := lw_g (lw_at lw_m5 50 rfl) rfl
theorem q1146 : (Jvm.Cond.instanceMethod ({ cls := "RoofRegatta$House", name := "rows", desc := "(II)I" } : Jvm.MethodName)) ∈ lw_all := lw_g (lw_at lw_m5 63 rfl) rfl
theorem q1147 : (Jvm.Cond.selects "RoofRegatta$House" ({ cls := "RoofRegatta$House", name := "rows", desc := "(II)I" } : Jvm.MethodName) ({ cls := "RoofRegatta$House", name := "rows", desc := "(II)I" } : Jvm.MethodName)) ∈ lw_all := lw_g (lw_at lw_m5 64 rfl) rfl
theorem q1148 : (Jvm.Cond.sameMethod "RoofRegatta$House" "RoofRegatta$House" "rows" "(II)I") ∈ lw_all := lw_g (lw_at lw_m5 65 rfl) rfl
theorem q1154 : (Jvm.Cond.code ({ cls := "RoofRegatta$House", name := "rows", desc := "(II)I" } : Jvm.MethodName) prog_3_method_4_code (3 : Nat) (Option.some Jvm.ClassFile.FieldType.int)) ∈ lw_all := lw_g (lw_at lw_m5 71 rfl) rfl
theorem q1195 : (Jvm.Cond.instanceMethod ({ cls := "RoofRegatta$House", name := "goes", desc := "(LRoofRegatta$Bend;I)I" } : Jvm.MethodName)) ∈ lw_all := lw_g (lw_at lw_m5 112 rfl) rfl
theorem q1196 : (Jvm.Cond.selects "RoofRegatta$House" ({ cls := "RoofRegatta$House", name := "goes", desc := "(LRoofRegatta$Bend;I)I" } : Jvm.MethodName) ({ cls := "RoofRegatta$House", name := "goes", desc := "(LRoofRegatta$Bend;I)I" } : Jvm.MethodName)) ∈ lw_all := lw_g (lw_at lw_m5 113 rfl) rfl
theorem q1197 : (Jvm.Cond.sameMethod "RoofRegatta$House" "RoofRegatta$House" "goes" "(LRoofRegatta$Bend;I)I") ∈ lw_all := lw_g (lw_at lw_m5 114 rfl) rfl
theorem q1202 : (Jvm.Cond.code ({ cls := "RoofRegatta$House", name := "goes", desc := "(LRoofRegatta$Bend;I)I" } : Jvm.MethodName) prog_3_method_5_code (3 : Nat) (Option.some Jvm.ClassFile.FieldType.int)) ∈ lw_all := lw_g (lw_at lw_m5 119 rfl) rfl
theorem q2370 : (Jvm.Cond.castable "RoofRegatta$House" "java/lang/Object") ∈ lw_tbl := lw_at lw_m10 87 rfl
theorem in_X8 : ∀ w ∈ wsX80, w ∈ lw_all := lw_in wsX80 [880, 882, 884, 886] (by decide +kernel) (by decide +kernel)
/-! RoofRegatta$Terrace -/
set_option maxRecDepth 100000
def RX9 : String := "RoofRegatta$Terrace"
def TX9 : u_T := fun k => match k with
  | 0 => ("RoofRegatta$House", "name", "Ljava/lang/String;", true)
  | 1 => ("RoofRegatta$House", "lane", "I", false)
  | 2 => ("RoofRegatta$House", "tiles", "I", false)
  | _ => ("RoofRegatta$House", "storeys", "I", false)
def tyX9 : Nat → FieldType := fun k => match k with
  | 0 => .object "java/lang/String"
  | 1 => .int
  | 2 => .int
  | _ => .int
abbrev wsX90 : List Cond := u_ws RX9 TX9 4
theorem nmX9 : ∀ a, a < 4 → ∀ b, b < 4 → a ≠ b → (TX9 a).2.1 ≠ (TX9 b).2.1 := by decide +kernel
theorem tyX9_ok : ∀ k, k < 4 → parseFieldDescriptor (TX9 k).2.2.1 = some (tyX9 k) := by decide +kernel
abbrev cX9_init : ByteArray := prog_10_method_1_code
def yX9_init : MethodName := ⟨RX9, "<init>", "(Ljava/lang/String;)V"⟩
def dkwX9_init_0 : List UInt8 := [42, 43, 183, 0, 3, 177]
abbrev dktX9_init_0 : List UInt8 := dkwX9_init_0 ++ []
theorem dksX9_init_0 : cX9_init.data.toList.drop 0 = dktX9_init_0 := by decide +kernel
theorem dX9_init_0 : decode cX9_init 0 = .ok (.aload_n 0, 1) := dk_42 (dk_at dksX9_init_0 0 rfl rfl)
theorem dX9_init_1 : decode cX9_init 1 = .ok (.aload_n 1, 1) := dk_43 (dk_at dksX9_init_0 1 rfl rfl)
theorem dX9_init_2 : decode cX9_init 2 = .ok (.invokespecial 3, 3) := dk_183 0 3 (dk_at dksX9_init_0 2 rfl rfl)
theorem dX9_init_5 : decode cX9_init 5 = .ok (.return_, 1) := dk_177 (dk_at dksX9_init_0 5 rfl rfl)
abbrev cX9_kind : ByteArray := prog_10_method_2_code
def yX9_kind : MethodName := ⟨RX9, "kind", "()I"⟩
theorem dX9_kind_0 : decode cX9_kind 0 = .ok (.iconst 1, 1) := by decide +kernel
theorem dX9_kind_1 : decode cX9_kind 1 = .ok (.ireturn, 1) := by decide +kernel
abbrev cX9_rows : ByteArray := prog_10_method_3_code
def yX9_rows : MethodName := ⟨RX9, "rows", "(II)I"⟩
def dkwX9_rows_0 : List UInt8 := [28, 4, 164, 0, 14, 5, 42, 27, 28, 183, 0, 9, 104, 167, 0, 9, 42, 27, 28, 183, 0, 9, 172]
abbrev dktX9_rows_0 : List UInt8 := dkwX9_rows_0 ++ []
theorem dksX9_rows_0 : cX9_rows.data.toList.drop 0 = dktX9_rows_0 := by decide +kernel
theorem dX9_rows_0 : decode cX9_rows 0 = .ok (.iload_n 2, 1) := dk_28 (dk_at dksX9_rows_0 0 rfl rfl)
theorem dX9_rows_1 : decode cX9_rows 1 = .ok (.iconst 1, 1) := dk_4 (dk_at dksX9_rows_0 1 rfl rfl)
theorem dX9_rows_2 : decode cX9_rows 2 = .ok (.if_icmp .le 14, 3) := dk_164 0 14 (dk_at dksX9_rows_0 2 rfl rfl)
theorem dX9_rows_5 : decode cX9_rows 5 = .ok (.iconst 2, 1) := dk_5 (dk_at dksX9_rows_0 5 rfl rfl)
theorem dX9_rows_6 : decode cX9_rows 6 = .ok (.aload_n 0, 1) := dk_42 (dk_at dksX9_rows_0 6 rfl rfl)
theorem dX9_rows_7 : decode cX9_rows 7 = .ok (.iload_n 1, 1) := dk_27 (dk_at dksX9_rows_0 7 rfl rfl)
theorem dX9_rows_8 : decode cX9_rows 8 = .ok (.iload_n 2, 1) := dk_28 (dk_at dksX9_rows_0 8 rfl rfl)
theorem dX9_rows_9 : decode cX9_rows 9 = .ok (.invokespecial 9, 3) := dk_183 0 9 (dk_at dksX9_rows_0 9 rfl rfl)
theorem dX9_rows_12 : decode cX9_rows 12 = .ok (.imul, 1) := dk_104 (dk_at dksX9_rows_0 12 rfl rfl)
theorem dX9_rows_13 : decode cX9_rows 13 = .ok (.goto 9, 3) := dk_167 0 9 (dk_at dksX9_rows_0 13 rfl rfl)
theorem dX9_rows_16 : decode cX9_rows 16 = .ok (.aload_n 0, 1) := dk_42 (dk_at dksX9_rows_0 16 rfl rfl)
theorem dX9_rows_17 : decode cX9_rows 17 = .ok (.iload_n 1, 1) := dk_27 (dk_at dksX9_rows_0 17 rfl rfl)
theorem dX9_rows_18 : decode cX9_rows 18 = .ok (.iload_n 2, 1) := dk_28 (dk_at dksX9_rows_0 18 rfl rfl)
theorem dX9_rows_19 : decode cX9_rows 19 = .ok (.invokespecial 9, 3) := dk_183 0 9 (dk_at dksX9_rows_0 19 rfl rfl)
theorem dX9_rows_22 : decode cX9_rows 22 = .ok (.ireturn, 1) := dk_172 (dk_at dksX9_rows_0 22 rfl rfl)
theorem q146 : (Jvm.Cond.initialized "RoofRegatta$Terrace") ∈ lw_all := lw_g (lw_at lw_m1 23 rfl) rfl
theorem q832 : (Jvm.Cond.selects "RoofRegatta$Terrace" ({ cls := "java/lang/Object", name := "getClass", desc := "()Ljava/lang/Class;" } : Jvm.MethodName) ({ cls := "java/lang/Object", name := "getClass", desc := "()Ljava/lang/Class;" } : Jvm.MethodName)) ∈ lw_all := lw_g (lw_at lw_m3 229 rfl) rfl
theorem q890 : (Jvm.Cond.instantiable "RoofRegatta$Terrace" (4 : Nat)) ∈ lw_all := lw_g (lw_at lw_m4 47 rfl) rfl
theorem q892 : (Jvm.Cond.instanceMethod ({ cls := "RoofRegatta$Terrace", name := "<init>", desc := "(Ljava/lang/String;)V" } : Jvm.MethodName)) ∈ lw_all := lw_g (lw_at lw_m4 49 rfl) rfl
theorem q893 : (Jvm.Cond.code ({ cls := "RoofRegatta$Terrace", name := "<init>", desc := "(Ljava/lang/String;)V" } : Jvm.MethodName) prog_10_method_1_code (2 : Nat) (Option.none : Option Jvm.ClassFile.FieldType)) ∈ lw_all := lw_g (lw_at lw_m4 50 rfl) rfl
theorem q894 : (Jvm.Cond.methodLink "RoofRegatta$Terrace" (3 : Nat) ({ cls := "RoofRegatta$House", name := "<init>", desc := "(Ljava/lang/String;)V" } : Jvm.MethodName)) ∈ lw_all := lw_g (lw_at lw_m4 51 rfl) rfl
theorem q895 : (Jvm.Cond.laysFinal "RoofRegatta$Terrace" "RoofRegatta$House" "name" "Ljava/lang/String;") ∈ lw_all := lw_g (lw_at lw_m4 52 rfl) rfl
theorem q896 : (Jvm.Cond.lays "RoofRegatta$Terrace" "RoofRegatta$House" "lane" "I") ∈ lw_all := lw_g (lw_at lw_m4 53 rfl) rfl
theorem q897 : (Jvm.Cond.lays "RoofRegatta$Terrace" "RoofRegatta$House" "tiles" "I") ∈ lw_all := lw_g (lw_at lw_m4 54 rfl) rfl
theorem q898 : (Jvm.Cond.lays "RoofRegatta$Terrace" "RoofRegatta$House" "storeys" "I") ∈ lw_all := lw_g (lw_at lw_m4 55 rfl) rfl
theorem q899 : (Jvm.Cond.superclass "RoofRegatta$Terrace" "RoofRegatta$House") ∈ lw_all := lw_g (lw_at lw_m4 56 rfl) rfl
theorem q1112 : (Jvm.Cond.selects "RoofRegatta$Terrace" ({ cls := "RoofRegatta$House", name := "kind", desc := "()I" } : Jvm.MethodName) ({ cls := "RoofRegatta$Terrace", name := "kind", desc := "()I" } : Jvm.MethodName)) ∈ lw_all := lw_g (lw_at lw_m5 29 rfl) rfl
theorem q1113 : (Jvm.Cond.instanceMethod ({ cls := "RoofRegatta$Terrace", name := "kind", desc := "()I" } : Jvm.MethodName)) ∈ lw_all := lw_g (lw_at lw_m5 30 rfl) rfl
theorem q1114 : (Jvm.Cond.code ({ cls := "RoofRegatta$Terrace", name := "kind", desc := "()I" } : Jvm.MethodName) prog_10_method_2_code (1 : Nat) (Option.some Jvm.ClassFile.FieldType.int)) ∈ lw_all := lw_g (lw_at lw_m5 31 rfl) rfl
theorem q1128 : (Jvm.Cond.selects "RoofRegatta$Terrace" ({ cls := "RoofRegatta$House", name := "weighs", desc := "()I" } : Jvm.MethodName) ({ cls := "RoofRegatta$House", name := "weighs", desc := "()I" } : Jvm.MethodName)) ∈ lw_all := lw_g (lw_at lw_m5 45 rfl) rfl
theorem q1150 : (Jvm.Cond.selects "RoofRegatta$Terrace" ({ cls := "RoofRegatta$House", name := "rows", desc := "(II)I" } : Jvm.MethodName) ({ cls := "RoofRegatta$Terrace", name := "rows", desc := "(II)I" } : Jvm.MethodName)) ∈ lw_all := lw_g (lw_at lw_m5 67 rfl) rfl
theorem q1151 : (Jvm.Cond.instanceMethod ({ cls := "RoofRegatta$Terrace", name := "rows", desc := "(II)I" } : Jvm.MethodName)) ∈ lw_all := lw_g (lw_at lw_m5 68 rfl) rfl
theorem q1152 : (Jvm.Cond.code ({ cls := "RoofRegatta$Terrace", name := "rows", desc := "(II)I" } : Jvm.MethodName) prog_10_method_3_code (3 : Nat) (Option.some Jvm.ClassFile.FieldType.int)) ∈ lw_all := lw_g (lw_at lw_m5 69 rfl) rfl
theorem q1153 : (Jvm.Cond.methodLink "RoofRegatta$Terrace" (9 : Nat) ({ cls := "RoofRegatta$House", name := "rows", desc := "(II)I" } : Jvm.MethodName)) ∈ lw_all := lw_g (lw_at lw_m5 70 rfl) rfl
theorem q1203 : (Jvm.Cond.selects "RoofRegatta$Terrace" ({ cls := "RoofRegatta$House", name := "goes", desc := "(LRoofRegatta$Bend;I)I" } : Jvm.MethodName) ({ cls := "RoofRegatta$House", name := "goes", desc := "(LRoofRegatta$Bend;I)I" } : Jvm.MethodName)) ∈ lw_all := lw_g (lw_at lw_m5 120 rfl) rfl
theorem q2357 : (Jvm.Cond.castable "RoofRegatta$Terrace" "RoofRegatta$House") ∈ lw_tbl := lw_at lw_m10 74 rfl
theorem q2371 : (Jvm.Cond.castable "RoofRegatta$Terrace" "java/lang/Object") ∈ lw_tbl := lw_at lw_m10 88 rfl
theorem in_X9 : ∀ w ∈ wsX90, w ∈ lw_all := lw_in wsX90 [895, 896, 897, 898] (by decide +kernel) (by decide +kernel)
/-! RoofRegatta$Villa -/
set_option maxRecDepth 100000
def RX10 : String := "RoofRegatta$Villa"
def TX10 : u_T := fun k => match k with
  | 0 => ("RoofRegatta$House", "name", "Ljava/lang/String;", true)
  | 1 => ("RoofRegatta$House", "lane", "I", false)
  | 2 => ("RoofRegatta$House", "tiles", "I", false)
  | _ => ("RoofRegatta$House", "storeys", "I", false)
def tyX10 : Nat → FieldType := fun k => match k with
  | 0 => .object "java/lang/String"
  | 1 => .int
  | 2 => .int
  | _ => .int
abbrev wsX100 : List Cond := u_ws RX10 TX10 4
theorem nmX10 : ∀ a, a < 4 → ∀ b, b < 4 → a ≠ b → (TX10 a).2.1 ≠ (TX10 b).2.1 := by decide +kernel
theorem tyX10_ok : ∀ k, k < 4 → parseFieldDescriptor (TX10 k).2.2.1 = some (tyX10 k) := by decide +kernel
abbrev cX10_init : ByteArray := prog_13_method_1_code
def yX10_init : MethodName := ⟨RX10, "<init>", "(Ljava/lang/String;)V"⟩
def dkwX10_init_0 : List UInt8 := [42, 43, 183, 0, 3, 177]
abbrev dktX10_init_0 : List UInt8 := dkwX10_init_0 ++ []
theorem dksX10_init_0 : cX10_init.data.toList.drop 0 = dktX10_init_0 := by decide +kernel
theorem dX10_init_0 : decode cX10_init 0 = .ok (.aload_n 0, 1) := dk_42 (dk_at dksX10_init_0 0 rfl rfl)
theorem dX10_init_1 : decode cX10_init 1 = .ok (.aload_n 1, 1) := dk_43 (dk_at dksX10_init_0 1 rfl rfl)
theorem dX10_init_2 : decode cX10_init 2 = .ok (.invokespecial 3, 3) := dk_183 0 3 (dk_at dksX10_init_0 2 rfl rfl)
theorem dX10_init_5 : decode cX10_init 5 = .ok (.return_, 1) := dk_177 (dk_at dksX10_init_0 5 rfl rfl)
abbrev cX10_kind : ByteArray := prog_13_method_2_code
def yX10_kind : MethodName := ⟨RX10, "kind", "()I"⟩
theorem dX10_kind_0 : decode cX10_kind 0 = .ok (.iconst 2, 1) := by decide +kernel
theorem dX10_kind_1 : decode cX10_kind 1 = .ok (.ireturn, 1) := by decide +kernel
abbrev cX10_weighs : ByteArray := prog_13_method_3_code
def yX10_weighs : MethodName := ⟨RX10, "weighs", "()I"⟩
def dkwX10_weighs_0 : List UInt8 := [42, 183, 0, 9, 5, 108, 172]
abbrev dktX10_weighs_0 : List UInt8 := dkwX10_weighs_0 ++ []
theorem dksX10_weighs_0 : cX10_weighs.data.toList.drop 0 = dktX10_weighs_0 := by decide +kernel
theorem dX10_weighs_0 : decode cX10_weighs 0 = .ok (.aload_n 0, 1) := dk_42 (dk_at dksX10_weighs_0 0 rfl rfl)
theorem dX10_weighs_1 : decode cX10_weighs 1 = .ok (.invokespecial 9, 3) := dk_183 0 9 (dk_at dksX10_weighs_0 1 rfl rfl)
theorem dX10_weighs_4 : decode cX10_weighs 4 = .ok (.iconst 2, 1) := dk_5 (dk_at dksX10_weighs_0 4 rfl rfl)
theorem dX10_weighs_5 : decode cX10_weighs 5 = .ok (.idiv, 1) := dk_108 (dk_at dksX10_weighs_0 5 rfl rfl)
theorem dX10_weighs_6 : decode cX10_weighs 6 = .ok (.ireturn, 1) := dk_172 (dk_at dksX10_weighs_0 6 rfl rfl)
theorem q147 : (Jvm.Cond.initialized "RoofRegatta$Villa") ∈ lw_all := lw_g (lw_at lw_m1 24 rfl) rfl
theorem q835 : (Jvm.Cond.selects "RoofRegatta$Villa" ({ cls := "java/lang/Object", name := "getClass", desc := "()Ljava/lang/Class;" } : Jvm.MethodName) ({ cls := "java/lang/Object", name := "getClass", desc := "()Ljava/lang/Class;" } : Jvm.MethodName)) ∈ lw_all := lw_g (lw_at lw_m3 232 rfl) rfl
theorem q901 : (Jvm.Cond.instantiable "RoofRegatta$Villa" (4 : Nat)) ∈ lw_all := lw_g (lw_at lw_m4 58 rfl) rfl
theorem q903 : (Jvm.Cond.instanceMethod ({ cls := "RoofRegatta$Villa", name := "<init>", desc := "(Ljava/lang/String;)V" } : Jvm.MethodName)) ∈ lw_all := lw_g (lw_at lw_m4 60 rfl) rfl
theorem q904 : (Jvm.Cond.code ({ cls := "RoofRegatta$Villa", name := "<init>", desc := "(Ljava/lang/String;)V" } : Jvm.MethodName) prog_13_method_1_code (2 : Nat) (Option.none : Option Jvm.ClassFile.FieldType)) ∈ lw_all := lw_g (lw_at lw_m4 61 rfl) rfl
theorem q905 : (Jvm.Cond.methodLink "RoofRegatta$Villa" (3 : Nat) ({ cls := "RoofRegatta$House", name := "<init>", desc := "(Ljava/lang/String;)V" } : Jvm.MethodName)) ∈ lw_all := lw_g (lw_at lw_m4 62 rfl) rfl
theorem q906 : (Jvm.Cond.laysFinal "RoofRegatta$Villa" "RoofRegatta$House" "name" "Ljava/lang/String;") ∈ lw_all := lw_g (lw_at lw_m4 63 rfl) rfl
theorem q907 : (Jvm.Cond.lays "RoofRegatta$Villa" "RoofRegatta$House" "lane" "I") ∈ lw_all := lw_g (lw_at lw_m4 64 rfl) rfl
theorem q908 : (Jvm.Cond.lays "RoofRegatta$Villa" "RoofRegatta$House" "tiles" "I") ∈ lw_all := lw_g (lw_at lw_m4 65 rfl) rfl
theorem q909 : (Jvm.Cond.lays "RoofRegatta$Villa" "RoofRegatta$House" "storeys" "I") ∈ lw_all := lw_g (lw_at lw_m4 66 rfl) rfl
theorem q910 : (Jvm.Cond.superclass "RoofRegatta$Villa" "RoofRegatta$House") ∈ lw_all := lw_g (lw_at lw_m4 67 rfl) rfl
theorem q1115 : (Jvm.Cond.selects "RoofRegatta$Villa" ({ cls := "RoofRegatta$House", name := "kind", desc := "()I" } : Jvm.MethodName) ({ cls := "RoofRegatta$Villa", name := "kind", desc := "()I" } : Jvm.MethodName)) ∈ lw_all := lw_g (lw_at lw_m5 32 rfl) rfl
theorem q1116 : (Jvm.Cond.instanceMethod ({ cls := "RoofRegatta$Villa", name := "kind", desc := "()I" } : Jvm.MethodName)) ∈ lw_all := lw_g (lw_at lw_m5 33 rfl) rfl
theorem q1117 : (Jvm.Cond.code ({ cls := "RoofRegatta$Villa", name := "kind", desc := "()I" } : Jvm.MethodName) prog_13_method_2_code (1 : Nat) (Option.some Jvm.ClassFile.FieldType.int)) ∈ lw_all := lw_g (lw_at lw_m5 34 rfl) rfl
theorem q1129 : (Jvm.Cond.selects "RoofRegatta$Villa" ({ cls := "RoofRegatta$House", name := "weighs", desc := "()I" } : Jvm.MethodName) ({ cls := "RoofRegatta$Villa", name := "weighs", desc := "()I" } : Jvm.MethodName)) ∈ lw_all := lw_g (lw_at lw_m5 46 rfl) rfl
theorem q1130 : (Jvm.Cond.instanceMethod ({ cls := "RoofRegatta$Villa", name := "weighs", desc := "()I" } : Jvm.MethodName)) ∈ lw_all := lw_g (lw_at lw_m5 47 rfl) rfl
theorem q1131 : (Jvm.Cond.code ({ cls := "RoofRegatta$Villa", name := "weighs", desc := "()I" } : Jvm.MethodName) prog_13_method_3_code (1 : Nat) (Option.some Jvm.ClassFile.FieldType.int)) ∈ lw_all := lw_g (lw_at lw_m5 48 rfl) rfl
theorem q1132 : (Jvm.Cond.methodLink "RoofRegatta$Villa" (9 : Nat) ({ cls := "RoofRegatta$House", name := "weighs", desc := "()I" } : Jvm.MethodName)) ∈ lw_all := lw_g (lw_at lw_m5 49 rfl) rfl
theorem q1155 : (Jvm.Cond.selects "RoofRegatta$Villa" ({ cls := "RoofRegatta$House", name := "rows", desc := "(II)I" } : Jvm.MethodName) ({ cls := "RoofRegatta$House", name := "rows", desc := "(II)I" } : Jvm.MethodName)) ∈ lw_all := lw_g (lw_at lw_m5 72 rfl) rfl
theorem q1204 : (Jvm.Cond.selects "RoofRegatta$Villa" ({ cls := "RoofRegatta$House", name := "goes", desc := "(LRoofRegatta$Bend;I)I" } : Jvm.MethodName) ({ cls := "RoofRegatta$House", name := "goes", desc := "(LRoofRegatta$Bend;I)I" } : Jvm.MethodName)) ∈ lw_all := lw_g (lw_at lw_m5 121 rfl) rfl
theorem q2358 : (Jvm.Cond.castable "RoofRegatta$Villa" "RoofRegatta$House") ∈ lw_tbl := lw_at lw_m10 75 rfl
theorem q2372 : (Jvm.Cond.castable "RoofRegatta$Villa" "java/lang/Object") ∈ lw_tbl := lw_at lw_m10 89 rfl
theorem in_X10 : ∀ w ∈ wsX100, w ∈ lw_all := lw_in wsX100 [906, 907, 908, 909] (by decide +kernel) (by decide +kernel)
/-! RoofRegatta$Pub -/
set_option maxRecDepth 100000
def RX11 : String := "RoofRegatta$Pub"
def TX11 : u_T := fun k => match k with
  | 0 => ("RoofRegatta$House", "name", "Ljava/lang/String;", true)
  | 1 => ("RoofRegatta$House", "lane", "I", false)
  | 2 => ("RoofRegatta$House", "tiles", "I", false)
  | _ => ("RoofRegatta$House", "storeys", "I", false)
def tyX11 : Nat → FieldType := fun k => match k with
  | 0 => .object "java/lang/String"
  | 1 => .int
  | 2 => .int
  | _ => .int
abbrev wsX110 : List Cond := u_ws RX11 TX11 4
theorem nmX11 : ∀ a, a < 4 → ∀ b, b < 4 → a ≠ b → (TX11 a).2.1 ≠ (TX11 b).2.1 := by decide +kernel
theorem tyX11_ok : ∀ k, k < 4 → parseFieldDescriptor (TX11 k).2.2.1 = some (tyX11 k) := by decide +kernel
abbrev cX11_init : ByteArray := prog_5_method_1_code
def yX11_init : MethodName := ⟨RX11, "<init>", "(Ljava/lang/String;)V"⟩
def dkwX11_init_0 : List UInt8 := [42, 43, 183, 0, 3, 177]
abbrev dktX11_init_0 : List UInt8 := dkwX11_init_0 ++ []
theorem dksX11_init_0 : cX11_init.data.toList.drop 0 = dktX11_init_0 := by decide +kernel
theorem dX11_init_0 : decode cX11_init 0 = .ok (.aload_n 0, 1) := dk_42 (dk_at dksX11_init_0 0 rfl rfl)
theorem dX11_init_1 : decode cX11_init 1 = .ok (.aload_n 1, 1) := dk_43 (dk_at dksX11_init_0 1 rfl rfl)
theorem dX11_init_2 : decode cX11_init 2 = .ok (.invokespecial 3, 3) := dk_183 0 3 (dk_at dksX11_init_0 2 rfl rfl)
theorem dX11_init_5 : decode cX11_init 5 = .ok (.return_, 1) := dk_177 (dk_at dksX11_init_0 5 rfl rfl)
abbrev cX11_kind : ByteArray := prog_5_method_2_code
def yX11_kind : MethodName := ⟨RX11, "kind", "()I"⟩
theorem dX11_kind_0 : decode cX11_kind 0 = .ok (.iconst 3, 1) := by decide +kernel
theorem dX11_kind_1 : decode cX11_kind 1 = .ok (.ireturn, 1) := by decide +kernel
abbrev cX11_goes : ByteArray := prog_5_method_3_code
def yX11_goes : MethodName := ⟨RX11, "goes", "(LRoofRegatta$Bend;I)I"⟩
def dkwX11_goes_0 : List UInt8 := [42, 43, 43, 180, 0, 9, 183, 0, 15, 172]
abbrev dktX11_goes_0 : List UInt8 := dkwX11_goes_0 ++ []
theorem dksX11_goes_0 : cX11_goes.data.toList.drop 0 = dktX11_goes_0 := by decide +kernel
theorem dX11_goes_0 : decode cX11_goes 0 = .ok (.aload_n 0, 1) := dk_42 (dk_at dksX11_goes_0 0 rfl rfl)
theorem dX11_goes_1 : decode cX11_goes 1 = .ok (.aload_n 1, 1) := dk_43 (dk_at dksX11_goes_0 1 rfl rfl)
theorem dX11_goes_2 : decode cX11_goes 2 = .ok (.aload_n 1, 1) := dk_43 (dk_at dksX11_goes_0 2 rfl rfl)
theorem dX11_goes_3 : decode cX11_goes 3 = .ok (.getfield 9, 3) := dk_180 0 9 (dk_at dksX11_goes_0 3 rfl rfl)
theorem dX11_goes_6 : decode cX11_goes 6 = .ok (.invokespecial 15, 3) := dk_183 0 15 (dk_at dksX11_goes_0 6 rfl rfl)
theorem dX11_goes_9 : decode cX11_goes 9 = .ok (.ireturn, 1) := dk_172 (dk_at dksX11_goes_0 9 rfl rfl)
theorem q148 : (Jvm.Cond.initialized "RoofRegatta$Pub") ∈ lw_all := lw_g (lw_at lw_m1 25 rfl) rfl
theorem q782 : (Jvm.Cond.fieldLink "RoofRegatta$Pub" (9 : Nat) "RoofRegatta$Bend" "inside" "I") ∈ lw_all := lw_g (lw_at lw_m3 179 rfl) rfl
theorem q827 : (Jvm.Cond.selects "RoofRegatta$Pub" ({ cls := "java/lang/Object", name := "getClass", desc := "()Ljava/lang/Class;" } : Jvm.MethodName) ({ cls := "java/lang/Object", name := "getClass", desc := "()Ljava/lang/Class;" } : Jvm.MethodName)) ∈ lw_all := lw_g (lw_at lw_m3 224 rfl) rfl
theorem q912 : (Jvm.Cond.instantiable "RoofRegatta$Pub" (4 : Nat)) ∈ lw_all := lw_g (lw_at lw_m4 69 rfl) rfl
theorem q914 : (Jvm.Cond.instanceMethod ({ cls := "RoofRegatta$Pub", name := "<init>", desc := "(Ljava/lang/String;)V" } : Jvm.MethodName)) ∈ lw_all := lw_g (lw_at lw_m4 71 rfl) rfl
theorem q915 : (Jvm.Cond.code ({ cls := "RoofRegatta$Pub", name := "<init>", desc := "(Ljava/lang/String;)V" } : Jvm.MethodName) prog_5_method_1_code (2 : Nat) (Option.none : Option Jvm.ClassFile.FieldType)) ∈ lw_all := lw_g (lw_at lw_m4 72 rfl) rfl
theorem q916 : (Jvm.Cond.methodLink "RoofRegatta$Pub" (3 : Nat) ({ cls := "RoofRegatta$House", name := "<init>", desc := "(Ljava/lang/String;)V" } : Jvm.MethodName)) ∈ lw_all := lw_g (lw_at lw_m4 73 rfl) rfl
theorem q917 : (Jvm.Cond.laysFinal "RoofRegatta$Pub" "RoofRegatta$House" "name" "Ljava/lang/String;") ∈ lw_all := lw_g (lw_at lw_m4 74 rfl) rfl
theorem q918 : (Jvm.Cond.lays "RoofRegatta$Pub" "RoofRegatta$House" "lane" "I") ∈ lw_all := lw_g (lw_at lw_m4 75 rfl) rfl
theorem q919 : (Jvm.Cond.lays "RoofRegatta$Pub" "RoofRegatta$House" "tiles" "I") ∈ lw_all := lw_g (lw_at lw_m4 76 rfl) rfl
theorem q920 : (Jvm.Cond.lays "RoofRegatta$Pub" "RoofRegatta$House" "storeys" "I") ∈ lw_all := lw_g (lw_at lw_m4 77 rfl) rfl
theorem q921 : (Jvm.Cond.superclass "RoofRegatta$Pub" "RoofRegatta$House") ∈ lw_all := lw_g (lw_at lw_m4 78 rfl) rfl
theorem q1109 : (Jvm.Cond.selects "RoofRegatta$Pub" ({ cls := "RoofRegatta$House", name := "kind", desc := "()I" } : Jvm.MethodName) ({ cls := "RoofRegatta$Pub", name := "kind", desc := "()I" } : Jvm.MethodName)) ∈ lw_all := lw_g (lw_at lw_m5 26 rfl) rfl
theorem q1110 : (Jvm.Cond.instanceMethod ({ cls := "RoofRegatta$Pub", name := "kind", desc := "()I" } : Jvm.MethodName)) ∈ lw_all := lw_g (lw_at lw_m5 27 rfl) rfl
theorem q1111 : (Jvm.Cond.code ({ cls := "RoofRegatta$Pub", name := "kind", desc := "()I" } : Jvm.MethodName) prog_5_method_2_code (1 : Nat) (Option.some Jvm.ClassFile.FieldType.int)) ∈ lw_all := lw_g (lw_at lw_m5 28 rfl) rfl
theorem q1127 : (Jvm.Cond.selects "RoofRegatta$Pub" ({ cls := "RoofRegatta$House", name := "weighs", desc := "()I" } : Jvm.MethodName) ({ cls := "RoofRegatta$House", name := "weighs", desc := "()I" } : Jvm.MethodName)) ∈ lw_all := lw_g (lw_at lw_m5 44 rfl) rfl
theorem q1149 : (Jvm.Cond.selects "RoofRegatta$Pub" ({ cls := "RoofRegatta$House", name := "rows", desc := "(II)I" } : Jvm.MethodName) ({ cls := "RoofRegatta$House", name := "rows", desc := "(II)I" } : Jvm.MethodName)) ∈ lw_all := lw_g (lw_at lw_m5 66 rfl) rfl
theorem q1198 : (Jvm.Cond.selects "RoofRegatta$Pub" ({ cls := "RoofRegatta$House", name := "goes", desc := "(LRoofRegatta$Bend;I)I" } : Jvm.MethodName) ({ cls := "RoofRegatta$Pub", name := "goes", desc := "(LRoofRegatta$Bend;I)I" } : Jvm.MethodName)) ∈ lw_all := lw_g (lw_at lw_m5 115 rfl) rfl
theorem q1199 : (Jvm.Cond.instanceMethod ({ cls := "RoofRegatta$Pub", name := "goes", desc := "(LRoofRegatta$Bend;I)I" } : Jvm.MethodName)) ∈ lw_all := lw_g (lw_at lw_m5 116 rfl) rfl
theorem q1200 : (Jvm.Cond.code ({ cls := "RoofRegatta$Pub", name := "goes", desc := "(LRoofRegatta$Bend;I)I" } : Jvm.MethodName) prog_5_method_3_code (3 : Nat) (Option.some Jvm.ClassFile.FieldType.int)) ∈ lw_all := lw_g (lw_at lw_m5 117 rfl) rfl
theorem q1201 : (Jvm.Cond.methodLink "RoofRegatta$Pub" (15 : Nat) ({ cls := "RoofRegatta$House", name := "goes", desc := "(LRoofRegatta$Bend;I)I" } : Jvm.MethodName)) ∈ lw_all := lw_g (lw_at lw_m5 118 rfl) rfl
theorem q2356 : (Jvm.Cond.castable "RoofRegatta$Pub" "RoofRegatta$House") ∈ lw_tbl := lw_at lw_m10 73 rfl
theorem q2373 : (Jvm.Cond.castable "RoofRegatta$Pub" "java/lang/Object") ∈ lw_tbl := lw_at lw_m10 90 rfl
theorem in_X11 : ∀ w ∈ wsX110, w ∈ lw_all := lw_in wsX110 [917, 918, 919, 920] (by decide +kernel) (by decide +kernel)
/-! RoofRegatta$Lodger -/
set_option maxRecDepth 100000
def RX12 : String := "RoofRegatta$Lodger"
def TX12 : u_T := fun k => match k with
  | 0 => ("RoofRegatta$Lodger", "name", "Ljava/lang/String;", true)
  | 1 => ("RoofRegatta$Lodger", "weighs", "I", false)
  | 2 => ("RoofRegatta$Lodger", "rows", "I", false)
  | 3 => ("RoofRegatta$Lodger", "house", "I", false)
  | _ => ("RoofRegatta$Lodger", "friends", "I", false)
def tyX12 : Nat → FieldType := fun k => match k with
  | 0 => .object "java/lang/String"
  | 1 => .int
  | 2 => .int
  | 3 => .int
  | _ => .int
abbrev wsX120 : List Cond := u_ws RX12 TX12 5
theorem nmX12 : ∀ a, a < 5 → ∀ b, b < 5 → a ≠ b → (TX12 a).2.1 ≠ (TX12 b).2.1 := by decide +kernel
theorem tyX12_ok : ∀ k, k < 5 → parseFieldDescriptor (TX12 k).2.2.1 = some (tyX12 k) := by decide +kernel
abbrev cX12_init : ByteArray := prog_4_method_1_code
def yX12_init : MethodName := ⟨RX12, "<init>", "(Ljava/lang/String;)V"⟩
def dkwX12_init_0 : List UInt8 := [42, 183, 0, 3, 42, 16, 254, 181, 0, 9, 42, 43, 181, 0, 15, 177]
abbrev dktX12_init_0 : List UInt8 := dkwX12_init_0 ++ []
theorem dksX12_init_0 : cX12_init.data.toList.drop 0 = dktX12_init_0 := by decide +kernel
theorem dX12_init_0 : decode cX12_init 0 = .ok (.aload_n 0, 1) := dk_42 (dk_at dksX12_init_0 0 rfl rfl)
theorem dX12_init_1 : decode cX12_init 1 = .ok (.invokespecial 3, 3) := dk_183 0 3 (dk_at dksX12_init_0 1 rfl rfl)
theorem dX12_init_4 : decode cX12_init 4 = .ok (.aload_n 0, 1) := dk_42 (dk_at dksX12_init_0 4 rfl rfl)
theorem dX12_init_5 : decode cX12_init 5 = .ok (.bipush (-2), 2) := dk_16 254 (dk_at dksX12_init_0 5 rfl rfl)
theorem dX12_init_7 : decode cX12_init 7 = .ok (.putfield 9, 3) := dk_181 0 9 (dk_at dksX12_init_0 7 rfl rfl)
theorem dX12_init_10 : decode cX12_init 10 = .ok (.aload_n 0, 1) := dk_42 (dk_at dksX12_init_0 10 rfl rfl)
theorem dX12_init_11 : decode cX12_init 11 = .ok (.aload_n 1, 1) := dk_43 (dk_at dksX12_init_0 11 rfl rfl)
theorem dX12_init_12 : decode cX12_init 12 = .ok (.putfield 15, 3) := dk_181 0 15 (dk_at dksX12_init_0 12 rfl rfl)
theorem dX12_init_15 : decode cX12_init 15 = .ok (.return_, 1) := dk_177 (dk_at dksX12_init_0 15 rfl rfl)
theorem q149 : (Jvm.Cond.initialized "RoofRegatta$Lodger") ∈ lw_all := lw_g (lw_at lw_m1 26 rfl) rfl
theorem q826 : (Jvm.Cond.selects "RoofRegatta$Lodger" ({ cls := "java/lang/Object", name := "getClass", desc := "()Ljava/lang/Class;" } : Jvm.MethodName) ({ cls := "java/lang/Object", name := "getClass", desc := "()Ljava/lang/Class;" } : Jvm.MethodName)) ∈ lw_all := lw_g (lw_at lw_m3 223 rfl) rfl
theorem q929 : (Jvm.Cond.instantiable "RoofRegatta$Lodger" (5 : Nat)) ∈ lw_all := lw_g (lw_at lw_m4 86 rfl) rfl
theorem q931 : (Jvm.Cond.instanceMethod ({ cls := "RoofRegatta$Lodger", name := "<init>", desc := "(Ljava/lang/String;)V" } : Jvm.MethodName)) ∈ lw_all := lw_g (lw_at lw_m4 88 rfl) rfl
theorem q932 : (Jvm.Cond.code ({ cls := "RoofRegatta$Lodger", name := "<init>", desc := "(Ljava/lang/String;)V" } : Jvm.MethodName) prog_4_method_1_code (2 : Nat) (Option.none : Option Jvm.ClassFile.FieldType)) ∈ lw_all := lw_g (lw_at lw_m4 89 rfl) rfl
theorem q933 : (Jvm.Cond.methodLink "RoofRegatta$Lodger" (3 : Nat) ({ cls := "java/lang/Object", name := "<init>", desc := "()V" } : Jvm.MethodName)) ∈ lw_all := lw_g (lw_at lw_m4 90 rfl) rfl
theorem q934 : (Jvm.Cond.fieldLink "RoofRegatta$Lodger" (15 : Nat) "RoofRegatta$Lodger" "name" "Ljava/lang/String;") ∈ lw_all := lw_g (lw_at lw_m4 91 rfl) rfl
theorem q942 : (Jvm.Cond.fieldLink "RoofRegatta$Lodger" (9 : Nat) "RoofRegatta$Lodger" "house" "I") ∈ lw_all := lw_g (lw_at lw_m4 99 rfl) rfl
theorem q949 : (Jvm.Cond.laysFinal "RoofRegatta$Lodger" "RoofRegatta$Lodger" "name" "Ljava/lang/String;") ∈ lw_all := lw_g (lw_at lw_m4 106 rfl) rfl
theorem q950 : (Jvm.Cond.soleField "RoofRegatta$Lodger" "name") ∈ lw_all := lw_g (lw_at lw_m4 107 rfl) rfl
theorem q951 : (Jvm.Cond.lays "RoofRegatta$Lodger" "RoofRegatta$Lodger" "weighs" "I") ∈ lw_all := lw_g (lw_at lw_m4 108 rfl) rfl
theorem q952 : (Jvm.Cond.soleField "RoofRegatta$Lodger" "weighs") ∈ lw_all := lw_g (lw_at lw_m4 109 rfl) rfl
theorem q953 : (Jvm.Cond.lays "RoofRegatta$Lodger" "RoofRegatta$Lodger" "rows" "I") ∈ lw_all := lw_g (lw_at lw_m4 110 rfl) rfl
theorem q954 : (Jvm.Cond.soleField "RoofRegatta$Lodger" "rows") ∈ lw_all := lw_g (lw_at lw_m4 111 rfl) rfl
theorem q955 : (Jvm.Cond.lays "RoofRegatta$Lodger" "RoofRegatta$Lodger" "house" "I") ∈ lw_all := lw_g (lw_at lw_m4 112 rfl) rfl
theorem q956 : (Jvm.Cond.soleField "RoofRegatta$Lodger" "house") ∈ lw_all := lw_g (lw_at lw_m4 113 rfl) rfl
theorem q957 : (Jvm.Cond.lays "RoofRegatta$Lodger" "RoofRegatta$Lodger" "friends" "I") ∈ lw_all := lw_g (lw_at lw_m4 114 rfl) rfl
theorem q958 : (Jvm.Cond.soleField "RoofRegatta$Lodger" "friends") ∈ lw_all := lw_g (lw_at lw_m4 115 rfl) rfl
theorem q959 : (Jvm.Cond.superclass "RoofRegatta$Lodger" "java/lang/Object") ∈ lw_all := lw_g (lw_at lw_m4 116 rfl) rfl
theorem q2374 : (Jvm.Cond.castable "RoofRegatta$Lodger" "java/lang/Object") ∈ lw_tbl := lw_at lw_m10 91 rfl
theorem in_X12 : ∀ w ∈ wsX120, w ∈ lw_all := lw_in wsX120 [949, 951, 953, 955, 957] (by decide +kernel) (by decide +kernel)
/-! RoofRegatta$Seen -/
set_option maxRecDepth 100000
def RX13 : String := "RoofRegatta$Seen"
def TX13 : u_T := fun k => match k with
  | 0 => ("RoofRegatta$Seen", "one", "I", true)
  | 1 => ("RoofRegatta$Seen", "two", "I", true)
  | _ => ("RoofRegatta$Seen", "bend", "I", true)
def tyX13 : Nat → FieldType := fun k => match k with
  | 0 => .int
  | 1 => .int
  | _ => .int
abbrev wsX130 : List Cond := u_ws RX13 TX13 3
theorem nmX13 : ∀ a, a < 3 → ∀ b, b < 3 → a ≠ b → (TX13 a).2.1 ≠ (TX13 b).2.1 := by decide +kernel
theorem tyX13_ok : ∀ k, k < 3 → parseFieldDescriptor (TX13 k).2.2.1 = some (tyX13 k) := by decide +kernel
abbrev cX13_init : ByteArray := prog_9_method_1_code
def yX13_init : MethodName := ⟨RX13, "<init>", "(III)V"⟩
def dkwX13_init_0 : List UInt8 := [42, 183, 0, 1, 42, 27, 181, 0, 7, 42, 28, 181, 0, 13, 42, 29, 181, 0, 16, 177]
abbrev dktX13_init_0 : List UInt8 := dkwX13_init_0 ++ []
theorem dksX13_init_0 : cX13_init.data.toList.drop 0 = dktX13_init_0 := by decide +kernel
theorem dX13_init_0 : decode cX13_init 0 = .ok (.aload_n 0, 1) := dk_42 (dk_at dksX13_init_0 0 rfl rfl)
theorem dX13_init_1 : decode cX13_init 1 = .ok (.invokespecial 1, 3) := dk_183 0 1 (dk_at dksX13_init_0 1 rfl rfl)
theorem dX13_init_4 : decode cX13_init 4 = .ok (.aload_n 0, 1) := dk_42 (dk_at dksX13_init_0 4 rfl rfl)
theorem dX13_init_5 : decode cX13_init 5 = .ok (.iload_n 1, 1) := dk_27 (dk_at dksX13_init_0 5 rfl rfl)
theorem dX13_init_6 : decode cX13_init 6 = .ok (.putfield 7, 3) := dk_181 0 7 (dk_at dksX13_init_0 6 rfl rfl)
theorem dX13_init_9 : decode cX13_init 9 = .ok (.aload_n 0, 1) := dk_42 (dk_at dksX13_init_0 9 rfl rfl)
theorem dX13_init_10 : decode cX13_init 10 = .ok (.iload_n 2, 1) := dk_28 (dk_at dksX13_init_0 10 rfl rfl)
theorem dX13_init_11 : decode cX13_init 11 = .ok (.putfield 13, 3) := dk_181 0 13 (dk_at dksX13_init_0 11 rfl rfl)
theorem dX13_init_14 : decode cX13_init 14 = .ok (.aload_n 0, 1) := dk_42 (dk_at dksX13_init_0 14 rfl rfl)
theorem dX13_init_15 : decode cX13_init 15 = .ok (.iload_n 3, 1) := dk_29 (dk_at dksX13_init_0 15 rfl rfl)
theorem dX13_init_16 : decode cX13_init 16 = .ok (.putfield 16, 3) := dk_181 0 16 (dk_at dksX13_init_0 16 rfl rfl)
theorem dX13_init_19 : decode cX13_init 19 = .ok (.return_, 1) := dk_177 (dk_at dksX13_init_0 19 rfl rfl)
theorem q150 : (Jvm.Cond.initialized "RoofRegatta$Seen") ∈ lw_all := lw_g (lw_at lw_m1 27 rfl) rfl
theorem q831 : (Jvm.Cond.selects "RoofRegatta$Seen" ({ cls := "java/lang/Object", name := "getClass", desc := "()Ljava/lang/Class;" } : Jvm.MethodName) ({ cls := "java/lang/Object", name := "getClass", desc := "()Ljava/lang/Class;" } : Jvm.MethodName)) ∈ lw_all := lw_g (lw_at lw_m3 228 rfl) rfl
theorem q1003 : (Jvm.Cond.instantiable "RoofRegatta$Seen" (3 : Nat)) ∈ lw_all := lw_g (lw_at lw_m4 160 rfl) rfl
theorem q1005 : (Jvm.Cond.instanceMethod ({ cls := "RoofRegatta$Seen", name := "<init>", desc := "(III)V" } : Jvm.MethodName)) ∈ lw_all := lw_g (lw_at lw_m4 162 rfl) rfl
theorem q1006 : (Jvm.Cond.code ({ cls := "RoofRegatta$Seen", name := "<init>", desc := "(III)V" } : Jvm.MethodName) prog_9_method_1_code (4 : Nat) (Option.none : Option Jvm.ClassFile.FieldType)) ∈ lw_all := lw_g (lw_at lw_m4 163 rfl) rfl
theorem q1007 : (Jvm.Cond.methodLink "RoofRegatta$Seen" (1 : Nat) ({ cls := "java/lang/Object", name := "<init>", desc := "()V" } : Jvm.MethodName)) ∈ lw_all := lw_g (lw_at lw_m4 164 rfl) rfl
theorem q1008 : (Jvm.Cond.fieldLink "RoofRegatta$Seen" (7 : Nat) "RoofRegatta$Seen" "one" "I") ∈ lw_all := lw_g (lw_at lw_m4 165 rfl) rfl
theorem q1010 : (Jvm.Cond.fieldLink "RoofRegatta$Seen" (13 : Nat) "RoofRegatta$Seen" "two" "I") ∈ lw_all := lw_g (lw_at lw_m4 167 rfl) rfl
theorem q1012 : (Jvm.Cond.fieldLink "RoofRegatta$Seen" (16 : Nat) "RoofRegatta$Seen" "bend" "I") ∈ lw_all := lw_g (lw_at lw_m4 169 rfl) rfl
theorem q1014 : (Jvm.Cond.laysFinal "RoofRegatta$Seen" "RoofRegatta$Seen" "one" "I") ∈ lw_all := lw_g (lw_at lw_m4 171 rfl) rfl
theorem q1015 : (Jvm.Cond.soleField "RoofRegatta$Seen" "one") ∈ lw_all := lw_g (lw_at lw_m4 172 rfl) rfl
theorem q1016 : (Jvm.Cond.laysFinal "RoofRegatta$Seen" "RoofRegatta$Seen" "two" "I") ∈ lw_all := lw_g (lw_at lw_m4 173 rfl) rfl
theorem q1017 : (Jvm.Cond.soleField "RoofRegatta$Seen" "two") ∈ lw_all := lw_g (lw_at lw_m4 174 rfl) rfl
theorem q1018 : (Jvm.Cond.laysFinal "RoofRegatta$Seen" "RoofRegatta$Seen" "bend" "I") ∈ lw_all := lw_g (lw_at lw_m4 175 rfl) rfl
theorem q1019 : (Jvm.Cond.soleField "RoofRegatta$Seen" "bend") ∈ lw_all := lw_g (lw_at lw_m4 176 rfl) rfl
theorem q1020 : (Jvm.Cond.superclass "RoofRegatta$Seen" "java/lang/Object") ∈ lw_all := lw_g (lw_at lw_m4 177 rfl) rfl
theorem q2375 : (Jvm.Cond.castable "RoofRegatta$Seen" "java/lang/Object") ∈ lw_tbl := lw_at lw_m10 92 rfl
theorem in_X13 : ∀ w ∈ wsX130, w ∈ lw_all := lw_in wsX130 [1014, 1016, 1018] (by decide +kernel) (by decide +kernel)
/-! RoofRegatta$River -/
set_option maxRecDepth 100000
def RX14 : String := "RoofRegatta$River"
def TX14 : u_T := fun k => match k with
  | 0 => ("RoofRegatta$River", "regatta", "LRoofRegatta$Regatta;", true)
  | 1 => ("RoofRegatta$River", "house", "[I", true)
  | 2 => ("RoofRegatta$River", "lane", "[I", true)
  | 3 => ("RoofRegatta$River", "lit", "I", false)
  | _ => ("RoofRegatta$River", "water", "I", false)
def tyX14 : Nat → FieldType := fun k => match k with
  | 0 => .object "RoofRegatta$Regatta"
  | 1 => .array .int
  | 2 => .array .int
  | 3 => .int
  | _ => .int
abbrev wsX140 : List Cond := u_ws RX14 TX14 5
theorem nmX14 : ∀ a, a < 5 → ∀ b, b < 5 → a ≠ b → (TX14 a).2.1 ≠ (TX14 b).2.1 := by decide +kernel
theorem tyX14_ok : ∀ k, k < 5 → parseFieldDescriptor (TX14 k).2.2.1 = some (tyX14 k) := by decide +kernel
abbrev cX14_init : ByteArray := prog_8_method_1_code
def yX14_init : MethodName := ⟨RX14, "<init>", "(LRoofRegatta$Regatta;)V"⟩
def dkwX14_init_0 : List UInt8 := [42, 183, 0, 3, 42, 8, 188, 10, 181, 0, 9, 42, 7, 188, 10, 181, 0, 15, 42, 43, 181, 0, 18, 177]
abbrev dktX14_init_0 : List UInt8 := dkwX14_init_0 ++ []
theorem dksX14_init_0 : cX14_init.data.toList.drop 0 = dktX14_init_0 := by decide +kernel
theorem dX14_init_0 : decode cX14_init 0 = .ok (.aload_n 0, 1) := dk_42 (dk_at dksX14_init_0 0 rfl rfl)
theorem dX14_init_1 : decode cX14_init 1 = .ok (.invokespecial 3, 3) := dk_183 0 3 (dk_at dksX14_init_0 1 rfl rfl)
theorem dX14_init_4 : decode cX14_init 4 = .ok (.aload_n 0, 1) := dk_42 (dk_at dksX14_init_0 4 rfl rfl)
theorem dX14_init_5 : decode cX14_init 5 = .ok (.iconst 5, 1) := dk_8 (dk_at dksX14_init_0 5 rfl rfl)
theorem dX14_init_6 : decode cX14_init 6 = .ok (.newarray .int, 2) := dk_188_10 (dk_at dksX14_init_0 6 rfl rfl)
theorem dX14_init_8 : decode cX14_init 8 = .ok (.putfield 9, 3) := dk_181 0 9 (dk_at dksX14_init_0 8 rfl rfl)
theorem dX14_init_11 : decode cX14_init 11 = .ok (.aload_n 0, 1) := dk_42 (dk_at dksX14_init_0 11 rfl rfl)
theorem dX14_init_12 : decode cX14_init 12 = .ok (.iconst 4, 1) := dk_7 (dk_at dksX14_init_0 12 rfl rfl)
theorem dX14_init_13 : decode cX14_init 13 = .ok (.newarray .int, 2) := dk_188_10 (dk_at dksX14_init_0 13 rfl rfl)
theorem dX14_init_15 : decode cX14_init 15 = .ok (.putfield 15, 3) := dk_181 0 15 (dk_at dksX14_init_0 15 rfl rfl)
theorem dX14_init_18 : decode cX14_init 18 = .ok (.aload_n 0, 1) := dk_42 (dk_at dksX14_init_0 18 rfl rfl)
theorem dX14_init_19 : decode cX14_init 19 = .ok (.aload_n 1, 1) := dk_43 (dk_at dksX14_init_0 19 rfl rfl)
theorem dX14_init_20 : decode cX14_init 20 = .ok (.putfield 18, 3) := dk_181 0 18 (dk_at dksX14_init_0 20 rfl rfl)
theorem dX14_init_23 : decode cX14_init 23 = .ok (.return_, 1) := dk_177 (dk_at dksX14_init_0 23 rfl rfl)
abbrev cX14_begins : ByteArray := prog_8_method_2_code
def yX14_begins : MethodName := ⟨RX14, "begins", "()V"⟩
def dkwX14_begins_4 : List UInt8 := [181, 0, 50, 42, 42, 180, 0, 18, 180, 0, 53, 181, 0, 56, 177]
abbrev dktX14_begins_4 : List UInt8 := dkwX14_begins_4 ++ []
def dkwX14_begins_3 : List UInt8 := [180, 0, 43, 27, 182, 0, 34, 192, 0, 46, 180, 0, 48, 79, 132, 1, 1, 167, 255, 216, 42, 3]
abbrev dktX14_begins_3 : List UInt8 := dkwX14_begins_3 ++ dktX14_begins_4
def dkwX14_begins_2 : List UInt8 := [60, 27, 42, 180, 0, 18, 180, 0, 43, 182, 0, 28, 162, 0, 32, 42, 180, 0, 15, 27, 42, 180, 0, 18]
abbrev dktX14_begins_2 : List UInt8 := dkwX14_begins_2 ++ dktX14_begins_3
def dkwX14_begins_1 : List UInt8 := [180, 0, 18, 180, 0, 22, 27, 182, 0, 34, 192, 0, 38, 180, 0, 40, 79, 132, 1, 1, 167, 255, 216, 3]
abbrev dktX14_begins_1 : List UInt8 := dkwX14_begins_1 ++ dktX14_begins_2
def dkwX14_begins_0 : List UInt8 := [3, 60, 27, 42, 180, 0, 18, 180, 0, 22, 182, 0, 28, 162, 0, 32, 42, 180, 0, 9, 27, 42]
abbrev dktX14_begins_0 : List UInt8 := dkwX14_begins_0 ++ dktX14_begins_1
theorem dksX14_begins_0 : cX14_begins.data.toList.drop 0 = dktX14_begins_0 := by decide +kernel
theorem dksX14_begins_1 : cX14_begins.data.toList.drop 22 = dktX14_begins_1 := dk_seg dksX14_begins_0 22 rfl rfl
theorem dksX14_begins_2 : cX14_begins.data.toList.drop 46 = dktX14_begins_2 := dk_seg dksX14_begins_1 24 rfl rfl
theorem dksX14_begins_3 : cX14_begins.data.toList.drop 70 = dktX14_begins_3 := dk_seg dksX14_begins_2 24 rfl rfl
theorem dksX14_begins_4 : cX14_begins.data.toList.drop 92 = dktX14_begins_4 := dk_seg dksX14_begins_3 22 rfl rfl
theorem dX14_begins_0 : decode cX14_begins 0 = .ok (.iconst 0, 1) := dk_3 (dk_at dksX14_begins_0 0 rfl rfl)
theorem dX14_begins_1 : decode cX14_begins 1 = .ok (.istore_n 1, 1) := dk_60 (dk_at dksX14_begins_0 1 rfl rfl)
theorem dX14_begins_2 : decode cX14_begins 2 = .ok (.iload_n 1, 1) := dk_27 (dk_at dksX14_begins_0 2 rfl rfl)
theorem dX14_begins_3 : decode cX14_begins 3 = .ok (.aload_n 0, 1) := dk_42 (dk_at dksX14_begins_0 3 rfl rfl)
theorem dX14_begins_4 : decode cX14_begins 4 = .ok (.getfield 18, 3) := dk_180 0 18 (dk_at dksX14_begins_0 4 rfl rfl)
theorem dX14_begins_7 : decode cX14_begins 7 = .ok (.getfield 22, 3) := dk_180 0 22 (dk_at dksX14_begins_0 7 rfl rfl)
theorem dX14_begins_10 : decode cX14_begins 10 = .ok (.invokevirtual 28, 3) := dk_182 0 28 (dk_at dksX14_begins_0 10 rfl rfl)
theorem dX14_begins_13 : decode cX14_begins 13 = .ok (.if_icmp .ge 32, 3) := dk_162 0 32 (dk_at dksX14_begins_0 13 rfl rfl)
theorem dX14_begins_16 : decode cX14_begins 16 = .ok (.aload_n 0, 1) := dk_42 (dk_at dksX14_begins_0 16 rfl rfl)
theorem dX14_begins_17 : decode cX14_begins 17 = .ok (.getfield 9, 3) := dk_180 0 9 (dk_at dksX14_begins_0 17 rfl rfl)
theorem dX14_begins_20 : decode cX14_begins 20 = .ok (.iload_n 1, 1) := dk_27 (dk_at dksX14_begins_0 20 rfl rfl)
theorem dX14_begins_21 : decode cX14_begins 21 = .ok (.aload_n 0, 1) := dk_42 (dk_at dksX14_begins_0 21 rfl rfl)
theorem dX14_begins_22 : decode cX14_begins 22 = .ok (.getfield 18, 3) := dk_180 0 18 (dk_at dksX14_begins_1 0 rfl rfl)
theorem dX14_begins_25 : decode cX14_begins 25 = .ok (.getfield 22, 3) := dk_180 0 22 (dk_at dksX14_begins_1 3 rfl rfl)
theorem dX14_begins_28 : decode cX14_begins 28 = .ok (.iload_n 1, 1) := dk_27 (dk_at dksX14_begins_1 6 rfl rfl)
theorem dX14_begins_29 : decode cX14_begins 29 = .ok (.invokevirtual 34, 3) := dk_182 0 34 (dk_at dksX14_begins_1 7 rfl rfl)
theorem dX14_begins_32 : decode cX14_begins 32 = .ok (.checkcast 38, 3) := dk_192 0 38 (dk_at dksX14_begins_1 10 rfl rfl)
theorem dX14_begins_35 : decode cX14_begins 35 = .ok (.getfield 40, 3) := dk_180 0 40 (dk_at dksX14_begins_1 13 rfl rfl)
theorem dX14_begins_38 : decode cX14_begins 38 = .ok (.iastore, 1) := dk_79 (dk_at dksX14_begins_1 16 rfl rfl)
theorem dX14_begins_39 : decode cX14_begins 39 = .ok (.iinc 1 1, 3) := dk_132 1 1 (dk_at dksX14_begins_1 17 rfl rfl)
theorem dX14_begins_42 : decode cX14_begins 42 = .ok (.goto (-40), 3) := dk_167 255 216 (dk_at dksX14_begins_1 20 rfl rfl)
theorem dX14_begins_45 : decode cX14_begins 45 = .ok (.iconst 0, 1) := dk_3 (dk_at dksX14_begins_1 23 rfl rfl)
theorem dX14_begins_46 : decode cX14_begins 46 = .ok (.istore_n 1, 1) := dk_60 (dk_at dksX14_begins_2 0 rfl rfl)
theorem dX14_begins_47 : decode cX14_begins 47 = .ok (.iload_n 1, 1) := dk_27 (dk_at dksX14_begins_2 1 rfl rfl)
theorem dX14_begins_48 : decode cX14_begins 48 = .ok (.aload_n 0, 1) := dk_42 (dk_at dksX14_begins_2 2 rfl rfl)
theorem dX14_begins_49 : decode cX14_begins 49 = .ok (.getfield 18, 3) := dk_180 0 18 (dk_at dksX14_begins_2 3 rfl rfl)
theorem dX14_begins_52 : decode cX14_begins 52 = .ok (.getfield 43, 3) := dk_180 0 43 (dk_at dksX14_begins_2 6 rfl rfl)
theorem dX14_begins_55 : decode cX14_begins 55 = .ok (.invokevirtual 28, 3) := dk_182 0 28 (dk_at dksX14_begins_2 9 rfl rfl)
theorem dX14_begins_58 : decode cX14_begins 58 = .ok (.if_icmp .ge 32, 3) := dk_162 0 32 (dk_at dksX14_begins_2 12 rfl rfl)
theorem dX14_begins_61 : decode cX14_begins 61 = .ok (.aload_n 0, 1) := dk_42 (dk_at dksX14_begins_2 15 rfl rfl)
theorem dX14_begins_62 : decode cX14_begins 62 = .ok (.getfield 15, 3) := dk_180 0 15 (dk_at dksX14_begins_2 16 rfl rfl)
theorem dX14_begins_65 : decode cX14_begins 65 = .ok (.iload_n 1, 1) := dk_27 (dk_at dksX14_begins_2 19 rfl rfl)
theorem dX14_begins_66 : decode cX14_begins 66 = .ok (.aload_n 0, 1) := dk_42 (dk_at dksX14_begins_2 20 rfl rfl)
theorem dX14_begins_67 : decode cX14_begins 67 = .ok (.getfield 18, 3) := dk_180 0 18 (dk_at dksX14_begins_2 21 rfl rfl)
theorem dX14_begins_70 : decode cX14_begins 70 = .ok (.getfield 43, 3) := dk_180 0 43 (dk_at dksX14_begins_3 0 rfl rfl)
theorem dX14_begins_73 : decode cX14_begins 73 = .ok (.iload_n 1, 1) := dk_27 (dk_at dksX14_begins_3 3 rfl rfl)
theorem dX14_begins_74 : decode cX14_begins 74 = .ok (.invokevirtual 34, 3) := dk_182 0 34 (dk_at dksX14_begins_3 4 rfl rfl)
theorem dX14_begins_77 : decode cX14_begins 77 = .ok (.checkcast 46, 3) := dk_192 0 46 (dk_at dksX14_begins_3 7 rfl rfl)
theorem dX14_begins_80 : decode cX14_begins 80 = .ok (.getfield 48, 3) := dk_180 0 48 (dk_at dksX14_begins_3 10 rfl rfl)
theorem dX14_begins_83 : decode cX14_begins 83 = .ok (.iastore, 1) := dk_79 (dk_at dksX14_begins_3 13 rfl rfl)
theorem dX14_begins_84 : decode cX14_begins 84 = .ok (.iinc 1 1, 3) := dk_132 1 1 (dk_at dksX14_begins_3 14 rfl rfl)
theorem dX14_begins_87 : decode cX14_begins 87 = .ok (.goto (-40), 3) := dk_167 255 216 (dk_at dksX14_begins_3 17 rfl rfl)
theorem dX14_begins_90 : decode cX14_begins 90 = .ok (.aload_n 0, 1) := dk_42 (dk_at dksX14_begins_3 20 rfl rfl)
theorem dX14_begins_91 : decode cX14_begins 91 = .ok (.iconst 0, 1) := dk_3 (dk_at dksX14_begins_3 21 rfl rfl)
theorem dX14_begins_92 : decode cX14_begins 92 = .ok (.putfield 50, 3) := dk_181 0 50 (dk_at dksX14_begins_4 0 rfl rfl)
theorem dX14_begins_95 : decode cX14_begins 95 = .ok (.aload_n 0, 1) := dk_42 (dk_at dksX14_begins_4 3 rfl rfl)
theorem dX14_begins_96 : decode cX14_begins 96 = .ok (.aload_n 0, 1) := dk_42 (dk_at dksX14_begins_4 4 rfl rfl)
theorem dX14_begins_97 : decode cX14_begins 97 = .ok (.getfield 18, 3) := dk_180 0 18 (dk_at dksX14_begins_4 5 rfl rfl)
theorem dX14_begins_100 : decode cX14_begins 100 = .ok (.getfield 53, 3) := dk_180 0 53 (dk_at dksX14_begins_4 8 rfl rfl)
theorem dX14_begins_103 : decode cX14_begins 103 = .ok (.putfield 56, 3) := dk_181 0 56 (dk_at dksX14_begins_4 11 rfl rfl)
theorem dX14_begins_106 : decode cX14_begins 106 = .ok (.return_, 1) := dk_177 (dk_at dksX14_begins_4 14 rfl rfl)
abbrev cX14_copy : ByteArray := prog_8_method_4_code
def yX14_copy : MethodName := ⟨RX14, "copy", "()LRoofRegatta$River;"⟩
def dkwX14_copy_0 : List UInt8 := [187, 0, 10, 89, 42, 180, 0, 18, 183, 0, 63, 76, 43, 42, 182, 0, 66, 43, 176]
abbrev dktX14_copy_0 : List UInt8 := dkwX14_copy_0 ++ []
theorem dksX14_copy_0 : cX14_copy.data.toList.drop 0 = dktX14_copy_0 := by decide +kernel
theorem dX14_copy_0 : decode cX14_copy 0 = .ok (.new 10, 3) := dk_187 0 10 (dk_at dksX14_copy_0 0 rfl rfl)
theorem dX14_copy_3 : decode cX14_copy 3 = .ok (.dup, 1) := dk_89 (dk_at dksX14_copy_0 3 rfl rfl)
theorem dX14_copy_4 : decode cX14_copy 4 = .ok (.aload_n 0, 1) := dk_42 (dk_at dksX14_copy_0 4 rfl rfl)
theorem dX14_copy_5 : decode cX14_copy 5 = .ok (.getfield 18, 3) := dk_180 0 18 (dk_at dksX14_copy_0 5 rfl rfl)
theorem dX14_copy_8 : decode cX14_copy 8 = .ok (.invokespecial 63, 3) := dk_183 0 63 (dk_at dksX14_copy_0 8 rfl rfl)
theorem dX14_copy_11 : decode cX14_copy 11 = .ok (.astore_n 1, 1) := dk_76 (dk_at dksX14_copy_0 11 rfl rfl)
theorem dX14_copy_12 : decode cX14_copy 12 = .ok (.aload_n 1, 1) := dk_43 (dk_at dksX14_copy_0 12 rfl rfl)
theorem dX14_copy_13 : decode cX14_copy 13 = .ok (.aload_n 0, 1) := dk_42 (dk_at dksX14_copy_0 13 rfl rfl)
theorem dX14_copy_14 : decode cX14_copy 14 = .ok (.invokevirtual 66, 3) := dk_182 0 66 (dk_at dksX14_copy_0 14 rfl rfl)
theorem dX14_copy_17 : decode cX14_copy 17 = .ok (.aload_n 1, 1) := dk_43 (dk_at dksX14_copy_0 17 rfl rfl)
theorem dX14_copy_18 : decode cX14_copy 18 = .ok (.areturn, 1) := dk_176 (dk_at dksX14_copy_0 18 rfl rfl)
abbrev cX14_takes : ByteArray := prog_8_method_3_code
def yX14_takes : MethodName := ⟨RX14, "takes", "(LRoofRegatta$River;)V"⟩
def dkwX14_takes_1 : List UInt8 := [7, 184, 0, 57, 42, 43, 180, 0, 50, 181, 0, 50, 42, 43, 180, 0, 56, 181, 0, 56, 177]
abbrev dktX14_takes_1 : List UInt8 := dkwX14_takes_1 ++ []
def dkwX14_takes_0 : List UInt8 := [43, 180, 0, 9, 3, 42, 180, 0, 9, 3, 8, 184, 0, 57, 43, 180, 0, 15, 3, 42, 180, 0, 15, 3]
abbrev dktX14_takes_0 : List UInt8 := dkwX14_takes_0 ++ dktX14_takes_1
theorem dksX14_takes_0 : cX14_takes.data.toList.drop 0 = dktX14_takes_0 := by decide +kernel
theorem dksX14_takes_1 : cX14_takes.data.toList.drop 24 = dktX14_takes_1 := dk_seg dksX14_takes_0 24 rfl rfl
theorem dX14_takes_0 : decode cX14_takes 0 = .ok (.aload_n 1, 1) := dk_43 (dk_at dksX14_takes_0 0 rfl rfl)
theorem dX14_takes_1 : decode cX14_takes 1 = .ok (.getfield 9, 3) := dk_180 0 9 (dk_at dksX14_takes_0 1 rfl rfl)
theorem dX14_takes_4 : decode cX14_takes 4 = .ok (.iconst 0, 1) := dk_3 (dk_at dksX14_takes_0 4 rfl rfl)
theorem dX14_takes_5 : decode cX14_takes 5 = .ok (.aload_n 0, 1) := dk_42 (dk_at dksX14_takes_0 5 rfl rfl)
theorem dX14_takes_6 : decode cX14_takes 6 = .ok (.getfield 9, 3) := dk_180 0 9 (dk_at dksX14_takes_0 6 rfl rfl)
theorem dX14_takes_9 : decode cX14_takes 9 = .ok (.iconst 0, 1) := dk_3 (dk_at dksX14_takes_0 9 rfl rfl)
theorem dX14_takes_10 : decode cX14_takes 10 = .ok (.iconst 5, 1) := dk_8 (dk_at dksX14_takes_0 10 rfl rfl)
theorem dX14_takes_11 : decode cX14_takes 11 = .ok (.invokestatic 57, 3) := dk_184 0 57 (dk_at dksX14_takes_0 11 rfl rfl)
theorem dX14_takes_14 : decode cX14_takes 14 = .ok (.aload_n 1, 1) := dk_43 (dk_at dksX14_takes_0 14 rfl rfl)
theorem dX14_takes_15 : decode cX14_takes 15 = .ok (.getfield 15, 3) := dk_180 0 15 (dk_at dksX14_takes_0 15 rfl rfl)
theorem dX14_takes_18 : decode cX14_takes 18 = .ok (.iconst 0, 1) := dk_3 (dk_at dksX14_takes_0 18 rfl rfl)
theorem dX14_takes_19 : decode cX14_takes 19 = .ok (.aload_n 0, 1) := dk_42 (dk_at dksX14_takes_0 19 rfl rfl)
theorem dX14_takes_20 : decode cX14_takes 20 = .ok (.getfield 15, 3) := dk_180 0 15 (dk_at dksX14_takes_0 20 rfl rfl)
theorem dX14_takes_23 : decode cX14_takes 23 = .ok (.iconst 0, 1) := dk_3 (dk_at dksX14_takes_0 23 rfl rfl)
theorem dX14_takes_24 : decode cX14_takes 24 = .ok (.iconst 4, 1) := dk_7 (dk_at dksX14_takes_1 0 rfl rfl)
theorem dX14_takes_25 : decode cX14_takes 25 = .ok (.invokestatic 57, 3) := dk_184 0 57 (dk_at dksX14_takes_1 1 rfl rfl)
theorem dX14_takes_28 : decode cX14_takes 28 = .ok (.aload_n 0, 1) := dk_42 (dk_at dksX14_takes_1 4 rfl rfl)
theorem dX14_takes_29 : decode cX14_takes 29 = .ok (.aload_n 1, 1) := dk_43 (dk_at dksX14_takes_1 5 rfl rfl)
theorem dX14_takes_30 : decode cX14_takes 30 = .ok (.getfield 50, 3) := dk_180 0 50 (dk_at dksX14_takes_1 6 rfl rfl)
theorem dX14_takes_33 : decode cX14_takes 33 = .ok (.putfield 50, 3) := dk_181 0 50 (dk_at dksX14_takes_1 9 rfl rfl)
theorem dX14_takes_36 : decode cX14_takes 36 = .ok (.aload_n 0, 1) := dk_42 (dk_at dksX14_takes_1 12 rfl rfl)
theorem dX14_takes_37 : decode cX14_takes 37 = .ok (.aload_n 1, 1) := dk_43 (dk_at dksX14_takes_1 13 rfl rfl)
theorem dX14_takes_38 : decode cX14_takes 38 = .ok (.getfield 56, 3) := dk_180 0 56 (dk_at dksX14_takes_1 14 rfl rfl)
theorem dX14_takes_41 : decode cX14_takes 41 = .ok (.putfield 56, 3) := dk_181 0 56 (dk_at dksX14_takes_1 17 rfl rfl)
theorem dX14_takes_44 : decode cX14_takes 44 = .ok (.return_, 1) := dk_177 (dk_at dksX14_takes_1 20 rfl rfl)
abbrev cX14_weight : ByteArray := prog_8_method_7_code
def yX14_weight : MethodName := ⟨RX14, "weight", "(I)I"⟩
def dkwX14_weight_3 : List UInt8 := [132, 3, 1, 167, 255, 205, 28, 172]
abbrev dktX14_weight_3 : List UInt8 := dkwX14_weight_3 ++ []
def dkwX14_weight_2 : List UInt8 := [180, 0, 18, 180, 0, 22, 29, 182, 0, 34, 192, 0, 38, 180, 0, 83, 167, 0, 4, 3, 96, 61]
abbrev dktX14_weight_2 : List UInt8 := dkwX14_weight_2 ++ dktX14_weight_3
def dkwX14_weight_1 : List UInt8 := [180, 0, 18, 180, 0, 22, 182, 0, 28, 162, 0, 43, 28, 42, 180, 0, 9, 29, 46, 27, 160, 0, 23, 42]
abbrev dktX14_weight_1 : List UInt8 := dkwX14_weight_1 ++ dktX14_weight_2
def dkwX14_weight_0 : List UInt8 := [42, 180, 0, 18, 180, 0, 43, 27, 182, 0, 34, 192, 0, 46, 182, 0, 80, 61, 3, 62, 29, 42]
abbrev dktX14_weight_0 : List UInt8 := dkwX14_weight_0 ++ dktX14_weight_1
theorem dksX14_weight_0 : cX14_weight.data.toList.drop 0 = dktX14_weight_0 := by decide +kernel
theorem dksX14_weight_1 : cX14_weight.data.toList.drop 22 = dktX14_weight_1 := dk_seg dksX14_weight_0 22 rfl rfl
theorem dksX14_weight_2 : cX14_weight.data.toList.drop 46 = dktX14_weight_2 := dk_seg dksX14_weight_1 24 rfl rfl
theorem dksX14_weight_3 : cX14_weight.data.toList.drop 68 = dktX14_weight_3 := dk_seg dksX14_weight_2 22 rfl rfl
theorem dX14_weight_0 : decode cX14_weight 0 = .ok (.aload_n 0, 1) := dk_42 (dk_at dksX14_weight_0 0 rfl rfl)
theorem dX14_weight_1 : decode cX14_weight 1 = .ok (.getfield 18, 3) := dk_180 0 18 (dk_at dksX14_weight_0 1 rfl rfl)
theorem dX14_weight_4 : decode cX14_weight 4 = .ok (.getfield 43, 3) := dk_180 0 43 (dk_at dksX14_weight_0 4 rfl rfl)
theorem dX14_weight_7 : decode cX14_weight 7 = .ok (.iload_n 1, 1) := dk_27 (dk_at dksX14_weight_0 7 rfl rfl)
theorem dX14_weight_8 : decode cX14_weight 8 = .ok (.invokevirtual 34, 3) := dk_182 0 34 (dk_at dksX14_weight_0 8 rfl rfl)
theorem dX14_weight_11 : decode cX14_weight 11 = .ok (.checkcast 46, 3) := dk_192 0 46 (dk_at dksX14_weight_0 11 rfl rfl)
theorem dX14_weight_14 : decode cX14_weight 14 = .ok (.invokevirtual 80, 3) := dk_182 0 80 (dk_at dksX14_weight_0 14 rfl rfl)
theorem dX14_weight_17 : decode cX14_weight 17 = .ok (.istore_n 2, 1) := dk_61 (dk_at dksX14_weight_0 17 rfl rfl)
theorem dX14_weight_18 : decode cX14_weight 18 = .ok (.iconst 0, 1) := dk_3 (dk_at dksX14_weight_0 18 rfl rfl)
theorem dX14_weight_19 : decode cX14_weight 19 = .ok (.istore_n 3, 1) := dk_62 (dk_at dksX14_weight_0 19 rfl rfl)
theorem dX14_weight_20 : decode cX14_weight 20 = .ok (.iload_n 3, 1) := dk_29 (dk_at dksX14_weight_0 20 rfl rfl)
theorem dX14_weight_21 : decode cX14_weight 21 = .ok (.aload_n 0, 1) := dk_42 (dk_at dksX14_weight_0 21 rfl rfl)
theorem dX14_weight_22 : decode cX14_weight 22 = .ok (.getfield 18, 3) := dk_180 0 18 (dk_at dksX14_weight_1 0 rfl rfl)
theorem dX14_weight_25 : decode cX14_weight 25 = .ok (.getfield 22, 3) := dk_180 0 22 (dk_at dksX14_weight_1 3 rfl rfl)
theorem dX14_weight_28 : decode cX14_weight 28 = .ok (.invokevirtual 28, 3) := dk_182 0 28 (dk_at dksX14_weight_1 6 rfl rfl)
theorem dX14_weight_31 : decode cX14_weight 31 = .ok (.if_icmp .ge 43, 3) := dk_162 0 43 (dk_at dksX14_weight_1 9 rfl rfl)
theorem dX14_weight_34 : decode cX14_weight 34 = .ok (.iload_n 2, 1) := dk_28 (dk_at dksX14_weight_1 12 rfl rfl)
theorem dX14_weight_35 : decode cX14_weight 35 = .ok (.aload_n 0, 1) := dk_42 (dk_at dksX14_weight_1 13 rfl rfl)
theorem dX14_weight_36 : decode cX14_weight 36 = .ok (.getfield 9, 3) := dk_180 0 9 (dk_at dksX14_weight_1 14 rfl rfl)
theorem dX14_weight_39 : decode cX14_weight 39 = .ok (.iload_n 3, 1) := dk_29 (dk_at dksX14_weight_1 17 rfl rfl)
theorem dX14_weight_40 : decode cX14_weight 40 = .ok (.iaload, 1) := dk_46 (dk_at dksX14_weight_1 18 rfl rfl)
theorem dX14_weight_41 : decode cX14_weight 41 = .ok (.iload_n 1, 1) := dk_27 (dk_at dksX14_weight_1 19 rfl rfl)
theorem dX14_weight_42 : decode cX14_weight 42 = .ok (.if_icmp .ne 23, 3) := dk_160 0 23 (dk_at dksX14_weight_1 20 rfl rfl)
theorem dX14_weight_45 : decode cX14_weight 45 = .ok (.aload_n 0, 1) := dk_42 (dk_at dksX14_weight_1 23 rfl rfl)
theorem dX14_weight_46 : decode cX14_weight 46 = .ok (.getfield 18, 3) := dk_180 0 18 (dk_at dksX14_weight_2 0 rfl rfl)
theorem dX14_weight_49 : decode cX14_weight 49 = .ok (.getfield 22, 3) := dk_180 0 22 (dk_at dksX14_weight_2 3 rfl rfl)
theorem dX14_weight_52 : decode cX14_weight 52 = .ok (.iload_n 3, 1) := dk_29 (dk_at dksX14_weight_2 6 rfl rfl)
theorem dX14_weight_53 : decode cX14_weight 53 = .ok (.invokevirtual 34, 3) := dk_182 0 34 (dk_at dksX14_weight_2 7 rfl rfl)
theorem dX14_weight_56 : decode cX14_weight 56 = .ok (.checkcast 38, 3) := dk_192 0 38 (dk_at dksX14_weight_2 10 rfl rfl)
theorem dX14_weight_59 : decode cX14_weight 59 = .ok (.getfield 83, 3) := dk_180 0 83 (dk_at dksX14_weight_2 13 rfl rfl)
theorem dX14_weight_62 : decode cX14_weight 62 = .ok (.goto 4, 3) := dk_167 0 4 (dk_at dksX14_weight_2 16 rfl rfl)
theorem dX14_weight_65 : decode cX14_weight 65 = .ok (.iconst 0, 1) := dk_3 (dk_at dksX14_weight_2 19 rfl rfl)
theorem dX14_weight_66 : decode cX14_weight 66 = .ok (.iadd, 1) := dk_96 (dk_at dksX14_weight_2 20 rfl rfl)
theorem dX14_weight_67 : decode cX14_weight 67 = .ok (.istore_n 2, 1) := dk_61 (dk_at dksX14_weight_2 21 rfl rfl)
theorem dX14_weight_68 : decode cX14_weight 68 = .ok (.iinc 3 1, 3) := dk_132 3 1 (dk_at dksX14_weight_3 0 rfl rfl)
theorem dX14_weight_71 : decode cX14_weight 71 = .ok (.goto (-51), 3) := dk_167 255 205 (dk_at dksX14_weight_3 3 rfl rfl)
theorem dX14_weight_74 : decode cX14_weight 74 = .ok (.iload_n 2, 1) := dk_28 (dk_at dksX14_weight_3 6 rfl rfl)
theorem dX14_weight_75 : decode cX14_weight 75 = .ok (.ireturn, 1) := dk_172 (dk_at dksX14_weight_3 7 rfl rfl)
abbrev cX14_power : ByteArray := prog_8_method_8_code
def yX14_power : MethodName := ⟨RX14, "power", "(II)I"⟩
def dkwX14_power_4 : List UInt8 := [182, 0, 88, 96, 172]
abbrev dktX14_power_4 : List UInt8 := dkwX14_power_4 ++ []
def dkwX14_power_3 : List UInt8 := [42, 180, 0, 18, 180, 0, 43, 27, 182, 0, 34, 192, 0, 46, 29, 42, 27, 182, 0, 70, 184, 0, 74]
abbrev dktX14_power_3 : List UInt8 := dkwX14_power_3 ++ dktX14_power_4
def dkwX14_power_2 : List UInt8 := [192, 0, 38, 180, 0, 85, 167, 0, 4, 3, 96, 62, 132, 4, 1, 167, 255, 202, 42, 180, 0, 56, 28, 96]
abbrev dktX14_power_2 : List UInt8 := dkwX14_power_2 ++ dktX14_power_3
def dkwX14_power_1 : List UInt8 := [180, 0, 9, 21, 4, 46, 27, 160, 0, 24, 42, 180, 0, 18, 180, 0, 22, 21, 4, 182, 0, 34]
abbrev dktX14_power_1 : List UInt8 := dkwX14_power_1 ++ dktX14_power_2
def dkwX14_power_0 : List UInt8 := [3, 62, 3, 54, 4, 21, 4, 42, 180, 0, 18, 180, 0, 22, 182, 0, 28, 162, 0, 45, 29, 42]
abbrev dktX14_power_0 : List UInt8 := dkwX14_power_0 ++ dktX14_power_1
theorem dksX14_power_0 : cX14_power.data.toList.drop 0 = dktX14_power_0 := by decide +kernel
theorem dksX14_power_1 : cX14_power.data.toList.drop 22 = dktX14_power_1 := dk_seg dksX14_power_0 22 rfl rfl
theorem dksX14_power_2 : cX14_power.data.toList.drop 44 = dktX14_power_2 := dk_seg dksX14_power_1 22 rfl rfl
theorem dksX14_power_3 : cX14_power.data.toList.drop 68 = dktX14_power_3 := dk_seg dksX14_power_2 24 rfl rfl
theorem dksX14_power_4 : cX14_power.data.toList.drop 91 = dktX14_power_4 := dk_seg dksX14_power_3 23 rfl rfl
theorem dX14_power_0 : decode cX14_power 0 = .ok (.iconst 0, 1) := dk_3 (dk_at dksX14_power_0 0 rfl rfl)
theorem dX14_power_1 : decode cX14_power 1 = .ok (.istore_n 3, 1) := dk_62 (dk_at dksX14_power_0 1 rfl rfl)
theorem dX14_power_2 : decode cX14_power 2 = .ok (.iconst 0, 1) := dk_3 (dk_at dksX14_power_0 2 rfl rfl)
theorem dX14_power_3 : decode cX14_power 3 = .ok (.istore 4, 2) := dk_54 4 (dk_at dksX14_power_0 3 rfl rfl)
theorem dX14_power_5 : decode cX14_power 5 = .ok (.iload 4, 2) := dk_21 4 (dk_at dksX14_power_0 5 rfl rfl)
theorem dX14_power_7 : decode cX14_power 7 = .ok (.aload_n 0, 1) := dk_42 (dk_at dksX14_power_0 7 rfl rfl)
theorem dX14_power_8 : decode cX14_power 8 = .ok (.getfield 18, 3) := dk_180 0 18 (dk_at dksX14_power_0 8 rfl rfl)
theorem dX14_power_11 : decode cX14_power 11 = .ok (.getfield 22, 3) := dk_180 0 22 (dk_at dksX14_power_0 11 rfl rfl)
theorem dX14_power_14 : decode cX14_power 14 = .ok (.invokevirtual 28, 3) := dk_182 0 28 (dk_at dksX14_power_0 14 rfl rfl)
theorem dX14_power_17 : decode cX14_power 17 = .ok (.if_icmp .ge 45, 3) := dk_162 0 45 (dk_at dksX14_power_0 17 rfl rfl)
theorem dX14_power_20 : decode cX14_power 20 = .ok (.iload_n 3, 1) := dk_29 (dk_at dksX14_power_0 20 rfl rfl)
theorem dX14_power_21 : decode cX14_power 21 = .ok (.aload_n 0, 1) := dk_42 (dk_at dksX14_power_0 21 rfl rfl)
theorem dX14_power_22 : decode cX14_power 22 = .ok (.getfield 9, 3) := dk_180 0 9 (dk_at dksX14_power_1 0 rfl rfl)
theorem dX14_power_25 : decode cX14_power 25 = .ok (.iload 4, 2) := dk_21 4 (dk_at dksX14_power_1 3 rfl rfl)
theorem dX14_power_27 : decode cX14_power 27 = .ok (.iaload, 1) := dk_46 (dk_at dksX14_power_1 5 rfl rfl)
theorem dX14_power_28 : decode cX14_power 28 = .ok (.iload_n 1, 1) := dk_27 (dk_at dksX14_power_1 6 rfl rfl)
theorem dX14_power_29 : decode cX14_power 29 = .ok (.if_icmp .ne 24, 3) := dk_160 0 24 (dk_at dksX14_power_1 7 rfl rfl)
theorem dX14_power_32 : decode cX14_power 32 = .ok (.aload_n 0, 1) := dk_42 (dk_at dksX14_power_1 10 rfl rfl)
theorem dX14_power_33 : decode cX14_power 33 = .ok (.getfield 18, 3) := dk_180 0 18 (dk_at dksX14_power_1 11 rfl rfl)
theorem dX14_power_36 : decode cX14_power 36 = .ok (.getfield 22, 3) := dk_180 0 22 (dk_at dksX14_power_1 14 rfl rfl)
theorem dX14_power_39 : decode cX14_power 39 = .ok (.iload 4, 2) := dk_21 4 (dk_at dksX14_power_1 17 rfl rfl)
theorem dX14_power_41 : decode cX14_power 41 = .ok (.invokevirtual 34, 3) := dk_182 0 34 (dk_at dksX14_power_1 19 rfl rfl)
theorem dX14_power_44 : decode cX14_power 44 = .ok (.checkcast 38, 3) := dk_192 0 38 (dk_at dksX14_power_2 0 rfl rfl)
theorem dX14_power_47 : decode cX14_power 47 = .ok (.getfield 85, 3) := dk_180 0 85 (dk_at dksX14_power_2 3 rfl rfl)
theorem dX14_power_50 : decode cX14_power 50 = .ok (.goto 4, 3) := dk_167 0 4 (dk_at dksX14_power_2 6 rfl rfl)
theorem dX14_power_53 : decode cX14_power 53 = .ok (.iconst 0, 1) := dk_3 (dk_at dksX14_power_2 9 rfl rfl)
theorem dX14_power_54 : decode cX14_power 54 = .ok (.iadd, 1) := dk_96 (dk_at dksX14_power_2 10 rfl rfl)
theorem dX14_power_55 : decode cX14_power 55 = .ok (.istore_n 3, 1) := dk_62 (dk_at dksX14_power_2 11 rfl rfl)
theorem dX14_power_56 : decode cX14_power 56 = .ok (.iinc 4 1, 3) := dk_132 4 1 (dk_at dksX14_power_2 12 rfl rfl)
theorem dX14_power_59 : decode cX14_power 59 = .ok (.goto (-54), 3) := dk_167 255 202 (dk_at dksX14_power_2 15 rfl rfl)
theorem dX14_power_62 : decode cX14_power 62 = .ok (.aload_n 0, 1) := dk_42 (dk_at dksX14_power_2 18 rfl rfl)
theorem dX14_power_63 : decode cX14_power 63 = .ok (.getfield 56, 3) := dk_180 0 56 (dk_at dksX14_power_2 19 rfl rfl)
theorem dX14_power_66 : decode cX14_power 66 = .ok (.iload_n 2, 1) := dk_28 (dk_at dksX14_power_2 22 rfl rfl)
theorem dX14_power_67 : decode cX14_power 67 = .ok (.iadd, 1) := dk_96 (dk_at dksX14_power_2 23 rfl rfl)
theorem dX14_power_68 : decode cX14_power 68 = .ok (.aload_n 0, 1) := dk_42 (dk_at dksX14_power_3 0 rfl rfl)
theorem dX14_power_69 : decode cX14_power 69 = .ok (.getfield 18, 3) := dk_180 0 18 (dk_at dksX14_power_3 1 rfl rfl)
theorem dX14_power_72 : decode cX14_power 72 = .ok (.getfield 43, 3) := dk_180 0 43 (dk_at dksX14_power_3 4 rfl rfl)
theorem dX14_power_75 : decode cX14_power 75 = .ok (.iload_n 1, 1) := dk_27 (dk_at dksX14_power_3 7 rfl rfl)
theorem dX14_power_76 : decode cX14_power 76 = .ok (.invokevirtual 34, 3) := dk_182 0 34 (dk_at dksX14_power_3 8 rfl rfl)
theorem dX14_power_79 : decode cX14_power 79 = .ok (.checkcast 46, 3) := dk_192 0 46 (dk_at dksX14_power_3 11 rfl rfl)
theorem dX14_power_82 : decode cX14_power 82 = .ok (.iload_n 3, 1) := dk_29 (dk_at dksX14_power_3 14 rfl rfl)
theorem dX14_power_83 : decode cX14_power 83 = .ok (.aload_n 0, 1) := dk_42 (dk_at dksX14_power_3 15 rfl rfl)
theorem dX14_power_84 : decode cX14_power 84 = .ok (.iload_n 1, 1) := dk_27 (dk_at dksX14_power_3 16 rfl rfl)
theorem dX14_power_85 : decode cX14_power 85 = .ok (.invokevirtual 70, 3) := dk_182 0 70 (dk_at dksX14_power_3 17 rfl rfl)
theorem dX14_power_88 : decode cX14_power 88 = .ok (.invokestatic 74, 3) := dk_184 0 74 (dk_at dksX14_power_3 20 rfl rfl)
theorem dX14_power_91 : decode cX14_power 91 = .ok (.invokevirtual 88, 3) := dk_182 0 88 (dk_at dksX14_power_4 0 rfl rfl)
theorem dX14_power_94 : decode cX14_power 94 = .ok (.iadd, 1) := dk_96 (dk_at dksX14_power_4 3 rfl rfl)
theorem dX14_power_95 : decode cX14_power 95 = .ok (.ireturn, 1) := dk_172 (dk_at dksX14_power_4 4 rfl rfl)
abbrev cX14_aboard : ByteArray := prog_8_method_5_code
def yX14_aboard : MethodName := ⟨RX14, "aboard", "(I)I"⟩
def dkwX14_aboard_1 : List UInt8 := [46, 27, 160, 0, 9, 4, 29, 120, 167, 0, 4, 3, 128, 61, 132, 3, 1, 167, 255, 219, 28, 172]
abbrev dktX14_aboard_1 : List UInt8 := dkwX14_aboard_1 ++ []
def dkwX14_aboard_0 : List UInt8 := [3, 61, 3, 62, 29, 42, 180, 0, 18, 180, 0, 22, 182, 0, 28, 162, 0, 29, 28, 42, 180, 0, 9, 29]
abbrev dktX14_aboard_0 : List UInt8 := dkwX14_aboard_0 ++ dktX14_aboard_1
theorem dksX14_aboard_0 : cX14_aboard.data.toList.drop 0 = dktX14_aboard_0 := by decide +kernel
theorem dksX14_aboard_1 : cX14_aboard.data.toList.drop 24 = dktX14_aboard_1 := dk_seg dksX14_aboard_0 24 rfl rfl
theorem dX14_aboard_0 : decode cX14_aboard 0 = .ok (.iconst 0, 1) := dk_3 (dk_at dksX14_aboard_0 0 rfl rfl)
theorem dX14_aboard_1 : decode cX14_aboard 1 = .ok (.istore_n 2, 1) := dk_61 (dk_at dksX14_aboard_0 1 rfl rfl)
theorem dX14_aboard_2 : decode cX14_aboard 2 = .ok (.iconst 0, 1) := dk_3 (dk_at dksX14_aboard_0 2 rfl rfl)
theorem dX14_aboard_3 : decode cX14_aboard 3 = .ok (.istore_n 3, 1) := dk_62 (dk_at dksX14_aboard_0 3 rfl rfl)
theorem dX14_aboard_4 : decode cX14_aboard 4 = .ok (.iload_n 3, 1) := dk_29 (dk_at dksX14_aboard_0 4 rfl rfl)
theorem dX14_aboard_5 : decode cX14_aboard 5 = .ok (.aload_n 0, 1) := dk_42 (dk_at dksX14_aboard_0 5 rfl rfl)
theorem dX14_aboard_6 : decode cX14_aboard 6 = .ok (.getfield 18, 3) := dk_180 0 18 (dk_at dksX14_aboard_0 6 rfl rfl)
theorem dX14_aboard_9 : decode cX14_aboard 9 = .ok (.getfield 22, 3) := dk_180 0 22 (dk_at dksX14_aboard_0 9 rfl rfl)
theorem dX14_aboard_12 : decode cX14_aboard 12 = .ok (.invokevirtual 28, 3) := dk_182 0 28 (dk_at dksX14_aboard_0 12 rfl rfl)
theorem dX14_aboard_15 : decode cX14_aboard 15 = .ok (.if_icmp .ge 29, 3) := dk_162 0 29 (dk_at dksX14_aboard_0 15 rfl rfl)
theorem dX14_aboard_18 : decode cX14_aboard 18 = .ok (.iload_n 2, 1) := dk_28 (dk_at dksX14_aboard_0 18 rfl rfl)
theorem dX14_aboard_19 : decode cX14_aboard 19 = .ok (.aload_n 0, 1) := dk_42 (dk_at dksX14_aboard_0 19 rfl rfl)
theorem dX14_aboard_20 : decode cX14_aboard 20 = .ok (.getfield 9, 3) := dk_180 0 9 (dk_at dksX14_aboard_0 20 rfl rfl)
theorem dX14_aboard_23 : decode cX14_aboard 23 = .ok (.iload_n 3, 1) := dk_29 (dk_at dksX14_aboard_0 23 rfl rfl)
theorem dX14_aboard_24 : decode cX14_aboard 24 = .ok (.iaload, 1) := dk_46 (dk_at dksX14_aboard_1 0 rfl rfl)
theorem dX14_aboard_25 : decode cX14_aboard 25 = .ok (.iload_n 1, 1) := dk_27 (dk_at dksX14_aboard_1 1 rfl rfl)
theorem dX14_aboard_26 : decode cX14_aboard 26 = .ok (.if_icmp .ne 9, 3) := dk_160 0 9 (dk_at dksX14_aboard_1 2 rfl rfl)
theorem dX14_aboard_29 : decode cX14_aboard 29 = .ok (.iconst 1, 1) := dk_4 (dk_at dksX14_aboard_1 5 rfl rfl)
theorem dX14_aboard_30 : decode cX14_aboard 30 = .ok (.iload_n 3, 1) := dk_29 (dk_at dksX14_aboard_1 6 rfl rfl)
theorem dX14_aboard_31 : decode cX14_aboard 31 = .ok (.ishl, 1) := dk_120 (dk_at dksX14_aboard_1 7 rfl rfl)
theorem dX14_aboard_32 : decode cX14_aboard 32 = .ok (.goto 4, 3) := dk_167 0 4 (dk_at dksX14_aboard_1 8 rfl rfl)
theorem dX14_aboard_35 : decode cX14_aboard 35 = .ok (.iconst 0, 1) := dk_3 (dk_at dksX14_aboard_1 11 rfl rfl)
theorem dX14_aboard_36 : decode cX14_aboard 36 = .ok (.ior, 1) := dk_128 (dk_at dksX14_aboard_1 12 rfl rfl)
theorem dX14_aboard_37 : decode cX14_aboard 37 = .ok (.istore_n 2, 1) := dk_61 (dk_at dksX14_aboard_1 13 rfl rfl)
theorem dX14_aboard_38 : decode cX14_aboard 38 = .ok (.iinc 3 1, 3) := dk_132 3 1 (dk_at dksX14_aboard_1 14 rfl rfl)
theorem dX14_aboard_41 : decode cX14_aboard 41 = .ok (.goto (-37), 3) := dk_167 255 219 (dk_at dksX14_aboard_1 17 rfl rfl)
theorem dX14_aboard_44 : decode cX14_aboard 44 = .ok (.iload_n 2, 1) := dk_28 (dk_at dksX14_aboard_1 20 rfl rfl)
theorem dX14_aboard_45 : decode cX14_aboard 45 = .ok (.ireturn, 1) := dk_172 (dk_at dksX14_aboard_1 21 rfl rfl)
abbrev cX14_time : ByteArray := prog_8_method_9_code
def yX14_time : MethodName := ⟨RX14, "time", "(III)I"⟩
def dkwX14_time_3 : List UInt8 := [184, 0, 106, 153, 0, 14, 21, 5, 21, 5, 16, 10, 108, 100, 167, 0, 5, 21, 5, 172]
abbrev dktX14_time_3 : List UInt8 := dkwX14_time_3 ++ []
def dkwX14_time_2 : List UInt8 := [42, 27, 182, 0, 103, 96, 104, 21, 4, 96, 4, 100, 21, 4, 108, 54, 5, 42, 180, 0, 50, 27]
abbrev dktX14_time_2 : List UInt8 := dkwX14_time_2 ++ dktX14_time_3
def dkwX14_time_1 : List UInt8 := [180, 0, 18, 180, 0, 94, 28, 182, 0, 34, 192, 0, 97, 42, 180, 0, 15, 27, 46, 182, 0, 99, 16, 10]
abbrev dktX14_time_1 : List UInt8 := dkwX14_time_1 ++ dktX14_time_2
def dkwX14_time_0 : List UInt8 := [42, 27, 29, 182, 0, 91, 54, 4, 42, 180, 0, 18, 180, 0, 43, 27, 182, 0, 34, 192, 0, 46, 42]
abbrev dktX14_time_0 : List UInt8 := dkwX14_time_0 ++ dktX14_time_1
theorem dksX14_time_0 : cX14_time.data.toList.drop 0 = dktX14_time_0 := by decide +kernel
theorem dksX14_time_1 : cX14_time.data.toList.drop 23 = dktX14_time_1 := dk_seg dksX14_time_0 23 rfl rfl
theorem dksX14_time_2 : cX14_time.data.toList.drop 47 = dktX14_time_2 := dk_seg dksX14_time_1 24 rfl rfl
theorem dksX14_time_3 : cX14_time.data.toList.drop 69 = dktX14_time_3 := dk_seg dksX14_time_2 22 rfl rfl
theorem dX14_time_0 : decode cX14_time 0 = .ok (.aload_n 0, 1) := dk_42 (dk_at dksX14_time_0 0 rfl rfl)
theorem dX14_time_1 : decode cX14_time 1 = .ok (.iload_n 1, 1) := dk_27 (dk_at dksX14_time_0 1 rfl rfl)
theorem dX14_time_2 : decode cX14_time 2 = .ok (.iload_n 3, 1) := dk_29 (dk_at dksX14_time_0 2 rfl rfl)
theorem dX14_time_3 : decode cX14_time 3 = .ok (.invokevirtual 91, 3) := dk_182 0 91 (dk_at dksX14_time_0 3 rfl rfl)
theorem dX14_time_6 : decode cX14_time 6 = .ok (.istore 4, 2) := dk_54 4 (dk_at dksX14_time_0 6 rfl rfl)
theorem dX14_time_8 : decode cX14_time 8 = .ok (.aload_n 0, 1) := dk_42 (dk_at dksX14_time_0 8 rfl rfl)
theorem dX14_time_9 : decode cX14_time 9 = .ok (.getfield 18, 3) := dk_180 0 18 (dk_at dksX14_time_0 9 rfl rfl)
theorem dX14_time_12 : decode cX14_time 12 = .ok (.getfield 43, 3) := dk_180 0 43 (dk_at dksX14_time_0 12 rfl rfl)
theorem dX14_time_15 : decode cX14_time 15 = .ok (.iload_n 1, 1) := dk_27 (dk_at dksX14_time_0 15 rfl rfl)
theorem dX14_time_16 : decode cX14_time 16 = .ok (.invokevirtual 34, 3) := dk_182 0 34 (dk_at dksX14_time_0 16 rfl rfl)
theorem dX14_time_19 : decode cX14_time 19 = .ok (.checkcast 46, 3) := dk_192 0 46 (dk_at dksX14_time_0 19 rfl rfl)
theorem dX14_time_22 : decode cX14_time 22 = .ok (.aload_n 0, 1) := dk_42 (dk_at dksX14_time_0 22 rfl rfl)
theorem dX14_time_23 : decode cX14_time 23 = .ok (.getfield 18, 3) := dk_180 0 18 (dk_at dksX14_time_1 0 rfl rfl)
theorem dX14_time_26 : decode cX14_time 26 = .ok (.getfield 94, 3) := dk_180 0 94 (dk_at dksX14_time_1 3 rfl rfl)
theorem dX14_time_29 : decode cX14_time 29 = .ok (.iload_n 2, 1) := dk_28 (dk_at dksX14_time_1 6 rfl rfl)
theorem dX14_time_30 : decode cX14_time 30 = .ok (.invokevirtual 34, 3) := dk_182 0 34 (dk_at dksX14_time_1 7 rfl rfl)
theorem dX14_time_33 : decode cX14_time 33 = .ok (.checkcast 97, 3) := dk_192 0 97 (dk_at dksX14_time_1 10 rfl rfl)
theorem dX14_time_36 : decode cX14_time 36 = .ok (.aload_n 0, 1) := dk_42 (dk_at dksX14_time_1 13 rfl rfl)
theorem dX14_time_37 : decode cX14_time 37 = .ok (.getfield 15, 3) := dk_180 0 15 (dk_at dksX14_time_1 14 rfl rfl)
theorem dX14_time_40 : decode cX14_time 40 = .ok (.iload_n 1, 1) := dk_27 (dk_at dksX14_time_1 17 rfl rfl)
theorem dX14_time_41 : decode cX14_time 41 = .ok (.iaload, 1) := dk_46 (dk_at dksX14_time_1 18 rfl rfl)
theorem dX14_time_42 : decode cX14_time 42 = .ok (.invokevirtual 99, 3) := dk_182 0 99 (dk_at dksX14_time_1 19 rfl rfl)
theorem dX14_time_45 : decode cX14_time 45 = .ok (.bipush 10, 2) := dk_16 10 (dk_at dksX14_time_1 22 rfl rfl)
theorem dX14_time_47 : decode cX14_time 47 = .ok (.aload_n 0, 1) := dk_42 (dk_at dksX14_time_2 0 rfl rfl)
theorem dX14_time_48 : decode cX14_time 48 = .ok (.iload_n 1, 1) := dk_27 (dk_at dksX14_time_2 1 rfl rfl)
theorem dX14_time_49 : decode cX14_time 49 = .ok (.invokevirtual 103, 3) := dk_182 0 103 (dk_at dksX14_time_2 2 rfl rfl)
theorem dX14_time_52 : decode cX14_time 52 = .ok (.iadd, 1) := dk_96 (dk_at dksX14_time_2 5 rfl rfl)
theorem dX14_time_53 : decode cX14_time 53 = .ok (.imul, 1) := dk_104 (dk_at dksX14_time_2 6 rfl rfl)
theorem dX14_time_54 : decode cX14_time 54 = .ok (.iload 4, 2) := dk_21 4 (dk_at dksX14_time_2 7 rfl rfl)
theorem dX14_time_56 : decode cX14_time 56 = .ok (.iadd, 1) := dk_96 (dk_at dksX14_time_2 9 rfl rfl)
theorem dX14_time_57 : decode cX14_time 57 = .ok (.iconst 1, 1) := dk_4 (dk_at dksX14_time_2 10 rfl rfl)
theorem dX14_time_58 : decode cX14_time 58 = .ok (.isub, 1) := dk_100 (dk_at dksX14_time_2 11 rfl rfl)
theorem dX14_time_59 : decode cX14_time 59 = .ok (.iload 4, 2) := dk_21 4 (dk_at dksX14_time_2 12 rfl rfl)
theorem dX14_time_61 : decode cX14_time 61 = .ok (.idiv, 1) := dk_108 (dk_at dksX14_time_2 14 rfl rfl)
theorem dX14_time_62 : decode cX14_time 62 = .ok (.istore 5, 2) := dk_54 5 (dk_at dksX14_time_2 15 rfl rfl)
theorem dX14_time_64 : decode cX14_time 64 = .ok (.aload_n 0, 1) := dk_42 (dk_at dksX14_time_2 17 rfl rfl)
theorem dX14_time_65 : decode cX14_time 65 = .ok (.getfield 50, 3) := dk_180 0 50 (dk_at dksX14_time_2 18 rfl rfl)
theorem dX14_time_68 : decode cX14_time 68 = .ok (.iload_n 1, 1) := dk_27 (dk_at dksX14_time_2 21 rfl rfl)
theorem dX14_time_69 : decode cX14_time 69 = .ok (.invokestatic 106, 3) := dk_184 0 106 (dk_at dksX14_time_3 0 rfl rfl)
theorem dX14_time_72 : decode cX14_time 72 = .ok (.ifCond .eq 14, 3) := dk_153 0 14 (dk_at dksX14_time_3 3 rfl rfl)
theorem dX14_time_75 : decode cX14_time 75 = .ok (.iload 5, 2) := dk_21 5 (dk_at dksX14_time_3 6 rfl rfl)
theorem dX14_time_77 : decode cX14_time 77 = .ok (.iload 5, 2) := dk_21 5 (dk_at dksX14_time_3 8 rfl rfl)
theorem dX14_time_79 : decode cX14_time 79 = .ok (.bipush 10, 2) := dk_16 10 (dk_at dksX14_time_3 10 rfl rfl)
theorem dX14_time_81 : decode cX14_time 81 = .ok (.idiv, 1) := dk_108 (dk_at dksX14_time_3 12 rfl rfl)
theorem dX14_time_82 : decode cX14_time 82 = .ok (.isub, 1) := dk_100 (dk_at dksX14_time_3 13 rfl rfl)
theorem dX14_time_83 : decode cX14_time 83 = .ok (.goto 5, 3) := dk_167 0 5 (dk_at dksX14_time_3 14 rfl rfl)
theorem dX14_time_86 : decode cX14_time 86 = .ok (.iload 5, 2) := dk_21 5 (dk_at dksX14_time_3 17 rfl rfl)
theorem dX14_time_88 : decode cX14_time 88 = .ok (.ireturn, 1) := dk_172 (dk_at dksX14_time_3 19 rfl rfl)
abbrev cX14_soFar : ByteArray := prog_8_method_10_code
def yX14_soFar : MethodName := ⟨RX14, "soFar", "(III)I"⟩
def dkwX14_soFar_3 : List UInt8 := [132, 5, 1, 167, 255, 189, 21, 4, 172]
abbrev dktX14_soFar_3 : List UInt8 := dkwX14_soFar_3 ++ []
def dkwX14_soFar_2 : List UInt8 := [180, 0, 18, 180, 0, 117, 42, 180, 0, 18, 27, 182, 0, 120, 104, 167, 0, 4, 3, 96, 96, 54, 4]
abbrev dktX14_soFar_2 : List UInt8 := dkwX14_soFar_2 ++ dktX14_soFar_3
def dkwX14_soFar_1 : List UInt8 := [153, 0, 13, 42, 180, 0, 18, 180, 0, 110, 167, 0, 4, 3, 182, 0, 113, 21, 5, 154, 0, 22, 42]
abbrev dktX14_soFar_1 : List UInt8 := dkwX14_soFar_1 ++ dktX14_soFar_2
def dkwX14_soFar_0 : List UInt8 := [3, 54, 4, 3, 54, 5, 21, 5, 28, 163, 0, 67, 21, 4, 42, 27, 21, 5, 29, 21, 5, 184, 0, 106]
abbrev dktX14_soFar_0 : List UInt8 := dkwX14_soFar_0 ++ dktX14_soFar_1
theorem dksX14_soFar_0 : cX14_soFar.data.toList.drop 0 = dktX14_soFar_0 := by decide +kernel
theorem dksX14_soFar_1 : cX14_soFar.data.toList.drop 24 = dktX14_soFar_1 := dk_seg dksX14_soFar_0 24 rfl rfl
theorem dksX14_soFar_2 : cX14_soFar.data.toList.drop 47 = dktX14_soFar_2 := dk_seg dksX14_soFar_1 23 rfl rfl
theorem dksX14_soFar_3 : cX14_soFar.data.toList.drop 70 = dktX14_soFar_3 := dk_seg dksX14_soFar_2 23 rfl rfl
theorem dX14_soFar_0 : decode cX14_soFar 0 = .ok (.iconst 0, 1) := dk_3 (dk_at dksX14_soFar_0 0 rfl rfl)
theorem dX14_soFar_1 : decode cX14_soFar 1 = .ok (.istore 4, 2) := dk_54 4 (dk_at dksX14_soFar_0 1 rfl rfl)
theorem dX14_soFar_3 : decode cX14_soFar 3 = .ok (.iconst 0, 1) := dk_3 (dk_at dksX14_soFar_0 3 rfl rfl)
theorem dX14_soFar_4 : decode cX14_soFar 4 = .ok (.istore 5, 2) := dk_54 5 (dk_at dksX14_soFar_0 4 rfl rfl)
theorem dX14_soFar_6 : decode cX14_soFar 6 = .ok (.iload 5, 2) := dk_21 5 (dk_at dksX14_soFar_0 6 rfl rfl)
theorem dX14_soFar_8 : decode cX14_soFar 8 = .ok (.iload_n 2, 1) := dk_28 (dk_at dksX14_soFar_0 8 rfl rfl)
theorem dX14_soFar_9 : decode cX14_soFar 9 = .ok (.if_icmp .gt 67, 3) := dk_163 0 67 (dk_at dksX14_soFar_0 9 rfl rfl)
theorem dX14_soFar_12 : decode cX14_soFar 12 = .ok (.iload 4, 2) := dk_21 4 (dk_at dksX14_soFar_0 12 rfl rfl)
theorem dX14_soFar_14 : decode cX14_soFar 14 = .ok (.aload_n 0, 1) := dk_42 (dk_at dksX14_soFar_0 14 rfl rfl)
theorem dX14_soFar_15 : decode cX14_soFar 15 = .ok (.iload_n 1, 1) := dk_27 (dk_at dksX14_soFar_0 15 rfl rfl)
theorem dX14_soFar_16 : decode cX14_soFar 16 = .ok (.iload 5, 2) := dk_21 5 (dk_at dksX14_soFar_0 16 rfl rfl)
theorem dX14_soFar_18 : decode cX14_soFar 18 = .ok (.iload_n 3, 1) := dk_29 (dk_at dksX14_soFar_0 18 rfl rfl)
theorem dX14_soFar_19 : decode cX14_soFar 19 = .ok (.iload 5, 2) := dk_21 5 (dk_at dksX14_soFar_0 19 rfl rfl)
theorem dX14_soFar_21 : decode cX14_soFar 21 = .ok (.invokestatic 106, 3) := dk_184 0 106 (dk_at dksX14_soFar_0 21 rfl rfl)
theorem dX14_soFar_24 : decode cX14_soFar 24 = .ok (.ifCond .eq 13, 3) := dk_153 0 13 (dk_at dksX14_soFar_1 0 rfl rfl)
theorem dX14_soFar_27 : decode cX14_soFar 27 = .ok (.aload_n 0, 1) := dk_42 (dk_at dksX14_soFar_1 3 rfl rfl)
theorem dX14_soFar_28 : decode cX14_soFar 28 = .ok (.getfield 18, 3) := dk_180 0 18 (dk_at dksX14_soFar_1 4 rfl rfl)
theorem dX14_soFar_31 : decode cX14_soFar 31 = .ok (.getfield 110, 3) := dk_180 0 110 (dk_at dksX14_soFar_1 7 rfl rfl)
theorem dX14_soFar_34 : decode cX14_soFar 34 = .ok (.goto 4, 3) := dk_167 0 4 (dk_at dksX14_soFar_1 10 rfl rfl)
theorem dX14_soFar_37 : decode cX14_soFar 37 = .ok (.iconst 0, 1) := dk_3 (dk_at dksX14_soFar_1 13 rfl rfl)
theorem dX14_soFar_38 : decode cX14_soFar 38 = .ok (.invokevirtual 113, 3) := dk_182 0 113 (dk_at dksX14_soFar_1 14 rfl rfl)
theorem dX14_soFar_41 : decode cX14_soFar 41 = .ok (.iload 5, 2) := dk_21 5 (dk_at dksX14_soFar_1 17 rfl rfl)
theorem dX14_soFar_43 : decode cX14_soFar 43 = .ok (.ifCond .ne 22, 3) := dk_154 0 22 (dk_at dksX14_soFar_1 19 rfl rfl)
theorem dX14_soFar_46 : decode cX14_soFar 46 = .ok (.aload_n 0, 1) := dk_42 (dk_at dksX14_soFar_1 22 rfl rfl)
theorem dX14_soFar_47 : decode cX14_soFar 47 = .ok (.getfield 18, 3) := dk_180 0 18 (dk_at dksX14_soFar_2 0 rfl rfl)
theorem dX14_soFar_50 : decode cX14_soFar 50 = .ok (.getfield 117, 3) := dk_180 0 117 (dk_at dksX14_soFar_2 3 rfl rfl)
theorem dX14_soFar_53 : decode cX14_soFar 53 = .ok (.aload_n 0, 1) := dk_42 (dk_at dksX14_soFar_2 6 rfl rfl)
theorem dX14_soFar_54 : decode cX14_soFar 54 = .ok (.getfield 18, 3) := dk_180 0 18 (dk_at dksX14_soFar_2 7 rfl rfl)
theorem dX14_soFar_57 : decode cX14_soFar 57 = .ok (.iload_n 1, 1) := dk_27 (dk_at dksX14_soFar_2 10 rfl rfl)
theorem dX14_soFar_58 : decode cX14_soFar 58 = .ok (.invokevirtual 120, 3) := dk_182 0 120 (dk_at dksX14_soFar_2 11 rfl rfl)
theorem dX14_soFar_61 : decode cX14_soFar 61 = .ok (.imul, 1) := dk_104 (dk_at dksX14_soFar_2 14 rfl rfl)
theorem dX14_soFar_62 : decode cX14_soFar 62 = .ok (.goto 4, 3) := dk_167 0 4 (dk_at dksX14_soFar_2 15 rfl rfl)
theorem dX14_soFar_65 : decode cX14_soFar 65 = .ok (.iconst 0, 1) := dk_3 (dk_at dksX14_soFar_2 18 rfl rfl)
theorem dX14_soFar_66 : decode cX14_soFar 66 = .ok (.iadd, 1) := dk_96 (dk_at dksX14_soFar_2 19 rfl rfl)
theorem dX14_soFar_67 : decode cX14_soFar 67 = .ok (.iadd, 1) := dk_96 (dk_at dksX14_soFar_2 20 rfl rfl)
theorem dX14_soFar_68 : decode cX14_soFar 68 = .ok (.istore 4, 2) := dk_54 4 (dk_at dksX14_soFar_2 21 rfl rfl)
theorem dX14_soFar_70 : decode cX14_soFar 70 = .ok (.iinc 5 1, 3) := dk_132 5 1 (dk_at dksX14_soFar_3 0 rfl rfl)
theorem dX14_soFar_73 : decode cX14_soFar 73 = .ok (.goto (-67), 3) := dk_167 255 189 (dk_at dksX14_soFar_3 3 rfl rfl)
theorem dX14_soFar_76 : decode cX14_soFar 76 = .ok (.iload 4, 2) := dk_21 4 (dk_at dksX14_soFar_3 6 rfl rfl)
theorem dX14_soFar_78 : decode cX14_soFar 78 = .ok (.ireturn, 1) := dk_172 (dk_at dksX14_soFar_3 8 rfl rfl)
abbrev cX14_total : ByteArray := prog_8_method_11_code
def yX14_total : MethodName := ⟨RX14, "total", "(II)I"⟩
def dkwX14_total_0 : List UInt8 := [42, 27, 42, 180, 0, 18, 180, 0, 94, 182, 0, 28, 4, 100, 28, 182, 0, 123, 172]
abbrev dktX14_total_0 : List UInt8 := dkwX14_total_0 ++ []
theorem dksX14_total_0 : cX14_total.data.toList.drop 0 = dktX14_total_0 := by decide +kernel
theorem dX14_total_0 : decode cX14_total 0 = .ok (.aload_n 0, 1) := dk_42 (dk_at dksX14_total_0 0 rfl rfl)
theorem dX14_total_1 : decode cX14_total 1 = .ok (.iload_n 1, 1) := dk_27 (dk_at dksX14_total_0 1 rfl rfl)
theorem dX14_total_2 : decode cX14_total 2 = .ok (.aload_n 0, 1) := dk_42 (dk_at dksX14_total_0 2 rfl rfl)
theorem dX14_total_3 : decode cX14_total 3 = .ok (.getfield 18, 3) := dk_180 0 18 (dk_at dksX14_total_0 3 rfl rfl)
theorem dX14_total_6 : decode cX14_total 6 = .ok (.getfield 94, 3) := dk_180 0 94 (dk_at dksX14_total_0 6 rfl rfl)
theorem dX14_total_9 : decode cX14_total 9 = .ok (.invokevirtual 28, 3) := dk_182 0 28 (dk_at dksX14_total_0 9 rfl rfl)
theorem dX14_total_12 : decode cX14_total 12 = .ok (.iconst 1, 1) := dk_4 (dk_at dksX14_total_0 12 rfl rfl)
theorem dX14_total_13 : decode cX14_total 13 = .ok (.isub, 1) := dk_100 (dk_at dksX14_total_0 13 rfl rfl)
theorem dX14_total_14 : decode cX14_total 14 = .ok (.iload_n 2, 1) := dk_28 (dk_at dksX14_total_0 14 rfl rfl)
theorem dX14_total_15 : decode cX14_total 15 = .ok (.invokevirtual 123, 3) := dk_182 0 123 (dk_at dksX14_total_0 15 rfl rfl)
theorem dX14_total_18 : decode cX14_total 18 = .ok (.ireturn, 1) := dk_172 (dk_at dksX14_total_0 18 rfl rfl)
abbrev cX14_rank : ByteArray := prog_8_method_15_code
def yX14_rank : MethodName := ⟨RX14, "rank", "(II)I"⟩
def dkwX14_rank_2 : List UInt8 := [167, 255, 213, 29, 172]
abbrev dktX14_rank_2 : List UInt8 := dkwX14_rank_2 ++ []
def dkwX14_rank_1 : List UInt8 := [159, 0, 18, 42, 21, 4, 27, 28, 182, 0, 135, 153, 0, 7, 4, 167, 0, 4, 3, 96, 62, 132, 4, 1]
abbrev dktX14_rank_1 : List UInt8 := dkwX14_rank_1 ++ dktX14_rank_2
def dkwX14_rank_0 : List UInt8 := [3, 62, 3, 54, 4, 21, 4, 42, 180, 0, 18, 180, 0, 43, 182, 0, 28, 162, 0, 34, 29, 21, 4, 27]
abbrev dktX14_rank_0 : List UInt8 := dkwX14_rank_0 ++ dktX14_rank_1
theorem dksX14_rank_0 : cX14_rank.data.toList.drop 0 = dktX14_rank_0 := by decide +kernel
theorem dksX14_rank_1 : cX14_rank.data.toList.drop 24 = dktX14_rank_1 := dk_seg dksX14_rank_0 24 rfl rfl
theorem dksX14_rank_2 : cX14_rank.data.toList.drop 48 = dktX14_rank_2 := dk_seg dksX14_rank_1 24 rfl rfl
theorem dX14_rank_0 : decode cX14_rank 0 = .ok (.iconst 0, 1) := dk_3 (dk_at dksX14_rank_0 0 rfl rfl)
theorem dX14_rank_1 : decode cX14_rank 1 = .ok (.istore_n 3, 1) := dk_62 (dk_at dksX14_rank_0 1 rfl rfl)
theorem dX14_rank_2 : decode cX14_rank 2 = .ok (.iconst 0, 1) := dk_3 (dk_at dksX14_rank_0 2 rfl rfl)
theorem dX14_rank_3 : decode cX14_rank 3 = .ok (.istore 4, 2) := dk_54 4 (dk_at dksX14_rank_0 3 rfl rfl)
theorem dX14_rank_5 : decode cX14_rank 5 = .ok (.iload 4, 2) := dk_21 4 (dk_at dksX14_rank_0 5 rfl rfl)
theorem dX14_rank_7 : decode cX14_rank 7 = .ok (.aload_n 0, 1) := dk_42 (dk_at dksX14_rank_0 7 rfl rfl)
theorem dX14_rank_8 : decode cX14_rank 8 = .ok (.getfield 18, 3) := dk_180 0 18 (dk_at dksX14_rank_0 8 rfl rfl)
theorem dX14_rank_11 : decode cX14_rank 11 = .ok (.getfield 43, 3) := dk_180 0 43 (dk_at dksX14_rank_0 11 rfl rfl)
theorem dX14_rank_14 : decode cX14_rank 14 = .ok (.invokevirtual 28, 3) := dk_182 0 28 (dk_at dksX14_rank_0 14 rfl rfl)
theorem dX14_rank_17 : decode cX14_rank 17 = .ok (.if_icmp .ge 34, 3) := dk_162 0 34 (dk_at dksX14_rank_0 17 rfl rfl)
theorem dX14_rank_20 : decode cX14_rank 20 = .ok (.iload_n 3, 1) := dk_29 (dk_at dksX14_rank_0 20 rfl rfl)
theorem dX14_rank_21 : decode cX14_rank 21 = .ok (.iload 4, 2) := dk_21 4 (dk_at dksX14_rank_0 21 rfl rfl)
theorem dX14_rank_23 : decode cX14_rank 23 = .ok (.iload_n 1, 1) := dk_27 (dk_at dksX14_rank_0 23 rfl rfl)
theorem dX14_rank_24 : decode cX14_rank 24 = .ok (.if_icmp .eq 18, 3) := dk_159 0 18 (dk_at dksX14_rank_1 0 rfl rfl)
theorem dX14_rank_27 : decode cX14_rank 27 = .ok (.aload_n 0, 1) := dk_42 (dk_at dksX14_rank_1 3 rfl rfl)
theorem dX14_rank_28 : decode cX14_rank 28 = .ok (.iload 4, 2) := dk_21 4 (dk_at dksX14_rank_1 4 rfl rfl)
theorem dX14_rank_30 : decode cX14_rank 30 = .ok (.iload_n 1, 1) := dk_27 (dk_at dksX14_rank_1 6 rfl rfl)
theorem dX14_rank_31 : decode cX14_rank 31 = .ok (.iload_n 2, 1) := dk_28 (dk_at dksX14_rank_1 7 rfl rfl)
theorem dX14_rank_32 : decode cX14_rank 32 = .ok (.invokevirtual 135, 3) := dk_182 0 135 (dk_at dksX14_rank_1 8 rfl rfl)
theorem dX14_rank_35 : decode cX14_rank 35 = .ok (.ifCond .eq 7, 3) := dk_153 0 7 (dk_at dksX14_rank_1 11 rfl rfl)
theorem dX14_rank_38 : decode cX14_rank 38 = .ok (.iconst 1, 1) := dk_4 (dk_at dksX14_rank_1 14 rfl rfl)
theorem dX14_rank_39 : decode cX14_rank 39 = .ok (.goto 4, 3) := dk_167 0 4 (dk_at dksX14_rank_1 15 rfl rfl)
theorem dX14_rank_42 : decode cX14_rank 42 = .ok (.iconst 0, 1) := dk_3 (dk_at dksX14_rank_1 18 rfl rfl)
theorem dX14_rank_43 : decode cX14_rank 43 = .ok (.iadd, 1) := dk_96 (dk_at dksX14_rank_1 19 rfl rfl)
theorem dX14_rank_44 : decode cX14_rank 44 = .ok (.istore_n 3, 1) := dk_62 (dk_at dksX14_rank_1 20 rfl rfl)
theorem dX14_rank_45 : decode cX14_rank 45 = .ok (.iinc 4 1, 3) := dk_132 4 1 (dk_at dksX14_rank_1 21 rfl rfl)
theorem dX14_rank_48 : decode cX14_rank 48 = .ok (.goto (-43), 3) := dk_167 255 213 (dk_at dksX14_rank_2 0 rfl rfl)
theorem dX14_rank_51 : decode cX14_rank 51 = .ok (.iload_n 3, 1) := dk_29 (dk_at dksX14_rank_2 3 rfl rfl)
theorem dX14_rank_52 : decode cX14_rank 52 = .ok (.ireturn, 1) := dk_172 (dk_at dksX14_rank_2 4 rfl rfl)
abbrev cX14_isBefore : ByteArray := prog_8_method_14_code
def yX14_isBefore : MethodName := ⟨RX14, "isBefore", "(III)Z"⟩
def dkwX14_isBefore_2 : List UInt8 := [21, 5, 160, 0, 12, 27, 28, 162, 0, 7, 4, 167, 0, 4, 3, 172]
abbrev dktX14_isBefore_2 : List UInt8 := dkwX14_isBefore_2 ++ []
def dkwX14_isBefore_1 : List UInt8 := [29, 182, 0, 126, 54, 4, 42, 28, 29, 182, 0, 126, 54, 5, 21, 4, 21, 5, 161, 0, 15, 21, 4]
abbrev dktX14_isBefore_1 : List UInt8 := dkwX14_isBefore_1 ++ dktX14_isBefore_2
def dkwX14_isBefore_0 : List UInt8 := [42, 27, 29, 182, 0, 132, 42, 28, 29, 182, 0, 132, 159, 0, 10, 42, 28, 29, 182, 0, 132, 172, 42, 27]
abbrev dktX14_isBefore_0 : List UInt8 := dkwX14_isBefore_0 ++ dktX14_isBefore_1
theorem dksX14_isBefore_0 : cX14_isBefore.data.toList.drop 0 = dktX14_isBefore_0 := by decide +kernel
theorem dksX14_isBefore_1 : cX14_isBefore.data.toList.drop 24 = dktX14_isBefore_1 := dk_seg dksX14_isBefore_0 24 rfl rfl
theorem dksX14_isBefore_2 : cX14_isBefore.data.toList.drop 47 = dktX14_isBefore_2 := dk_seg dksX14_isBefore_1 23 rfl rfl
theorem dX14_isBefore_0 : decode cX14_isBefore 0 = .ok (.aload_n 0, 1) := dk_42 (dk_at dksX14_isBefore_0 0 rfl rfl)
theorem dX14_isBefore_1 : decode cX14_isBefore 1 = .ok (.iload_n 1, 1) := dk_27 (dk_at dksX14_isBefore_0 1 rfl rfl)
theorem dX14_isBefore_2 : decode cX14_isBefore 2 = .ok (.iload_n 3, 1) := dk_29 (dk_at dksX14_isBefore_0 2 rfl rfl)
theorem dX14_isBefore_3 : decode cX14_isBefore 3 = .ok (.invokevirtual 132, 3) := dk_182 0 132 (dk_at dksX14_isBefore_0 3 rfl rfl)
theorem dX14_isBefore_6 : decode cX14_isBefore 6 = .ok (.aload_n 0, 1) := dk_42 (dk_at dksX14_isBefore_0 6 rfl rfl)
theorem dX14_isBefore_7 : decode cX14_isBefore 7 = .ok (.iload_n 2, 1) := dk_28 (dk_at dksX14_isBefore_0 7 rfl rfl)
theorem dX14_isBefore_8 : decode cX14_isBefore 8 = .ok (.iload_n 3, 1) := dk_29 (dk_at dksX14_isBefore_0 8 rfl rfl)
theorem dX14_isBefore_9 : decode cX14_isBefore 9 = .ok (.invokevirtual 132, 3) := dk_182 0 132 (dk_at dksX14_isBefore_0 9 rfl rfl)
theorem dX14_isBefore_12 : decode cX14_isBefore 12 = .ok (.if_icmp .eq 10, 3) := dk_159 0 10 (dk_at dksX14_isBefore_0 12 rfl rfl)
theorem dX14_isBefore_15 : decode cX14_isBefore 15 = .ok (.aload_n 0, 1) := dk_42 (dk_at dksX14_isBefore_0 15 rfl rfl)
theorem dX14_isBefore_16 : decode cX14_isBefore 16 = .ok (.iload_n 2, 1) := dk_28 (dk_at dksX14_isBefore_0 16 rfl rfl)
theorem dX14_isBefore_17 : decode cX14_isBefore 17 = .ok (.iload_n 3, 1) := dk_29 (dk_at dksX14_isBefore_0 17 rfl rfl)
theorem dX14_isBefore_18 : decode cX14_isBefore 18 = .ok (.invokevirtual 132, 3) := dk_182 0 132 (dk_at dksX14_isBefore_0 18 rfl rfl)
theorem dX14_isBefore_21 : decode cX14_isBefore 21 = .ok (.ireturn, 1) := dk_172 (dk_at dksX14_isBefore_0 21 rfl rfl)
theorem dX14_isBefore_22 : decode cX14_isBefore 22 = .ok (.aload_n 0, 1) := dk_42 (dk_at dksX14_isBefore_0 22 rfl rfl)
theorem dX14_isBefore_23 : decode cX14_isBefore 23 = .ok (.iload_n 1, 1) := dk_27 (dk_at dksX14_isBefore_0 23 rfl rfl)
theorem dX14_isBefore_24 : decode cX14_isBefore 24 = .ok (.iload_n 3, 1) := dk_29 (dk_at dksX14_isBefore_1 0 rfl rfl)
theorem dX14_isBefore_25 : decode cX14_isBefore 25 = .ok (.invokevirtual 126, 3) := dk_182 0 126 (dk_at dksX14_isBefore_1 1 rfl rfl)
theorem dX14_isBefore_28 : decode cX14_isBefore 28 = .ok (.istore 4, 2) := dk_54 4 (dk_at dksX14_isBefore_1 4 rfl rfl)
theorem dX14_isBefore_30 : decode cX14_isBefore 30 = .ok (.aload_n 0, 1) := dk_42 (dk_at dksX14_isBefore_1 6 rfl rfl)
theorem dX14_isBefore_31 : decode cX14_isBefore 31 = .ok (.iload_n 2, 1) := dk_28 (dk_at dksX14_isBefore_1 7 rfl rfl)
theorem dX14_isBefore_32 : decode cX14_isBefore 32 = .ok (.iload_n 3, 1) := dk_29 (dk_at dksX14_isBefore_1 8 rfl rfl)
theorem dX14_isBefore_33 : decode cX14_isBefore 33 = .ok (.invokevirtual 126, 3) := dk_182 0 126 (dk_at dksX14_isBefore_1 9 rfl rfl)
theorem dX14_isBefore_36 : decode cX14_isBefore 36 = .ok (.istore 5, 2) := dk_54 5 (dk_at dksX14_isBefore_1 12 rfl rfl)
theorem dX14_isBefore_38 : decode cX14_isBefore 38 = .ok (.iload 4, 2) := dk_21 4 (dk_at dksX14_isBefore_1 14 rfl rfl)
theorem dX14_isBefore_40 : decode cX14_isBefore 40 = .ok (.iload 5, 2) := dk_21 5 (dk_at dksX14_isBefore_1 16 rfl rfl)
theorem dX14_isBefore_42 : decode cX14_isBefore 42 = .ok (.if_icmp .lt 15, 3) := dk_161 0 15 (dk_at dksX14_isBefore_1 18 rfl rfl)
theorem dX14_isBefore_45 : decode cX14_isBefore 45 = .ok (.iload 4, 2) := dk_21 4 (dk_at dksX14_isBefore_1 21 rfl rfl)
theorem dX14_isBefore_47 : decode cX14_isBefore 47 = .ok (.iload 5, 2) := dk_21 5 (dk_at dksX14_isBefore_2 0 rfl rfl)
theorem dX14_isBefore_49 : decode cX14_isBefore 49 = .ok (.if_icmp .ne 12, 3) := dk_160 0 12 (dk_at dksX14_isBefore_2 2 rfl rfl)
theorem dX14_isBefore_52 : decode cX14_isBefore 52 = .ok (.iload_n 1, 1) := dk_27 (dk_at dksX14_isBefore_2 5 rfl rfl)
theorem dX14_isBefore_53 : decode cX14_isBefore 53 = .ok (.iload_n 2, 1) := dk_28 (dk_at dksX14_isBefore_2 6 rfl rfl)
theorem dX14_isBefore_54 : decode cX14_isBefore 54 = .ok (.if_icmp .ge 7, 3) := dk_162 0 7 (dk_at dksX14_isBefore_2 7 rfl rfl)
theorem dX14_isBefore_57 : decode cX14_isBefore 57 = .ok (.iconst 1, 1) := dk_4 (dk_at dksX14_isBefore_2 10 rfl rfl)
theorem dX14_isBefore_58 : decode cX14_isBefore 58 = .ok (.goto 4, 3) := dk_167 0 4 (dk_at dksX14_isBefore_2 11 rfl rfl)
theorem dX14_isBefore_61 : decode cX14_isBefore 61 = .ok (.iconst 0, 1) := dk_3 (dk_at dksX14_isBefore_2 14 rfl rfl)
theorem dX14_isBefore_62 : decode cX14_isBefore 62 = .ok (.ireturn, 1) := dk_172 (dk_at dksX14_isBefore_2 15 rfl rfl)
abbrev cX14_isOut : ByteArray := prog_8_method_13_code
def yX14_isOut : MethodName := ⟨RX14, "isOut", "(II)Z"⟩
def dkwX14_isOut_1 : List UInt8 := [3, 172]
abbrev dktX14_isOut_1 : List UInt8 := dkwX14_isOut_1 ++ []
def dkwX14_isOut_0 : List UInt8 := [42, 180, 0, 50, 27, 184, 0, 106, 153, 0, 16, 42, 28, 182, 0, 129, 27, 159, 0, 7, 4, 167, 0, 4]
abbrev dktX14_isOut_0 : List UInt8 := dkwX14_isOut_0 ++ dktX14_isOut_1
theorem dksX14_isOut_0 : cX14_isOut.data.toList.drop 0 = dktX14_isOut_0 := by decide +kernel
theorem dksX14_isOut_1 : cX14_isOut.data.toList.drop 24 = dktX14_isOut_1 := dk_seg dksX14_isOut_0 24 rfl rfl
theorem dX14_isOut_0 : decode cX14_isOut 0 = .ok (.aload_n 0, 1) := dk_42 (dk_at dksX14_isOut_0 0 rfl rfl)
theorem dX14_isOut_1 : decode cX14_isOut 1 = .ok (.getfield 50, 3) := dk_180 0 50 (dk_at dksX14_isOut_0 1 rfl rfl)
theorem dX14_isOut_4 : decode cX14_isOut 4 = .ok (.iload_n 1, 1) := dk_27 (dk_at dksX14_isOut_0 4 rfl rfl)
theorem dX14_isOut_5 : decode cX14_isOut 5 = .ok (.invokestatic 106, 3) := dk_184 0 106 (dk_at dksX14_isOut_0 5 rfl rfl)
theorem dX14_isOut_8 : decode cX14_isOut 8 = .ok (.ifCond .eq 16, 3) := dk_153 0 16 (dk_at dksX14_isOut_0 8 rfl rfl)
theorem dX14_isOut_11 : decode cX14_isOut 11 = .ok (.aload_n 0, 1) := dk_42 (dk_at dksX14_isOut_0 11 rfl rfl)
theorem dX14_isOut_12 : decode cX14_isOut 12 = .ok (.iload_n 2, 1) := dk_28 (dk_at dksX14_isOut_0 12 rfl rfl)
theorem dX14_isOut_13 : decode cX14_isOut 13 = .ok (.invokevirtual 129, 3) := dk_182 0 129 (dk_at dksX14_isOut_0 13 rfl rfl)
theorem dX14_isOut_16 : decode cX14_isOut 16 = .ok (.iload_n 1, 1) := dk_27 (dk_at dksX14_isOut_0 16 rfl rfl)
theorem dX14_isOut_17 : decode cX14_isOut 17 = .ok (.if_icmp .eq 7, 3) := dk_159 0 7 (dk_at dksX14_isOut_0 17 rfl rfl)
theorem dX14_isOut_20 : decode cX14_isOut 20 = .ok (.iconst 1, 1) := dk_4 (dk_at dksX14_isOut_0 20 rfl rfl)
theorem dX14_isOut_21 : decode cX14_isOut 21 = .ok (.goto 4, 3) := dk_167 0 4 (dk_at dksX14_isOut_0 21 rfl rfl)
theorem dX14_isOut_24 : decode cX14_isOut 24 = .ok (.iconst 0, 1) := dk_3 (dk_at dksX14_isOut_1 0 rfl rfl)
theorem dX14_isOut_25 : decode cX14_isOut 25 = .ok (.ireturn, 1) := dk_172 (dk_at dksX14_isOut_1 1 rfl rfl)
abbrev cX14_first : ByteArray := prog_8_method_12_code
def yX14_first : MethodName := ⟨RX14, "first", "(I)I"⟩
def dkwX14_first_1 : List UInt8 := [42, 28, 27, 182, 0, 126, 162, 0, 5, 29, 61, 132, 3, 1, 167, 255, 222, 28, 172]
abbrev dktX14_first_1 : List UInt8 := dkwX14_first_1 ++ []
def dkwX14_first_0 : List UInt8 := [3, 61, 4, 62, 29, 42, 180, 0, 18, 180, 0, 43, 182, 0, 28, 162, 0, 26, 42, 29, 27, 182, 0, 126]
abbrev dktX14_first_0 : List UInt8 := dkwX14_first_0 ++ dktX14_first_1
theorem dksX14_first_0 : cX14_first.data.toList.drop 0 = dktX14_first_0 := by decide +kernel
theorem dksX14_first_1 : cX14_first.data.toList.drop 24 = dktX14_first_1 := dk_seg dksX14_first_0 24 rfl rfl
theorem dX14_first_0 : decode cX14_first 0 = .ok (.iconst 0, 1) := dk_3 (dk_at dksX14_first_0 0 rfl rfl)
theorem dX14_first_1 : decode cX14_first 1 = .ok (.istore_n 2, 1) := dk_61 (dk_at dksX14_first_0 1 rfl rfl)
theorem dX14_first_2 : decode cX14_first 2 = .ok (.iconst 1, 1) := dk_4 (dk_at dksX14_first_0 2 rfl rfl)
theorem dX14_first_3 : decode cX14_first 3 = .ok (.istore_n 3, 1) := dk_62 (dk_at dksX14_first_0 3 rfl rfl)
theorem dX14_first_4 : decode cX14_first 4 = .ok (.iload_n 3, 1) := dk_29 (dk_at dksX14_first_0 4 rfl rfl)
theorem dX14_first_5 : decode cX14_first 5 = .ok (.aload_n 0, 1) := dk_42 (dk_at dksX14_first_0 5 rfl rfl)
theorem dX14_first_6 : decode cX14_first 6 = .ok (.getfield 18, 3) := dk_180 0 18 (dk_at dksX14_first_0 6 rfl rfl)
theorem dX14_first_9 : decode cX14_first 9 = .ok (.getfield 43, 3) := dk_180 0 43 (dk_at dksX14_first_0 9 rfl rfl)
theorem dX14_first_12 : decode cX14_first 12 = .ok (.invokevirtual 28, 3) := dk_182 0 28 (dk_at dksX14_first_0 12 rfl rfl)
theorem dX14_first_15 : decode cX14_first 15 = .ok (.if_icmp .ge 26, 3) := dk_162 0 26 (dk_at dksX14_first_0 15 rfl rfl)
theorem dX14_first_18 : decode cX14_first 18 = .ok (.aload_n 0, 1) := dk_42 (dk_at dksX14_first_0 18 rfl rfl)
theorem dX14_first_19 : decode cX14_first 19 = .ok (.iload_n 3, 1) := dk_29 (dk_at dksX14_first_0 19 rfl rfl)
theorem dX14_first_20 : decode cX14_first 20 = .ok (.iload_n 1, 1) := dk_27 (dk_at dksX14_first_0 20 rfl rfl)
theorem dX14_first_21 : decode cX14_first 21 = .ok (.invokevirtual 126, 3) := dk_182 0 126 (dk_at dksX14_first_0 21 rfl rfl)
theorem dX14_first_24 : decode cX14_first 24 = .ok (.aload_n 0, 1) := dk_42 (dk_at dksX14_first_1 0 rfl rfl)
theorem dX14_first_25 : decode cX14_first 25 = .ok (.iload_n 2, 1) := dk_28 (dk_at dksX14_first_1 1 rfl rfl)
theorem dX14_first_26 : decode cX14_first 26 = .ok (.iload_n 1, 1) := dk_27 (dk_at dksX14_first_1 2 rfl rfl)
theorem dX14_first_27 : decode cX14_first 27 = .ok (.invokevirtual 126, 3) := dk_182 0 126 (dk_at dksX14_first_1 3 rfl rfl)
theorem dX14_first_30 : decode cX14_first 30 = .ok (.if_icmp .ge 5, 3) := dk_162 0 5 (dk_at dksX14_first_1 6 rfl rfl)
theorem dX14_first_33 : decode cX14_first 33 = .ok (.iload_n 3, 1) := dk_29 (dk_at dksX14_first_1 9 rfl rfl)
theorem dX14_first_34 : decode cX14_first 34 = .ok (.istore_n 2, 1) := dk_61 (dk_at dksX14_first_1 10 rfl rfl)
theorem dX14_first_35 : decode cX14_first 35 = .ok (.iinc 3 1, 3) := dk_132 3 1 (dk_at dksX14_first_1 11 rfl rfl)
theorem dX14_first_38 : decode cX14_first 38 = .ok (.goto (-34), 3) := dk_167 255 222 (dk_at dksX14_first_1 14 rfl rfl)
theorem dX14_first_41 : decode cX14_first 41 = .ok (.iload_n 2, 1) := dk_28 (dk_at dksX14_first_1 17 rfl rfl)
theorem dX14_first_42 : decode cX14_first 42 = .ok (.ireturn, 1) := dk_172 (dk_at dksX14_first_1 18 rfl rfl)
abbrev cX14_prize : ByteArray := prog_8_method_16_code
def yX14_prize : MethodName := ⟨RX14, "prize", "(II)I"⟩
def dkwX14_prize_1 : List UInt8 := [180, 0, 145, 29, 46, 167, 0, 4, 3, 172]
abbrev dktX14_prize_1 : List UInt8 := dkwX14_prize_1 ++ []
def dkwX14_prize_0 : List UInt8 := [42, 27, 28, 182, 0, 139, 62, 29, 42, 180, 0, 18, 180, 0, 142, 162, 0, 15, 42, 180, 0, 18]
abbrev dktX14_prize_0 : List UInt8 := dkwX14_prize_0 ++ dktX14_prize_1
theorem dksX14_prize_0 : cX14_prize.data.toList.drop 0 = dktX14_prize_0 := by decide +kernel
theorem dksX14_prize_1 : cX14_prize.data.toList.drop 22 = dktX14_prize_1 := dk_seg dksX14_prize_0 22 rfl rfl
theorem dX14_prize_0 : decode cX14_prize 0 = .ok (.aload_n 0, 1) := dk_42 (dk_at dksX14_prize_0 0 rfl rfl)
theorem dX14_prize_1 : decode cX14_prize 1 = .ok (.iload_n 1, 1) := dk_27 (dk_at dksX14_prize_0 1 rfl rfl)
theorem dX14_prize_2 : decode cX14_prize 2 = .ok (.iload_n 2, 1) := dk_28 (dk_at dksX14_prize_0 2 rfl rfl)
theorem dX14_prize_3 : decode cX14_prize 3 = .ok (.invokevirtual 139, 3) := dk_182 0 139 (dk_at dksX14_prize_0 3 rfl rfl)
theorem dX14_prize_6 : decode cX14_prize 6 = .ok (.istore_n 3, 1) := dk_62 (dk_at dksX14_prize_0 6 rfl rfl)
theorem dX14_prize_7 : decode cX14_prize 7 = .ok (.iload_n 3, 1) := dk_29 (dk_at dksX14_prize_0 7 rfl rfl)
theorem dX14_prize_8 : decode cX14_prize 8 = .ok (.aload_n 0, 1) := dk_42 (dk_at dksX14_prize_0 8 rfl rfl)
theorem dX14_prize_9 : decode cX14_prize 9 = .ok (.getfield 18, 3) := dk_180 0 18 (dk_at dksX14_prize_0 9 rfl rfl)
theorem dX14_prize_12 : decode cX14_prize 12 = .ok (.getfield 142, 3) := dk_180 0 142 (dk_at dksX14_prize_0 12 rfl rfl)
theorem dX14_prize_15 : decode cX14_prize 15 = .ok (.if_icmp .ge 15, 3) := dk_162 0 15 (dk_at dksX14_prize_0 15 rfl rfl)
theorem dX14_prize_18 : decode cX14_prize 18 = .ok (.aload_n 0, 1) := dk_42 (dk_at dksX14_prize_0 18 rfl rfl)
theorem dX14_prize_19 : decode cX14_prize 19 = .ok (.getfield 18, 3) := dk_180 0 18 (dk_at dksX14_prize_0 19 rfl rfl)
theorem dX14_prize_22 : decode cX14_prize 22 = .ok (.getfield 145, 3) := dk_180 0 145 (dk_at dksX14_prize_1 0 rfl rfl)
theorem dX14_prize_25 : decode cX14_prize 25 = .ok (.iload_n 3, 1) := dk_29 (dk_at dksX14_prize_1 3 rfl rfl)
theorem dX14_prize_26 : decode cX14_prize 26 = .ok (.iaload, 1) := dk_46 (dk_at dksX14_prize_1 4 rfl rfl)
theorem dX14_prize_27 : decode cX14_prize 27 = .ok (.goto 4, 3) := dk_167 0 4 (dk_at dksX14_prize_1 5 rfl rfl)
theorem dX14_prize_30 : decode cX14_prize 30 = .ok (.iconst 0, 1) := dk_3 (dk_at dksX14_prize_1 8 rfl rfl)
theorem dX14_prize_31 : decode cX14_prize 31 = .ok (.ireturn, 1) := dk_172 (dk_at dksX14_prize_1 9 rfl rfl)
abbrev cX14_isFull : ByteArray := prog_8_method_6_code
def yX14_isFull : MethodName := ⟨RX14, "isFull", "(I)Z"⟩
def dkwX14_isFull_1 : List UInt8 := [180, 0, 77, 161, 0, 7, 4, 167, 0, 4, 3, 172]
abbrev dktX14_isFull_1 : List UInt8 := dkwX14_isFull_1 ++ []
def dkwX14_isFull_0 : List UInt8 := [42, 27, 182, 0, 70, 184, 0, 74, 42, 180, 0, 18, 180, 0, 43, 27, 182, 0, 34, 192, 0, 46]
abbrev dktX14_isFull_0 : List UInt8 := dkwX14_isFull_0 ++ dktX14_isFull_1
theorem dksX14_isFull_0 : cX14_isFull.data.toList.drop 0 = dktX14_isFull_0 := by decide +kernel
theorem dksX14_isFull_1 : cX14_isFull.data.toList.drop 22 = dktX14_isFull_1 := dk_seg dksX14_isFull_0 22 rfl rfl
theorem dX14_isFull_0 : decode cX14_isFull 0 = .ok (.aload_n 0, 1) := dk_42 (dk_at dksX14_isFull_0 0 rfl rfl)
theorem dX14_isFull_1 : decode cX14_isFull 1 = .ok (.iload_n 1, 1) := dk_27 (dk_at dksX14_isFull_0 1 rfl rfl)
theorem dX14_isFull_2 : decode cX14_isFull 2 = .ok (.invokevirtual 70, 3) := dk_182 0 70 (dk_at dksX14_isFull_0 2 rfl rfl)
theorem dX14_isFull_5 : decode cX14_isFull 5 = .ok (.invokestatic 74, 3) := dk_184 0 74 (dk_at dksX14_isFull_0 5 rfl rfl)
theorem dX14_isFull_8 : decode cX14_isFull 8 = .ok (.aload_n 0, 1) := dk_42 (dk_at dksX14_isFull_0 8 rfl rfl)
theorem dX14_isFull_9 : decode cX14_isFull 9 = .ok (.getfield 18, 3) := dk_180 0 18 (dk_at dksX14_isFull_0 9 rfl rfl)
theorem dX14_isFull_12 : decode cX14_isFull 12 = .ok (.getfield 43, 3) := dk_180 0 43 (dk_at dksX14_isFull_0 12 rfl rfl)
theorem dX14_isFull_15 : decode cX14_isFull 15 = .ok (.iload_n 1, 1) := dk_27 (dk_at dksX14_isFull_0 15 rfl rfl)
theorem dX14_isFull_16 : decode cX14_isFull 16 = .ok (.invokevirtual 34, 3) := dk_182 0 34 (dk_at dksX14_isFull_0 16 rfl rfl)
theorem dX14_isFull_19 : decode cX14_isFull 19 = .ok (.checkcast 46, 3) := dk_192 0 46 (dk_at dksX14_isFull_0 19 rfl rfl)
theorem dX14_isFull_22 : decode cX14_isFull 22 = .ok (.getfield 77, 3) := dk_180 0 77 (dk_at dksX14_isFull_1 0 rfl rfl)
theorem dX14_isFull_25 : decode cX14_isFull 25 = .ok (.if_icmp .lt 7, 3) := dk_161 0 7 (dk_at dksX14_isFull_1 3 rfl rfl)
theorem dX14_isFull_28 : decode cX14_isFull 28 = .ok (.iconst 1, 1) := dk_4 (dk_at dksX14_isFull_1 6 rfl rfl)
theorem dX14_isFull_29 : decode cX14_isFull 29 = .ok (.goto 4, 3) := dk_167 0 4 (dk_at dksX14_isFull_1 7 rfl rfl)
theorem dX14_isFull_32 : decode cX14_isFull 32 = .ok (.iconst 0, 1) := dk_3 (dk_at dksX14_isFull_1 10 rfl rfl)
theorem dX14_isFull_33 : decode cX14_isFull 33 = .ok (.ireturn, 1) := dk_172 (dk_at dksX14_isFull_1 11 rfl rfl)
abbrev cX14_together : ByteArray := prog_8_method_17_code
def yX14_together : MethodName := ⟨RX14, "together", "()I"⟩
def dkwX14_together_4 : List UInt8 := [132, 2, 1, 167, 255, 168, 27, 172]
abbrev dktX14_together_4 : List UInt8 := dkwX14_together_4 ++ []
def dkwX14_together_3 : List UInt8 := [180, 0, 148, 29, 184, 0, 106, 153, 0, 7, 4, 167, 0, 4, 3, 96, 60, 132, 3, 1, 167, 255, 190]
abbrev dktX14_together_3 : List UInt8 := dkwX14_together_3 ++ dktX14_together_4
def dkwX14_together_2 : List UInt8 := [180, 0, 9, 29, 46, 160, 0, 31, 42, 180, 0, 18, 180, 0, 22, 28, 182, 0, 34, 192, 0, 38]
abbrev dktX14_together_2 : List UInt8 := dkwX14_together_2 ++ dktX14_together_3
def dkwX14_together_1 : List UInt8 := [162, 0, 67, 27, 42, 180, 0, 9, 28, 46, 16, 254, 159, 0, 46, 42, 180, 0, 9, 28, 46, 42]
abbrev dktX14_together_1 : List UInt8 := dkwX14_together_1 ++ dktX14_together_2
def dkwX14_together_0 : List UInt8 := [3, 60, 3, 61, 28, 42, 180, 0, 18, 180, 0, 22, 182, 0, 28, 162, 0, 80, 3, 62, 29, 28]
abbrev dktX14_together_0 : List UInt8 := dkwX14_together_0 ++ dktX14_together_1
theorem dksX14_together_0 : cX14_together.data.toList.drop 0 = dktX14_together_0 := by decide +kernel
theorem dksX14_together_1 : cX14_together.data.toList.drop 22 = dktX14_together_1 := dk_seg dksX14_together_0 22 rfl rfl
theorem dksX14_together_2 : cX14_together.data.toList.drop 44 = dktX14_together_2 := dk_seg dksX14_together_1 22 rfl rfl
theorem dksX14_together_3 : cX14_together.data.toList.drop 66 = dktX14_together_3 := dk_seg dksX14_together_2 22 rfl rfl
theorem dksX14_together_4 : cX14_together.data.toList.drop 89 = dktX14_together_4 := dk_seg dksX14_together_3 23 rfl rfl
theorem dX14_together_0 : decode cX14_together 0 = .ok (.iconst 0, 1) := dk_3 (dk_at dksX14_together_0 0 rfl rfl)
theorem dX14_together_1 : decode cX14_together 1 = .ok (.istore_n 1, 1) := dk_60 (dk_at dksX14_together_0 1 rfl rfl)
theorem dX14_together_2 : decode cX14_together 2 = .ok (.iconst 0, 1) := dk_3 (dk_at dksX14_together_0 2 rfl rfl)
theorem dX14_together_3 : decode cX14_together 3 = .ok (.istore_n 2, 1) := dk_61 (dk_at dksX14_together_0 3 rfl rfl)
theorem dX14_together_4 : decode cX14_together 4 = .ok (.iload_n 2, 1) := dk_28 (dk_at dksX14_together_0 4 rfl rfl)
theorem dX14_together_5 : decode cX14_together 5 = .ok (.aload_n 0, 1) := dk_42 (dk_at dksX14_together_0 5 rfl rfl)
theorem dX14_together_6 : decode cX14_together 6 = .ok (.getfield 18, 3) := dk_180 0 18 (dk_at dksX14_together_0 6 rfl rfl)
theorem dX14_together_9 : decode cX14_together 9 = .ok (.getfield 22, 3) := dk_180 0 22 (dk_at dksX14_together_0 9 rfl rfl)
theorem dX14_together_12 : decode cX14_together 12 = .ok (.invokevirtual 28, 3) := dk_182 0 28 (dk_at dksX14_together_0 12 rfl rfl)
theorem dX14_together_15 : decode cX14_together 15 = .ok (.if_icmp .ge 80, 3) := dk_162 0 80 (dk_at dksX14_together_0 15 rfl rfl)
theorem dX14_together_18 : decode cX14_together 18 = .ok (.iconst 0, 1) := dk_3 (dk_at dksX14_together_0 18 rfl rfl)
theorem dX14_together_19 : decode cX14_together 19 = .ok (.istore_n 3, 1) := dk_62 (dk_at dksX14_together_0 19 rfl rfl)
theorem dX14_together_20 : decode cX14_together 20 = .ok (.iload_n 3, 1) := dk_29 (dk_at dksX14_together_0 20 rfl rfl)
theorem dX14_together_21 : decode cX14_together 21 = .ok (.iload_n 2, 1) := dk_28 (dk_at dksX14_together_0 21 rfl rfl)
theorem dX14_together_22 : decode cX14_together 22 = .ok (.if_icmp .ge 67, 3) := dk_162 0 67 (dk_at dksX14_together_1 0 rfl rfl)
theorem dX14_together_25 : decode cX14_together 25 = .ok (.iload_n 1, 1) := dk_27 (dk_at dksX14_together_1 3 rfl rfl)
theorem dX14_together_26 : decode cX14_together 26 = .ok (.aload_n 0, 1) := dk_42 (dk_at dksX14_together_1 4 rfl rfl)
theorem dX14_together_27 : decode cX14_together 27 = .ok (.getfield 9, 3) := dk_180 0 9 (dk_at dksX14_together_1 5 rfl rfl)
theorem dX14_together_30 : decode cX14_together 30 = .ok (.iload_n 2, 1) := dk_28 (dk_at dksX14_together_1 8 rfl rfl)
theorem dX14_together_31 : decode cX14_together 31 = .ok (.iaload, 1) := dk_46 (dk_at dksX14_together_1 9 rfl rfl)
theorem dX14_together_32 : decode cX14_together 32 = .ok (.bipush (-2), 2) := dk_16 254 (dk_at dksX14_together_1 10 rfl rfl)
theorem dX14_together_34 : decode cX14_together 34 = .ok (.if_icmp .eq 46, 3) := dk_159 0 46 (dk_at dksX14_together_1 12 rfl rfl)
theorem dX14_together_37 : decode cX14_together 37 = .ok (.aload_n 0, 1) := dk_42 (dk_at dksX14_together_1 15 rfl rfl)
theorem dX14_together_38 : decode cX14_together 38 = .ok (.getfield 9, 3) := dk_180 0 9 (dk_at dksX14_together_1 16 rfl rfl)
theorem dX14_together_41 : decode cX14_together 41 = .ok (.iload_n 2, 1) := dk_28 (dk_at dksX14_together_1 19 rfl rfl)
theorem dX14_together_42 : decode cX14_together 42 = .ok (.iaload, 1) := dk_46 (dk_at dksX14_together_1 20 rfl rfl)
theorem dX14_together_43 : decode cX14_together 43 = .ok (.aload_n 0, 1) := dk_42 (dk_at dksX14_together_1 21 rfl rfl)
theorem dX14_together_44 : decode cX14_together 44 = .ok (.getfield 9, 3) := dk_180 0 9 (dk_at dksX14_together_2 0 rfl rfl)
theorem dX14_together_47 : decode cX14_together 47 = .ok (.iload_n 3, 1) := dk_29 (dk_at dksX14_together_2 3 rfl rfl)
theorem dX14_together_48 : decode cX14_together 48 = .ok (.iaload, 1) := dk_46 (dk_at dksX14_together_2 4 rfl rfl)
theorem dX14_together_49 : decode cX14_together 49 = .ok (.if_icmp .ne 31, 3) := dk_160 0 31 (dk_at dksX14_together_2 5 rfl rfl)
theorem dX14_together_52 : decode cX14_together 52 = .ok (.aload_n 0, 1) := dk_42 (dk_at dksX14_together_2 8 rfl rfl)
theorem dX14_together_53 : decode cX14_together 53 = .ok (.getfield 18, 3) := dk_180 0 18 (dk_at dksX14_together_2 9 rfl rfl)
theorem dX14_together_56 : decode cX14_together 56 = .ok (.getfield 22, 3) := dk_180 0 22 (dk_at dksX14_together_2 12 rfl rfl)
theorem dX14_together_59 : decode cX14_together 59 = .ok (.iload_n 2, 1) := dk_28 (dk_at dksX14_together_2 15 rfl rfl)
theorem dX14_together_60 : decode cX14_together 60 = .ok (.invokevirtual 34, 3) := dk_182 0 34 (dk_at dksX14_together_2 16 rfl rfl)
theorem dX14_together_63 : decode cX14_together 63 = .ok (.checkcast 38, 3) := dk_192 0 38 (dk_at dksX14_together_2 19 rfl rfl)
theorem dX14_together_66 : decode cX14_together 66 = .ok (.getfield 148, 3) := dk_180 0 148 (dk_at dksX14_together_3 0 rfl rfl)
theorem dX14_together_69 : decode cX14_together 69 = .ok (.iload_n 3, 1) := dk_29 (dk_at dksX14_together_3 3 rfl rfl)
theorem dX14_together_70 : decode cX14_together 70 = .ok (.invokestatic 106, 3) := dk_184 0 106 (dk_at dksX14_together_3 4 rfl rfl)
theorem dX14_together_73 : decode cX14_together 73 = .ok (.ifCond .eq 7, 3) := dk_153 0 7 (dk_at dksX14_together_3 7 rfl rfl)
theorem dX14_together_76 : decode cX14_together 76 = .ok (.iconst 1, 1) := dk_4 (dk_at dksX14_together_3 10 rfl rfl)
theorem dX14_together_77 : decode cX14_together 77 = .ok (.goto 4, 3) := dk_167 0 4 (dk_at dksX14_together_3 11 rfl rfl)
theorem dX14_together_80 : decode cX14_together 80 = .ok (.iconst 0, 1) := dk_3 (dk_at dksX14_together_3 14 rfl rfl)
theorem dX14_together_81 : decode cX14_together 81 = .ok (.iadd, 1) := dk_96 (dk_at dksX14_together_3 15 rfl rfl)
theorem dX14_together_82 : decode cX14_together 82 = .ok (.istore_n 1, 1) := dk_60 (dk_at dksX14_together_3 16 rfl rfl)
theorem dX14_together_83 : decode cX14_together 83 = .ok (.iinc 3 1, 3) := dk_132 3 1 (dk_at dksX14_together_3 17 rfl rfl)
theorem dX14_together_86 : decode cX14_together 86 = .ok (.goto (-66), 3) := dk_167 255 190 (dk_at dksX14_together_3 20 rfl rfl)
theorem dX14_together_89 : decode cX14_together 89 = .ok (.iinc 2 1, 3) := dk_132 2 1 (dk_at dksX14_together_4 0 rfl rfl)
theorem dX14_together_92 : decode cX14_together 92 = .ok (.goto (-88), 3) := dk_167 255 168 (dk_at dksX14_together_4 3 rfl rfl)
theorem dX14_together_95 : decode cX14_together 95 = .ok (.iload_n 1, 1) := dk_27 (dk_at dksX14_together_4 6 rfl rfl)
theorem dX14_together_96 : decode cX14_together 96 = .ok (.ireturn, 1) := dk_172 (dk_at dksX14_together_4 7 rfl rfl)
theorem q151 : (Jvm.Cond.initialized "RoofRegatta$River") ∈ lw_all := lw_g (lw_at lw_m1 28 rfl) rfl
theorem q295 : (Jvm.Cond.fieldLink "RoofRegatta$River" (53 : Nat) "RoofRegatta$Regatta" "water" "I") ∈ lw_all := lw_g (lw_at lw_m1 172 rfl) rfl
theorem q300 : (Jvm.Cond.fieldLink "RoofRegatta$River" (117 : Nat) "RoofRegatta$Regatta" "storey" "I") ∈ lw_all := lw_g (lw_at lw_m1 177 rfl) rfl
theorem q305 : (Jvm.Cond.fieldLink "RoofRegatta$River" (110 : Nat) "RoofRegatta$Regatta" "by" "I") ∈ lw_all := lw_g (lw_at lw_m1 182 rfl) rfl
theorem q310 : (Jvm.Cond.fieldLink "RoofRegatta$River" (142 : Nat) "RoofRegatta$Regatta" "manyPrizes" "I") ∈ lw_all := lw_g (lw_at lw_m1 187 rfl) rfl
theorem q314 : (Jvm.Cond.fieldLink "RoofRegatta$River" (145 : Nat) "RoofRegatta$Regatta" "prizes" "[I") ∈ lw_all := lw_g (lw_at lw_m1 191 rfl) rfl
theorem q317 : (Jvm.Cond.fieldLink "RoofRegatta$River" (94 : Nat) "RoofRegatta$Regatta" "bends" "Ljava/util/ArrayList;") ∈ lw_all := lw_g (lw_at lw_m1 194 rfl) rfl
theorem q321 : (Jvm.Cond.fieldLink "RoofRegatta$River" (43 : Nat) "RoofRegatta$Regatta" "houses" "Ljava/util/ArrayList;") ∈ lw_all := lw_g (lw_at lw_m1 198 rfl) rfl
theorem q325 : (Jvm.Cond.fieldLink "RoofRegatta$River" (22 : Nat) "RoofRegatta$Regatta" "lodgers" "Ljava/util/ArrayList;") ∈ lw_all := lw_g (lw_at lw_m1 202 rfl) rfl
theorem q830 : (Jvm.Cond.selects "RoofRegatta$River" ({ cls := "java/lang/Object", name := "getClass", desc := "()Ljava/lang/Class;" } : Jvm.MethodName) ({ cls := "java/lang/Object", name := "getClass", desc := "()Ljava/lang/Class;" } : Jvm.MethodName)) ∈ lw_all := lw_g (lw_at lw_m3 227 rfl) rfl
theorem q871 : (Jvm.Cond.fieldLink "RoofRegatta$River" (48 : Nat) "RoofRegatta$House" "lane" "I") ∈ lw_all := lw_g (lw_at lw_m4 28 rfl) rfl
theorem q876 : (Jvm.Cond.fieldLink "RoofRegatta$River" (77 : Nat) "RoofRegatta$House" "storeys" "I") ∈ lw_all := lw_g (lw_at lw_m4 33 rfl) rfl
theorem q936 : (Jvm.Cond.fieldLink "RoofRegatta$River" (83 : Nat) "RoofRegatta$Lodger" "weighs" "I") ∈ lw_all := lw_g (lw_at lw_m4 93 rfl) rfl
theorem q939 : (Jvm.Cond.fieldLink "RoofRegatta$River" (85 : Nat) "RoofRegatta$Lodger" "rows" "I") ∈ lw_all := lw_g (lw_at lw_m4 96 rfl) rfl
theorem q943 : (Jvm.Cond.fieldLink "RoofRegatta$River" (40 : Nat) "RoofRegatta$Lodger" "house" "I") ∈ lw_all := lw_g (lw_at lw_m4 100 rfl) rfl
theorem q946 : (Jvm.Cond.fieldLink "RoofRegatta$River" (148 : Nat) "RoofRegatta$Lodger" "friends" "I") ∈ lw_all := lw_g (lw_at lw_m4 103 rfl) rfl
theorem q1030 : (Jvm.Cond.instantiable "RoofRegatta$River" (5 : Nat)) ∈ lw_all := lw_g (lw_at lw_m4 187 rfl) rfl
theorem q1032 : (Jvm.Cond.instanceMethod ({ cls := "RoofRegatta$River", name := "<init>", desc := "(LRoofRegatta$Regatta;)V" } : Jvm.MethodName)) ∈ lw_all := lw_g (lw_at lw_m4 189 rfl) rfl
theorem q1033 : (Jvm.Cond.code ({ cls := "RoofRegatta$River", name := "<init>", desc := "(LRoofRegatta$Regatta;)V" } : Jvm.MethodName) prog_8_method_1_code (2 : Nat) (Option.none : Option Jvm.ClassFile.FieldType)) ∈ lw_all := lw_g (lw_at lw_m4 190 rfl) rfl
theorem q1034 : (Jvm.Cond.methodLink "RoofRegatta$River" (3 : Nat) ({ cls := "java/lang/Object", name := "<init>", desc := "()V" } : Jvm.MethodName)) ∈ lw_all := lw_g (lw_at lw_m4 191 rfl) rfl
theorem q1035 : (Jvm.Cond.fieldLink "RoofRegatta$River" (18 : Nat) "RoofRegatta$River" "regatta" "LRoofRegatta$Regatta;") ∈ lw_all := lw_g (lw_at lw_m4 192 rfl) rfl
theorem q1036 : (Jvm.Cond.fieldLink "RoofRegatta$River" (9 : Nat) "RoofRegatta$River" "house" "[I") ∈ lw_all := lw_g (lw_at lw_m4 193 rfl) rfl
theorem q1038 : (Jvm.Cond.fieldLink "RoofRegatta$River" (15 : Nat) "RoofRegatta$River" "lane" "[I") ∈ lw_all := lw_g (lw_at lw_m4 195 rfl) rfl
theorem q1040 : (Jvm.Cond.fieldLink "RoofRegatta$River" (50 : Nat) "RoofRegatta$River" "lit" "I") ∈ lw_all := lw_g (lw_at lw_m4 197 rfl) rfl
theorem q1042 : (Jvm.Cond.fieldLink "RoofRegatta$River" (56 : Nat) "RoofRegatta$River" "water" "I") ∈ lw_all := lw_g (lw_at lw_m4 199 rfl) rfl
theorem q1044 : (Jvm.Cond.laysFinal "RoofRegatta$River" "RoofRegatta$River" "regatta" "LRoofRegatta$Regatta;") ∈ lw_all := lw_g (lw_at lw_m4 201 rfl) rfl
theorem q1045 : (Jvm.Cond.soleField "RoofRegatta$River" "regatta") ∈ lw_all := lw_g (lw_at lw_m4 202 rfl) rfl
theorem q1046 : (Jvm.Cond.laysFinal "RoofRegatta$River" "RoofRegatta$River" "house" "[I") ∈ lw_all := lw_g (lw_at lw_m4 203 rfl) rfl
theorem q1047 : (Jvm.Cond.soleField "RoofRegatta$River" "house") ∈ lw_all := lw_g (lw_at lw_m4 204 rfl) rfl
theorem q1048 : (Jvm.Cond.laysFinal "RoofRegatta$River" "RoofRegatta$River" "lane" "[I") ∈ lw_all := lw_g (lw_at lw_m4 205 rfl) rfl
theorem q1049 : (Jvm.Cond.soleField "RoofRegatta$River" "lane") ∈ lw_all := lw_g (lw_at lw_m4 206 rfl) rfl
theorem q1050 : (Jvm.Cond.lays "RoofRegatta$River" "RoofRegatta$River" "lit" "I") ∈ lw_all := lw_g (lw_at lw_m4 207 rfl) rfl
theorem q1051 : (Jvm.Cond.soleField "RoofRegatta$River" "lit") ∈ lw_all := lw_g (lw_at lw_m4 208 rfl) rfl
theorem q1052 : (Jvm.Cond.lays "RoofRegatta$River" "RoofRegatta$River" "water" "I") ∈ lw_all := lw_g (lw_at lw_m4 209 rfl) rfl
theorem q1053 : (Jvm.Cond.soleField "RoofRegatta$River" "water") ∈ lw_all := lw_g (lw_at lw_m4 210 rfl) rfl
theorem q1054 : (Jvm.Cond.superclass "RoofRegatta$River" "java/lang/Object") ∈ lw_all := lw_g (lw_at lw_m4 211 rfl) rfl
theorem q1056 : (Jvm.Cond.instanceMethod ({ cls := "RoofRegatta$River", name := "begins", desc := "()V" } : Jvm.MethodName)) ∈ lw_all := lw_g (lw_at lw_m4 213 rfl) rfl
theorem q1057 : (Jvm.Cond.selects "RoofRegatta$River" ({ cls := "RoofRegatta$River", name := "begins", desc := "()V" } : Jvm.MethodName) ({ cls := "RoofRegatta$River", name := "begins", desc := "()V" } : Jvm.MethodName)) ∈ lw_all := lw_g (lw_at lw_m4 214 rfl) rfl
theorem q1058 : (Jvm.Cond.code ({ cls := "RoofRegatta$River", name := "begins", desc := "()V" } : Jvm.MethodName) prog_8_method_2_code (2 : Nat) (Option.none : Option Jvm.ClassFile.FieldType)) ∈ lw_all := lw_g (lw_at lw_m4 215 rfl) rfl
theorem q1059 : (Jvm.Cond.methodLink "RoofRegatta$River" (28 : Nat) ({ cls := "java/util/ArrayList", name := "size", desc := "()I" } : Jvm.MethodName)) ∈ lw_all := lw_g (lw_at lw_m4 216 rfl) rfl
theorem q1060 : (Jvm.Cond.methodLink "RoofRegatta$River" (34 : Nat) ({ cls := "java/util/ArrayList", name := "get", desc := "(I)Ljava/lang/Object;" } : Jvm.MethodName)) ∈ lw_all := lw_g (lw_at lw_m4 217 rfl) rfl
theorem q1061 : (Jvm.Cond.classLink "RoofRegatta$River" (38 : Nat) "RoofRegatta$Lodger") ∈ lw_all := lw_g (lw_at lw_m4 218 rfl) rfl
theorem q1062 : (Jvm.Cond.classLink "RoofRegatta$River" (46 : Nat) "RoofRegatta$House") ∈ lw_all := lw_g (lw_at lw_m4 219 rfl) rfl
theorem q1064 : (Jvm.Cond.instanceMethod ({ cls := "RoofRegatta$River", name := "copy", desc := "()LRoofRegatta$River;" } : Jvm.MethodName)) ∈ lw_all := lw_g (lw_at lw_m4 221 rfl) rfl
theorem q1065 : (Jvm.Cond.selects "RoofRegatta$River" ({ cls := "RoofRegatta$River", name := "copy", desc := "()LRoofRegatta$River;" } : Jvm.MethodName) ({ cls := "RoofRegatta$River", name := "copy", desc := "()LRoofRegatta$River;" } : Jvm.MethodName)) ∈ lw_all := lw_g (lw_at lw_m4 222 rfl) rfl
theorem q1066 : (Jvm.Cond.code ({ cls := "RoofRegatta$River", name := "copy", desc := "()LRoofRegatta$River;" } : Jvm.MethodName) prog_8_method_4_code (2 : Nat) (Option.some (Jvm.ClassFile.FieldType.object "RoofRegatta$River"))) ∈ lw_all := lw_g (lw_at lw_m4 223 rfl) rfl
theorem q1067 : (Jvm.Cond.classLink "RoofRegatta$River" (10 : Nat) "RoofRegatta$River") ∈ lw_all := lw_g (lw_at lw_m4 224 rfl) rfl
theorem q1068 : (Jvm.Cond.methodLink "RoofRegatta$River" (63 : Nat) ({ cls := "RoofRegatta$River", name := "<init>", desc := "(LRoofRegatta$Regatta;)V" } : Jvm.MethodName)) ∈ lw_all := lw_g (lw_at lw_m4 225 rfl) rfl
theorem q1069 : (Jvm.Cond.methodLink "RoofRegatta$River" (66 : Nat) ({ cls := "RoofRegatta$River", name := "takes", desc := "(LRoofRegatta$River;)V" } : Jvm.MethodName)) ∈ lw_all := lw_g (lw_at lw_m4 226 rfl) rfl
theorem q1070 : (Jvm.Cond.instanceMethod ({ cls := "RoofRegatta$River", name := "takes", desc := "(LRoofRegatta$River;)V" } : Jvm.MethodName)) ∈ lw_all := lw_g (lw_at lw_m4 227 rfl) rfl
theorem q1071 : (Jvm.Cond.selects "RoofRegatta$River" ({ cls := "RoofRegatta$River", name := "takes", desc := "(LRoofRegatta$River;)V" } : Jvm.MethodName) ({ cls := "RoofRegatta$River", name := "takes", desc := "(LRoofRegatta$River;)V" } : Jvm.MethodName)) ∈ lw_all := lw_g (lw_at lw_m4 228 rfl) rfl
theorem q1072 : (Jvm.Cond.code ({ cls := "RoofRegatta$River", name := "takes", desc := "(LRoofRegatta$River;)V" } : Jvm.MethodName) prog_8_method_3_code (2 : Nat) (Option.none : Option Jvm.ClassFile.FieldType)) ∈ lw_all := lw_g (lw_at lw_m4 229 rfl) rfl
theorem q1073 : (Jvm.Cond.methodLink "RoofRegatta$River" (57 : Nat) ({ cls := "java/lang/System", name := "arraycopy", desc := "(Ljava/lang/Object;ILjava/lang/Object;II)V" } : Jvm.MethodName)) ∈ lw_all := lw_g (lw_at lw_m4 230 rfl) rfl
theorem q1120 : (Jvm.Cond.instanceMethod ({ cls := "RoofRegatta$River", name := "weight", desc := "(I)I" } : Jvm.MethodName)) ∈ lw_all := lw_g (lw_at lw_m5 37 rfl) rfl
theorem q1121 : (Jvm.Cond.selects "RoofRegatta$River" ({ cls := "RoofRegatta$River", name := "weight", desc := "(I)I" } : Jvm.MethodName) ({ cls := "RoofRegatta$River", name := "weight", desc := "(I)I" } : Jvm.MethodName)) ∈ lw_all := lw_g (lw_at lw_m5 38 rfl) rfl
theorem q1122 : (Jvm.Cond.code ({ cls := "RoofRegatta$River", name := "weight", desc := "(I)I" } : Jvm.MethodName) prog_8_method_7_code (4 : Nat) (Option.some Jvm.ClassFile.FieldType.int)) ∈ lw_all := lw_g (lw_at lw_m5 39 rfl) rfl
theorem q1123 : (Jvm.Cond.methodLink "RoofRegatta$River" (80 : Nat) ({ cls := "RoofRegatta$House", name := "weighs", desc := "()I" } : Jvm.MethodName)) ∈ lw_all := lw_g (lw_at lw_m5 40 rfl) rfl
theorem q1135 : (Jvm.Cond.instanceMethod ({ cls := "RoofRegatta$River", name := "power", desc := "(II)I" } : Jvm.MethodName)) ∈ lw_all := lw_g (lw_at lw_m5 52 rfl) rfl
theorem q1136 : (Jvm.Cond.selects "RoofRegatta$River" ({ cls := "RoofRegatta$River", name := "power", desc := "(II)I" } : Jvm.MethodName) ({ cls := "RoofRegatta$River", name := "power", desc := "(II)I" } : Jvm.MethodName)) ∈ lw_all := lw_g (lw_at lw_m5 53 rfl) rfl
theorem q1137 : (Jvm.Cond.code ({ cls := "RoofRegatta$River", name := "power", desc := "(II)I" } : Jvm.MethodName) prog_8_method_8_code (5 : Nat) (Option.some Jvm.ClassFile.FieldType.int)) ∈ lw_all := lw_g (lw_at lw_m5 54 rfl) rfl
theorem q1138 : (Jvm.Cond.methodLink "RoofRegatta$River" (70 : Nat) ({ cls := "RoofRegatta$River", name := "aboard", desc := "(I)I" } : Jvm.MethodName)) ∈ lw_all := lw_g (lw_at lw_m5 55 rfl) rfl
theorem q1139 : (Jvm.Cond.instanceMethod ({ cls := "RoofRegatta$River", name := "aboard", desc := "(I)I" } : Jvm.MethodName)) ∈ lw_all := lw_g (lw_at lw_m5 56 rfl) rfl
theorem q1140 : (Jvm.Cond.selects "RoofRegatta$River" ({ cls := "RoofRegatta$River", name := "aboard", desc := "(I)I" } : Jvm.MethodName) ({ cls := "RoofRegatta$River", name := "aboard", desc := "(I)I" } : Jvm.MethodName)) ∈ lw_all := lw_g (lw_at lw_m5 57 rfl) rfl
theorem q1141 : (Jvm.Cond.code ({ cls := "RoofRegatta$River", name := "aboard", desc := "(I)I" } : Jvm.MethodName) prog_8_method_5_code (4 : Nat) (Option.some Jvm.ClassFile.FieldType.int)) ∈ lw_all := lw_g (lw_at lw_m5 58 rfl) rfl
theorem q1142 : (Jvm.Cond.methodLinkNest "RoofRegatta$River" (74 : Nat) ({ cls := "RoofRegatta", name := "bits", desc := "(I)I" } : Jvm.MethodName) "RoofRegatta") ∈ lw_tbl := lw_at lw_m5 59 rfl
theorem q1145 : (Jvm.Cond.methodLink "RoofRegatta$River" (88 : Nat) ({ cls := "RoofRegatta$House", name := "rows", desc := "(II)I" } : Jvm.MethodName)) ∈ lw_all := lw_g (lw_at lw_m5 62 rfl) rfl
theorem q1189 : (Jvm.Cond.instanceMethod ({ cls := "RoofRegatta$River", name := "time", desc := "(III)I" } : Jvm.MethodName)) ∈ lw_all := lw_g (lw_at lw_m5 106 rfl) rfl
theorem q1190 : (Jvm.Cond.selects "RoofRegatta$River" ({ cls := "RoofRegatta$River", name := "time", desc := "(III)I" } : Jvm.MethodName) ({ cls := "RoofRegatta$River", name := "time", desc := "(III)I" } : Jvm.MethodName)) ∈ lw_all := lw_g (lw_at lw_m5 107 rfl) rfl
theorem q1191 : (Jvm.Cond.code ({ cls := "RoofRegatta$River", name := "time", desc := "(III)I" } : Jvm.MethodName) prog_8_method_9_code (6 : Nat) (Option.some Jvm.ClassFile.FieldType.int)) ∈ lw_all := lw_g (lw_at lw_m5 108 rfl) rfl
theorem q1192 : (Jvm.Cond.methodLink "RoofRegatta$River" (91 : Nat) ({ cls := "RoofRegatta$River", name := "power", desc := "(II)I" } : Jvm.MethodName)) ∈ lw_all := lw_g (lw_at lw_m5 109 rfl) rfl
theorem q1193 : (Jvm.Cond.classLink "RoofRegatta$River" (97 : Nat) "RoofRegatta$Bend") ∈ lw_all := lw_g (lw_at lw_m5 110 rfl) rfl
theorem q1194 : (Jvm.Cond.methodLink "RoofRegatta$River" (99 : Nat) ({ cls := "RoofRegatta$House", name := "goes", desc := "(LRoofRegatta$Bend;I)I" } : Jvm.MethodName)) ∈ lw_all := lw_g (lw_at lw_m5 111 rfl) rfl
theorem q1205 : (Jvm.Cond.methodLink "RoofRegatta$River" (103 : Nat) ({ cls := "RoofRegatta$River", name := "weight", desc := "(I)I" } : Jvm.MethodName)) ∈ lw_all := lw_g (lw_at lw_m5 122 rfl) rfl
theorem q1206 : (Jvm.Cond.methodLinkNest "RoofRegatta$River" (106 : Nat) ({ cls := "RoofRegatta", name := "has", desc := "(II)Z" } : Jvm.MethodName) "RoofRegatta") ∈ lw_tbl := lw_at lw_m5 123 rfl
theorem q1212 : (Jvm.Cond.instanceMethod ({ cls := "RoofRegatta$River", name := "soFar", desc := "(III)I" } : Jvm.MethodName)) ∈ lw_all := lw_g (lw_at lw_m5 129 rfl) rfl
theorem q1213 : (Jvm.Cond.selects "RoofRegatta$River" ({ cls := "RoofRegatta$River", name := "soFar", desc := "(III)I" } : Jvm.MethodName) ({ cls := "RoofRegatta$River", name := "soFar", desc := "(III)I" } : Jvm.MethodName)) ∈ lw_all := lw_g (lw_at lw_m5 130 rfl) rfl
theorem q1214 : (Jvm.Cond.code ({ cls := "RoofRegatta$River", name := "soFar", desc := "(III)I" } : Jvm.MethodName) prog_8_method_10_code (6 : Nat) (Option.some Jvm.ClassFile.FieldType.int)) ∈ lw_all := lw_g (lw_at lw_m5 131 rfl) rfl
theorem q1215 : (Jvm.Cond.methodLink "RoofRegatta$River" (113 : Nat) ({ cls := "RoofRegatta$River", name := "time", desc := "(III)I" } : Jvm.MethodName)) ∈ lw_all := lw_g (lw_at lw_m5 132 rfl) rfl
theorem q1216 : (Jvm.Cond.methodLink "RoofRegatta$River" (120 : Nat) ({ cls := "RoofRegatta$Regatta", name := "loses", desc := "(I)I" } : Jvm.MethodName)) ∈ lw_all := lw_g (lw_at lw_m5 133 rfl) rfl
theorem q1227 : (Jvm.Cond.instanceMethod ({ cls := "RoofRegatta$River", name := "total", desc := "(II)I" } : Jvm.MethodName)) ∈ lw_all := lw_g (lw_at lw_m5 144 rfl) rfl
theorem q1228 : (Jvm.Cond.selects "RoofRegatta$River" ({ cls := "RoofRegatta$River", name := "total", desc := "(II)I" } : Jvm.MethodName) ({ cls := "RoofRegatta$River", name := "total", desc := "(II)I" } : Jvm.MethodName)) ∈ lw_all := lw_g (lw_at lw_m5 145 rfl) rfl
theorem q1229 : (Jvm.Cond.code ({ cls := "RoofRegatta$River", name := "total", desc := "(II)I" } : Jvm.MethodName) prog_8_method_11_code (3 : Nat) (Option.some Jvm.ClassFile.FieldType.int)) ∈ lw_all := lw_g (lw_at lw_m5 146 rfl) rfl
theorem q1230 : (Jvm.Cond.methodLink "RoofRegatta$River" (123 : Nat) ({ cls := "RoofRegatta$River", name := "soFar", desc := "(III)I" } : Jvm.MethodName)) ∈ lw_all := lw_g (lw_at lw_m5 147 rfl) rfl
theorem q1241 : (Jvm.Cond.instanceMethod ({ cls := "RoofRegatta$River", name := "rank", desc := "(II)I" } : Jvm.MethodName)) ∈ lw_all := lw_g (lw_at lw_m5 158 rfl) rfl
theorem q1242 : (Jvm.Cond.selects "RoofRegatta$River" ({ cls := "RoofRegatta$River", name := "rank", desc := "(II)I" } : Jvm.MethodName) ({ cls := "RoofRegatta$River", name := "rank", desc := "(II)I" } : Jvm.MethodName)) ∈ lw_all := lw_g (lw_at lw_m5 159 rfl) rfl
theorem q1243 : (Jvm.Cond.code ({ cls := "RoofRegatta$River", name := "rank", desc := "(II)I" } : Jvm.MethodName) prog_8_method_15_code (5 : Nat) (Option.some Jvm.ClassFile.FieldType.int)) ∈ lw_all := lw_g (lw_at lw_m5 160 rfl) rfl
theorem q1244 : (Jvm.Cond.methodLink "RoofRegatta$River" (135 : Nat) ({ cls := "RoofRegatta$River", name := "isBefore", desc := "(III)Z" } : Jvm.MethodName)) ∈ lw_all := lw_g (lw_at lw_m5 161 rfl) rfl
theorem q1245 : (Jvm.Cond.privateMethod ({ cls := "RoofRegatta$River", name := "isBefore", desc := "(III)Z" } : Jvm.MethodName)) ∈ lw_tbl := lw_at lw_m5 162 rfl
theorem q1246 : (Jvm.Cond.instanceMethod ({ cls := "RoofRegatta$River", name := "isBefore", desc := "(III)Z" } : Jvm.MethodName)) ∈ lw_all := lw_g (lw_at lw_m5 163 rfl) rfl
theorem q1247 : (Jvm.Cond.code ({ cls := "RoofRegatta$River", name := "isBefore", desc := "(III)Z" } : Jvm.MethodName) prog_8_method_14_code (6 : Nat) (Option.some Jvm.ClassFile.FieldType.boolean)) ∈ lw_all := lw_g (lw_at lw_m5 164 rfl) rfl
theorem q1248 : (Jvm.Cond.methodLink "RoofRegatta$River" (132 : Nat) ({ cls := "RoofRegatta$River", name := "isOut", desc := "(II)Z" } : Jvm.MethodName)) ∈ lw_all := lw_g (lw_at lw_m5 165 rfl) rfl
theorem q1249 : (Jvm.Cond.instanceMethod ({ cls := "RoofRegatta$River", name := "isOut", desc := "(II)Z" } : Jvm.MethodName)) ∈ lw_all := lw_g (lw_at lw_m5 166 rfl) rfl
theorem q1250 : (Jvm.Cond.selects "RoofRegatta$River" ({ cls := "RoofRegatta$River", name := "isOut", desc := "(II)Z" } : Jvm.MethodName) ({ cls := "RoofRegatta$River", name := "isOut", desc := "(II)Z" } : Jvm.MethodName)) ∈ lw_all := lw_g (lw_at lw_m5 167 rfl) rfl
theorem q1251 : (Jvm.Cond.code ({ cls := "RoofRegatta$River", name := "isOut", desc := "(II)Z" } : Jvm.MethodName) prog_8_method_13_code (3 : Nat) (Option.some Jvm.ClassFile.FieldType.boolean)) ∈ lw_all := lw_g (lw_at lw_m5 168 rfl) rfl
theorem q1252 : (Jvm.Cond.methodLink "RoofRegatta$River" (129 : Nat) ({ cls := "RoofRegatta$River", name := "first", desc := "(I)I" } : Jvm.MethodName)) ∈ lw_all := lw_g (lw_at lw_m5 169 rfl) rfl
theorem q1253 : (Jvm.Cond.instanceMethod ({ cls := "RoofRegatta$River", name := "first", desc := "(I)I" } : Jvm.MethodName)) ∈ lw_all := lw_g (lw_at lw_m5 170 rfl) rfl
theorem q1254 : (Jvm.Cond.selects "RoofRegatta$River" ({ cls := "RoofRegatta$River", name := "first", desc := "(I)I" } : Jvm.MethodName) ({ cls := "RoofRegatta$River", name := "first", desc := "(I)I" } : Jvm.MethodName)) ∈ lw_all := lw_g (lw_at lw_m5 171 rfl) rfl
theorem q1255 : (Jvm.Cond.code ({ cls := "RoofRegatta$River", name := "first", desc := "(I)I" } : Jvm.MethodName) prog_8_method_12_code (4 : Nat) (Option.some Jvm.ClassFile.FieldType.int)) ∈ lw_all := lw_g (lw_at lw_m5 172 rfl) rfl
theorem q1256 : (Jvm.Cond.methodLink "RoofRegatta$River" (126 : Nat) ({ cls := "RoofRegatta$River", name := "total", desc := "(II)I" } : Jvm.MethodName)) ∈ lw_all := lw_g (lw_at lw_m5 173 rfl) rfl
theorem q1271 : (Jvm.Cond.instanceMethod ({ cls := "RoofRegatta$River", name := "prize", desc := "(II)I" } : Jvm.MethodName)) ∈ lw_all := lw_g (lw_at lw_m5 188 rfl) rfl
theorem q1272 : (Jvm.Cond.selects "RoofRegatta$River" ({ cls := "RoofRegatta$River", name := "prize", desc := "(II)I" } : Jvm.MethodName) ({ cls := "RoofRegatta$River", name := "prize", desc := "(II)I" } : Jvm.MethodName)) ∈ lw_all := lw_g (lw_at lw_m5 189 rfl) rfl
theorem q1273 : (Jvm.Cond.code ({ cls := "RoofRegatta$River", name := "prize", desc := "(II)I" } : Jvm.MethodName) prog_8_method_16_code (4 : Nat) (Option.some Jvm.ClassFile.FieldType.int)) ∈ lw_all := lw_g (lw_at lw_m5 190 rfl) rfl
theorem q1274 : (Jvm.Cond.methodLink "RoofRegatta$River" (139 : Nat) ({ cls := "RoofRegatta$River", name := "rank", desc := "(II)I" } : Jvm.MethodName)) ∈ lw_all := lw_g (lw_at lw_m5 191 rfl) rfl
theorem q1303 : (Jvm.Cond.instanceMethod ({ cls := "RoofRegatta$River", name := "isFull", desc := "(I)Z" } : Jvm.MethodName)) ∈ lw_all := lw_g (lw_at lw_m5 220 rfl) rfl
theorem q1304 : (Jvm.Cond.selects "RoofRegatta$River" ({ cls := "RoofRegatta$River", name := "isFull", desc := "(I)Z" } : Jvm.MethodName) ({ cls := "RoofRegatta$River", name := "isFull", desc := "(I)Z" } : Jvm.MethodName)) ∈ lw_all := lw_g (lw_at lw_m5 221 rfl) rfl
theorem q1305 : (Jvm.Cond.code ({ cls := "RoofRegatta$River", name := "isFull", desc := "(I)Z" } : Jvm.MethodName) prog_8_method_6_code (2 : Nat) (Option.some Jvm.ClassFile.FieldType.boolean)) ∈ lw_all := lw_g (lw_at lw_m5 222 rfl) rfl
theorem q1315 : (Jvm.Cond.instanceMethod ({ cls := "RoofRegatta$River", name := "together", desc := "()I" } : Jvm.MethodName)) ∈ lw_all := lw_g (lw_at lw_m5 232 rfl) rfl
theorem q1316 : (Jvm.Cond.selects "RoofRegatta$River" ({ cls := "RoofRegatta$River", name := "together", desc := "()I" } : Jvm.MethodName) ({ cls := "RoofRegatta$River", name := "together", desc := "()I" } : Jvm.MethodName)) ∈ lw_all := lw_g (lw_at lw_m5 233 rfl) rfl
theorem q1317 : (Jvm.Cond.code ({ cls := "RoofRegatta$River", name := "together", desc := "()I" } : Jvm.MethodName) prog_8_method_17_code (4 : Nat) (Option.some Jvm.ClassFile.FieldType.int)) ∈ lw_all := lw_g (lw_at lw_m5 234 rfl) rfl
theorem q2376 : (Jvm.Cond.castable "RoofRegatta$River" "java/lang/Object") ∈ lw_tbl := lw_at lw_m10 93 rfl
theorem in_X14 : ∀ w ∈ wsX140, w ∈ lw_all := lw_in wsX140 [1044, 1046, 1048, 1050, 1052] (by decide +kernel) (by decide +kernel)
