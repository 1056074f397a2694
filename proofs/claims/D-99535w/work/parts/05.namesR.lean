/-! RoofRegatta$Reader -/
set_option maxRecDepth 100000
def RX3 : String := "RoofRegatta$Reader"
def TX3 : u_T := fun k => match k with
  | 0 => ("RoofRegatta$Reader", "tokens", "LRoofRegatta$Tokens;", true)
  | 1 => ("RoofRegatta$Reader", "regatta", "LRoofRegatta$Regatta;", true)
  | 2 => ("RoofRegatta$Reader", "now", "LRoofRegatta$Token;", false)
  | 3 => ("RoofRegatta$Reader", "fault", "I", false)
  | _ => ("RoofRegatta$Reader", "place", "I", false)
def tyX3 : Nat → FieldType := fun k => match k with
  | 0 => .object "RoofRegatta$Tokens"
  | 1 => .object "RoofRegatta$Regatta"
  | 2 => .object "RoofRegatta$Token"
  | 3 => .int
  | _ => .int
abbrev wsX30 : List Cond := u_ws RX3 TX3 5
theorem nmX3 : ∀ a, a < 5 → ∀ b, b < 5 → a ≠ b → (TX3 a).2.1 ≠ (TX3 b).2.1 := by decide +kernel
theorem tyX3_ok : ∀ k, k < 5 → parseFieldDescriptor (TX3 k).2.2.1 = some (tyX3 k) := by decide +kernel
abbrev cX3_init : ByteArray := prog_6_method_1_code
def yX3_init : MethodName := ⟨RX3, "<init>", "(LRoofRegatta$Tokens;)V"⟩
def dkwX3_init_1 : List UInt8 := [182, 0, 22, 181, 0, 28, 177]
abbrev dktX3_init_1 : List UInt8 := dkwX3_init_1 ++ []
def dkwX3_init_0 : List UInt8 := [42, 183, 0, 3, 42, 187, 0, 9, 89, 183, 0, 11, 181, 0, 12, 42, 43, 181, 0, 18, 42, 43]
abbrev dktX3_init_0 : List UInt8 := dkwX3_init_0 ++ dktX3_init_1
theorem dksX3_init_0 : cX3_init.data.toList.drop 0 = dktX3_init_0 := by decide +kernel
theorem dksX3_init_1 : cX3_init.data.toList.drop 22 = dktX3_init_1 := dk_seg dksX3_init_0 22 rfl rfl
theorem dX3_init_0 : decode cX3_init 0 = .ok (.aload_n 0, 1) := dk_42 (dk_at dksX3_init_0 0 rfl rfl)
theorem dX3_init_1 : decode cX3_init 1 = .ok (.invokespecial 3, 3) := dk_183 0 3 (dk_at dksX3_init_0 1 rfl rfl)
theorem dX3_init_4 : decode cX3_init 4 = .ok (.aload_n 0, 1) := dk_42 (dk_at dksX3_init_0 4 rfl rfl)
theorem dX3_init_5 : decode cX3_init 5 = .ok (.new 9, 3) := dk_187 0 9 (dk_at dksX3_init_0 5 rfl rfl)
theorem dX3_init_8 : decode cX3_init 8 = .ok (.dup, 1) := dk_89 (dk_at dksX3_init_0 8 rfl rfl)
theorem dX3_init_9 : decode cX3_init 9 = .ok (.invokespecial 11, 3) := dk_183 0 11 (dk_at dksX3_init_0 9 rfl rfl)
theorem dX3_init_12 : decode cX3_init 12 = .ok (.putfield 12, 3) := dk_181 0 12 (dk_at dksX3_init_0 12 rfl rfl)
theorem dX3_init_15 : decode cX3_init 15 = .ok (.aload_n 0, 1) := dk_42 (dk_at dksX3_init_0 15 rfl rfl)
theorem dX3_init_16 : decode cX3_init 16 = .ok (.aload_n 1, 1) := dk_43 (dk_at dksX3_init_0 16 rfl rfl)
theorem dX3_init_17 : decode cX3_init 17 = .ok (.putfield 18, 3) := dk_181 0 18 (dk_at dksX3_init_0 17 rfl rfl)
theorem dX3_init_20 : decode cX3_init 20 = .ok (.aload_n 0, 1) := dk_42 (dk_at dksX3_init_0 20 rfl rfl)
theorem dX3_init_21 : decode cX3_init 21 = .ok (.aload_n 1, 1) := dk_43 (dk_at dksX3_init_0 21 rfl rfl)
theorem dX3_init_22 : decode cX3_init 22 = .ok (.invokevirtual 22, 3) := dk_182 0 22 (dk_at dksX3_init_1 0 rfl rfl)
theorem dX3_init_25 : decode cX3_init 25 = .ok (.putfield 28, 3) := dk_181 0 28 (dk_at dksX3_init_1 3 rfl rfl)
theorem dX3_init_28 : decode cX3_init 28 = .ok (.return_, 1) := dk_177 (dk_at dksX3_init_1 6 rfl rfl)
abbrev cX3_read : ByteArray := prog_6_method_15_code
def yX3_read : MethodName := ⟨RX3, "read", "()LRoofRegatta$Regatta;"⟩
def dkwX3_read_3 : List UInt8 := [176]
abbrev dktX3_read_3 : List UInt8 := dkwX3_read_3 ++ []
def dkwX3_read_2 : List UInt8 := [153, 0, 9, 42, 16, 6, 182, 0, 56, 42, 182, 0, 36, 153, 0, 7, 1, 167, 0, 7, 42, 180, 0, 12]
abbrev dktX3_read_2 : List UInt8 := dkwX3_read_2 ++ dktX3_read_3
def dkwX3_read_1 : List UInt8 := [182, 0, 56, 42, 180, 0, 12, 180, 0, 106, 153, 0, 16, 42, 180, 0, 12, 180, 0, 109, 182, 0, 113]
abbrev dktX3_read_1 : List UInt8 := dkwX3_read_1 ++ dktX3_read_2
def dkwX3_read_0 : List UInt8 := [42, 182, 0, 100, 42, 182, 0, 103, 154, 255, 248, 42, 180, 0, 28, 180, 0, 46, 4, 159, 0, 8, 42, 4]
abbrev dktX3_read_0 : List UInt8 := dkwX3_read_0 ++ dktX3_read_1
theorem dksX3_read_0 : cX3_read.data.toList.drop 0 = dktX3_read_0 := by decide +kernel
theorem dksX3_read_1 : cX3_read.data.toList.drop 24 = dktX3_read_1 := dk_seg dksX3_read_0 24 rfl rfl
theorem dksX3_read_2 : cX3_read.data.toList.drop 47 = dktX3_read_2 := dk_seg dksX3_read_1 23 rfl rfl
theorem dksX3_read_3 : cX3_read.data.toList.drop 71 = dktX3_read_3 := dk_seg dksX3_read_2 24 rfl rfl
theorem dX3_read_0 : decode cX3_read 0 = .ok (.aload_n 0, 1) := dk_42 (dk_at dksX3_read_0 0 rfl rfl)
theorem dX3_read_1 : decode cX3_read 1 = .ok (.invokevirtual 100, 3) := dk_182 0 100 (dk_at dksX3_read_0 1 rfl rfl)
theorem dX3_read_4 : decode cX3_read 4 = .ok (.aload_n 0, 1) := dk_42 (dk_at dksX3_read_0 4 rfl rfl)
theorem dX3_read_5 : decode cX3_read 5 = .ok (.invokevirtual 103, 3) := dk_182 0 103 (dk_at dksX3_read_0 5 rfl rfl)
theorem dX3_read_8 : decode cX3_read 8 = .ok (.ifCond .ne (-8), 3) := dk_154 255 248 (dk_at dksX3_read_0 8 rfl rfl)
theorem dX3_read_11 : decode cX3_read 11 = .ok (.aload_n 0, 1) := dk_42 (dk_at dksX3_read_0 11 rfl rfl)
theorem dX3_read_12 : decode cX3_read 12 = .ok (.getfield 28, 3) := dk_180 0 28 (dk_at dksX3_read_0 12 rfl rfl)
theorem dX3_read_15 : decode cX3_read 15 = .ok (.getfield 46, 3) := dk_180 0 46 (dk_at dksX3_read_0 15 rfl rfl)
theorem dX3_read_18 : decode cX3_read 18 = .ok (.iconst 1, 1) := dk_4 (dk_at dksX3_read_0 18 rfl rfl)
theorem dX3_read_19 : decode cX3_read 19 = .ok (.if_icmp .eq 8, 3) := dk_159 0 8 (dk_at dksX3_read_0 19 rfl rfl)
theorem dX3_read_22 : decode cX3_read 22 = .ok (.aload_n 0, 1) := dk_42 (dk_at dksX3_read_0 22 rfl rfl)
theorem dX3_read_23 : decode cX3_read 23 = .ok (.iconst 1, 1) := dk_4 (dk_at dksX3_read_0 23 rfl rfl)
theorem dX3_read_24 : decode cX3_read 24 = .ok (.invokevirtual 56, 3) := dk_182 0 56 (dk_at dksX3_read_1 0 rfl rfl)
theorem dX3_read_27 : decode cX3_read 27 = .ok (.aload_n 0, 1) := dk_42 (dk_at dksX3_read_1 3 rfl rfl)
theorem dX3_read_28 : decode cX3_read 28 = .ok (.getfield 12, 3) := dk_180 0 12 (dk_at dksX3_read_1 4 rfl rfl)
theorem dX3_read_31 : decode cX3_read 31 = .ok (.getfield 106, 3) := dk_180 0 106 (dk_at dksX3_read_1 7 rfl rfl)
theorem dX3_read_34 : decode cX3_read 34 = .ok (.ifCond .eq 16, 3) := dk_153 0 16 (dk_at dksX3_read_1 10 rfl rfl)
theorem dX3_read_37 : decode cX3_read 37 = .ok (.aload_n 0, 1) := dk_42 (dk_at dksX3_read_1 13 rfl rfl)
theorem dX3_read_38 : decode cX3_read 38 = .ok (.getfield 12, 3) := dk_180 0 12 (dk_at dksX3_read_1 14 rfl rfl)
theorem dX3_read_41 : decode cX3_read 41 = .ok (.getfield 109, 3) := dk_180 0 109 (dk_at dksX3_read_1 17 rfl rfl)
theorem dX3_read_44 : decode cX3_read 44 = .ok (.invokevirtual 113, 3) := dk_182 0 113 (dk_at dksX3_read_1 20 rfl rfl)
theorem dX3_read_47 : decode cX3_read 47 = .ok (.ifCond .eq 9, 3) := dk_153 0 9 (dk_at dksX3_read_2 0 rfl rfl)
theorem dX3_read_50 : decode cX3_read 50 = .ok (.aload_n 0, 1) := dk_42 (dk_at dksX3_read_2 3 rfl rfl)
theorem dX3_read_51 : decode cX3_read 51 = .ok (.bipush 6, 2) := dk_16 6 (dk_at dksX3_read_2 4 rfl rfl)
theorem dX3_read_53 : decode cX3_read 53 = .ok (.invokevirtual 56, 3) := dk_182 0 56 (dk_at dksX3_read_2 6 rfl rfl)
theorem dX3_read_56 : decode cX3_read 56 = .ok (.aload_n 0, 1) := dk_42 (dk_at dksX3_read_2 9 rfl rfl)
theorem dX3_read_57 : decode cX3_read 57 = .ok (.invokevirtual 36, 3) := dk_182 0 36 (dk_at dksX3_read_2 10 rfl rfl)
theorem dX3_read_60 : decode cX3_read 60 = .ok (.ifCond .eq 7, 3) := dk_153 0 7 (dk_at dksX3_read_2 13 rfl rfl)
theorem dX3_read_63 : decode cX3_read 63 = .ok (.aconst_null, 1) := dk_1 (dk_at dksX3_read_2 16 rfl rfl)
theorem dX3_read_64 : decode cX3_read 64 = .ok (.goto 7, 3) := dk_167 0 7 (dk_at dksX3_read_2 17 rfl rfl)
theorem dX3_read_67 : decode cX3_read 67 = .ok (.aload_n 0, 1) := dk_42 (dk_at dksX3_read_2 20 rfl rfl)
theorem dX3_read_68 : decode cX3_read 68 = .ok (.getfield 12, 3) := dk_180 0 12 (dk_at dksX3_read_2 21 rfl rfl)
theorem dX3_read_71 : decode cX3_read 71 = .ok (.areturn, 1) := dk_176 (dk_at dksX3_read_3 0 rfl rfl)
abbrev cX3_line : ByteArray := prog_6_method_16_code
def yX3_line : MethodName := ⟨RX3, "line", "()V"⟩
def dkwX3_line_11 : List UInt8 := [167, 0, 15, 42, 182, 0, 157, 167, 0, 8, 42, 4, 182, 0, 56, 177]
abbrev dktX3_line_11 : List UInt8 := dkwX3_line_11 ++ []
def dkwX3_line_10 : List UInt8 := [182, 0, 149, 167, 0, 36, 42, 182, 0, 151, 167, 0, 29, 42, 182, 0, 153, 167, 0, 22, 42, 182, 0, 155]
abbrev dktX3_line_10 : List UInt8 := dkwX3_line_10 ++ dktX3_line_11
def dkwX3_line_9 : List UInt8 := [42, 182, 0, 142, 167, 0, 57, 42, 182, 0, 145, 167, 0, 50, 42, 182, 0, 147, 167, 0, 43, 42]
abbrev dktX3_line_9 : List UInt8 := dkwX3_line_9 ++ dktX3_line_10
def dkwX3_line_8 : List UInt8 := [170, 0, 0, 0, 0, 0, 0, 104, 0, 0, 0, 0, 0, 0, 0, 7, 0, 0, 0, 48, 0, 0, 0, 55, 0, 0, 0, 62, 0, 0, 0, 69, 0, 0, 0, 76, 0, 0, 0, 83, 0, 0, 0, 90, 0, 0, 0, 97]
abbrev dktX3_line_8 : List UInt8 := dkwX3_line_8 ++ dktX3_line_9
def dkwX3_line_7 : List UInt8 := [61, 167, 0, 15, 43, 18, 140, 182, 0, 127, 153, 0, 6, 16, 7, 61, 28]
abbrev dktX3_line_7 : List UInt8 := dkwX3_line_7 ++ dktX3_line_8
def dkwX3_line_6 : List UInt8 := [18, 136, 182, 0, 127, 153, 0, 35, 8, 61, 167, 0, 30, 43, 18, 138, 182, 0, 127, 153, 0, 21, 16, 6]
abbrev dktX3_line_6 : List UInt8 := dkwX3_line_6 ++ dktX3_line_7
def dkwX3_line_5 : List UInt8 := [153, 0, 63, 6, 61, 167, 0, 58, 43, 18, 134, 182, 0, 127, 153, 0, 49, 7, 61, 167, 0, 44, 43]
abbrev dktX3_line_5 : List UInt8 := dkwX3_line_5 ++ dktX3_line_6
def dkwX3_line_4 : List UInt8 := [61, 167, 0, 86, 43, 18, 132, 182, 0, 127, 153, 0, 77, 5, 61, 167, 0, 72, 43, 18, 133, 182, 0, 127]
abbrev dktX3_line_4 : List UInt8 := dkwX3_line_4 ++ dktX3_line_5
def dkwX3_line_3 : List UInt8 := [43, 18, 126, 182, 0, 127, 153, 0, 105, 3, 61, 167, 0, 100, 43, 18, 131, 182, 0, 127, 153, 0, 91, 4]
abbrev dktX3_line_3 : List UInt8 := dkwX3_line_3 ++ dktX3_line_4
def dkwX3_line_2 : List UInt8 := [171, 0, 0, 0, 0, 185, 0, 0, 0, 8, 171, 31, 3, 37, 0, 0, 0, 130, 180, 134, 10, 158, 0, 0, 0, 144, 190, 150, 152, 115, 0, 0, 0, 116, 0, 1, 187, 233, 0, 0, 0, 173, 0, 46, 21, 57, 0, 0, 0, 88, 5, 237, 199, 32, 0, 0, 0, 102, 6, 95, 180, 18, 0, 0, 0, 158, 64, 185, 40, 116, 0, 0, 0, 74]
abbrev dktX3_line_2 : List UInt8 := dkwX3_line_2 ++ dktX3_line_3
def dkwX3_line_1 : List UInt8 := [2, 61, 43, 182, 0, 120]
abbrev dktX3_line_1 : List UInt8 := dkwX3_line_1 ++ dktX3_line_2
def dkwX3_line_0 : List UInt8 := [42, 180, 0, 28, 180, 0, 46, 5, 160, 0, 13, 42, 180, 0, 28, 180, 0, 78, 167, 0, 5, 18, 118, 76]
abbrev dktX3_line_0 : List UInt8 := dkwX3_line_0 ++ dktX3_line_1
theorem dksX3_line_0 : cX3_line.data.toList.drop 0 = dktX3_line_0 := by decide +kernel
theorem dksX3_line_1 : cX3_line.data.toList.drop 24 = dktX3_line_1 := dk_seg dksX3_line_0 24 rfl rfl
theorem dksX3_line_2 : cX3_line.data.toList.drop 30 = dktX3_line_2 := dk_seg dksX3_line_1 6 rfl rfl
theorem dksX3_line_3 : cX3_line.data.toList.drop 104 = dktX3_line_3 := dk_seg dksX3_line_2 74 rfl rfl
theorem dksX3_line_4 : cX3_line.data.toList.drop 128 = dktX3_line_4 := dk_seg dksX3_line_3 24 rfl rfl
theorem dksX3_line_5 : cX3_line.data.toList.drop 152 = dktX3_line_5 := dk_seg dksX3_line_4 24 rfl rfl
theorem dksX3_line_6 : cX3_line.data.toList.drop 175 = dktX3_line_6 := dk_seg dksX3_line_5 23 rfl rfl
theorem dksX3_line_7 : cX3_line.data.toList.drop 199 = dktX3_line_7 := dk_seg dksX3_line_6 24 rfl rfl
theorem dksX3_line_8 : cX3_line.data.toList.drop 216 = dktX3_line_8 := dk_seg dksX3_line_7 17 rfl rfl
theorem dksX3_line_9 : cX3_line.data.toList.drop 264 = dktX3_line_9 := dk_seg dksX3_line_8 48 rfl rfl
theorem dksX3_line_10 : cX3_line.data.toList.drop 286 = dktX3_line_10 := dk_seg dksX3_line_9 22 rfl rfl
theorem dksX3_line_11 : cX3_line.data.toList.drop 310 = dktX3_line_11 := dk_seg dksX3_line_10 24 rfl rfl
theorem dX3_line_0 : decode cX3_line 0 = .ok (.aload_n 0, 1) := dk_42 (dk_at dksX3_line_0 0 rfl rfl)
theorem dX3_line_1 : decode cX3_line 1 = .ok (.getfield 28, 3) := dk_180 0 28 (dk_at dksX3_line_0 1 rfl rfl)
theorem dX3_line_4 : decode cX3_line 4 = .ok (.getfield 46, 3) := dk_180 0 46 (dk_at dksX3_line_0 4 rfl rfl)
theorem dX3_line_7 : decode cX3_line 7 = .ok (.iconst 2, 1) := dk_5 (dk_at dksX3_line_0 7 rfl rfl)
theorem dX3_line_8 : decode cX3_line 8 = .ok (.if_icmp .ne 13, 3) := dk_160 0 13 (dk_at dksX3_line_0 8 rfl rfl)
theorem dX3_line_11 : decode cX3_line 11 = .ok (.aload_n 0, 1) := dk_42 (dk_at dksX3_line_0 11 rfl rfl)
theorem dX3_line_12 : decode cX3_line 12 = .ok (.getfield 28, 3) := dk_180 0 28 (dk_at dksX3_line_0 12 rfl rfl)
theorem dX3_line_15 : decode cX3_line 15 = .ok (.getfield 78, 3) := dk_180 0 78 (dk_at dksX3_line_0 15 rfl rfl)
theorem dX3_line_18 : decode cX3_line 18 = .ok (.goto 5, 3) := dk_167 0 5 (dk_at dksX3_line_0 18 rfl rfl)
theorem dX3_line_21 : decode cX3_line 21 = .ok (.ldc 118, 2) := dk_18 118 (dk_at dksX3_line_0 21 rfl rfl)
theorem dX3_line_23 : decode cX3_line 23 = .ok (.astore_n 1, 1) := dk_76 (dk_at dksX3_line_0 23 rfl rfl)
theorem dX3_line_24 : decode cX3_line 24 = .ok (.iconst (-1), 1) := dk_2 (dk_at dksX3_line_1 0 rfl rfl)
theorem dX3_line_25 : decode cX3_line 25 = .ok (.istore_n 2, 1) := dk_61 (dk_at dksX3_line_1 1 rfl rfl)
theorem dX3_line_26 : decode cX3_line 26 = .ok (.aload_n 1, 1) := dk_43 (dk_at dksX3_line_1 2 rfl rfl)
theorem dX3_line_27 : decode cX3_line 27 = .ok (.invokevirtual 120, 3) := dk_182 0 120 (dk_at dksX3_line_1 3 rfl rfl)
theorem dX3_line_30 : decode cX3_line 30 = .ok (.lookupswitch 185 #[(-1424030939, 130), (-1266283874, 144), (-1097426829, 116), (113641, 173), (3020089, 88), (99469088, 102), (106935314, 158), (1085876340, 74)], 74) := by decide +kernel
theorem dX3_line_104 : decode cX3_line 104 = .ok (.aload_n 1, 1) := dk_43 (dk_at dksX3_line_3 0 rfl rfl)
theorem dX3_line_105 : decode cX3_line 105 = .ok (.ldc 126, 2) := dk_18 126 (dk_at dksX3_line_3 1 rfl rfl)
theorem dX3_line_107 : decode cX3_line 107 = .ok (.invokevirtual 127, 3) := dk_182 0 127 (dk_at dksX3_line_3 3 rfl rfl)
theorem dX3_line_110 : decode cX3_line 110 = .ok (.ifCond .eq 105, 3) := dk_153 0 105 (dk_at dksX3_line_3 6 rfl rfl)
theorem dX3_line_113 : decode cX3_line 113 = .ok (.iconst 0, 1) := dk_3 (dk_at dksX3_line_3 9 rfl rfl)
theorem dX3_line_114 : decode cX3_line 114 = .ok (.istore_n 2, 1) := dk_61 (dk_at dksX3_line_3 10 rfl rfl)
theorem dX3_line_115 : decode cX3_line 115 = .ok (.goto 100, 3) := dk_167 0 100 (dk_at dksX3_line_3 11 rfl rfl)
theorem dX3_line_118 : decode cX3_line 118 = .ok (.aload_n 1, 1) := dk_43 (dk_at dksX3_line_3 14 rfl rfl)
theorem dX3_line_119 : decode cX3_line 119 = .ok (.ldc 131, 2) := dk_18 131 (dk_at dksX3_line_3 15 rfl rfl)
theorem dX3_line_121 : decode cX3_line 121 = .ok (.invokevirtual 127, 3) := dk_182 0 127 (dk_at dksX3_line_3 17 rfl rfl)
theorem dX3_line_124 : decode cX3_line 124 = .ok (.ifCond .eq 91, 3) := dk_153 0 91 (dk_at dksX3_line_3 20 rfl rfl)
theorem dX3_line_127 : decode cX3_line 127 = .ok (.iconst 1, 1) := dk_4 (dk_at dksX3_line_3 23 rfl rfl)
theorem dX3_line_128 : decode cX3_line 128 = .ok (.istore_n 2, 1) := dk_61 (dk_at dksX3_line_4 0 rfl rfl)
theorem dX3_line_129 : decode cX3_line 129 = .ok (.goto 86, 3) := dk_167 0 86 (dk_at dksX3_line_4 1 rfl rfl)
theorem dX3_line_132 : decode cX3_line 132 = .ok (.aload_n 1, 1) := dk_43 (dk_at dksX3_line_4 4 rfl rfl)
theorem dX3_line_133 : decode cX3_line 133 = .ok (.ldc 132, 2) := dk_18 132 (dk_at dksX3_line_4 5 rfl rfl)
theorem dX3_line_135 : decode cX3_line 135 = .ok (.invokevirtual 127, 3) := dk_182 0 127 (dk_at dksX3_line_4 7 rfl rfl)
theorem dX3_line_138 : decode cX3_line 138 = .ok (.ifCond .eq 77, 3) := dk_153 0 77 (dk_at dksX3_line_4 10 rfl rfl)
theorem dX3_line_141 : decode cX3_line 141 = .ok (.iconst 2, 1) := dk_5 (dk_at dksX3_line_4 13 rfl rfl)
theorem dX3_line_142 : decode cX3_line 142 = .ok (.istore_n 2, 1) := dk_61 (dk_at dksX3_line_4 14 rfl rfl)
theorem dX3_line_143 : decode cX3_line 143 = .ok (.goto 72, 3) := dk_167 0 72 (dk_at dksX3_line_4 15 rfl rfl)
theorem dX3_line_146 : decode cX3_line 146 = .ok (.aload_n 1, 1) := dk_43 (dk_at dksX3_line_4 18 rfl rfl)
theorem dX3_line_147 : decode cX3_line 147 = .ok (.ldc 133, 2) := dk_18 133 (dk_at dksX3_line_4 19 rfl rfl)
theorem dX3_line_149 : decode cX3_line 149 = .ok (.invokevirtual 127, 3) := dk_182 0 127 (dk_at dksX3_line_4 21 rfl rfl)
theorem dX3_line_152 : decode cX3_line 152 = .ok (.ifCond .eq 63, 3) := dk_153 0 63 (dk_at dksX3_line_5 0 rfl rfl)
theorem dX3_line_155 : decode cX3_line 155 = .ok (.iconst 3, 1) := dk_6 (dk_at dksX3_line_5 3 rfl rfl)
theorem dX3_line_156 : decode cX3_line 156 = .ok (.istore_n 2, 1) := dk_61 (dk_at dksX3_line_5 4 rfl rfl)
theorem dX3_line_157 : decode cX3_line 157 = .ok (.goto 58, 3) := dk_167 0 58 (dk_at dksX3_line_5 5 rfl rfl)
theorem dX3_line_160 : decode cX3_line 160 = .ok (.aload_n 1, 1) := dk_43 (dk_at dksX3_line_5 8 rfl rfl)
theorem dX3_line_161 : decode cX3_line 161 = .ok (.ldc 134, 2) := dk_18 134 (dk_at dksX3_line_5 9 rfl rfl)
theorem dX3_line_163 : decode cX3_line 163 = .ok (.invokevirtual 127, 3) := dk_182 0 127 (dk_at dksX3_line_5 11 rfl rfl)
theorem dX3_line_166 : decode cX3_line 166 = .ok (.ifCond .eq 49, 3) := dk_153 0 49 (dk_at dksX3_line_5 14 rfl rfl)
theorem dX3_line_169 : decode cX3_line 169 = .ok (.iconst 4, 1) := dk_7 (dk_at dksX3_line_5 17 rfl rfl)
theorem dX3_line_170 : decode cX3_line 170 = .ok (.istore_n 2, 1) := dk_61 (dk_at dksX3_line_5 18 rfl rfl)
theorem dX3_line_171 : decode cX3_line 171 = .ok (.goto 44, 3) := dk_167 0 44 (dk_at dksX3_line_5 19 rfl rfl)
theorem dX3_line_174 : decode cX3_line 174 = .ok (.aload_n 1, 1) := dk_43 (dk_at dksX3_line_5 22 rfl rfl)
theorem dX3_line_175 : decode cX3_line 175 = .ok (.ldc 136, 2) := dk_18 136 (dk_at dksX3_line_6 0 rfl rfl)
theorem dX3_line_177 : decode cX3_line 177 = .ok (.invokevirtual 127, 3) := dk_182 0 127 (dk_at dksX3_line_6 2 rfl rfl)
theorem dX3_line_180 : decode cX3_line 180 = .ok (.ifCond .eq 35, 3) := dk_153 0 35 (dk_at dksX3_line_6 5 rfl rfl)
theorem dX3_line_183 : decode cX3_line 183 = .ok (.iconst 5, 1) := dk_8 (dk_at dksX3_line_6 8 rfl rfl)
theorem dX3_line_184 : decode cX3_line 184 = .ok (.istore_n 2, 1) := dk_61 (dk_at dksX3_line_6 9 rfl rfl)
theorem dX3_line_185 : decode cX3_line 185 = .ok (.goto 30, 3) := dk_167 0 30 (dk_at dksX3_line_6 10 rfl rfl)
theorem dX3_line_188 : decode cX3_line 188 = .ok (.aload_n 1, 1) := dk_43 (dk_at dksX3_line_6 13 rfl rfl)
theorem dX3_line_189 : decode cX3_line 189 = .ok (.ldc 138, 2) := dk_18 138 (dk_at dksX3_line_6 14 rfl rfl)
theorem dX3_line_191 : decode cX3_line 191 = .ok (.invokevirtual 127, 3) := dk_182 0 127 (dk_at dksX3_line_6 16 rfl rfl)
theorem dX3_line_194 : decode cX3_line 194 = .ok (.ifCond .eq 21, 3) := dk_153 0 21 (dk_at dksX3_line_6 19 rfl rfl)
theorem dX3_line_197 : decode cX3_line 197 = .ok (.bipush 6, 2) := dk_16 6 (dk_at dksX3_line_6 22 rfl rfl)
theorem dX3_line_199 : decode cX3_line 199 = .ok (.istore_n 2, 1) := dk_61 (dk_at dksX3_line_7 0 rfl rfl)
theorem dX3_line_200 : decode cX3_line 200 = .ok (.goto 15, 3) := dk_167 0 15 (dk_at dksX3_line_7 1 rfl rfl)
theorem dX3_line_203 : decode cX3_line 203 = .ok (.aload_n 1, 1) := dk_43 (dk_at dksX3_line_7 4 rfl rfl)
theorem dX3_line_204 : decode cX3_line 204 = .ok (.ldc 140, 2) := dk_18 140 (dk_at dksX3_line_7 5 rfl rfl)
theorem dX3_line_206 : decode cX3_line 206 = .ok (.invokevirtual 127, 3) := dk_182 0 127 (dk_at dksX3_line_7 7 rfl rfl)
theorem dX3_line_209 : decode cX3_line 209 = .ok (.ifCond .eq 6, 3) := dk_153 0 6 (dk_at dksX3_line_7 10 rfl rfl)
theorem dX3_line_212 : decode cX3_line 212 = .ok (.bipush 7, 2) := dk_16 7 (dk_at dksX3_line_7 13 rfl rfl)
theorem dX3_line_214 : decode cX3_line 214 = .ok (.istore_n 2, 1) := dk_61 (dk_at dksX3_line_7 15 rfl rfl)
theorem dX3_line_215 : decode cX3_line 215 = .ok (.iload_n 2, 1) := dk_28 (dk_at dksX3_line_7 16 rfl rfl)
theorem dX3_line_216 : decode cX3_line 216 = .ok (.tableswitch 104 0 7 #[48, 55, 62, 69, 76, 83, 90, 97], 48) := by decide +kernel
theorem dX3_line_264 : decode cX3_line 264 = .ok (.aload_n 0, 1) := dk_42 (dk_at dksX3_line_9 0 rfl rfl)
theorem dX3_line_265 : decode cX3_line 265 = .ok (.invokevirtual 142, 3) := dk_182 0 142 (dk_at dksX3_line_9 1 rfl rfl)
theorem dX3_line_268 : decode cX3_line 268 = .ok (.goto 57, 3) := dk_167 0 57 (dk_at dksX3_line_9 4 rfl rfl)
theorem dX3_line_271 : decode cX3_line 271 = .ok (.aload_n 0, 1) := dk_42 (dk_at dksX3_line_9 7 rfl rfl)
theorem dX3_line_272 : decode cX3_line 272 = .ok (.invokevirtual 145, 3) := dk_182 0 145 (dk_at dksX3_line_9 8 rfl rfl)
theorem dX3_line_275 : decode cX3_line 275 = .ok (.goto 50, 3) := dk_167 0 50 (dk_at dksX3_line_9 11 rfl rfl)
theorem dX3_line_278 : decode cX3_line 278 = .ok (.aload_n 0, 1) := dk_42 (dk_at dksX3_line_9 14 rfl rfl)
theorem dX3_line_279 : decode cX3_line 279 = .ok (.invokevirtual 147, 3) := dk_182 0 147 (dk_at dksX3_line_9 15 rfl rfl)
theorem dX3_line_282 : decode cX3_line 282 = .ok (.goto 43, 3) := dk_167 0 43 (dk_at dksX3_line_9 18 rfl rfl)
theorem dX3_line_285 : decode cX3_line 285 = .ok (.aload_n 0, 1) := dk_42 (dk_at dksX3_line_9 21 rfl rfl)
theorem dX3_line_286 : decode cX3_line 286 = .ok (.invokevirtual 149, 3) := dk_182 0 149 (dk_at dksX3_line_10 0 rfl rfl)
theorem dX3_line_289 : decode cX3_line 289 = .ok (.goto 36, 3) := dk_167 0 36 (dk_at dksX3_line_10 3 rfl rfl)
theorem dX3_line_292 : decode cX3_line 292 = .ok (.aload_n 0, 1) := dk_42 (dk_at dksX3_line_10 6 rfl rfl)
theorem dX3_line_293 : decode cX3_line 293 = .ok (.invokevirtual 151, 3) := dk_182 0 151 (dk_at dksX3_line_10 7 rfl rfl)
theorem dX3_line_296 : decode cX3_line 296 = .ok (.goto 29, 3) := dk_167 0 29 (dk_at dksX3_line_10 10 rfl rfl)
theorem dX3_line_299 : decode cX3_line 299 = .ok (.aload_n 0, 1) := dk_42 (dk_at dksX3_line_10 13 rfl rfl)
theorem dX3_line_300 : decode cX3_line 300 = .ok (.invokevirtual 153, 3) := dk_182 0 153 (dk_at dksX3_line_10 14 rfl rfl)
theorem dX3_line_303 : decode cX3_line 303 = .ok (.goto 22, 3) := dk_167 0 22 (dk_at dksX3_line_10 17 rfl rfl)
theorem dX3_line_306 : decode cX3_line 306 = .ok (.aload_n 0, 1) := dk_42 (dk_at dksX3_line_10 20 rfl rfl)
theorem dX3_line_307 : decode cX3_line 307 = .ok (.invokevirtual 155, 3) := dk_182 0 155 (dk_at dksX3_line_10 21 rfl rfl)
theorem dX3_line_310 : decode cX3_line 310 = .ok (.goto 15, 3) := dk_167 0 15 (dk_at dksX3_line_11 0 rfl rfl)
theorem dX3_line_313 : decode cX3_line 313 = .ok (.aload_n 0, 1) := dk_42 (dk_at dksX3_line_11 3 rfl rfl)
theorem dX3_line_314 : decode cX3_line 314 = .ok (.invokevirtual 157, 3) := dk_182 0 157 (dk_at dksX3_line_11 4 rfl rfl)
theorem dX3_line_317 : decode cX3_line 317 = .ok (.goto 8, 3) := dk_167 0 8 (dk_at dksX3_line_11 7 rfl rfl)
theorem dX3_line_320 : decode cX3_line 320 = .ok (.aload_n 0, 1) := dk_42 (dk_at dksX3_line_11 10 rfl rfl)
theorem dX3_line_321 : decode cX3_line 321 = .ok (.iconst 1, 1) := dk_4 (dk_at dksX3_line_11 11 rfl rfl)
theorem dX3_line_322 : decode cX3_line 322 = .ok (.invokevirtual 56, 3) := dk_182 0 56 (dk_at dksX3_line_11 12 rfl rfl)
theorem dX3_line_325 : decode cX3_line 325 = .ok (.return_, 1) := dk_177 (dk_at dksX3_line_11 15 rfl rfl)
abbrev cX3_regattaLine : ByteArray := prog_6_method_18_code
def yX3_regattaLine : MethodName := ⟨RX3, "regattaLine", "()V"⟩
def dkwX3_regattaLine_5 : List UInt8 := [21, 5, 181, 0, 178, 177]
abbrev dktX3_regattaLine_5 : List UInt8 := dkwX3_regattaLine_5 ++ []
def dkwX3_regattaLine_4 : List UInt8 := [181, 0, 172, 42, 180, 0, 12, 29, 181, 0, 174, 42, 180, 0, 12, 21, 4, 181, 0, 176, 42, 180, 0, 12]
abbrev dktX3_regattaLine_4 : List UInt8 := dkwX3_regattaLine_4 ++ dktX3_regattaLine_5
def dkwX3_regattaLine_3 : List UInt8 := [54, 5, 42, 182, 0, 36, 153, 0, 4, 177, 42, 180, 0, 12, 27, 181, 0, 106, 42, 180, 0, 12, 28]
abbrev dktX3_regattaLine_3 : List UInt8 := dkwX3_regattaLine_3 ++ dktX3_regattaLine_4
def dkwX3_regattaLine_2 : List UInt8 := [182, 0, 160, 62, 42, 18, 168, 3, 16, 100, 182, 0, 160, 54, 4, 42, 18, 170, 3, 16, 9, 182, 0, 160]
abbrev dktX3_regattaLine_2 : List UInt8 := dkwX3_regattaLine_2 ++ dktX3_regattaLine_3
def dkwX3_regattaLine_1 : List UInt8 := [16, 20, 182, 0, 160, 60, 42, 18, 164, 4, 16, 6, 182, 0, 160, 61, 42, 18, 166, 3, 16, 30]
abbrev dktX3_regattaLine_1 : List UInt8 := dkwX3_regattaLine_1 ++ dktX3_regattaLine_2
def dkwX3_regattaLine_0 : List UInt8 := [42, 180, 0, 12, 180, 0, 106, 158, 0, 8, 42, 6, 182, 0, 56, 42, 182, 0, 49, 42, 18, 159, 4]
abbrev dktX3_regattaLine_0 : List UInt8 := dkwX3_regattaLine_0 ++ dktX3_regattaLine_1
theorem dksX3_regattaLine_0 : cX3_regattaLine.data.toList.drop 0 = dktX3_regattaLine_0 := by decide +kernel
theorem dksX3_regattaLine_1 : cX3_regattaLine.data.toList.drop 23 = dktX3_regattaLine_1 := dk_seg dksX3_regattaLine_0 23 rfl rfl
theorem dksX3_regattaLine_2 : cX3_regattaLine.data.toList.drop 45 = dktX3_regattaLine_2 := dk_seg dksX3_regattaLine_1 22 rfl rfl
theorem dksX3_regattaLine_3 : cX3_regattaLine.data.toList.drop 69 = dktX3_regattaLine_3 := dk_seg dksX3_regattaLine_2 24 rfl rfl
theorem dksX3_regattaLine_4 : cX3_regattaLine.data.toList.drop 92 = dktX3_regattaLine_4 := dk_seg dksX3_regattaLine_3 23 rfl rfl
theorem dksX3_regattaLine_5 : cX3_regattaLine.data.toList.drop 116 = dktX3_regattaLine_5 := dk_seg dksX3_regattaLine_4 24 rfl rfl
theorem dX3_regattaLine_0 : decode cX3_regattaLine 0 = .ok (.aload_n 0, 1) := dk_42 (dk_at dksX3_regattaLine_0 0 rfl rfl)
theorem dX3_regattaLine_1 : decode cX3_regattaLine 1 = .ok (.getfield 12, 3) := dk_180 0 12 (dk_at dksX3_regattaLine_0 1 rfl rfl)
theorem dX3_regattaLine_4 : decode cX3_regattaLine 4 = .ok (.getfield 106, 3) := dk_180 0 106 (dk_at dksX3_regattaLine_0 4 rfl rfl)
theorem dX3_regattaLine_7 : decode cX3_regattaLine 7 = .ok (.ifCond .le 8, 3) := dk_158 0 8 (dk_at dksX3_regattaLine_0 7 rfl rfl)
theorem dX3_regattaLine_10 : decode cX3_regattaLine 10 = .ok (.aload_n 0, 1) := dk_42 (dk_at dksX3_regattaLine_0 10 rfl rfl)
theorem dX3_regattaLine_11 : decode cX3_regattaLine 11 = .ok (.iconst 3, 1) := dk_6 (dk_at dksX3_regattaLine_0 11 rfl rfl)
theorem dX3_regattaLine_12 : decode cX3_regattaLine 12 = .ok (.invokevirtual 56, 3) := dk_182 0 56 (dk_at dksX3_regattaLine_0 12 rfl rfl)
theorem dX3_regattaLine_15 : decode cX3_regattaLine 15 = .ok (.aload_n 0, 1) := dk_42 (dk_at dksX3_regattaLine_0 15 rfl rfl)
theorem dX3_regattaLine_16 : decode cX3_regattaLine 16 = .ok (.invokevirtual 49, 3) := dk_182 0 49 (dk_at dksX3_regattaLine_0 16 rfl rfl)
theorem dX3_regattaLine_19 : decode cX3_regattaLine 19 = .ok (.aload_n 0, 1) := dk_42 (dk_at dksX3_regattaLine_0 19 rfl rfl)
theorem dX3_regattaLine_20 : decode cX3_regattaLine 20 = .ok (.ldc 159, 2) := dk_18 159 (dk_at dksX3_regattaLine_0 20 rfl rfl)
theorem dX3_regattaLine_22 : decode cX3_regattaLine 22 = .ok (.iconst 1, 1) := dk_4 (dk_at dksX3_regattaLine_0 22 rfl rfl)
theorem dX3_regattaLine_23 : decode cX3_regattaLine 23 = .ok (.bipush 20, 2) := dk_16 20 (dk_at dksX3_regattaLine_1 0 rfl rfl)
theorem dX3_regattaLine_25 : decode cX3_regattaLine 25 = .ok (.invokevirtual 160, 3) := dk_182 0 160 (dk_at dksX3_regattaLine_1 2 rfl rfl)
theorem dX3_regattaLine_28 : decode cX3_regattaLine 28 = .ok (.istore_n 1, 1) := dk_60 (dk_at dksX3_regattaLine_1 5 rfl rfl)
theorem dX3_regattaLine_29 : decode cX3_regattaLine 29 = .ok (.aload_n 0, 1) := dk_42 (dk_at dksX3_regattaLine_1 6 rfl rfl)
theorem dX3_regattaLine_30 : decode cX3_regattaLine 30 = .ok (.ldc 164, 2) := dk_18 164 (dk_at dksX3_regattaLine_1 7 rfl rfl)
theorem dX3_regattaLine_32 : decode cX3_regattaLine 32 = .ok (.iconst 1, 1) := dk_4 (dk_at dksX3_regattaLine_1 9 rfl rfl)
theorem dX3_regattaLine_33 : decode cX3_regattaLine 33 = .ok (.bipush 6, 2) := dk_16 6 (dk_at dksX3_regattaLine_1 10 rfl rfl)
theorem dX3_regattaLine_35 : decode cX3_regattaLine 35 = .ok (.invokevirtual 160, 3) := dk_182 0 160 (dk_at dksX3_regattaLine_1 12 rfl rfl)
theorem dX3_regattaLine_38 : decode cX3_regattaLine 38 = .ok (.istore_n 2, 1) := dk_61 (dk_at dksX3_regattaLine_1 15 rfl rfl)
theorem dX3_regattaLine_39 : decode cX3_regattaLine 39 = .ok (.aload_n 0, 1) := dk_42 (dk_at dksX3_regattaLine_1 16 rfl rfl)
theorem dX3_regattaLine_40 : decode cX3_regattaLine 40 = .ok (.ldc 166, 2) := dk_18 166 (dk_at dksX3_regattaLine_1 17 rfl rfl)
theorem dX3_regattaLine_42 : decode cX3_regattaLine 42 = .ok (.iconst 0, 1) := dk_3 (dk_at dksX3_regattaLine_1 19 rfl rfl)
theorem dX3_regattaLine_43 : decode cX3_regattaLine 43 = .ok (.bipush 30, 2) := dk_16 30 (dk_at dksX3_regattaLine_1 20 rfl rfl)
theorem dX3_regattaLine_45 : decode cX3_regattaLine 45 = .ok (.invokevirtual 160, 3) := dk_182 0 160 (dk_at dksX3_regattaLine_2 0 rfl rfl)
theorem dX3_regattaLine_48 : decode cX3_regattaLine 48 = .ok (.istore_n 3, 1) := dk_62 (dk_at dksX3_regattaLine_2 3 rfl rfl)
theorem dX3_regattaLine_49 : decode cX3_regattaLine 49 = .ok (.aload_n 0, 1) := dk_42 (dk_at dksX3_regattaLine_2 4 rfl rfl)
theorem dX3_regattaLine_50 : decode cX3_regattaLine 50 = .ok (.ldc 168, 2) := dk_18 168 (dk_at dksX3_regattaLine_2 5 rfl rfl)
theorem dX3_regattaLine_52 : decode cX3_regattaLine 52 = .ok (.iconst 0, 1) := dk_3 (dk_at dksX3_regattaLine_2 7 rfl rfl)
theorem dX3_regattaLine_53 : decode cX3_regattaLine 53 = .ok (.bipush 100, 2) := dk_16 100 (dk_at dksX3_regattaLine_2 8 rfl rfl)
theorem dX3_regattaLine_55 : decode cX3_regattaLine 55 = .ok (.invokevirtual 160, 3) := dk_182 0 160 (dk_at dksX3_regattaLine_2 10 rfl rfl)
theorem dX3_regattaLine_58 : decode cX3_regattaLine 58 = .ok (.istore 4, 2) := dk_54 4 (dk_at dksX3_regattaLine_2 13 rfl rfl)
theorem dX3_regattaLine_60 : decode cX3_regattaLine 60 = .ok (.aload_n 0, 1) := dk_42 (dk_at dksX3_regattaLine_2 15 rfl rfl)
theorem dX3_regattaLine_61 : decode cX3_regattaLine 61 = .ok (.ldc 170, 2) := dk_18 170 (dk_at dksX3_regattaLine_2 16 rfl rfl)
theorem dX3_regattaLine_63 : decode cX3_regattaLine 63 = .ok (.iconst 0, 1) := dk_3 (dk_at dksX3_regattaLine_2 18 rfl rfl)
theorem dX3_regattaLine_64 : decode cX3_regattaLine 64 = .ok (.bipush 9, 2) := dk_16 9 (dk_at dksX3_regattaLine_2 19 rfl rfl)
theorem dX3_regattaLine_66 : decode cX3_regattaLine 66 = .ok (.invokevirtual 160, 3) := dk_182 0 160 (dk_at dksX3_regattaLine_2 21 rfl rfl)
theorem dX3_regattaLine_69 : decode cX3_regattaLine 69 = .ok (.istore 5, 2) := dk_54 5 (dk_at dksX3_regattaLine_3 0 rfl rfl)
theorem dX3_regattaLine_71 : decode cX3_regattaLine 71 = .ok (.aload_n 0, 1) := dk_42 (dk_at dksX3_regattaLine_3 2 rfl rfl)
theorem dX3_regattaLine_72 : decode cX3_regattaLine 72 = .ok (.invokevirtual 36, 3) := dk_182 0 36 (dk_at dksX3_regattaLine_3 3 rfl rfl)
theorem dX3_regattaLine_75 : decode cX3_regattaLine 75 = .ok (.ifCond .eq 4, 3) := dk_153 0 4 (dk_at dksX3_regattaLine_3 6 rfl rfl)
theorem dX3_regattaLine_78 : decode cX3_regattaLine 78 = .ok (.return_, 1) := dk_177 (dk_at dksX3_regattaLine_3 9 rfl rfl)
theorem dX3_regattaLine_79 : decode cX3_regattaLine 79 = .ok (.aload_n 0, 1) := dk_42 (dk_at dksX3_regattaLine_3 10 rfl rfl)
theorem dX3_regattaLine_80 : decode cX3_regattaLine 80 = .ok (.getfield 12, 3) := dk_180 0 12 (dk_at dksX3_regattaLine_3 11 rfl rfl)
theorem dX3_regattaLine_83 : decode cX3_regattaLine 83 = .ok (.iload_n 1, 1) := dk_27 (dk_at dksX3_regattaLine_3 14 rfl rfl)
theorem dX3_regattaLine_84 : decode cX3_regattaLine 84 = .ok (.putfield 106, 3) := dk_181 0 106 (dk_at dksX3_regattaLine_3 15 rfl rfl)
theorem dX3_regattaLine_87 : decode cX3_regattaLine 87 = .ok (.aload_n 0, 1) := dk_42 (dk_at dksX3_regattaLine_3 18 rfl rfl)
theorem dX3_regattaLine_88 : decode cX3_regattaLine 88 = .ok (.getfield 12, 3) := dk_180 0 12 (dk_at dksX3_regattaLine_3 19 rfl rfl)
theorem dX3_regattaLine_91 : decode cX3_regattaLine 91 = .ok (.iload_n 2, 1) := dk_28 (dk_at dksX3_regattaLine_3 22 rfl rfl)
theorem dX3_regattaLine_92 : decode cX3_regattaLine 92 = .ok (.putfield 172, 3) := dk_181 0 172 (dk_at dksX3_regattaLine_4 0 rfl rfl)
theorem dX3_regattaLine_95 : decode cX3_regattaLine 95 = .ok (.aload_n 0, 1) := dk_42 (dk_at dksX3_regattaLine_4 3 rfl rfl)
theorem dX3_regattaLine_96 : decode cX3_regattaLine 96 = .ok (.getfield 12, 3) := dk_180 0 12 (dk_at dksX3_regattaLine_4 4 rfl rfl)
theorem dX3_regattaLine_99 : decode cX3_regattaLine 99 = .ok (.iload_n 3, 1) := dk_29 (dk_at dksX3_regattaLine_4 7 rfl rfl)
theorem dX3_regattaLine_100 : decode cX3_regattaLine 100 = .ok (.putfield 174, 3) := dk_181 0 174 (dk_at dksX3_regattaLine_4 8 rfl rfl)
theorem dX3_regattaLine_103 : decode cX3_regattaLine 103 = .ok (.aload_n 0, 1) := dk_42 (dk_at dksX3_regattaLine_4 11 rfl rfl)
theorem dX3_regattaLine_104 : decode cX3_regattaLine 104 = .ok (.getfield 12, 3) := dk_180 0 12 (dk_at dksX3_regattaLine_4 12 rfl rfl)
theorem dX3_regattaLine_107 : decode cX3_regattaLine 107 = .ok (.iload 4, 2) := dk_21 4 (dk_at dksX3_regattaLine_4 15 rfl rfl)
theorem dX3_regattaLine_109 : decode cX3_regattaLine 109 = .ok (.putfield 176, 3) := dk_181 0 176 (dk_at dksX3_regattaLine_4 17 rfl rfl)
theorem dX3_regattaLine_112 : decode cX3_regattaLine 112 = .ok (.aload_n 0, 1) := dk_42 (dk_at dksX3_regattaLine_4 20 rfl rfl)
theorem dX3_regattaLine_113 : decode cX3_regattaLine 113 = .ok (.getfield 12, 3) := dk_180 0 12 (dk_at dksX3_regattaLine_4 21 rfl rfl)
theorem dX3_regattaLine_116 : decode cX3_regattaLine 116 = .ok (.iload 5, 2) := dk_21 5 (dk_at dksX3_regattaLine_5 0 rfl rfl)
theorem dX3_regattaLine_118 : decode cX3_regattaLine 118 = .ok (.putfield 178, 3) := dk_181 0 178 (dk_at dksX3_regattaLine_5 2 rfl rfl)
theorem dX3_regattaLine_121 : decode cX3_regattaLine 121 = .ok (.return_, 1) := dk_177 (dk_at dksX3_regattaLine_5 5 rfl rfl)
abbrev cX3_wrong : ByteArray := prog_6_method_3_code
def yX3_wrong : MethodName := ⟨RX3, "wrong", "(I)V"⟩
def dkwX3_wrong_1 : List UInt8 := [177]
abbrev dktX3_wrong_1 : List UInt8 := dkwX3_wrong_1 ++ []
def dkwX3_wrong_0 : List UInt8 := [42, 182, 0, 36, 153, 0, 4, 177, 42, 27, 181, 0, 32, 42, 42, 180, 0, 28, 180, 0, 40, 181, 0, 45]
abbrev dktX3_wrong_0 : List UInt8 := dkwX3_wrong_0 ++ dktX3_wrong_1
theorem dksX3_wrong_0 : cX3_wrong.data.toList.drop 0 = dktX3_wrong_0 := by decide +kernel
theorem dksX3_wrong_1 : cX3_wrong.data.toList.drop 24 = dktX3_wrong_1 := dk_seg dksX3_wrong_0 24 rfl rfl
theorem dX3_wrong_0 : decode cX3_wrong 0 = .ok (.aload_n 0, 1) := dk_42 (dk_at dksX3_wrong_0 0 rfl rfl)
theorem dX3_wrong_1 : decode cX3_wrong 1 = .ok (.invokevirtual 36, 3) := dk_182 0 36 (dk_at dksX3_wrong_0 1 rfl rfl)
theorem dX3_wrong_4 : decode cX3_wrong 4 = .ok (.ifCond .eq 4, 3) := dk_153 0 4 (dk_at dksX3_wrong_0 4 rfl rfl)
theorem dX3_wrong_7 : decode cX3_wrong 7 = .ok (.return_, 1) := dk_177 (dk_at dksX3_wrong_0 7 rfl rfl)
theorem dX3_wrong_8 : decode cX3_wrong 8 = .ok (.aload_n 0, 1) := dk_42 (dk_at dksX3_wrong_0 8 rfl rfl)
theorem dX3_wrong_9 : decode cX3_wrong 9 = .ok (.iload_n 1, 1) := dk_27 (dk_at dksX3_wrong_0 9 rfl rfl)
theorem dX3_wrong_10 : decode cX3_wrong 10 = .ok (.putfield 32, 3) := dk_181 0 32 (dk_at dksX3_wrong_0 10 rfl rfl)
theorem dX3_wrong_13 : decode cX3_wrong 13 = .ok (.aload_n 0, 1) := dk_42 (dk_at dksX3_wrong_0 13 rfl rfl)
theorem dX3_wrong_14 : decode cX3_wrong 14 = .ok (.aload_n 0, 1) := dk_42 (dk_at dksX3_wrong_0 14 rfl rfl)
theorem dX3_wrong_15 : decode cX3_wrong 15 = .ok (.getfield 28, 3) := dk_180 0 28 (dk_at dksX3_wrong_0 15 rfl rfl)
theorem dX3_wrong_18 : decode cX3_wrong 18 = .ok (.getfield 40, 3) := dk_180 0 40 (dk_at dksX3_wrong_0 18 rfl rfl)
theorem dX3_wrong_21 : decode cX3_wrong 21 = .ok (.putfield 45, 3) := dk_181 0 45 (dk_at dksX3_wrong_0 21 rfl rfl)
theorem dX3_wrong_24 : decode cX3_wrong 24 = .ok (.return_, 1) := dk_177 (dk_at dksX3_wrong_1 0 rfl rfl)
abbrev cX3_isOver : ByteArray := prog_6_method_2_code
def yX3_isOver : MethodName := ⟨RX3, "isOver", "()Z"⟩
def dkwX3_isOver_0 : List UInt8 := [42, 180, 0, 32, 158, 0, 7, 4, 167, 0, 4, 3, 172]
abbrev dktX3_isOver_0 : List UInt8 := dkwX3_isOver_0 ++ []
theorem dksX3_isOver_0 : cX3_isOver.data.toList.drop 0 = dktX3_isOver_0 := by decide +kernel
theorem dX3_isOver_0 : decode cX3_isOver 0 = .ok (.aload_n 0, 1) := dk_42 (dk_at dksX3_isOver_0 0 rfl rfl)
theorem dX3_isOver_1 : decode cX3_isOver 1 = .ok (.getfield 32, 3) := dk_180 0 32 (dk_at dksX3_isOver_0 1 rfl rfl)
theorem dX3_isOver_4 : decode cX3_isOver 4 = .ok (.ifCond .le 7, 3) := dk_158 0 7 (dk_at dksX3_isOver_0 4 rfl rfl)
theorem dX3_isOver_7 : decode cX3_isOver 7 = .ok (.iconst 1, 1) := dk_4 (dk_at dksX3_isOver_0 7 rfl rfl)
theorem dX3_isOver_8 : decode cX3_isOver 8 = .ok (.goto 4, 3) := dk_167 0 4 (dk_at dksX3_isOver_0 8 rfl rfl)
theorem dX3_isOver_11 : decode cX3_isOver 11 = .ok (.iconst 0, 1) := dk_3 (dk_at dksX3_isOver_0 11 rfl rfl)
theorem dX3_isOver_12 : decode cX3_isOver 12 = .ok (.ireturn, 1) := dk_172 (dk_at dksX3_isOver_0 12 rfl rfl)
abbrev cX3_on : ByteArray := prog_6_method_4_code
def yX3_on : MethodName := ⟨RX3, "on", "()V"⟩
def dkwX3_on_1 : List UInt8 := [182, 0, 22, 181, 0, 28, 177]
abbrev dktX3_on_1 : List UInt8 := dkwX3_on_1 ++ []
def dkwX3_on_0 : List UInt8 := [42, 182, 0, 36, 154, 0, 25, 42, 180, 0, 28, 180, 0, 46, 4, 159, 0, 14, 42, 42, 180, 0, 18]
abbrev dktX3_on_0 : List UInt8 := dkwX3_on_0 ++ dktX3_on_1
theorem dksX3_on_0 : cX3_on.data.toList.drop 0 = dktX3_on_0 := by decide +kernel
theorem dksX3_on_1 : cX3_on.data.toList.drop 23 = dktX3_on_1 := dk_seg dksX3_on_0 23 rfl rfl
theorem dX3_on_0 : decode cX3_on 0 = .ok (.aload_n 0, 1) := dk_42 (dk_at dksX3_on_0 0 rfl rfl)
theorem dX3_on_1 : decode cX3_on 1 = .ok (.invokevirtual 36, 3) := dk_182 0 36 (dk_at dksX3_on_0 1 rfl rfl)
theorem dX3_on_4 : decode cX3_on 4 = .ok (.ifCond .ne 25, 3) := dk_154 0 25 (dk_at dksX3_on_0 4 rfl rfl)
theorem dX3_on_7 : decode cX3_on 7 = .ok (.aload_n 0, 1) := dk_42 (dk_at dksX3_on_0 7 rfl rfl)
theorem dX3_on_8 : decode cX3_on 8 = .ok (.getfield 28, 3) := dk_180 0 28 (dk_at dksX3_on_0 8 rfl rfl)
theorem dX3_on_11 : decode cX3_on 11 = .ok (.getfield 46, 3) := dk_180 0 46 (dk_at dksX3_on_0 11 rfl rfl)
theorem dX3_on_14 : decode cX3_on 14 = .ok (.iconst 1, 1) := dk_4 (dk_at dksX3_on_0 14 rfl rfl)
theorem dX3_on_15 : decode cX3_on 15 = .ok (.if_icmp .eq 14, 3) := dk_159 0 14 (dk_at dksX3_on_0 15 rfl rfl)
theorem dX3_on_18 : decode cX3_on 18 = .ok (.aload_n 0, 1) := dk_42 (dk_at dksX3_on_0 18 rfl rfl)
theorem dX3_on_19 : decode cX3_on 19 = .ok (.aload_n 0, 1) := dk_42 (dk_at dksX3_on_0 19 rfl rfl)
theorem dX3_on_20 : decode cX3_on 20 = .ok (.getfield 18, 3) := dk_180 0 18 (dk_at dksX3_on_0 20 rfl rfl)
theorem dX3_on_23 : decode cX3_on 23 = .ok (.invokevirtual 22, 3) := dk_182 0 22 (dk_at dksX3_on_1 0 rfl rfl)
theorem dX3_on_26 : decode cX3_on 26 = .ok (.putfield 28, 3) := dk_181 0 28 (dk_at dksX3_on_1 3 rfl rfl)
theorem dX3_on_29 : decode cX3_on 29 = .ok (.return_, 1) := dk_177 (dk_at dksX3_on_1 6 rfl rfl)
abbrev cX3_part : ByteArray := prog_6_method_8_code
def yX3_part : MethodName := ⟨RX3, "part", "(Ljava/lang/String;II)I"⟩
def dkwX3_part_0 : List UInt8 := [42, 43, 182, 0, 67, 42, 28, 29, 182, 0, 71, 172]
abbrev dktX3_part_0 : List UInt8 := dkwX3_part_0 ++ []
theorem dksX3_part_0 : cX3_part.data.toList.drop 0 = dktX3_part_0 := by decide +kernel
theorem dX3_part_0 : decode cX3_part 0 = .ok (.aload_n 0, 1) := dk_42 (dk_at dksX3_part_0 0 rfl rfl)
theorem dX3_part_1 : decode cX3_part 1 = .ok (.aload_n 1, 1) := dk_43 (dk_at dksX3_part_0 1 rfl rfl)
theorem dX3_part_2 : decode cX3_part 2 = .ok (.invokevirtual 67, 3) := dk_182 0 67 (dk_at dksX3_part_0 2 rfl rfl)
theorem dX3_part_5 : decode cX3_part 5 = .ok (.aload_n 0, 1) := dk_42 (dk_at dksX3_part_0 5 rfl rfl)
theorem dX3_part_6 : decode cX3_part 6 = .ok (.iload_n 2, 1) := dk_28 (dk_at dksX3_part_0 6 rfl rfl)
theorem dX3_part_7 : decode cX3_part 7 = .ok (.iload_n 3, 1) := dk_29 (dk_at dksX3_part_0 7 rfl rfl)
theorem dX3_part_8 : decode cX3_part 8 = .ok (.invokevirtual 71, 3) := dk_182 0 71 (dk_at dksX3_part_0 8 rfl rfl)
theorem dX3_part_11 : decode cX3_part 11 = .ok (.ireturn, 1) := dk_172 (dk_at dksX3_part_0 11 rfl rfl)
abbrev cX3_needs : ByteArray := prog_6_method_6_code
def yX3_needs : MethodName := ⟨RX3, "needs", "(Ljava/lang/String;)V"⟩
def dkwX3_needs_0 : List UInt8 := [42, 180, 0, 28, 43, 182, 0, 52, 154, 0, 8, 42, 4, 182, 0, 56, 42, 182, 0, 49, 177]
abbrev dktX3_needs_0 : List UInt8 := dkwX3_needs_0 ++ []
theorem dksX3_needs_0 : cX3_needs.data.toList.drop 0 = dktX3_needs_0 := by decide +kernel
theorem dX3_needs_0 : decode cX3_needs 0 = .ok (.aload_n 0, 1) := dk_42 (dk_at dksX3_needs_0 0 rfl rfl)
theorem dX3_needs_1 : decode cX3_needs 1 = .ok (.getfield 28, 3) := dk_180 0 28 (dk_at dksX3_needs_0 1 rfl rfl)
theorem dX3_needs_4 : decode cX3_needs 4 = .ok (.aload_n 1, 1) := dk_43 (dk_at dksX3_needs_0 4 rfl rfl)
theorem dX3_needs_5 : decode cX3_needs 5 = .ok (.invokevirtual 52, 3) := dk_182 0 52 (dk_at dksX3_needs_0 5 rfl rfl)
theorem dX3_needs_8 : decode cX3_needs 8 = .ok (.ifCond .ne 8, 3) := dk_154 0 8 (dk_at dksX3_needs_0 8 rfl rfl)
theorem dX3_needs_11 : decode cX3_needs 11 = .ok (.aload_n 0, 1) := dk_42 (dk_at dksX3_needs_0 11 rfl rfl)
theorem dX3_needs_12 : decode cX3_needs 12 = .ok (.iconst 1, 1) := dk_4 (dk_at dksX3_needs_0 12 rfl rfl)
theorem dX3_needs_13 : decode cX3_needs 13 = .ok (.invokevirtual 56, 3) := dk_182 0 56 (dk_at dksX3_needs_0 13 rfl rfl)
theorem dX3_needs_16 : decode cX3_needs 16 = .ok (.aload_n 0, 1) := dk_42 (dk_at dksX3_needs_0 16 rfl rfl)
theorem dX3_needs_17 : decode cX3_needs 17 = .ok (.invokevirtual 49, 3) := dk_182 0 49 (dk_at dksX3_needs_0 17 rfl rfl)
theorem dX3_needs_20 : decode cX3_needs 20 = .ok (.return_, 1) := dk_177 (dk_at dksX3_needs_0 20 rfl rfl)
abbrev cX3_whole : ByteArray := prog_6_method_7_code
def yX3_whole : MethodName := ⟨RX3, "whole", "(II)I"⟩
def dkwX3_whole_2 : List UInt8 := [42, 182, 0, 49, 29, 172]
abbrev dktX3_whole_2 : List UInt8 := dkwX3_whole_2 ++ []
def dkwX3_whole_1 : List UInt8 := [180, 0, 60, 27, 28, 184, 0, 63, 154, 0, 8, 42, 7, 182, 0, 56, 42, 180, 0, 28, 180, 0, 60, 62]
abbrev dktX3_whole_1 : List UInt8 := dkwX3_whole_1 ++ dktX3_whole_2
def dkwX3_whole_0 : List UInt8 := [42, 180, 0, 28, 180, 0, 46, 6, 159, 0, 11, 42, 4, 182, 0, 56, 167, 0, 23, 42, 180, 0, 28]
abbrev dktX3_whole_0 : List UInt8 := dkwX3_whole_0 ++ dktX3_whole_1
theorem dksX3_whole_0 : cX3_whole.data.toList.drop 0 = dktX3_whole_0 := by decide +kernel
theorem dksX3_whole_1 : cX3_whole.data.toList.drop 23 = dktX3_whole_1 := dk_seg dksX3_whole_0 23 rfl rfl
theorem dksX3_whole_2 : cX3_whole.data.toList.drop 47 = dktX3_whole_2 := dk_seg dksX3_whole_1 24 rfl rfl
theorem dX3_whole_0 : decode cX3_whole 0 = .ok (.aload_n 0, 1) := dk_42 (dk_at dksX3_whole_0 0 rfl rfl)
theorem dX3_whole_1 : decode cX3_whole 1 = .ok (.getfield 28, 3) := dk_180 0 28 (dk_at dksX3_whole_0 1 rfl rfl)
theorem dX3_whole_4 : decode cX3_whole 4 = .ok (.getfield 46, 3) := dk_180 0 46 (dk_at dksX3_whole_0 4 rfl rfl)
theorem dX3_whole_7 : decode cX3_whole 7 = .ok (.iconst 3, 1) := dk_6 (dk_at dksX3_whole_0 7 rfl rfl)
theorem dX3_whole_8 : decode cX3_whole 8 = .ok (.if_icmp .eq 11, 3) := dk_159 0 11 (dk_at dksX3_whole_0 8 rfl rfl)
theorem dX3_whole_11 : decode cX3_whole 11 = .ok (.aload_n 0, 1) := dk_42 (dk_at dksX3_whole_0 11 rfl rfl)
theorem dX3_whole_12 : decode cX3_whole 12 = .ok (.iconst 1, 1) := dk_4 (dk_at dksX3_whole_0 12 rfl rfl)
theorem dX3_whole_13 : decode cX3_whole 13 = .ok (.invokevirtual 56, 3) := dk_182 0 56 (dk_at dksX3_whole_0 13 rfl rfl)
theorem dX3_whole_16 : decode cX3_whole 16 = .ok (.goto 23, 3) := dk_167 0 23 (dk_at dksX3_whole_0 16 rfl rfl)
theorem dX3_whole_19 : decode cX3_whole 19 = .ok (.aload_n 0, 1) := dk_42 (dk_at dksX3_whole_0 19 rfl rfl)
theorem dX3_whole_20 : decode cX3_whole 20 = .ok (.getfield 28, 3) := dk_180 0 28 (dk_at dksX3_whole_0 20 rfl rfl)
theorem dX3_whole_23 : decode cX3_whole 23 = .ok (.getfield 60, 3) := dk_180 0 60 (dk_at dksX3_whole_1 0 rfl rfl)
theorem dX3_whole_26 : decode cX3_whole 26 = .ok (.iload_n 1, 1) := dk_27 (dk_at dksX3_whole_1 3 rfl rfl)
theorem dX3_whole_27 : decode cX3_whole 27 = .ok (.iload_n 2, 1) := dk_28 (dk_at dksX3_whole_1 4 rfl rfl)
theorem dX3_whole_28 : decode cX3_whole 28 = .ok (.invokestatic 63, 3) := dk_184 0 63 (dk_at dksX3_whole_1 5 rfl rfl)
theorem dX3_whole_31 : decode cX3_whole 31 = .ok (.ifCond .ne 8, 3) := dk_154 0 8 (dk_at dksX3_whole_1 8 rfl rfl)
theorem dX3_whole_34 : decode cX3_whole 34 = .ok (.aload_n 0, 1) := dk_42 (dk_at dksX3_whole_1 11 rfl rfl)
theorem dX3_whole_35 : decode cX3_whole 35 = .ok (.iconst 4, 1) := dk_7 (dk_at dksX3_whole_1 12 rfl rfl)
theorem dX3_whole_36 : decode cX3_whole 36 = .ok (.invokevirtual 56, 3) := dk_182 0 56 (dk_at dksX3_whole_1 13 rfl rfl)
theorem dX3_whole_39 : decode cX3_whole 39 = .ok (.aload_n 0, 1) := dk_42 (dk_at dksX3_whole_1 16 rfl rfl)
theorem dX3_whole_40 : decode cX3_whole 40 = .ok (.getfield 28, 3) := dk_180 0 28 (dk_at dksX3_whole_1 17 rfl rfl)
theorem dX3_whole_43 : decode cX3_whole 43 = .ok (.getfield 60, 3) := dk_180 0 60 (dk_at dksX3_whole_1 20 rfl rfl)
theorem dX3_whole_46 : decode cX3_whole 46 = .ok (.istore_n 3, 1) := dk_62 (dk_at dksX3_whole_1 23 rfl rfl)
theorem dX3_whole_47 : decode cX3_whole 47 = .ok (.aload_n 0, 1) := dk_42 (dk_at dksX3_whole_2 0 rfl rfl)
theorem dX3_whole_48 : decode cX3_whole 48 = .ok (.invokevirtual 49, 3) := dk_182 0 49 (dk_at dksX3_whole_2 1 rfl rfl)
theorem dX3_whole_51 : decode cX3_whole 51 = .ok (.iload_n 3, 1) := dk_29 (dk_at dksX3_whole_2 4 rfl rfl)
theorem dX3_whole_52 : decode cX3_whole 52 = .ok (.ireturn, 1) := dk_172 (dk_at dksX3_whole_2 5 rfl rfl)
abbrev cX3_bend : ByteArray := prog_6_method_19_code
def yX3_bend : MethodName := ⟨RX3, "bend", "()V"⟩
def dkwX3_bend_2 : List UInt8 := [181, 0, 206, 42, 182, 0, 36, 154, 0, 15, 42, 180, 0, 12, 180, 0, 180, 43, 182, 0, 209, 87, 177]
abbrev dktX3_bend_2 : List UInt8 := dkwX3_bend_2 ++ []
def dkwX3_bend_1 : List UInt8 := [183, 0, 196, 76, 43, 42, 18, 198, 4, 16, 30, 182, 0, 160, 181, 0, 200, 43, 42, 182, 0, 203]
abbrev dktX3_bend_1 : List UInt8 := dkwX3_bend_1 ++ dktX3_bend_2
def dkwX3_bend_0 : List UInt8 := [42, 42, 180, 0, 12, 180, 0, 180, 182, 0, 183, 7, 182, 0, 186, 187, 0, 190, 89, 42, 182, 0, 192]
abbrev dktX3_bend_0 : List UInt8 := dkwX3_bend_0 ++ dktX3_bend_1
theorem dksX3_bend_0 : cX3_bend.data.toList.drop 0 = dktX3_bend_0 := by decide +kernel
theorem dksX3_bend_1 : cX3_bend.data.toList.drop 23 = dktX3_bend_1 := dk_seg dksX3_bend_0 23 rfl rfl
theorem dksX3_bend_2 : cX3_bend.data.toList.drop 45 = dktX3_bend_2 := dk_seg dksX3_bend_1 22 rfl rfl
theorem dX3_bend_0 : decode cX3_bend 0 = .ok (.aload_n 0, 1) := dk_42 (dk_at dksX3_bend_0 0 rfl rfl)
theorem dX3_bend_1 : decode cX3_bend 1 = .ok (.aload_n 0, 1) := dk_42 (dk_at dksX3_bend_0 1 rfl rfl)
theorem dX3_bend_2 : decode cX3_bend 2 = .ok (.getfield 12, 3) := dk_180 0 12 (dk_at dksX3_bend_0 2 rfl rfl)
theorem dX3_bend_5 : decode cX3_bend 5 = .ok (.getfield 180, 3) := dk_180 0 180 (dk_at dksX3_bend_0 5 rfl rfl)
theorem dX3_bend_8 : decode cX3_bend 8 = .ok (.invokevirtual 183, 3) := dk_182 0 183 (dk_at dksX3_bend_0 8 rfl rfl)
theorem dX3_bend_11 : decode cX3_bend 11 = .ok (.iconst 4, 1) := dk_7 (dk_at dksX3_bend_0 11 rfl rfl)
theorem dX3_bend_12 : decode cX3_bend 12 = .ok (.invokevirtual 186, 3) := dk_182 0 186 (dk_at dksX3_bend_0 12 rfl rfl)
theorem dX3_bend_15 : decode cX3_bend 15 = .ok (.new 190, 3) := dk_187 0 190 (dk_at dksX3_bend_0 15 rfl rfl)
theorem dX3_bend_18 : decode cX3_bend 18 = .ok (.dup, 1) := dk_89 (dk_at dksX3_bend_0 18 rfl rfl)
theorem dX3_bend_19 : decode cX3_bend 19 = .ok (.aload_n 0, 1) := dk_42 (dk_at dksX3_bend_0 19 rfl rfl)
theorem dX3_bend_20 : decode cX3_bend 20 = .ok (.invokevirtual 192, 3) := dk_182 0 192 (dk_at dksX3_bend_0 20 rfl rfl)
theorem dX3_bend_23 : decode cX3_bend 23 = .ok (.invokespecial 196, 3) := dk_183 0 196 (dk_at dksX3_bend_1 0 rfl rfl)
theorem dX3_bend_26 : decode cX3_bend 26 = .ok (.astore_n 1, 1) := dk_76 (dk_at dksX3_bend_1 3 rfl rfl)
theorem dX3_bend_27 : decode cX3_bend 27 = .ok (.aload_n 1, 1) := dk_43 (dk_at dksX3_bend_1 4 rfl rfl)
theorem dX3_bend_28 : decode cX3_bend 28 = .ok (.aload_n 0, 1) := dk_42 (dk_at dksX3_bend_1 5 rfl rfl)
theorem dX3_bend_29 : decode cX3_bend 29 = .ok (.ldc 198, 2) := dk_18 198 (dk_at dksX3_bend_1 6 rfl rfl)
theorem dX3_bend_31 : decode cX3_bend 31 = .ok (.iconst 1, 1) := dk_4 (dk_at dksX3_bend_1 8 rfl rfl)
theorem dX3_bend_32 : decode cX3_bend 32 = .ok (.bipush 30, 2) := dk_16 30 (dk_at dksX3_bend_1 9 rfl rfl)
theorem dX3_bend_34 : decode cX3_bend 34 = .ok (.invokevirtual 160, 3) := dk_182 0 160 (dk_at dksX3_bend_1 11 rfl rfl)
theorem dX3_bend_37 : decode cX3_bend 37 = .ok (.putfield 200, 3) := dk_181 0 200 (dk_at dksX3_bend_1 14 rfl rfl)
theorem dX3_bend_40 : decode cX3_bend 40 = .ok (.aload_n 1, 1) := dk_43 (dk_at dksX3_bend_1 17 rfl rfl)
theorem dX3_bend_41 : decode cX3_bend 41 = .ok (.aload_n 0, 1) := dk_42 (dk_at dksX3_bend_1 18 rfl rfl)
theorem dX3_bend_42 : decode cX3_bend 42 = .ok (.invokevirtual 203, 3) := dk_182 0 203 (dk_at dksX3_bend_1 19 rfl rfl)
theorem dX3_bend_45 : decode cX3_bend 45 = .ok (.putfield 206, 3) := dk_181 0 206 (dk_at dksX3_bend_2 0 rfl rfl)
theorem dX3_bend_48 : decode cX3_bend 48 = .ok (.aload_n 0, 1) := dk_42 (dk_at dksX3_bend_2 3 rfl rfl)
theorem dX3_bend_49 : decode cX3_bend 49 = .ok (.invokevirtual 36, 3) := dk_182 0 36 (dk_at dksX3_bend_2 4 rfl rfl)
theorem dX3_bend_52 : decode cX3_bend 52 = .ok (.ifCond .ne 15, 3) := dk_154 0 15 (dk_at dksX3_bend_2 7 rfl rfl)
theorem dX3_bend_55 : decode cX3_bend 55 = .ok (.aload_n 0, 1) := dk_42 (dk_at dksX3_bend_2 10 rfl rfl)
theorem dX3_bend_56 : decode cX3_bend 56 = .ok (.getfield 12, 3) := dk_180 0 12 (dk_at dksX3_bend_2 11 rfl rfl)
theorem dX3_bend_59 : decode cX3_bend 59 = .ok (.getfield 180, 3) := dk_180 0 180 (dk_at dksX3_bend_2 14 rfl rfl)
theorem dX3_bend_62 : decode cX3_bend 62 = .ok (.aload_n 1, 1) := dk_43 (dk_at dksX3_bend_2 17 rfl rfl)
theorem dX3_bend_63 : decode cX3_bend 63 = .ok (.invokevirtual 209, 3) := dk_182 0 209 (dk_at dksX3_bend_2 18 rfl rfl)
theorem dX3_bend_66 : decode cX3_bend 66 = .ok (.pop, 1) := dk_87 (dk_at dksX3_bend_2 21 rfl rfl)
theorem dX3_bend_67 : decode cX3_bend 67 = .ok (.return_, 1) := dk_177 (dk_at dksX3_bend_2 22 rfl rfl)
abbrev cX3_begins : ByteArray := prog_6_method_17_code
def yX3_begins : MethodName := ⟨RX3, "begins", "(II)V"⟩
def dkwX3_begins_1 : List UInt8 := [182, 0, 56, 42, 182, 0, 49, 177]
abbrev dktX3_begins_1 : List UInt8 := dkwX3_begins_1 ++ []
def dkwX3_begins_0 : List UInt8 := [27, 28, 160, 0, 8, 42, 8, 182, 0, 56, 42, 180, 0, 12, 180, 0, 106, 154, 0, 9, 42, 16, 6]
abbrev dktX3_begins_0 : List UInt8 := dkwX3_begins_0 ++ dktX3_begins_1
theorem dksX3_begins_0 : cX3_begins.data.toList.drop 0 = dktX3_begins_0 := by decide +kernel
theorem dksX3_begins_1 : cX3_begins.data.toList.drop 23 = dktX3_begins_1 := dk_seg dksX3_begins_0 23 rfl rfl
theorem dX3_begins_0 : decode cX3_begins 0 = .ok (.iload_n 1, 1) := dk_27 (dk_at dksX3_begins_0 0 rfl rfl)
theorem dX3_begins_1 : decode cX3_begins 1 = .ok (.iload_n 2, 1) := dk_28 (dk_at dksX3_begins_0 1 rfl rfl)
theorem dX3_begins_2 : decode cX3_begins 2 = .ok (.if_icmp .ne 8, 3) := dk_160 0 8 (dk_at dksX3_begins_0 2 rfl rfl)
theorem dX3_begins_5 : decode cX3_begins 5 = .ok (.aload_n 0, 1) := dk_42 (dk_at dksX3_begins_0 5 rfl rfl)
theorem dX3_begins_6 : decode cX3_begins 6 = .ok (.iconst 5, 1) := dk_8 (dk_at dksX3_begins_0 6 rfl rfl)
theorem dX3_begins_7 : decode cX3_begins 7 = .ok (.invokevirtual 56, 3) := dk_182 0 56 (dk_at dksX3_begins_0 7 rfl rfl)
theorem dX3_begins_10 : decode cX3_begins 10 = .ok (.aload_n 0, 1) := dk_42 (dk_at dksX3_begins_0 10 rfl rfl)
theorem dX3_begins_11 : decode cX3_begins 11 = .ok (.getfield 12, 3) := dk_180 0 12 (dk_at dksX3_begins_0 11 rfl rfl)
theorem dX3_begins_14 : decode cX3_begins 14 = .ok (.getfield 106, 3) := dk_180 0 106 (dk_at dksX3_begins_0 14 rfl rfl)
theorem dX3_begins_17 : decode cX3_begins 17 = .ok (.ifCond .ne 9, 3) := dk_154 0 9 (dk_at dksX3_begins_0 17 rfl rfl)
theorem dX3_begins_20 : decode cX3_begins 20 = .ok (.aload_n 0, 1) := dk_42 (dk_at dksX3_begins_0 20 rfl rfl)
theorem dX3_begins_21 : decode cX3_begins 21 = .ok (.bipush 6, 2) := dk_16 6 (dk_at dksX3_begins_0 21 rfl rfl)
theorem dX3_begins_23 : decode cX3_begins 23 = .ok (.invokevirtual 56, 3) := dk_182 0 56 (dk_at dksX3_begins_1 0 rfl rfl)
theorem dX3_begins_26 : decode cX3_begins 26 = .ok (.aload_n 0, 1) := dk_42 (dk_at dksX3_begins_1 3 rfl rfl)
theorem dX3_begins_27 : decode cX3_begins 27 = .ok (.invokevirtual 49, 3) := dk_182 0 49 (dk_at dksX3_begins_1 4 rfl rfl)
theorem dX3_begins_30 : decode cX3_begins 30 = .ok (.return_, 1) := dk_177 (dk_at dksX3_begins_1 7 rfl rfl)
abbrev cX3_fresh : ByteArray := prog_6_method_9_code
def yX3_fresh : MethodName := ⟨RX3, "fresh", "()Ljava/lang/String;"⟩
def dkwX3_fresh_3 : List UInt8 := [182, 0, 49, 43, 180, 0, 78, 176]
abbrev dktX3_fresh_3 : List UInt8 := dkwX3_fresh_3 ++ []
def dkwX3_fresh_2 : List UInt8 := [160, 0, 18, 42, 180, 0, 12, 43, 180, 0, 78, 182, 0, 89, 2, 159, 0, 8, 42, 6, 182, 0, 56, 42]
abbrev dktX3_fresh_2 : List UInt8 := dkwX3_fresh_2 ++ dktX3_fresh_3
def dkwX3_fresh_1 : List UInt8 := [180, 0, 78, 182, 0, 82, 2, 160, 0, 33, 42, 180, 0, 12, 43, 180, 0, 78, 182, 0, 86, 2]
abbrev dktX3_fresh_1 : List UInt8 := dkwX3_fresh_1 ++ dktX3_fresh_2
def dkwX3_fresh_0 : List UInt8 := [42, 180, 0, 28, 76, 43, 182, 0, 75, 154, 0, 8, 42, 4, 182, 0, 56, 42, 180, 0, 12, 43]
abbrev dktX3_fresh_0 : List UInt8 := dkwX3_fresh_0 ++ dktX3_fresh_1
theorem dksX3_fresh_0 : cX3_fresh.data.toList.drop 0 = dktX3_fresh_0 := by decide +kernel
theorem dksX3_fresh_1 : cX3_fresh.data.toList.drop 22 = dktX3_fresh_1 := dk_seg dksX3_fresh_0 22 rfl rfl
theorem dksX3_fresh_2 : cX3_fresh.data.toList.drop 44 = dktX3_fresh_2 := dk_seg dksX3_fresh_1 22 rfl rfl
theorem dksX3_fresh_3 : cX3_fresh.data.toList.drop 68 = dktX3_fresh_3 := dk_seg dksX3_fresh_2 24 rfl rfl
theorem dX3_fresh_0 : decode cX3_fresh 0 = .ok (.aload_n 0, 1) := dk_42 (dk_at dksX3_fresh_0 0 rfl rfl)
theorem dX3_fresh_1 : decode cX3_fresh 1 = .ok (.getfield 28, 3) := dk_180 0 28 (dk_at dksX3_fresh_0 1 rfl rfl)
theorem dX3_fresh_4 : decode cX3_fresh 4 = .ok (.astore_n 1, 1) := dk_76 (dk_at dksX3_fresh_0 4 rfl rfl)
theorem dX3_fresh_5 : decode cX3_fresh 5 = .ok (.aload_n 1, 1) := dk_43 (dk_at dksX3_fresh_0 5 rfl rfl)
theorem dX3_fresh_6 : decode cX3_fresh 6 = .ok (.invokevirtual 75, 3) := dk_182 0 75 (dk_at dksX3_fresh_0 6 rfl rfl)
theorem dX3_fresh_9 : decode cX3_fresh 9 = .ok (.ifCond .ne 8, 3) := dk_154 0 8 (dk_at dksX3_fresh_0 9 rfl rfl)
theorem dX3_fresh_12 : decode cX3_fresh 12 = .ok (.aload_n 0, 1) := dk_42 (dk_at dksX3_fresh_0 12 rfl rfl)
theorem dX3_fresh_13 : decode cX3_fresh 13 = .ok (.iconst 1, 1) := dk_4 (dk_at dksX3_fresh_0 13 rfl rfl)
theorem dX3_fresh_14 : decode cX3_fresh 14 = .ok (.invokevirtual 56, 3) := dk_182 0 56 (dk_at dksX3_fresh_0 14 rfl rfl)
theorem dX3_fresh_17 : decode cX3_fresh 17 = .ok (.aload_n 0, 1) := dk_42 (dk_at dksX3_fresh_0 17 rfl rfl)
theorem dX3_fresh_18 : decode cX3_fresh 18 = .ok (.getfield 12, 3) := dk_180 0 12 (dk_at dksX3_fresh_0 18 rfl rfl)
theorem dX3_fresh_21 : decode cX3_fresh 21 = .ok (.aload_n 1, 1) := dk_43 (dk_at dksX3_fresh_0 21 rfl rfl)
theorem dX3_fresh_22 : decode cX3_fresh 22 = .ok (.getfield 78, 3) := dk_180 0 78 (dk_at dksX3_fresh_1 0 rfl rfl)
theorem dX3_fresh_25 : decode cX3_fresh 25 = .ok (.invokevirtual 82, 3) := dk_182 0 82 (dk_at dksX3_fresh_1 3 rfl rfl)
theorem dX3_fresh_28 : decode cX3_fresh 28 = .ok (.iconst (-1), 1) := dk_2 (dk_at dksX3_fresh_1 6 rfl rfl)
theorem dX3_fresh_29 : decode cX3_fresh 29 = .ok (.if_icmp .ne 33, 3) := dk_160 0 33 (dk_at dksX3_fresh_1 7 rfl rfl)
theorem dX3_fresh_32 : decode cX3_fresh 32 = .ok (.aload_n 0, 1) := dk_42 (dk_at dksX3_fresh_1 10 rfl rfl)
theorem dX3_fresh_33 : decode cX3_fresh 33 = .ok (.getfield 12, 3) := dk_180 0 12 (dk_at dksX3_fresh_1 11 rfl rfl)
theorem dX3_fresh_36 : decode cX3_fresh 36 = .ok (.aload_n 1, 1) := dk_43 (dk_at dksX3_fresh_1 14 rfl rfl)
theorem dX3_fresh_37 : decode cX3_fresh 37 = .ok (.getfield 78, 3) := dk_180 0 78 (dk_at dksX3_fresh_1 15 rfl rfl)
theorem dX3_fresh_40 : decode cX3_fresh 40 = .ok (.invokevirtual 86, 3) := dk_182 0 86 (dk_at dksX3_fresh_1 18 rfl rfl)
theorem dX3_fresh_43 : decode cX3_fresh 43 = .ok (.iconst (-1), 1) := dk_2 (dk_at dksX3_fresh_1 21 rfl rfl)
theorem dX3_fresh_44 : decode cX3_fresh 44 = .ok (.if_icmp .ne 18, 3) := dk_160 0 18 (dk_at dksX3_fresh_2 0 rfl rfl)
theorem dX3_fresh_47 : decode cX3_fresh 47 = .ok (.aload_n 0, 1) := dk_42 (dk_at dksX3_fresh_2 3 rfl rfl)
theorem dX3_fresh_48 : decode cX3_fresh 48 = .ok (.getfield 12, 3) := dk_180 0 12 (dk_at dksX3_fresh_2 4 rfl rfl)
theorem dX3_fresh_51 : decode cX3_fresh 51 = .ok (.aload_n 1, 1) := dk_43 (dk_at dksX3_fresh_2 7 rfl rfl)
theorem dX3_fresh_52 : decode cX3_fresh 52 = .ok (.getfield 78, 3) := dk_180 0 78 (dk_at dksX3_fresh_2 8 rfl rfl)
theorem dX3_fresh_55 : decode cX3_fresh 55 = .ok (.invokevirtual 89, 3) := dk_182 0 89 (dk_at dksX3_fresh_2 11 rfl rfl)
theorem dX3_fresh_58 : decode cX3_fresh 58 = .ok (.iconst (-1), 1) := dk_2 (dk_at dksX3_fresh_2 14 rfl rfl)
theorem dX3_fresh_59 : decode cX3_fresh 59 = .ok (.if_icmp .eq 8, 3) := dk_159 0 8 (dk_at dksX3_fresh_2 15 rfl rfl)
theorem dX3_fresh_62 : decode cX3_fresh 62 = .ok (.aload_n 0, 1) := dk_42 (dk_at dksX3_fresh_2 18 rfl rfl)
theorem dX3_fresh_63 : decode cX3_fresh 63 = .ok (.iconst 3, 1) := dk_6 (dk_at dksX3_fresh_2 19 rfl rfl)
theorem dX3_fresh_64 : decode cX3_fresh 64 = .ok (.invokevirtual 56, 3) := dk_182 0 56 (dk_at dksX3_fresh_2 20 rfl rfl)
theorem dX3_fresh_67 : decode cX3_fresh 67 = .ok (.aload_n 0, 1) := dk_42 (dk_at dksX3_fresh_2 23 rfl rfl)
theorem dX3_fresh_68 : decode cX3_fresh 68 = .ok (.invokevirtual 49, 3) := dk_182 0 49 (dk_at dksX3_fresh_3 0 rfl rfl)
theorem dX3_fresh_71 : decode cX3_fresh 71 = .ok (.aload_n 1, 1) := dk_43 (dk_at dksX3_fresh_3 3 rfl rfl)
theorem dX3_fresh_72 : decode cX3_fresh 72 = .ok (.getfield 78, 3) := dk_180 0 78 (dk_at dksX3_fresh_3 4 rfl rfl)
theorem dX3_fresh_75 : decode cX3_fresh 75 = .ok (.areturn, 1) := dk_176 (dk_at dksX3_fresh_3 7 rfl rfl)
abbrev cX3_side : ByteArray := prog_6_method_14_code
def yX3_side : MethodName := ⟨RX3, "side", "()I"⟩
def dkwX3_side_2 : List UInt8 := [182, 0, 49, 27, 172]
abbrev dktX3_side_2 : List UInt8 := dkwX3_side_2 ++ []
def dkwX3_side_1 : List UInt8 := [182, 0, 52, 153, 0, 7, 4, 167, 0, 4, 2, 60, 27, 2, 160, 0, 8, 42, 4, 182, 0, 56, 42]
abbrev dktX3_side_1 : List UInt8 := dkwX3_side_1 ++ dktX3_side_2
def dkwX3_side_0 : List UInt8 := [42, 180, 0, 28, 18, 96, 182, 0, 52, 153, 0, 7, 3, 167, 0, 20, 42, 180, 0, 28, 18, 98]
abbrev dktX3_side_0 : List UInt8 := dkwX3_side_0 ++ dktX3_side_1
theorem dksX3_side_0 : cX3_side.data.toList.drop 0 = dktX3_side_0 := by decide +kernel
theorem dksX3_side_1 : cX3_side.data.toList.drop 22 = dktX3_side_1 := dk_seg dksX3_side_0 22 rfl rfl
theorem dksX3_side_2 : cX3_side.data.toList.drop 45 = dktX3_side_2 := dk_seg dksX3_side_1 23 rfl rfl
theorem dX3_side_0 : decode cX3_side 0 = .ok (.aload_n 0, 1) := dk_42 (dk_at dksX3_side_0 0 rfl rfl)
theorem dX3_side_1 : decode cX3_side 1 = .ok (.getfield 28, 3) := dk_180 0 28 (dk_at dksX3_side_0 1 rfl rfl)
theorem dX3_side_4 : decode cX3_side 4 = .ok (.ldc 96, 2) := dk_18 96 (dk_at dksX3_side_0 4 rfl rfl)
theorem dX3_side_6 : decode cX3_side 6 = .ok (.invokevirtual 52, 3) := dk_182 0 52 (dk_at dksX3_side_0 6 rfl rfl)
theorem dX3_side_9 : decode cX3_side 9 = .ok (.ifCond .eq 7, 3) := dk_153 0 7 (dk_at dksX3_side_0 9 rfl rfl)
theorem dX3_side_12 : decode cX3_side 12 = .ok (.iconst 0, 1) := dk_3 (dk_at dksX3_side_0 12 rfl rfl)
theorem dX3_side_13 : decode cX3_side 13 = .ok (.goto 20, 3) := dk_167 0 20 (dk_at dksX3_side_0 13 rfl rfl)
theorem dX3_side_16 : decode cX3_side 16 = .ok (.aload_n 0, 1) := dk_42 (dk_at dksX3_side_0 16 rfl rfl)
theorem dX3_side_17 : decode cX3_side 17 = .ok (.getfield 28, 3) := dk_180 0 28 (dk_at dksX3_side_0 17 rfl rfl)
theorem dX3_side_20 : decode cX3_side 20 = .ok (.ldc 98, 2) := dk_18 98 (dk_at dksX3_side_0 20 rfl rfl)
theorem dX3_side_22 : decode cX3_side 22 = .ok (.invokevirtual 52, 3) := dk_182 0 52 (dk_at dksX3_side_1 0 rfl rfl)
theorem dX3_side_25 : decode cX3_side 25 = .ok (.ifCond .eq 7, 3) := dk_153 0 7 (dk_at dksX3_side_1 3 rfl rfl)
theorem dX3_side_28 : decode cX3_side 28 = .ok (.iconst 1, 1) := dk_4 (dk_at dksX3_side_1 6 rfl rfl)
theorem dX3_side_29 : decode cX3_side 29 = .ok (.goto 4, 3) := dk_167 0 4 (dk_at dksX3_side_1 7 rfl rfl)
theorem dX3_side_32 : decode cX3_side 32 = .ok (.iconst (-1), 1) := dk_2 (dk_at dksX3_side_1 10 rfl rfl)
theorem dX3_side_33 : decode cX3_side 33 = .ok (.istore_n 1, 1) := dk_60 (dk_at dksX3_side_1 11 rfl rfl)
theorem dX3_side_34 : decode cX3_side 34 = .ok (.iload_n 1, 1) := dk_27 (dk_at dksX3_side_1 12 rfl rfl)
theorem dX3_side_35 : decode cX3_side 35 = .ok (.iconst (-1), 1) := dk_2 (dk_at dksX3_side_1 13 rfl rfl)
theorem dX3_side_36 : decode cX3_side 36 = .ok (.if_icmp .ne 8, 3) := dk_160 0 8 (dk_at dksX3_side_1 14 rfl rfl)
theorem dX3_side_39 : decode cX3_side 39 = .ok (.aload_n 0, 1) := dk_42 (dk_at dksX3_side_1 17 rfl rfl)
theorem dX3_side_40 : decode cX3_side 40 = .ok (.iconst 1, 1) := dk_4 (dk_at dksX3_side_1 18 rfl rfl)
theorem dX3_side_41 : decode cX3_side 41 = .ok (.invokevirtual 56, 3) := dk_182 0 56 (dk_at dksX3_side_1 19 rfl rfl)
theorem dX3_side_44 : decode cX3_side 44 = .ok (.aload_n 0, 1) := dk_42 (dk_at dksX3_side_1 22 rfl rfl)
theorem dX3_side_45 : decode cX3_side 45 = .ok (.invokevirtual 49, 3) := dk_182 0 49 (dk_at dksX3_side_2 0 rfl rfl)
theorem dX3_side_48 : decode cX3_side 48 = .ok (.iload_n 1, 1) := dk_27 (dk_at dksX3_side_2 3 rfl rfl)
theorem dX3_side_49 : decode cX3_side 49 = .ok (.ireturn, 1) := dk_172 (dk_at dksX3_side_2 4 rfl rfl)
abbrev cX3_house : ByteArray := prog_6_method_21_code
def yX3_house : MethodName := ⟨RX3, "house", "()V"⟩
def dkwX3_house_3 : List UInt8 := [180, 0, 12, 180, 0, 109, 43, 182, 0, 209, 87, 177]
abbrev dktX3_house_3 : List UInt8 := dkwX3_house_3 ++ []
def dkwX3_house_2 : List UInt8 := [181, 0, 241, 43, 42, 18, 243, 4, 16, 6, 182, 0, 160, 181, 0, 245, 42, 182, 0, 36, 154, 0, 15, 42]
abbrev dktX3_house_2 : List UInt8 := dkwX3_house_2 ++ dktX3_house_3
def dkwX3_house_1 : List UInt8 := [42, 182, 0, 49, 43, 42, 182, 0, 203, 181, 0, 236, 43, 42, 18, 239, 3, 16, 50, 182, 0, 160]
abbrev dktX3_house_1 : List UInt8 := dkwX3_house_1 ++ dktX3_house_2
def dkwX3_house_0 : List UInt8 := [42, 42, 180, 0, 12, 180, 0, 109, 182, 0, 183, 7, 182, 0, 186, 42, 42, 182, 0, 192, 182, 0, 232, 76]
abbrev dktX3_house_0 : List UInt8 := dkwX3_house_0 ++ dktX3_house_1
theorem dksX3_house_0 : cX3_house.data.toList.drop 0 = dktX3_house_0 := by decide +kernel
theorem dksX3_house_1 : cX3_house.data.toList.drop 24 = dktX3_house_1 := dk_seg dksX3_house_0 24 rfl rfl
theorem dksX3_house_2 : cX3_house.data.toList.drop 46 = dktX3_house_2 := dk_seg dksX3_house_1 22 rfl rfl
theorem dksX3_house_3 : cX3_house.data.toList.drop 70 = dktX3_house_3 := dk_seg dksX3_house_2 24 rfl rfl
theorem dX3_house_0 : decode cX3_house 0 = .ok (.aload_n 0, 1) := dk_42 (dk_at dksX3_house_0 0 rfl rfl)
theorem dX3_house_1 : decode cX3_house 1 = .ok (.aload_n 0, 1) := dk_42 (dk_at dksX3_house_0 1 rfl rfl)
theorem dX3_house_2 : decode cX3_house 2 = .ok (.getfield 12, 3) := dk_180 0 12 (dk_at dksX3_house_0 2 rfl rfl)
theorem dX3_house_5 : decode cX3_house 5 = .ok (.getfield 109, 3) := dk_180 0 109 (dk_at dksX3_house_0 5 rfl rfl)
theorem dX3_house_8 : decode cX3_house 8 = .ok (.invokevirtual 183, 3) := dk_182 0 183 (dk_at dksX3_house_0 8 rfl rfl)
theorem dX3_house_11 : decode cX3_house 11 = .ok (.iconst 4, 1) := dk_7 (dk_at dksX3_house_0 11 rfl rfl)
theorem dX3_house_12 : decode cX3_house 12 = .ok (.invokevirtual 186, 3) := dk_182 0 186 (dk_at dksX3_house_0 12 rfl rfl)
theorem dX3_house_15 : decode cX3_house 15 = .ok (.aload_n 0, 1) := dk_42 (dk_at dksX3_house_0 15 rfl rfl)
theorem dX3_house_16 : decode cX3_house 16 = .ok (.aload_n 0, 1) := dk_42 (dk_at dksX3_house_0 16 rfl rfl)
theorem dX3_house_17 : decode cX3_house 17 = .ok (.invokevirtual 192, 3) := dk_182 0 192 (dk_at dksX3_house_0 17 rfl rfl)
theorem dX3_house_20 : decode cX3_house 20 = .ok (.invokevirtual 232, 3) := dk_182 0 232 (dk_at dksX3_house_0 20 rfl rfl)
theorem dX3_house_23 : decode cX3_house 23 = .ok (.astore_n 1, 1) := dk_76 (dk_at dksX3_house_0 23 rfl rfl)
theorem dX3_house_24 : decode cX3_house 24 = .ok (.aload_n 0, 1) := dk_42 (dk_at dksX3_house_1 0 rfl rfl)
theorem dX3_house_25 : decode cX3_house 25 = .ok (.invokevirtual 49, 3) := dk_182 0 49 (dk_at dksX3_house_1 1 rfl rfl)
theorem dX3_house_28 : decode cX3_house 28 = .ok (.aload_n 1, 1) := dk_43 (dk_at dksX3_house_1 4 rfl rfl)
theorem dX3_house_29 : decode cX3_house 29 = .ok (.aload_n 0, 1) := dk_42 (dk_at dksX3_house_1 5 rfl rfl)
theorem dX3_house_30 : decode cX3_house 30 = .ok (.invokevirtual 203, 3) := dk_182 0 203 (dk_at dksX3_house_1 6 rfl rfl)
theorem dX3_house_33 : decode cX3_house 33 = .ok (.putfield 236, 3) := dk_181 0 236 (dk_at dksX3_house_1 9 rfl rfl)
theorem dX3_house_36 : decode cX3_house 36 = .ok (.aload_n 1, 1) := dk_43 (dk_at dksX3_house_1 12 rfl rfl)
theorem dX3_house_37 : decode cX3_house 37 = .ok (.aload_n 0, 1) := dk_42 (dk_at dksX3_house_1 13 rfl rfl)
theorem dX3_house_38 : decode cX3_house 38 = .ok (.ldc 239, 2) := dk_18 239 (dk_at dksX3_house_1 14 rfl rfl)
theorem dX3_house_40 : decode cX3_house 40 = .ok (.iconst 0, 1) := dk_3 (dk_at dksX3_house_1 16 rfl rfl)
theorem dX3_house_41 : decode cX3_house 41 = .ok (.bipush 50, 2) := dk_16 50 (dk_at dksX3_house_1 17 rfl rfl)
theorem dX3_house_43 : decode cX3_house 43 = .ok (.invokevirtual 160, 3) := dk_182 0 160 (dk_at dksX3_house_1 19 rfl rfl)
theorem dX3_house_46 : decode cX3_house 46 = .ok (.putfield 241, 3) := dk_181 0 241 (dk_at dksX3_house_2 0 rfl rfl)
theorem dX3_house_49 : decode cX3_house 49 = .ok (.aload_n 1, 1) := dk_43 (dk_at dksX3_house_2 3 rfl rfl)
theorem dX3_house_50 : decode cX3_house 50 = .ok (.aload_n 0, 1) := dk_42 (dk_at dksX3_house_2 4 rfl rfl)
theorem dX3_house_51 : decode cX3_house 51 = .ok (.ldc 243, 2) := dk_18 243 (dk_at dksX3_house_2 5 rfl rfl)
theorem dX3_house_53 : decode cX3_house 53 = .ok (.iconst 1, 1) := dk_4 (dk_at dksX3_house_2 7 rfl rfl)
theorem dX3_house_54 : decode cX3_house 54 = .ok (.bipush 6, 2) := dk_16 6 (dk_at dksX3_house_2 8 rfl rfl)
theorem dX3_house_56 : decode cX3_house 56 = .ok (.invokevirtual 160, 3) := dk_182 0 160 (dk_at dksX3_house_2 10 rfl rfl)
theorem dX3_house_59 : decode cX3_house 59 = .ok (.putfield 245, 3) := dk_181 0 245 (dk_at dksX3_house_2 13 rfl rfl)
theorem dX3_house_62 : decode cX3_house 62 = .ok (.aload_n 0, 1) := dk_42 (dk_at dksX3_house_2 16 rfl rfl)
theorem dX3_house_63 : decode cX3_house 63 = .ok (.invokevirtual 36, 3) := dk_182 0 36 (dk_at dksX3_house_2 17 rfl rfl)
theorem dX3_house_66 : decode cX3_house 66 = .ok (.ifCond .ne 15, 3) := dk_154 0 15 (dk_at dksX3_house_2 20 rfl rfl)
theorem dX3_house_69 : decode cX3_house 69 = .ok (.aload_n 0, 1) := dk_42 (dk_at dksX3_house_2 23 rfl rfl)
theorem dX3_house_70 : decode cX3_house 70 = .ok (.getfield 12, 3) := dk_180 0 12 (dk_at dksX3_house_3 0 rfl rfl)
theorem dX3_house_73 : decode cX3_house 73 = .ok (.getfield 109, 3) := dk_180 0 109 (dk_at dksX3_house_3 3 rfl rfl)
theorem dX3_house_76 : decode cX3_house 76 = .ok (.aload_n 1, 1) := dk_43 (dk_at dksX3_house_3 6 rfl rfl)
theorem dX3_house_77 : decode cX3_house 77 = .ok (.invokevirtual 209, 3) := dk_182 0 209 (dk_at dksX3_house_3 7 rfl rfl)
theorem dX3_house_80 : decode cX3_house 80 = .ok (.pop, 1) := dk_87 (dk_at dksX3_house_3 10 rfl rfl)
theorem dX3_house_81 : decode cX3_house 81 = .ok (.return_, 1) := dk_177 (dk_at dksX3_house_3 11 rfl rfl)
abbrev cX3_kind : ByteArray := prog_6_method_20_code
def yX3_kind : MethodName := ⟨RX3, "kind", "(Ljava/lang/String;)LRoofRegatta$House;"⟩
def dkwX3_kind_9 : List UInt8 := [183, 0, 222, 176]
abbrev dktX3_kind_9 : List UInt8 := dkwX3_kind_9 ++ []
def dkwX3_kind_8 : List UInt8 := [183, 0, 228, 176, 187, 0, 229, 89, 43, 183, 0, 231, 176, 42, 4, 182, 0, 56, 187, 0, 220, 89, 43]
abbrev dktX3_kind_8 : List UInt8 := dkwX3_kind_8 ++ dktX3_kind_9
def dkwX3_kind_7 : List UInt8 := [187, 0, 220, 89, 43, 183, 0, 222, 176, 187, 0, 223, 89, 43, 183, 0, 225, 176, 187, 0, 226, 89, 43]
abbrev dktX3_kind_7 : List UInt8 := dkwX3_kind_7 ++ dktX3_kind_8
def dkwX3_kind_6 : List UInt8 := [170, 0, 0, 0, 0, 66, 0, 0, 0, 0, 0, 0, 0, 3, 0, 0, 0, 30, 0, 0, 0, 39, 0, 0, 0, 48, 0, 0, 0, 57]
abbrev dktX3_kind_6 : List UInt8 := dkwX3_kind_6 ++ dktX3_kind_7
def dkwX3_kind_5 : List UInt8 := [153, 0, 5, 6, 62, 29]
abbrev dktX3_kind_5 : List UInt8 := dkwX3_kind_5 ++ dktX3_kind_6
def dkwX3_kind_4 : List UInt8 := [62, 167, 0, 28, 44, 18, 216, 182, 0, 127, 153, 0, 19, 5, 62, 167, 0, 14, 44, 18, 218, 182, 0, 127]
abbrev dktX3_kind_4 : List UInt8 := dkwX3_kind_4 ++ dktX3_kind_5
def dkwX3_kind_3 : List UInt8 := [44, 18, 212, 182, 0, 127, 153, 0, 47, 3, 62, 167, 0, 42, 44, 18, 214, 182, 0, 127, 153, 0, 33, 4]
abbrev dktX3_kind_3 : List UInt8 := dkwX3_kind_3 ++ dktX3_kind_4
def dkwX3_kind_2 : List UInt8 := [171, 0, 0, 0, 0, 95, 0, 0, 0, 4, 171, 40, 18, 114, 0, 0, 0, 56, 0, 1, 178, 253, 0, 0, 0, 84, 6, 176, 51, 78, 0, 0, 0, 70, 57, 11, 177, 147, 0, 0, 0, 42]
abbrev dktX3_kind_2 : List UInt8 := dkwX3_kind_2 ++ dktX3_kind_3
def dkwX3_kind_1 : List UInt8 := [2, 62, 44, 182, 0, 120]
abbrev dktX3_kind_1 : List UInt8 := dkwX3_kind_1 ++ dktX3_kind_2
def dkwX3_kind_0 : List UInt8 := [42, 180, 0, 28, 180, 0, 46, 5, 160, 0, 13, 42, 180, 0, 28, 180, 0, 78, 167, 0, 5, 18, 118, 77]
abbrev dktX3_kind_0 : List UInt8 := dkwX3_kind_0 ++ dktX3_kind_1
theorem dksX3_kind_0 : cX3_kind.data.toList.drop 0 = dktX3_kind_0 := by decide +kernel
theorem dksX3_kind_1 : cX3_kind.data.toList.drop 24 = dktX3_kind_1 := dk_seg dksX3_kind_0 24 rfl rfl
theorem dksX3_kind_2 : cX3_kind.data.toList.drop 30 = dktX3_kind_2 := dk_seg dksX3_kind_1 6 rfl rfl
theorem dksX3_kind_3 : cX3_kind.data.toList.drop 72 = dktX3_kind_3 := dk_seg dksX3_kind_2 42 rfl rfl
theorem dksX3_kind_4 : cX3_kind.data.toList.drop 96 = dktX3_kind_4 := dk_seg dksX3_kind_3 24 rfl rfl
theorem dksX3_kind_5 : cX3_kind.data.toList.drop 120 = dktX3_kind_5 := dk_seg dksX3_kind_4 24 rfl rfl
theorem dksX3_kind_6 : cX3_kind.data.toList.drop 126 = dktX3_kind_6 := dk_seg dksX3_kind_5 6 rfl rfl
theorem dksX3_kind_7 : cX3_kind.data.toList.drop 156 = dktX3_kind_7 := dk_seg dksX3_kind_6 30 rfl rfl
theorem dksX3_kind_8 : cX3_kind.data.toList.drop 179 = dktX3_kind_8 := dk_seg dksX3_kind_7 23 rfl rfl
theorem dksX3_kind_9 : cX3_kind.data.toList.drop 202 = dktX3_kind_9 := dk_seg dksX3_kind_8 23 rfl rfl
theorem dX3_kind_0 : decode cX3_kind 0 = .ok (.aload_n 0, 1) := dk_42 (dk_at dksX3_kind_0 0 rfl rfl)
theorem dX3_kind_1 : decode cX3_kind 1 = .ok (.getfield 28, 3) := dk_180 0 28 (dk_at dksX3_kind_0 1 rfl rfl)
theorem dX3_kind_4 : decode cX3_kind 4 = .ok (.getfield 46, 3) := dk_180 0 46 (dk_at dksX3_kind_0 4 rfl rfl)
theorem dX3_kind_7 : decode cX3_kind 7 = .ok (.iconst 2, 1) := dk_5 (dk_at dksX3_kind_0 7 rfl rfl)
theorem dX3_kind_8 : decode cX3_kind 8 = .ok (.if_icmp .ne 13, 3) := dk_160 0 13 (dk_at dksX3_kind_0 8 rfl rfl)
theorem dX3_kind_11 : decode cX3_kind 11 = .ok (.aload_n 0, 1) := dk_42 (dk_at dksX3_kind_0 11 rfl rfl)
theorem dX3_kind_12 : decode cX3_kind 12 = .ok (.getfield 28, 3) := dk_180 0 28 (dk_at dksX3_kind_0 12 rfl rfl)
theorem dX3_kind_15 : decode cX3_kind 15 = .ok (.getfield 78, 3) := dk_180 0 78 (dk_at dksX3_kind_0 15 rfl rfl)
theorem dX3_kind_18 : decode cX3_kind 18 = .ok (.goto 5, 3) := dk_167 0 5 (dk_at dksX3_kind_0 18 rfl rfl)
theorem dX3_kind_21 : decode cX3_kind 21 = .ok (.ldc 118, 2) := dk_18 118 (dk_at dksX3_kind_0 21 rfl rfl)
theorem dX3_kind_23 : decode cX3_kind 23 = .ok (.astore_n 2, 1) := dk_77 (dk_at dksX3_kind_0 23 rfl rfl)
theorem dX3_kind_24 : decode cX3_kind 24 = .ok (.iconst (-1), 1) := dk_2 (dk_at dksX3_kind_1 0 rfl rfl)
theorem dX3_kind_25 : decode cX3_kind 25 = .ok (.istore_n 3, 1) := dk_62 (dk_at dksX3_kind_1 1 rfl rfl)
theorem dX3_kind_26 : decode cX3_kind 26 = .ok (.aload_n 2, 1) := dk_44 (dk_at dksX3_kind_1 2 rfl rfl)
theorem dX3_kind_27 : decode cX3_kind 27 = .ok (.invokevirtual 120, 3) := dk_182 0 120 (dk_at dksX3_kind_1 3 rfl rfl)
theorem dX3_kind_30 : decode cX3_kind 30 = .ok (.lookupswitch 95 #[(-1423437198, 56), (111357, 84), (112210766, 70), (957067667, 42)], 42) := by decide +kernel
theorem dX3_kind_72 : decode cX3_kind 72 = .ok (.aload_n 2, 1) := dk_44 (dk_at dksX3_kind_3 0 rfl rfl)
theorem dX3_kind_73 : decode cX3_kind 73 = .ok (.ldc 212, 2) := dk_18 212 (dk_at dksX3_kind_3 1 rfl rfl)
theorem dX3_kind_75 : decode cX3_kind 75 = .ok (.invokevirtual 127, 3) := dk_182 0 127 (dk_at dksX3_kind_3 3 rfl rfl)
theorem dX3_kind_78 : decode cX3_kind 78 = .ok (.ifCond .eq 47, 3) := dk_153 0 47 (dk_at dksX3_kind_3 6 rfl rfl)
theorem dX3_kind_81 : decode cX3_kind 81 = .ok (.iconst 0, 1) := dk_3 (dk_at dksX3_kind_3 9 rfl rfl)
theorem dX3_kind_82 : decode cX3_kind 82 = .ok (.istore_n 3, 1) := dk_62 (dk_at dksX3_kind_3 10 rfl rfl)
theorem dX3_kind_83 : decode cX3_kind 83 = .ok (.goto 42, 3) := dk_167 0 42 (dk_at dksX3_kind_3 11 rfl rfl)
theorem dX3_kind_86 : decode cX3_kind 86 = .ok (.aload_n 2, 1) := dk_44 (dk_at dksX3_kind_3 14 rfl rfl)
theorem dX3_kind_87 : decode cX3_kind 87 = .ok (.ldc 214, 2) := dk_18 214 (dk_at dksX3_kind_3 15 rfl rfl)
theorem dX3_kind_89 : decode cX3_kind 89 = .ok (.invokevirtual 127, 3) := dk_182 0 127 (dk_at dksX3_kind_3 17 rfl rfl)
theorem dX3_kind_92 : decode cX3_kind 92 = .ok (.ifCond .eq 33, 3) := dk_153 0 33 (dk_at dksX3_kind_3 20 rfl rfl)
theorem dX3_kind_95 : decode cX3_kind 95 = .ok (.iconst 1, 1) := dk_4 (dk_at dksX3_kind_3 23 rfl rfl)
theorem dX3_kind_96 : decode cX3_kind 96 = .ok (.istore_n 3, 1) := dk_62 (dk_at dksX3_kind_4 0 rfl rfl)
theorem dX3_kind_97 : decode cX3_kind 97 = .ok (.goto 28, 3) := dk_167 0 28 (dk_at dksX3_kind_4 1 rfl rfl)
theorem dX3_kind_100 : decode cX3_kind 100 = .ok (.aload_n 2, 1) := dk_44 (dk_at dksX3_kind_4 4 rfl rfl)
theorem dX3_kind_101 : decode cX3_kind 101 = .ok (.ldc 216, 2) := dk_18 216 (dk_at dksX3_kind_4 5 rfl rfl)
theorem dX3_kind_103 : decode cX3_kind 103 = .ok (.invokevirtual 127, 3) := dk_182 0 127 (dk_at dksX3_kind_4 7 rfl rfl)
theorem dX3_kind_106 : decode cX3_kind 106 = .ok (.ifCond .eq 19, 3) := dk_153 0 19 (dk_at dksX3_kind_4 10 rfl rfl)
theorem dX3_kind_109 : decode cX3_kind 109 = .ok (.iconst 2, 1) := dk_5 (dk_at dksX3_kind_4 13 rfl rfl)
theorem dX3_kind_110 : decode cX3_kind 110 = .ok (.istore_n 3, 1) := dk_62 (dk_at dksX3_kind_4 14 rfl rfl)
theorem dX3_kind_111 : decode cX3_kind 111 = .ok (.goto 14, 3) := dk_167 0 14 (dk_at dksX3_kind_4 15 rfl rfl)
theorem dX3_kind_114 : decode cX3_kind 114 = .ok (.aload_n 2, 1) := dk_44 (dk_at dksX3_kind_4 18 rfl rfl)
theorem dX3_kind_115 : decode cX3_kind 115 = .ok (.ldc 218, 2) := dk_18 218 (dk_at dksX3_kind_4 19 rfl rfl)
theorem dX3_kind_117 : decode cX3_kind 117 = .ok (.invokevirtual 127, 3) := dk_182 0 127 (dk_at dksX3_kind_4 21 rfl rfl)
theorem dX3_kind_120 : decode cX3_kind 120 = .ok (.ifCond .eq 5, 3) := dk_153 0 5 (dk_at dksX3_kind_5 0 rfl rfl)
theorem dX3_kind_123 : decode cX3_kind 123 = .ok (.iconst 3, 1) := dk_6 (dk_at dksX3_kind_5 3 rfl rfl)
theorem dX3_kind_124 : decode cX3_kind 124 = .ok (.istore_n 3, 1) := dk_62 (dk_at dksX3_kind_5 4 rfl rfl)
theorem dX3_kind_125 : decode cX3_kind 125 = .ok (.iload_n 3, 1) := dk_29 (dk_at dksX3_kind_5 5 rfl rfl)
theorem dX3_kind_126 : decode cX3_kind 126 = .ok (.tableswitch 66 0 3 #[30, 39, 48, 57], 30) := by decide +kernel
theorem dX3_kind_156 : decode cX3_kind 156 = .ok (.new 220, 3) := dk_187 0 220 (dk_at dksX3_kind_7 0 rfl rfl)
theorem dX3_kind_159 : decode cX3_kind 159 = .ok (.dup, 1) := dk_89 (dk_at dksX3_kind_7 3 rfl rfl)
theorem dX3_kind_160 : decode cX3_kind 160 = .ok (.aload_n 1, 1) := dk_43 (dk_at dksX3_kind_7 4 rfl rfl)
theorem dX3_kind_161 : decode cX3_kind 161 = .ok (.invokespecial 222, 3) := dk_183 0 222 (dk_at dksX3_kind_7 5 rfl rfl)
theorem dX3_kind_164 : decode cX3_kind 164 = .ok (.areturn, 1) := dk_176 (dk_at dksX3_kind_7 8 rfl rfl)
theorem dX3_kind_165 : decode cX3_kind 165 = .ok (.new 223, 3) := dk_187 0 223 (dk_at dksX3_kind_7 9 rfl rfl)
theorem dX3_kind_168 : decode cX3_kind 168 = .ok (.dup, 1) := dk_89 (dk_at dksX3_kind_7 12 rfl rfl)
theorem dX3_kind_169 : decode cX3_kind 169 = .ok (.aload_n 1, 1) := dk_43 (dk_at dksX3_kind_7 13 rfl rfl)
theorem dX3_kind_170 : decode cX3_kind 170 = .ok (.invokespecial 225, 3) := dk_183 0 225 (dk_at dksX3_kind_7 14 rfl rfl)
theorem dX3_kind_173 : decode cX3_kind 173 = .ok (.areturn, 1) := dk_176 (dk_at dksX3_kind_7 17 rfl rfl)
theorem dX3_kind_174 : decode cX3_kind 174 = .ok (.new 226, 3) := dk_187 0 226 (dk_at dksX3_kind_7 18 rfl rfl)
theorem dX3_kind_177 : decode cX3_kind 177 = .ok (.dup, 1) := dk_89 (dk_at dksX3_kind_7 21 rfl rfl)
theorem dX3_kind_178 : decode cX3_kind 178 = .ok (.aload_n 1, 1) := dk_43 (dk_at dksX3_kind_7 22 rfl rfl)
theorem dX3_kind_179 : decode cX3_kind 179 = .ok (.invokespecial 228, 3) := dk_183 0 228 (dk_at dksX3_kind_8 0 rfl rfl)
theorem dX3_kind_182 : decode cX3_kind 182 = .ok (.areturn, 1) := dk_176 (dk_at dksX3_kind_8 3 rfl rfl)
theorem dX3_kind_183 : decode cX3_kind 183 = .ok (.new 229, 3) := dk_187 0 229 (dk_at dksX3_kind_8 4 rfl rfl)
theorem dX3_kind_186 : decode cX3_kind 186 = .ok (.dup, 1) := dk_89 (dk_at dksX3_kind_8 7 rfl rfl)
theorem dX3_kind_187 : decode cX3_kind 187 = .ok (.aload_n 1, 1) := dk_43 (dk_at dksX3_kind_8 8 rfl rfl)
theorem dX3_kind_188 : decode cX3_kind 188 = .ok (.invokespecial 231, 3) := dk_183 0 231 (dk_at dksX3_kind_8 9 rfl rfl)
theorem dX3_kind_191 : decode cX3_kind 191 = .ok (.areturn, 1) := dk_176 (dk_at dksX3_kind_8 12 rfl rfl)
theorem dX3_kind_192 : decode cX3_kind 192 = .ok (.aload_n 0, 1) := dk_42 (dk_at dksX3_kind_8 13 rfl rfl)
theorem dX3_kind_193 : decode cX3_kind 193 = .ok (.iconst 1, 1) := dk_4 (dk_at dksX3_kind_8 14 rfl rfl)
theorem dX3_kind_194 : decode cX3_kind 194 = .ok (.invokevirtual 56, 3) := dk_182 0 56 (dk_at dksX3_kind_8 15 rfl rfl)
theorem dX3_kind_197 : decode cX3_kind 197 = .ok (.new 220, 3) := dk_187 0 220 (dk_at dksX3_kind_8 18 rfl rfl)
theorem dX3_kind_200 : decode cX3_kind 200 = .ok (.dup, 1) := dk_89 (dk_at dksX3_kind_8 21 rfl rfl)
theorem dX3_kind_201 : decode cX3_kind 201 = .ok (.aload_n 1, 1) := dk_43 (dk_at dksX3_kind_8 22 rfl rfl)
theorem dX3_kind_202 : decode cX3_kind 202 = .ok (.invokespecial 222, 3) := dk_183 0 222 (dk_at dksX3_kind_9 0 rfl rfl)
theorem dX3_kind_205 : decode cX3_kind 205 = .ok (.areturn, 1) := dk_176 (dk_at dksX3_kind_9 3 rfl rfl)
abbrev cX3_lodger : ByteArray := prog_6_method_22_code
def yX3_lodger : MethodName := ⟨RX3, "lodger", "()V"⟩
def dkwX3_lodger_3 : List UInt8 := [182, 0, 209, 87, 177]
abbrev dktX3_lodger_3 : List UInt8 := dkwX3_lodger_3 ++ []
def dkwX3_lodger_2 : List UInt8 := [16, 9, 182, 0, 160, 181, 1, 3, 42, 182, 0, 36, 154, 0, 15, 42, 180, 0, 12, 180, 0, 247, 43]
abbrev dktX3_lodger_2 : List UInt8 := dkwX3_lodger_2 ++ dktX3_lodger_3
def dkwX3_lodger_1 : List UInt8 := [183, 0, 252, 76, 43, 42, 18, 253, 3, 16, 30, 182, 0, 160, 181, 0, 255, 43, 42, 19, 1, 1, 3]
abbrev dktX3_lodger_1 : List UInt8 := dkwX3_lodger_1 ++ dktX3_lodger_2
def dkwX3_lodger_0 : List UInt8 := [42, 42, 180, 0, 12, 180, 0, 247, 182, 0, 183, 8, 182, 0, 186, 187, 0, 250, 89, 42, 182, 0, 192]
abbrev dktX3_lodger_0 : List UInt8 := dkwX3_lodger_0 ++ dktX3_lodger_1
theorem dksX3_lodger_0 : cX3_lodger.data.toList.drop 0 = dktX3_lodger_0 := by decide +kernel
theorem dksX3_lodger_1 : cX3_lodger.data.toList.drop 23 = dktX3_lodger_1 := dk_seg dksX3_lodger_0 23 rfl rfl
theorem dksX3_lodger_2 : cX3_lodger.data.toList.drop 46 = dktX3_lodger_2 := dk_seg dksX3_lodger_1 23 rfl rfl
theorem dksX3_lodger_3 : cX3_lodger.data.toList.drop 69 = dktX3_lodger_3 := dk_seg dksX3_lodger_2 23 rfl rfl
theorem dX3_lodger_0 : decode cX3_lodger 0 = .ok (.aload_n 0, 1) := dk_42 (dk_at dksX3_lodger_0 0 rfl rfl)
theorem dX3_lodger_1 : decode cX3_lodger 1 = .ok (.aload_n 0, 1) := dk_42 (dk_at dksX3_lodger_0 1 rfl rfl)
theorem dX3_lodger_2 : decode cX3_lodger 2 = .ok (.getfield 12, 3) := dk_180 0 12 (dk_at dksX3_lodger_0 2 rfl rfl)
theorem dX3_lodger_5 : decode cX3_lodger 5 = .ok (.getfield 247, 3) := dk_180 0 247 (dk_at dksX3_lodger_0 5 rfl rfl)
theorem dX3_lodger_8 : decode cX3_lodger 8 = .ok (.invokevirtual 183, 3) := dk_182 0 183 (dk_at dksX3_lodger_0 8 rfl rfl)
theorem dX3_lodger_11 : decode cX3_lodger 11 = .ok (.iconst 5, 1) := dk_8 (dk_at dksX3_lodger_0 11 rfl rfl)
theorem dX3_lodger_12 : decode cX3_lodger 12 = .ok (.invokevirtual 186, 3) := dk_182 0 186 (dk_at dksX3_lodger_0 12 rfl rfl)
theorem dX3_lodger_15 : decode cX3_lodger 15 = .ok (.new 250, 3) := dk_187 0 250 (dk_at dksX3_lodger_0 15 rfl rfl)
theorem dX3_lodger_18 : decode cX3_lodger 18 = .ok (.dup, 1) := dk_89 (dk_at dksX3_lodger_0 18 rfl rfl)
theorem dX3_lodger_19 : decode cX3_lodger 19 = .ok (.aload_n 0, 1) := dk_42 (dk_at dksX3_lodger_0 19 rfl rfl)
theorem dX3_lodger_20 : decode cX3_lodger 20 = .ok (.invokevirtual 192, 3) := dk_182 0 192 (dk_at dksX3_lodger_0 20 rfl rfl)
theorem dX3_lodger_23 : decode cX3_lodger 23 = .ok (.invokespecial 252, 3) := dk_183 0 252 (dk_at dksX3_lodger_1 0 rfl rfl)
theorem dX3_lodger_26 : decode cX3_lodger 26 = .ok (.astore_n 1, 1) := dk_76 (dk_at dksX3_lodger_1 3 rfl rfl)
theorem dX3_lodger_27 : decode cX3_lodger 27 = .ok (.aload_n 1, 1) := dk_43 (dk_at dksX3_lodger_1 4 rfl rfl)
theorem dX3_lodger_28 : decode cX3_lodger 28 = .ok (.aload_n 0, 1) := dk_42 (dk_at dksX3_lodger_1 5 rfl rfl)
theorem dX3_lodger_29 : decode cX3_lodger 29 = .ok (.ldc 253, 2) := dk_18 253 (dk_at dksX3_lodger_1 6 rfl rfl)
theorem dX3_lodger_31 : decode cX3_lodger 31 = .ok (.iconst 0, 1) := dk_3 (dk_at dksX3_lodger_1 8 rfl rfl)
theorem dX3_lodger_32 : decode cX3_lodger 32 = .ok (.bipush 30, 2) := dk_16 30 (dk_at dksX3_lodger_1 9 rfl rfl)
theorem dX3_lodger_34 : decode cX3_lodger 34 = .ok (.invokevirtual 160, 3) := dk_182 0 160 (dk_at dksX3_lodger_1 11 rfl rfl)
theorem dX3_lodger_37 : decode cX3_lodger 37 = .ok (.putfield 255, 3) := dk_181 0 255 (dk_at dksX3_lodger_1 14 rfl rfl)
theorem dX3_lodger_40 : decode cX3_lodger 40 = .ok (.aload_n 1, 1) := dk_43 (dk_at dksX3_lodger_1 17 rfl rfl)
theorem dX3_lodger_41 : decode cX3_lodger 41 = .ok (.aload_n 0, 1) := dk_42 (dk_at dksX3_lodger_1 18 rfl rfl)
theorem dX3_lodger_42 : decode cX3_lodger 42 = .ok (.ldc_w 257, 3) := dk_19 1 1 (dk_at dksX3_lodger_1 19 rfl rfl)
theorem dX3_lodger_45 : decode cX3_lodger 45 = .ok (.iconst 0, 1) := dk_3 (dk_at dksX3_lodger_1 22 rfl rfl)
theorem dX3_lodger_46 : decode cX3_lodger 46 = .ok (.bipush 9, 2) := dk_16 9 (dk_at dksX3_lodger_2 0 rfl rfl)
theorem dX3_lodger_48 : decode cX3_lodger 48 = .ok (.invokevirtual 160, 3) := dk_182 0 160 (dk_at dksX3_lodger_2 2 rfl rfl)
theorem dX3_lodger_51 : decode cX3_lodger 51 = .ok (.putfield 259, 3) := dk_181 1 3 (dk_at dksX3_lodger_2 5 rfl rfl)
theorem dX3_lodger_54 : decode cX3_lodger 54 = .ok (.aload_n 0, 1) := dk_42 (dk_at dksX3_lodger_2 8 rfl rfl)
theorem dX3_lodger_55 : decode cX3_lodger 55 = .ok (.invokevirtual 36, 3) := dk_182 0 36 (dk_at dksX3_lodger_2 9 rfl rfl)
theorem dX3_lodger_58 : decode cX3_lodger 58 = .ok (.ifCond .ne 15, 3) := dk_154 0 15 (dk_at dksX3_lodger_2 12 rfl rfl)
theorem dX3_lodger_61 : decode cX3_lodger 61 = .ok (.aload_n 0, 1) := dk_42 (dk_at dksX3_lodger_2 15 rfl rfl)
theorem dX3_lodger_62 : decode cX3_lodger 62 = .ok (.getfield 12, 3) := dk_180 0 12 (dk_at dksX3_lodger_2 16 rfl rfl)
theorem dX3_lodger_65 : decode cX3_lodger 65 = .ok (.getfield 247, 3) := dk_180 0 247 (dk_at dksX3_lodger_2 19 rfl rfl)
theorem dX3_lodger_68 : decode cX3_lodger 68 = .ok (.aload_n 1, 1) := dk_43 (dk_at dksX3_lodger_2 22 rfl rfl)
theorem dX3_lodger_69 : decode cX3_lodger 69 = .ok (.invokevirtual 209, 3) := dk_182 0 209 (dk_at dksX3_lodger_3 0 rfl rfl)
theorem dX3_lodger_72 : decode cX3_lodger 72 = .ok (.pop, 1) := dk_87 (dk_at dksX3_lodger_3 3 rfl rfl)
theorem dX3_lodger_73 : decode cX3_lodger 73 = .ok (.return_, 1) := dk_177 (dk_at dksX3_lodger_3 4 rfl rfl)
abbrev cX3_aboard : ByteArray := prog_6_method_23_code
def yX3_aboard : MethodName := ⟨RX3, "aboard", "()V"⟩
def dkwX3_aboard_5 : List UInt8 := [182, 1, 8, 192, 0, 250, 28, 181, 1, 12, 177]
abbrev dktX3_aboard_5 : List UInt8 := dkwX3_aboard_5 ++ []
def dkwX3_aboard_4 : List UInt8 := [182, 0, 56, 42, 182, 0, 49, 42, 182, 0, 36, 154, 0, 21, 42, 180, 0, 12, 180, 0, 247, 27]
abbrev dktX3_aboard_4 : List UInt8 := dkwX3_aboard_4 ++ dktX3_aboard_5
def dkwX3_aboard_3 : List UInt8 := [180, 0, 12, 180, 0, 109, 28, 182, 1, 8, 192, 0, 220, 180, 0, 245, 161, 0, 9, 42, 16, 7]
abbrev dktX3_aboard_3 : List UInt8 := dkwX3_aboard_3 ++ dktX3_aboard_4
def dkwX3_aboard_2 : List UInt8 := [182, 0, 49, 42, 182, 1, 14, 61, 42, 182, 0, 36, 154, 0, 37, 42, 180, 0, 12, 28, 182, 1, 17, 42]
abbrev dktX3_aboard_2 : List UInt8 := dkwX3_aboard_2 ++ dktX3_aboard_3
def dkwX3_aboard_1 : List UInt8 := [180, 0, 247, 27, 182, 1, 8, 192, 0, 250, 180, 1, 12, 16, 254, 159, 0, 8, 42, 6, 182, 0, 56, 42]
abbrev dktX3_aboard_1 : List UInt8 := dkwX3_aboard_1 ++ dktX3_aboard_2
def dkwX3_aboard_0 : List UInt8 := [42, 2, 3, 182, 0, 186, 42, 182, 1, 5, 60, 42, 182, 0, 36, 154, 0, 30, 42, 180, 0, 12]
abbrev dktX3_aboard_0 : List UInt8 := dkwX3_aboard_0 ++ dktX3_aboard_1
theorem dksX3_aboard_0 : cX3_aboard.data.toList.drop 0 = dktX3_aboard_0 := by decide +kernel
theorem dksX3_aboard_1 : cX3_aboard.data.toList.drop 22 = dktX3_aboard_1 := dk_seg dksX3_aboard_0 22 rfl rfl
theorem dksX3_aboard_2 : cX3_aboard.data.toList.drop 46 = dktX3_aboard_2 := dk_seg dksX3_aboard_1 24 rfl rfl
theorem dksX3_aboard_3 : cX3_aboard.data.toList.drop 70 = dktX3_aboard_3 := dk_seg dksX3_aboard_2 24 rfl rfl
theorem dksX3_aboard_4 : cX3_aboard.data.toList.drop 92 = dktX3_aboard_4 := dk_seg dksX3_aboard_3 22 rfl rfl
theorem dksX3_aboard_5 : cX3_aboard.data.toList.drop 114 = dktX3_aboard_5 := dk_seg dksX3_aboard_4 22 rfl rfl
theorem dX3_aboard_0 : decode cX3_aboard 0 = .ok (.aload_n 0, 1) := dk_42 (dk_at dksX3_aboard_0 0 rfl rfl)
theorem dX3_aboard_1 : decode cX3_aboard 1 = .ok (.iconst (-1), 1) := dk_2 (dk_at dksX3_aboard_0 1 rfl rfl)
theorem dX3_aboard_2 : decode cX3_aboard 2 = .ok (.iconst 0, 1) := dk_3 (dk_at dksX3_aboard_0 2 rfl rfl)
theorem dX3_aboard_3 : decode cX3_aboard 3 = .ok (.invokevirtual 186, 3) := dk_182 0 186 (dk_at dksX3_aboard_0 3 rfl rfl)
theorem dX3_aboard_6 : decode cX3_aboard 6 = .ok (.aload_n 0, 1) := dk_42 (dk_at dksX3_aboard_0 6 rfl rfl)
theorem dX3_aboard_7 : decode cX3_aboard 7 = .ok (.invokevirtual 261, 3) := dk_182 1 5 (dk_at dksX3_aboard_0 7 rfl rfl)
theorem dX3_aboard_10 : decode cX3_aboard 10 = .ok (.istore_n 1, 1) := dk_60 (dk_at dksX3_aboard_0 10 rfl rfl)
theorem dX3_aboard_11 : decode cX3_aboard 11 = .ok (.aload_n 0, 1) := dk_42 (dk_at dksX3_aboard_0 11 rfl rfl)
theorem dX3_aboard_12 : decode cX3_aboard 12 = .ok (.invokevirtual 36, 3) := dk_182 0 36 (dk_at dksX3_aboard_0 12 rfl rfl)
theorem dX3_aboard_15 : decode cX3_aboard 15 = .ok (.ifCond .ne 30, 3) := dk_154 0 30 (dk_at dksX3_aboard_0 15 rfl rfl)
theorem dX3_aboard_18 : decode cX3_aboard 18 = .ok (.aload_n 0, 1) := dk_42 (dk_at dksX3_aboard_0 18 rfl rfl)
theorem dX3_aboard_19 : decode cX3_aboard 19 = .ok (.getfield 12, 3) := dk_180 0 12 (dk_at dksX3_aboard_0 19 rfl rfl)
theorem dX3_aboard_22 : decode cX3_aboard 22 = .ok (.getfield 247, 3) := dk_180 0 247 (dk_at dksX3_aboard_1 0 rfl rfl)
theorem dX3_aboard_25 : decode cX3_aboard 25 = .ok (.iload_n 1, 1) := dk_27 (dk_at dksX3_aboard_1 3 rfl rfl)
theorem dX3_aboard_26 : decode cX3_aboard 26 = .ok (.invokevirtual 264, 3) := dk_182 1 8 (dk_at dksX3_aboard_1 4 rfl rfl)
theorem dX3_aboard_29 : decode cX3_aboard 29 = .ok (.checkcast 250, 3) := dk_192 0 250 (dk_at dksX3_aboard_1 7 rfl rfl)
theorem dX3_aboard_32 : decode cX3_aboard 32 = .ok (.getfield 268, 3) := dk_180 1 12 (dk_at dksX3_aboard_1 10 rfl rfl)
theorem dX3_aboard_35 : decode cX3_aboard 35 = .ok (.bipush (-2), 2) := dk_16 254 (dk_at dksX3_aboard_1 13 rfl rfl)
theorem dX3_aboard_37 : decode cX3_aboard 37 = .ok (.if_icmp .eq 8, 3) := dk_159 0 8 (dk_at dksX3_aboard_1 15 rfl rfl)
theorem dX3_aboard_40 : decode cX3_aboard 40 = .ok (.aload_n 0, 1) := dk_42 (dk_at dksX3_aboard_1 18 rfl rfl)
theorem dX3_aboard_41 : decode cX3_aboard 41 = .ok (.iconst 3, 1) := dk_6 (dk_at dksX3_aboard_1 19 rfl rfl)
theorem dX3_aboard_42 : decode cX3_aboard 42 = .ok (.invokevirtual 56, 3) := dk_182 0 56 (dk_at dksX3_aboard_1 20 rfl rfl)
theorem dX3_aboard_45 : decode cX3_aboard 45 = .ok (.aload_n 0, 1) := dk_42 (dk_at dksX3_aboard_1 23 rfl rfl)
theorem dX3_aboard_46 : decode cX3_aboard 46 = .ok (.invokevirtual 49, 3) := dk_182 0 49 (dk_at dksX3_aboard_2 0 rfl rfl)
theorem dX3_aboard_49 : decode cX3_aboard 49 = .ok (.aload_n 0, 1) := dk_42 (dk_at dksX3_aboard_2 3 rfl rfl)
theorem dX3_aboard_50 : decode cX3_aboard 50 = .ok (.invokevirtual 270, 3) := dk_182 1 14 (dk_at dksX3_aboard_2 4 rfl rfl)
theorem dX3_aboard_53 : decode cX3_aboard 53 = .ok (.istore_n 2, 1) := dk_61 (dk_at dksX3_aboard_2 7 rfl rfl)
theorem dX3_aboard_54 : decode cX3_aboard 54 = .ok (.aload_n 0, 1) := dk_42 (dk_at dksX3_aboard_2 8 rfl rfl)
theorem dX3_aboard_55 : decode cX3_aboard 55 = .ok (.invokevirtual 36, 3) := dk_182 0 36 (dk_at dksX3_aboard_2 9 rfl rfl)
theorem dX3_aboard_58 : decode cX3_aboard 58 = .ok (.ifCond .ne 37, 3) := dk_154 0 37 (dk_at dksX3_aboard_2 12 rfl rfl)
theorem dX3_aboard_61 : decode cX3_aboard 61 = .ok (.aload_n 0, 1) := dk_42 (dk_at dksX3_aboard_2 15 rfl rfl)
theorem dX3_aboard_62 : decode cX3_aboard 62 = .ok (.getfield 12, 3) := dk_180 0 12 (dk_at dksX3_aboard_2 16 rfl rfl)
theorem dX3_aboard_65 : decode cX3_aboard 65 = .ok (.iload_n 2, 1) := dk_28 (dk_at dksX3_aboard_2 19 rfl rfl)
theorem dX3_aboard_66 : decode cX3_aboard 66 = .ok (.invokevirtual 273, 3) := dk_182 1 17 (dk_at dksX3_aboard_2 20 rfl rfl)
theorem dX3_aboard_69 : decode cX3_aboard 69 = .ok (.aload_n 0, 1) := dk_42 (dk_at dksX3_aboard_2 23 rfl rfl)
theorem dX3_aboard_70 : decode cX3_aboard 70 = .ok (.getfield 12, 3) := dk_180 0 12 (dk_at dksX3_aboard_3 0 rfl rfl)
theorem dX3_aboard_73 : decode cX3_aboard 73 = .ok (.getfield 109, 3) := dk_180 0 109 (dk_at dksX3_aboard_3 3 rfl rfl)
theorem dX3_aboard_76 : decode cX3_aboard 76 = .ok (.iload_n 2, 1) := dk_28 (dk_at dksX3_aboard_3 6 rfl rfl)
theorem dX3_aboard_77 : decode cX3_aboard 77 = .ok (.invokevirtual 264, 3) := dk_182 1 8 (dk_at dksX3_aboard_3 7 rfl rfl)
theorem dX3_aboard_80 : decode cX3_aboard 80 = .ok (.checkcast 220, 3) := dk_192 0 220 (dk_at dksX3_aboard_3 10 rfl rfl)
theorem dX3_aboard_83 : decode cX3_aboard 83 = .ok (.getfield 245, 3) := dk_180 0 245 (dk_at dksX3_aboard_3 13 rfl rfl)
theorem dX3_aboard_86 : decode cX3_aboard 86 = .ok (.if_icmp .lt 9, 3) := dk_161 0 9 (dk_at dksX3_aboard_3 16 rfl rfl)
theorem dX3_aboard_89 : decode cX3_aboard 89 = .ok (.aload_n 0, 1) := dk_42 (dk_at dksX3_aboard_3 19 rfl rfl)
theorem dX3_aboard_90 : decode cX3_aboard 90 = .ok (.bipush 7, 2) := dk_16 7 (dk_at dksX3_aboard_3 20 rfl rfl)
theorem dX3_aboard_92 : decode cX3_aboard 92 = .ok (.invokevirtual 56, 3) := dk_182 0 56 (dk_at dksX3_aboard_4 0 rfl rfl)
theorem dX3_aboard_95 : decode cX3_aboard 95 = .ok (.aload_n 0, 1) := dk_42 (dk_at dksX3_aboard_4 3 rfl rfl)
theorem dX3_aboard_96 : decode cX3_aboard 96 = .ok (.invokevirtual 49, 3) := dk_182 0 49 (dk_at dksX3_aboard_4 4 rfl rfl)
theorem dX3_aboard_99 : decode cX3_aboard 99 = .ok (.aload_n 0, 1) := dk_42 (dk_at dksX3_aboard_4 7 rfl rfl)
theorem dX3_aboard_100 : decode cX3_aboard 100 = .ok (.invokevirtual 36, 3) := dk_182 0 36 (dk_at dksX3_aboard_4 8 rfl rfl)
theorem dX3_aboard_103 : decode cX3_aboard 103 = .ok (.ifCond .ne 21, 3) := dk_154 0 21 (dk_at dksX3_aboard_4 11 rfl rfl)
theorem dX3_aboard_106 : decode cX3_aboard 106 = .ok (.aload_n 0, 1) := dk_42 (dk_at dksX3_aboard_4 14 rfl rfl)
theorem dX3_aboard_107 : decode cX3_aboard 107 = .ok (.getfield 12, 3) := dk_180 0 12 (dk_at dksX3_aboard_4 15 rfl rfl)
theorem dX3_aboard_110 : decode cX3_aboard 110 = .ok (.getfield 247, 3) := dk_180 0 247 (dk_at dksX3_aboard_4 18 rfl rfl)
theorem dX3_aboard_113 : decode cX3_aboard 113 = .ok (.iload_n 1, 1) := dk_27 (dk_at dksX3_aboard_4 21 rfl rfl)
theorem dX3_aboard_114 : decode cX3_aboard 114 = .ok (.invokevirtual 264, 3) := dk_182 1 8 (dk_at dksX3_aboard_5 0 rfl rfl)
theorem dX3_aboard_117 : decode cX3_aboard 117 = .ok (.checkcast 250, 3) := dk_192 0 250 (dk_at dksX3_aboard_5 3 rfl rfl)
theorem dX3_aboard_120 : decode cX3_aboard 120 = .ok (.iload_n 2, 1) := dk_28 (dk_at dksX3_aboard_5 6 rfl rfl)
theorem dX3_aboard_121 : decode cX3_aboard 121 = .ok (.putfield 268, 3) := dk_181 1 12 (dk_at dksX3_aboard_5 7 rfl rfl)
theorem dX3_aboard_124 : decode cX3_aboard 124 = .ok (.return_, 1) := dk_177 (dk_at dksX3_aboard_5 10 rfl rfl)
abbrev cX3_knownLodger : ByteArray := prog_6_method_12_code
def yX3_knownLodger : MethodName := ⟨RX3, "knownLodger", "()I"⟩
def dkwX3_knownLodger_0 : List UInt8 := [42, 42, 180, 0, 12, 42, 180, 0, 28, 180, 0, 78, 182, 0, 89, 182, 0, 92, 172]
abbrev dktX3_knownLodger_0 : List UInt8 := dkwX3_knownLodger_0 ++ []
theorem dksX3_knownLodger_0 : cX3_knownLodger.data.toList.drop 0 = dktX3_knownLodger_0 := by decide +kernel
theorem dX3_knownLodger_0 : decode cX3_knownLodger 0 = .ok (.aload_n 0, 1) := dk_42 (dk_at dksX3_knownLodger_0 0 rfl rfl)
theorem dX3_knownLodger_1 : decode cX3_knownLodger 1 = .ok (.aload_n 0, 1) := dk_42 (dk_at dksX3_knownLodger_0 1 rfl rfl)
theorem dX3_knownLodger_2 : decode cX3_knownLodger 2 = .ok (.getfield 12, 3) := dk_180 0 12 (dk_at dksX3_knownLodger_0 2 rfl rfl)
theorem dX3_knownLodger_5 : decode cX3_knownLodger 5 = .ok (.aload_n 0, 1) := dk_42 (dk_at dksX3_knownLodger_0 5 rfl rfl)
theorem dX3_knownLodger_6 : decode cX3_knownLodger 6 = .ok (.getfield 28, 3) := dk_180 0 28 (dk_at dksX3_knownLodger_0 6 rfl rfl)
theorem dX3_knownLodger_9 : decode cX3_knownLodger 9 = .ok (.getfield 78, 3) := dk_180 0 78 (dk_at dksX3_knownLodger_0 9 rfl rfl)
theorem dX3_knownLodger_12 : decode cX3_knownLodger 12 = .ok (.invokevirtual 89, 3) := dk_182 0 89 (dk_at dksX3_knownLodger_0 12 rfl rfl)
theorem dX3_knownLodger_15 : decode cX3_knownLodger 15 = .ok (.invokevirtual 92, 3) := dk_182 0 92 (dk_at dksX3_knownLodger_0 15 rfl rfl)
theorem dX3_knownLodger_18 : decode cX3_knownLodger 18 = .ok (.ireturn, 1) := dk_172 (dk_at dksX3_knownLodger_0 18 rfl rfl)
abbrev cX3_known : ByteArray := prog_6_method_10_code
def yX3_known : MethodName := ⟨RX3, "known", "(I)I"⟩
def dkwX3_known_1 : List UInt8 := [182, 0, 56, 42, 182, 0, 36, 153, 0, 7, 3, 167, 0, 4, 27, 172]
abbrev dktX3_known_1 : List UInt8 := dkwX3_known_1 ++ []
def dkwX3_known_0 : List UInt8 := [42, 180, 0, 28, 182, 0, 75, 154, 0, 8, 42, 4, 182, 0, 56, 27, 2, 160, 0, 8, 42, 5]
abbrev dktX3_known_0 : List UInt8 := dkwX3_known_0 ++ dktX3_known_1
theorem dksX3_known_0 : cX3_known.data.toList.drop 0 = dktX3_known_0 := by decide +kernel
theorem dksX3_known_1 : cX3_known.data.toList.drop 22 = dktX3_known_1 := dk_seg dksX3_known_0 22 rfl rfl
theorem dX3_known_0 : decode cX3_known 0 = .ok (.aload_n 0, 1) := dk_42 (dk_at dksX3_known_0 0 rfl rfl)
theorem dX3_known_1 : decode cX3_known 1 = .ok (.getfield 28, 3) := dk_180 0 28 (dk_at dksX3_known_0 1 rfl rfl)
theorem dX3_known_4 : decode cX3_known 4 = .ok (.invokevirtual 75, 3) := dk_182 0 75 (dk_at dksX3_known_0 4 rfl rfl)
theorem dX3_known_7 : decode cX3_known 7 = .ok (.ifCond .ne 8, 3) := dk_154 0 8 (dk_at dksX3_known_0 7 rfl rfl)
theorem dX3_known_10 : decode cX3_known 10 = .ok (.aload_n 0, 1) := dk_42 (dk_at dksX3_known_0 10 rfl rfl)
theorem dX3_known_11 : decode cX3_known 11 = .ok (.iconst 1, 1) := dk_4 (dk_at dksX3_known_0 11 rfl rfl)
theorem dX3_known_12 : decode cX3_known 12 = .ok (.invokevirtual 56, 3) := dk_182 0 56 (dk_at dksX3_known_0 12 rfl rfl)
theorem dX3_known_15 : decode cX3_known 15 = .ok (.iload_n 1, 1) := dk_27 (dk_at dksX3_known_0 15 rfl rfl)
theorem dX3_known_16 : decode cX3_known 16 = .ok (.iconst (-1), 1) := dk_2 (dk_at dksX3_known_0 16 rfl rfl)
theorem dX3_known_17 : decode cX3_known 17 = .ok (.if_icmp .ne 8, 3) := dk_160 0 8 (dk_at dksX3_known_0 17 rfl rfl)
theorem dX3_known_20 : decode cX3_known 20 = .ok (.aload_n 0, 1) := dk_42 (dk_at dksX3_known_0 20 rfl rfl)
theorem dX3_known_21 : decode cX3_known 21 = .ok (.iconst 2, 1) := dk_5 (dk_at dksX3_known_0 21 rfl rfl)
theorem dX3_known_22 : decode cX3_known 22 = .ok (.invokevirtual 56, 3) := dk_182 0 56 (dk_at dksX3_known_1 0 rfl rfl)
theorem dX3_known_25 : decode cX3_known 25 = .ok (.aload_n 0, 1) := dk_42 (dk_at dksX3_known_1 3 rfl rfl)
theorem dX3_known_26 : decode cX3_known 26 = .ok (.invokevirtual 36, 3) := dk_182 0 36 (dk_at dksX3_known_1 4 rfl rfl)
theorem dX3_known_29 : decode cX3_known 29 = .ok (.ifCond .eq 7, 3) := dk_153 0 7 (dk_at dksX3_known_1 7 rfl rfl)
theorem dX3_known_32 : decode cX3_known 32 = .ok (.iconst 0, 1) := dk_3 (dk_at dksX3_known_1 10 rfl rfl)
theorem dX3_known_33 : decode cX3_known 33 = .ok (.goto 4, 3) := dk_167 0 4 (dk_at dksX3_known_1 11 rfl rfl)
theorem dX3_known_36 : decode cX3_known 36 = .ok (.iload_n 1, 1) := dk_27 (dk_at dksX3_known_1 14 rfl rfl)
theorem dX3_known_37 : decode cX3_known 37 = .ok (.ireturn, 1) := dk_172 (dk_at dksX3_known_1 15 rfl rfl)
abbrev cX3_knownHouse : ByteArray := prog_6_method_11_code
def yX3_knownHouse : MethodName := ⟨RX3, "knownHouse", "()I"⟩
def dkwX3_knownHouse_0 : List UInt8 := [42, 42, 180, 0, 12, 42, 180, 0, 28, 180, 0, 78, 182, 0, 86, 182, 0, 92, 172]
abbrev dktX3_knownHouse_0 : List UInt8 := dkwX3_knownHouse_0 ++ []
theorem dksX3_knownHouse_0 : cX3_knownHouse.data.toList.drop 0 = dktX3_knownHouse_0 := by decide +kernel
theorem dX3_knownHouse_0 : decode cX3_knownHouse 0 = .ok (.aload_n 0, 1) := dk_42 (dk_at dksX3_knownHouse_0 0 rfl rfl)
theorem dX3_knownHouse_1 : decode cX3_knownHouse 1 = .ok (.aload_n 0, 1) := dk_42 (dk_at dksX3_knownHouse_0 1 rfl rfl)
theorem dX3_knownHouse_2 : decode cX3_knownHouse 2 = .ok (.getfield 12, 3) := dk_180 0 12 (dk_at dksX3_knownHouse_0 2 rfl rfl)
theorem dX3_knownHouse_5 : decode cX3_knownHouse 5 = .ok (.aload_n 0, 1) := dk_42 (dk_at dksX3_knownHouse_0 5 rfl rfl)
theorem dX3_knownHouse_6 : decode cX3_knownHouse 6 = .ok (.getfield 28, 3) := dk_180 0 28 (dk_at dksX3_knownHouse_0 6 rfl rfl)
theorem dX3_knownHouse_9 : decode cX3_knownHouse 9 = .ok (.getfield 78, 3) := dk_180 0 78 (dk_at dksX3_knownHouse_0 9 rfl rfl)
theorem dX3_knownHouse_12 : decode cX3_knownHouse 12 = .ok (.invokevirtual 86, 3) := dk_182 0 86 (dk_at dksX3_knownHouse_0 12 rfl rfl)
theorem dX3_knownHouse_15 : decode cX3_knownHouse 15 = .ok (.invokevirtual 92, 3) := dk_182 0 92 (dk_at dksX3_knownHouse_0 15 rfl rfl)
theorem dX3_knownHouse_18 : decode cX3_knownHouse 18 = .ok (.ireturn, 1) := dk_172 (dk_at dksX3_knownHouse_0 18 rfl rfl)
abbrev cX3_friend : ByteArray := prog_6_method_24_code
def yX3_friend : MethodName := ⟨RX3, "friend", "()V"⟩
def dkwX3_friend_6 : List UInt8 := [177]
abbrev dktX3_friend_6 : List UInt8 := dkwX3_friend_6 ++ []
def dkwX3_friend_5 : List UInt8 := [89, 180, 1, 22, 4, 27, 120, 128, 181, 1, 22, 42, 180, 0, 12, 89, 180, 1, 19, 4, 96, 181, 1, 19]
abbrev dktX3_friend_5 : List UInt8 := dkwX3_friend_5 ++ dktX3_friend_6
def dkwX3_friend_4 : List UInt8 := [180, 1, 22, 4, 28, 120, 128, 181, 1, 22, 42, 180, 0, 12, 180, 0, 247, 28, 182, 1, 8, 192, 0, 250]
abbrev dktX3_friend_4 : List UInt8 := dkwX3_friend_4 ++ dktX3_friend_5
def dkwX3_friend_3 : List UInt8 := [87, 42, 182, 0, 36, 153, 0, 4, 177, 42, 180, 0, 12, 180, 0, 247, 27, 182, 1, 8, 192, 0, 250, 89]
abbrev dktX3_friend_3 : List UInt8 := dkwX3_friend_3 ++ dktX3_friend_4
def dkwX3_friend_2 : List UInt8 := [192, 0, 250, 180, 1, 22, 28, 184, 1, 25, 153, 0, 8, 42, 6, 182, 0, 56, 42, 27, 28, 182, 1, 29]
abbrev dktX3_friend_2 : List UInt8 := dkwX3_friend_2 ++ dktX3_friend_3
def dkwX3_friend_1 : List UInt8 := [182, 1, 5, 61, 42, 182, 0, 36, 154, 0, 32, 42, 180, 0, 12, 180, 0, 247, 27, 182, 1, 8]
abbrev dktX3_friend_1 : List UInt8 := dkwX3_friend_1 ++ dktX3_friend_2
def dkwX3_friend_0 : List UInt8 := [42, 42, 180, 0, 12, 180, 1, 19, 16, 6, 182, 0, 186, 42, 182, 1, 5, 60, 42, 182, 0, 49, 42]
abbrev dktX3_friend_0 : List UInt8 := dkwX3_friend_0 ++ dktX3_friend_1
theorem dksX3_friend_0 : cX3_friend.data.toList.drop 0 = dktX3_friend_0 := by decide +kernel
theorem dksX3_friend_1 : cX3_friend.data.toList.drop 23 = dktX3_friend_1 := dk_seg dksX3_friend_0 23 rfl rfl
theorem dksX3_friend_2 : cX3_friend.data.toList.drop 45 = dktX3_friend_2 := dk_seg dksX3_friend_1 22 rfl rfl
theorem dksX3_friend_3 : cX3_friend.data.toList.drop 69 = dktX3_friend_3 := dk_seg dksX3_friend_2 24 rfl rfl
theorem dksX3_friend_4 : cX3_friend.data.toList.drop 93 = dktX3_friend_4 := dk_seg dksX3_friend_3 24 rfl rfl
theorem dksX3_friend_5 : cX3_friend.data.toList.drop 117 = dktX3_friend_5 := dk_seg dksX3_friend_4 24 rfl rfl
theorem dksX3_friend_6 : cX3_friend.data.toList.drop 141 = dktX3_friend_6 := dk_seg dksX3_friend_5 24 rfl rfl
theorem dX3_friend_0 : decode cX3_friend 0 = .ok (.aload_n 0, 1) := dk_42 (dk_at dksX3_friend_0 0 rfl rfl)
theorem dX3_friend_1 : decode cX3_friend 1 = .ok (.aload_n 0, 1) := dk_42 (dk_at dksX3_friend_0 1 rfl rfl)
theorem dX3_friend_2 : decode cX3_friend 2 = .ok (.getfield 12, 3) := dk_180 0 12 (dk_at dksX3_friend_0 2 rfl rfl)
theorem dX3_friend_5 : decode cX3_friend 5 = .ok (.getfield 275, 3) := dk_180 1 19 (dk_at dksX3_friend_0 5 rfl rfl)
theorem dX3_friend_8 : decode cX3_friend 8 = .ok (.bipush 6, 2) := dk_16 6 (dk_at dksX3_friend_0 8 rfl rfl)
theorem dX3_friend_10 : decode cX3_friend 10 = .ok (.invokevirtual 186, 3) := dk_182 0 186 (dk_at dksX3_friend_0 10 rfl rfl)
theorem dX3_friend_13 : decode cX3_friend 13 = .ok (.aload_n 0, 1) := dk_42 (dk_at dksX3_friend_0 13 rfl rfl)
theorem dX3_friend_14 : decode cX3_friend 14 = .ok (.invokevirtual 261, 3) := dk_182 1 5 (dk_at dksX3_friend_0 14 rfl rfl)
theorem dX3_friend_17 : decode cX3_friend 17 = .ok (.istore_n 1, 1) := dk_60 (dk_at dksX3_friend_0 17 rfl rfl)
theorem dX3_friend_18 : decode cX3_friend 18 = .ok (.aload_n 0, 1) := dk_42 (dk_at dksX3_friend_0 18 rfl rfl)
theorem dX3_friend_19 : decode cX3_friend 19 = .ok (.invokevirtual 49, 3) := dk_182 0 49 (dk_at dksX3_friend_0 19 rfl rfl)
theorem dX3_friend_22 : decode cX3_friend 22 = .ok (.aload_n 0, 1) := dk_42 (dk_at dksX3_friend_0 22 rfl rfl)
theorem dX3_friend_23 : decode cX3_friend 23 = .ok (.invokevirtual 261, 3) := dk_182 1 5 (dk_at dksX3_friend_1 0 rfl rfl)
theorem dX3_friend_26 : decode cX3_friend 26 = .ok (.istore_n 2, 1) := dk_61 (dk_at dksX3_friend_1 3 rfl rfl)
theorem dX3_friend_27 : decode cX3_friend 27 = .ok (.aload_n 0, 1) := dk_42 (dk_at dksX3_friend_1 4 rfl rfl)
theorem dX3_friend_28 : decode cX3_friend 28 = .ok (.invokevirtual 36, 3) := dk_182 0 36 (dk_at dksX3_friend_1 5 rfl rfl)
theorem dX3_friend_31 : decode cX3_friend 31 = .ok (.ifCond .ne 32, 3) := dk_154 0 32 (dk_at dksX3_friend_1 8 rfl rfl)
theorem dX3_friend_34 : decode cX3_friend 34 = .ok (.aload_n 0, 1) := dk_42 (dk_at dksX3_friend_1 11 rfl rfl)
theorem dX3_friend_35 : decode cX3_friend 35 = .ok (.getfield 12, 3) := dk_180 0 12 (dk_at dksX3_friend_1 12 rfl rfl)
theorem dX3_friend_38 : decode cX3_friend 38 = .ok (.getfield 247, 3) := dk_180 0 247 (dk_at dksX3_friend_1 15 rfl rfl)
theorem dX3_friend_41 : decode cX3_friend 41 = .ok (.iload_n 1, 1) := dk_27 (dk_at dksX3_friend_1 18 rfl rfl)
theorem dX3_friend_42 : decode cX3_friend 42 = .ok (.invokevirtual 264, 3) := dk_182 1 8 (dk_at dksX3_friend_1 19 rfl rfl)
theorem dX3_friend_45 : decode cX3_friend 45 = .ok (.checkcast 250, 3) := dk_192 0 250 (dk_at dksX3_friend_2 0 rfl rfl)
theorem dX3_friend_48 : decode cX3_friend 48 = .ok (.getfield 278, 3) := dk_180 1 22 (dk_at dksX3_friend_2 3 rfl rfl)
theorem dX3_friend_51 : decode cX3_friend 51 = .ok (.iload_n 2, 1) := dk_28 (dk_at dksX3_friend_2 6 rfl rfl)
theorem dX3_friend_52 : decode cX3_friend 52 = .ok (.invokestatic 281, 3) := dk_184 1 25 (dk_at dksX3_friend_2 7 rfl rfl)
theorem dX3_friend_55 : decode cX3_friend 55 = .ok (.ifCond .eq 8, 3) := dk_153 0 8 (dk_at dksX3_friend_2 10 rfl rfl)
theorem dX3_friend_58 : decode cX3_friend 58 = .ok (.aload_n 0, 1) := dk_42 (dk_at dksX3_friend_2 13 rfl rfl)
theorem dX3_friend_59 : decode cX3_friend 59 = .ok (.iconst 3, 1) := dk_6 (dk_at dksX3_friend_2 14 rfl rfl)
theorem dX3_friend_60 : decode cX3_friend 60 = .ok (.invokevirtual 56, 3) := dk_182 0 56 (dk_at dksX3_friend_2 15 rfl rfl)
theorem dX3_friend_63 : decode cX3_friend 63 = .ok (.aload_n 0, 1) := dk_42 (dk_at dksX3_friend_2 18 rfl rfl)
theorem dX3_friend_64 : decode cX3_friend 64 = .ok (.iload_n 1, 1) := dk_27 (dk_at dksX3_friend_2 19 rfl rfl)
theorem dX3_friend_65 : decode cX3_friend 65 = .ok (.iload_n 2, 1) := dk_28 (dk_at dksX3_friend_2 20 rfl rfl)
theorem dX3_friend_66 : decode cX3_friend 66 = .ok (.invokevirtual 285, 3) := dk_182 1 29 (dk_at dksX3_friend_2 21 rfl rfl)
theorem dX3_friend_69 : decode cX3_friend 69 = .ok (.pop, 1) := dk_87 (dk_at dksX3_friend_3 0 rfl rfl)
theorem dX3_friend_70 : decode cX3_friend 70 = .ok (.aload_n 0, 1) := dk_42 (dk_at dksX3_friend_3 1 rfl rfl)
theorem dX3_friend_71 : decode cX3_friend 71 = .ok (.invokevirtual 36, 3) := dk_182 0 36 (dk_at dksX3_friend_3 2 rfl rfl)
theorem dX3_friend_74 : decode cX3_friend 74 = .ok (.ifCond .eq 4, 3) := dk_153 0 4 (dk_at dksX3_friend_3 5 rfl rfl)
theorem dX3_friend_77 : decode cX3_friend 77 = .ok (.return_, 1) := dk_177 (dk_at dksX3_friend_3 8 rfl rfl)
theorem dX3_friend_78 : decode cX3_friend 78 = .ok (.aload_n 0, 1) := dk_42 (dk_at dksX3_friend_3 9 rfl rfl)
theorem dX3_friend_79 : decode cX3_friend 79 = .ok (.getfield 12, 3) := dk_180 0 12 (dk_at dksX3_friend_3 10 rfl rfl)
theorem dX3_friend_82 : decode cX3_friend 82 = .ok (.getfield 247, 3) := dk_180 0 247 (dk_at dksX3_friend_3 13 rfl rfl)
theorem dX3_friend_85 : decode cX3_friend 85 = .ok (.iload_n 1, 1) := dk_27 (dk_at dksX3_friend_3 16 rfl rfl)
theorem dX3_friend_86 : decode cX3_friend 86 = .ok (.invokevirtual 264, 3) := dk_182 1 8 (dk_at dksX3_friend_3 17 rfl rfl)
theorem dX3_friend_89 : decode cX3_friend 89 = .ok (.checkcast 250, 3) := dk_192 0 250 (dk_at dksX3_friend_3 20 rfl rfl)
theorem dX3_friend_92 : decode cX3_friend 92 = .ok (.dup, 1) := dk_89 (dk_at dksX3_friend_3 23 rfl rfl)
theorem dX3_friend_93 : decode cX3_friend 93 = .ok (.getfield 278, 3) := dk_180 1 22 (dk_at dksX3_friend_4 0 rfl rfl)
theorem dX3_friend_96 : decode cX3_friend 96 = .ok (.iconst 1, 1) := dk_4 (dk_at dksX3_friend_4 3 rfl rfl)
theorem dX3_friend_97 : decode cX3_friend 97 = .ok (.iload_n 2, 1) := dk_28 (dk_at dksX3_friend_4 4 rfl rfl)
theorem dX3_friend_98 : decode cX3_friend 98 = .ok (.ishl, 1) := dk_120 (dk_at dksX3_friend_4 5 rfl rfl)
theorem dX3_friend_99 : decode cX3_friend 99 = .ok (.ior, 1) := dk_128 (dk_at dksX3_friend_4 6 rfl rfl)
theorem dX3_friend_100 : decode cX3_friend 100 = .ok (.putfield 278, 3) := dk_181 1 22 (dk_at dksX3_friend_4 7 rfl rfl)
theorem dX3_friend_103 : decode cX3_friend 103 = .ok (.aload_n 0, 1) := dk_42 (dk_at dksX3_friend_4 10 rfl rfl)
theorem dX3_friend_104 : decode cX3_friend 104 = .ok (.getfield 12, 3) := dk_180 0 12 (dk_at dksX3_friend_4 11 rfl rfl)
theorem dX3_friend_107 : decode cX3_friend 107 = .ok (.getfield 247, 3) := dk_180 0 247 (dk_at dksX3_friend_4 14 rfl rfl)
theorem dX3_friend_110 : decode cX3_friend 110 = .ok (.iload_n 2, 1) := dk_28 (dk_at dksX3_friend_4 17 rfl rfl)
theorem dX3_friend_111 : decode cX3_friend 111 = .ok (.invokevirtual 264, 3) := dk_182 1 8 (dk_at dksX3_friend_4 18 rfl rfl)
theorem dX3_friend_114 : decode cX3_friend 114 = .ok (.checkcast 250, 3) := dk_192 0 250 (dk_at dksX3_friend_4 21 rfl rfl)
theorem dX3_friend_117 : decode cX3_friend 117 = .ok (.dup, 1) := dk_89 (dk_at dksX3_friend_5 0 rfl rfl)
theorem dX3_friend_118 : decode cX3_friend 118 = .ok (.getfield 278, 3) := dk_180 1 22 (dk_at dksX3_friend_5 1 rfl rfl)
theorem dX3_friend_121 : decode cX3_friend 121 = .ok (.iconst 1, 1) := dk_4 (dk_at dksX3_friend_5 4 rfl rfl)
theorem dX3_friend_122 : decode cX3_friend 122 = .ok (.iload_n 1, 1) := dk_27 (dk_at dksX3_friend_5 5 rfl rfl)
theorem dX3_friend_123 : decode cX3_friend 123 = .ok (.ishl, 1) := dk_120 (dk_at dksX3_friend_5 6 rfl rfl)
theorem dX3_friend_124 : decode cX3_friend 124 = .ok (.ior, 1) := dk_128 (dk_at dksX3_friend_5 7 rfl rfl)
theorem dX3_friend_125 : decode cX3_friend 125 = .ok (.putfield 278, 3) := dk_181 1 22 (dk_at dksX3_friend_5 8 rfl rfl)
theorem dX3_friend_128 : decode cX3_friend 128 = .ok (.aload_n 0, 1) := dk_42 (dk_at dksX3_friend_5 11 rfl rfl)
theorem dX3_friend_129 : decode cX3_friend 129 = .ok (.getfield 12, 3) := dk_180 0 12 (dk_at dksX3_friend_5 12 rfl rfl)
theorem dX3_friend_132 : decode cX3_friend 132 = .ok (.dup, 1) := dk_89 (dk_at dksX3_friend_5 15 rfl rfl)
theorem dX3_friend_133 : decode cX3_friend 133 = .ok (.getfield 275, 3) := dk_180 1 19 (dk_at dksX3_friend_5 16 rfl rfl)
theorem dX3_friend_136 : decode cX3_friend 136 = .ok (.iconst 1, 1) := dk_4 (dk_at dksX3_friend_5 19 rfl rfl)
theorem dX3_friend_137 : decode cX3_friend 137 = .ok (.iadd, 1) := dk_96 (dk_at dksX3_friend_5 20 rfl rfl)
theorem dX3_friend_138 : decode cX3_friend 138 = .ok (.putfield 275, 3) := dk_181 1 19 (dk_at dksX3_friend_5 21 rfl rfl)
theorem dX3_friend_141 : decode cX3_friend 141 = .ok (.return_, 1) := dk_177 (dk_at dksX3_friend_6 0 rfl rfl)
abbrev cX3_unlike : ByteArray := prog_6_method_13_code
def yX3_unlike : MethodName := ⟨RX3, "unlike", "(II)I"⟩
def dkwX3_unlike_0 : List UInt8 := [42, 182, 0, 36, 154, 0, 13, 27, 28, 160, 0, 8, 42, 6, 182, 0, 56, 42, 182, 0, 49, 28, 172]
abbrev dktX3_unlike_0 : List UInt8 := dkwX3_unlike_0 ++ []
theorem dksX3_unlike_0 : cX3_unlike.data.toList.drop 0 = dktX3_unlike_0 := by decide +kernel
theorem dX3_unlike_0 : decode cX3_unlike 0 = .ok (.aload_n 0, 1) := dk_42 (dk_at dksX3_unlike_0 0 rfl rfl)
theorem dX3_unlike_1 : decode cX3_unlike 1 = .ok (.invokevirtual 36, 3) := dk_182 0 36 (dk_at dksX3_unlike_0 1 rfl rfl)
theorem dX3_unlike_4 : decode cX3_unlike 4 = .ok (.ifCond .ne 13, 3) := dk_154 0 13 (dk_at dksX3_unlike_0 4 rfl rfl)
theorem dX3_unlike_7 : decode cX3_unlike 7 = .ok (.iload_n 1, 1) := dk_27 (dk_at dksX3_unlike_0 7 rfl rfl)
theorem dX3_unlike_8 : decode cX3_unlike 8 = .ok (.iload_n 2, 1) := dk_28 (dk_at dksX3_unlike_0 8 rfl rfl)
theorem dX3_unlike_9 : decode cX3_unlike 9 = .ok (.if_icmp .ne 8, 3) := dk_160 0 8 (dk_at dksX3_unlike_0 9 rfl rfl)
theorem dX3_unlike_12 : decode cX3_unlike 12 = .ok (.aload_n 0, 1) := dk_42 (dk_at dksX3_unlike_0 12 rfl rfl)
theorem dX3_unlike_13 : decode cX3_unlike 13 = .ok (.iconst 3, 1) := dk_6 (dk_at dksX3_unlike_0 13 rfl rfl)
theorem dX3_unlike_14 : decode cX3_unlike 14 = .ok (.invokevirtual 56, 3) := dk_182 0 56 (dk_at dksX3_unlike_0 14 rfl rfl)
theorem dX3_unlike_17 : decode cX3_unlike 17 = .ok (.aload_n 0, 1) := dk_42 (dk_at dksX3_unlike_0 17 rfl rfl)
theorem dX3_unlike_18 : decode cX3_unlike 18 = .ok (.invokevirtual 49, 3) := dk_182 0 49 (dk_at dksX3_unlike_0 18 rfl rfl)
theorem dX3_unlike_21 : decode cX3_unlike 21 = .ok (.iload_n 2, 1) := dk_28 (dk_at dksX3_unlike_0 21 rfl rfl)
theorem dX3_unlike_22 : decode cX3_unlike 22 = .ok (.ireturn, 1) := dk_172 (dk_at dksX3_unlike_0 22 rfl rfl)
abbrev cX3_prize : ByteArray := prog_6_method_25_code
def yX3_prize : MethodName := ⟨RX3, "prize", "()V"⟩
def dkwX3_prize_2 : List UInt8 := [89, 180, 1, 32, 4, 96, 181, 1, 32, 177]
abbrev dktX3_prize_2 : List UInt8 := dkwX3_prize_2 ++ []
def dkwX3_prize_1 : List UInt8 := [153, 0, 4, 177, 42, 180, 0, 12, 180, 1, 35, 42, 180, 0, 12, 180, 1, 32, 27, 79, 42, 180, 0, 12]
abbrev dktX3_prize_1 : List UInt8 := dkwX3_prize_1 ++ dktX3_prize_2
def dkwX3_prize_0 : List UInt8 := [42, 42, 180, 0, 12, 180, 1, 32, 7, 182, 0, 186, 42, 3, 16, 99, 182, 0, 71, 60, 42, 182, 0, 36]
abbrev dktX3_prize_0 : List UInt8 := dkwX3_prize_0 ++ dktX3_prize_1
theorem dksX3_prize_0 : cX3_prize.data.toList.drop 0 = dktX3_prize_0 := by decide +kernel
theorem dksX3_prize_1 : cX3_prize.data.toList.drop 24 = dktX3_prize_1 := dk_seg dksX3_prize_0 24 rfl rfl
theorem dksX3_prize_2 : cX3_prize.data.toList.drop 48 = dktX3_prize_2 := dk_seg dksX3_prize_1 24 rfl rfl
theorem dX3_prize_0 : decode cX3_prize 0 = .ok (.aload_n 0, 1) := dk_42 (dk_at dksX3_prize_0 0 rfl rfl)
theorem dX3_prize_1 : decode cX3_prize 1 = .ok (.aload_n 0, 1) := dk_42 (dk_at dksX3_prize_0 1 rfl rfl)
theorem dX3_prize_2 : decode cX3_prize 2 = .ok (.getfield 12, 3) := dk_180 0 12 (dk_at dksX3_prize_0 2 rfl rfl)
theorem dX3_prize_5 : decode cX3_prize 5 = .ok (.getfield 288, 3) := dk_180 1 32 (dk_at dksX3_prize_0 5 rfl rfl)
theorem dX3_prize_8 : decode cX3_prize 8 = .ok (.iconst 4, 1) := dk_7 (dk_at dksX3_prize_0 8 rfl rfl)
theorem dX3_prize_9 : decode cX3_prize 9 = .ok (.invokevirtual 186, 3) := dk_182 0 186 (dk_at dksX3_prize_0 9 rfl rfl)
theorem dX3_prize_12 : decode cX3_prize 12 = .ok (.aload_n 0, 1) := dk_42 (dk_at dksX3_prize_0 12 rfl rfl)
theorem dX3_prize_13 : decode cX3_prize 13 = .ok (.iconst 0, 1) := dk_3 (dk_at dksX3_prize_0 13 rfl rfl)
theorem dX3_prize_14 : decode cX3_prize 14 = .ok (.bipush 99, 2) := dk_16 99 (dk_at dksX3_prize_0 14 rfl rfl)
theorem dX3_prize_16 : decode cX3_prize 16 = .ok (.invokevirtual 71, 3) := dk_182 0 71 (dk_at dksX3_prize_0 16 rfl rfl)
theorem dX3_prize_19 : decode cX3_prize 19 = .ok (.istore_n 1, 1) := dk_60 (dk_at dksX3_prize_0 19 rfl rfl)
theorem dX3_prize_20 : decode cX3_prize 20 = .ok (.aload_n 0, 1) := dk_42 (dk_at dksX3_prize_0 20 rfl rfl)
theorem dX3_prize_21 : decode cX3_prize 21 = .ok (.invokevirtual 36, 3) := dk_182 0 36 (dk_at dksX3_prize_0 21 rfl rfl)
theorem dX3_prize_24 : decode cX3_prize 24 = .ok (.ifCond .eq 4, 3) := dk_153 0 4 (dk_at dksX3_prize_1 0 rfl rfl)
theorem dX3_prize_27 : decode cX3_prize 27 = .ok (.return_, 1) := dk_177 (dk_at dksX3_prize_1 3 rfl rfl)
theorem dX3_prize_28 : decode cX3_prize 28 = .ok (.aload_n 0, 1) := dk_42 (dk_at dksX3_prize_1 4 rfl rfl)
theorem dX3_prize_29 : decode cX3_prize 29 = .ok (.getfield 12, 3) := dk_180 0 12 (dk_at dksX3_prize_1 5 rfl rfl)
theorem dX3_prize_32 : decode cX3_prize 32 = .ok (.getfield 291, 3) := dk_180 1 35 (dk_at dksX3_prize_1 8 rfl rfl)
theorem dX3_prize_35 : decode cX3_prize 35 = .ok (.aload_n 0, 1) := dk_42 (dk_at dksX3_prize_1 11 rfl rfl)
theorem dX3_prize_36 : decode cX3_prize 36 = .ok (.getfield 12, 3) := dk_180 0 12 (dk_at dksX3_prize_1 12 rfl rfl)
theorem dX3_prize_39 : decode cX3_prize 39 = .ok (.getfield 288, 3) := dk_180 1 32 (dk_at dksX3_prize_1 15 rfl rfl)
theorem dX3_prize_42 : decode cX3_prize 42 = .ok (.iload_n 1, 1) := dk_27 (dk_at dksX3_prize_1 18 rfl rfl)
theorem dX3_prize_43 : decode cX3_prize 43 = .ok (.iastore, 1) := dk_79 (dk_at dksX3_prize_1 19 rfl rfl)
theorem dX3_prize_44 : decode cX3_prize 44 = .ok (.aload_n 0, 1) := dk_42 (dk_at dksX3_prize_1 20 rfl rfl)
theorem dX3_prize_45 : decode cX3_prize 45 = .ok (.getfield 12, 3) := dk_180 0 12 (dk_at dksX3_prize_1 21 rfl rfl)
theorem dX3_prize_48 : decode cX3_prize 48 = .ok (.dup, 1) := dk_89 (dk_at dksX3_prize_2 0 rfl rfl)
theorem dX3_prize_49 : decode cX3_prize 49 = .ok (.getfield 288, 3) := dk_180 1 32 (dk_at dksX3_prize_2 1 rfl rfl)
theorem dX3_prize_52 : decode cX3_prize 52 = .ok (.iconst 1, 1) := dk_4 (dk_at dksX3_prize_2 4 rfl rfl)
theorem dX3_prize_53 : decode cX3_prize 53 = .ok (.iadd, 1) := dk_96 (dk_at dksX3_prize_2 5 rfl rfl)
theorem dX3_prize_54 : decode cX3_prize 54 = .ok (.putfield 288, 3) := dk_181 1 32 (dk_at dksX3_prize_2 6 rfl rfl)
theorem dX3_prize_57 : decode cX3_prize 57 = .ok (.return_, 1) := dk_177 (dk_at dksX3_prize_2 9 rfl rfl)
abbrev cX3_saw : ByteArray := prog_6_method_26_code
def yX3_saw : MethodName := ⟨RX3, "saw", "()V"⟩
def dkwX3_saw_3 : List UInt8 := [180, 1, 39, 187, 1, 42, 89, 27, 28, 29, 183, 1, 44, 182, 0, 209, 87, 177]
abbrev dktX3_saw_3 : List UInt8 := dkwX3_saw_3 ++ []
def dkwX3_saw_2 : List UInt8 := [182, 0, 82, 182, 0, 92, 62, 42, 182, 0, 49, 42, 182, 0, 36, 154, 0, 24, 42, 180, 0, 12]
abbrev dktX3_saw_2 : List UInt8 := dkwX3_saw_2 ++ dktX3_saw_3
def dkwX3_saw_1 : List UInt8 := [42, 27, 42, 182, 1, 14, 182, 1, 29, 61, 42, 42, 180, 0, 12, 42, 180, 0, 28, 180, 0, 78]
abbrev dktX3_saw_1 : List UInt8 := dkwX3_saw_1 ++ dktX3_saw_2
def dkwX3_saw_0 : List UInt8 := [42, 42, 180, 0, 12, 180, 1, 39, 182, 0, 183, 8, 182, 0, 186, 42, 182, 1, 14, 60, 42, 182, 0, 49]
abbrev dktX3_saw_0 : List UInt8 := dkwX3_saw_0 ++ dktX3_saw_1
theorem dksX3_saw_0 : cX3_saw.data.toList.drop 0 = dktX3_saw_0 := by decide +kernel
theorem dksX3_saw_1 : cX3_saw.data.toList.drop 24 = dktX3_saw_1 := dk_seg dksX3_saw_0 24 rfl rfl
theorem dksX3_saw_2 : cX3_saw.data.toList.drop 46 = dktX3_saw_2 := dk_seg dksX3_saw_1 22 rfl rfl
theorem dksX3_saw_3 : cX3_saw.data.toList.drop 68 = dktX3_saw_3 := dk_seg dksX3_saw_2 22 rfl rfl
theorem dX3_saw_0 : decode cX3_saw 0 = .ok (.aload_n 0, 1) := dk_42 (dk_at dksX3_saw_0 0 rfl rfl)
theorem dX3_saw_1 : decode cX3_saw 1 = .ok (.aload_n 0, 1) := dk_42 (dk_at dksX3_saw_0 1 rfl rfl)
theorem dX3_saw_2 : decode cX3_saw 2 = .ok (.getfield 12, 3) := dk_180 0 12 (dk_at dksX3_saw_0 2 rfl rfl)
theorem dX3_saw_5 : decode cX3_saw 5 = .ok (.getfield 295, 3) := dk_180 1 39 (dk_at dksX3_saw_0 5 rfl rfl)
theorem dX3_saw_8 : decode cX3_saw 8 = .ok (.invokevirtual 183, 3) := dk_182 0 183 (dk_at dksX3_saw_0 8 rfl rfl)
theorem dX3_saw_11 : decode cX3_saw 11 = .ok (.iconst 5, 1) := dk_8 (dk_at dksX3_saw_0 11 rfl rfl)
theorem dX3_saw_12 : decode cX3_saw 12 = .ok (.invokevirtual 186, 3) := dk_182 0 186 (dk_at dksX3_saw_0 12 rfl rfl)
theorem dX3_saw_15 : decode cX3_saw 15 = .ok (.aload_n 0, 1) := dk_42 (dk_at dksX3_saw_0 15 rfl rfl)
theorem dX3_saw_16 : decode cX3_saw 16 = .ok (.invokevirtual 270, 3) := dk_182 1 14 (dk_at dksX3_saw_0 16 rfl rfl)
theorem dX3_saw_19 : decode cX3_saw 19 = .ok (.istore_n 1, 1) := dk_60 (dk_at dksX3_saw_0 19 rfl rfl)
theorem dX3_saw_20 : decode cX3_saw 20 = .ok (.aload_n 0, 1) := dk_42 (dk_at dksX3_saw_0 20 rfl rfl)
theorem dX3_saw_21 : decode cX3_saw 21 = .ok (.invokevirtual 49, 3) := dk_182 0 49 (dk_at dksX3_saw_0 21 rfl rfl)
theorem dX3_saw_24 : decode cX3_saw 24 = .ok (.aload_n 0, 1) := dk_42 (dk_at dksX3_saw_1 0 rfl rfl)
theorem dX3_saw_25 : decode cX3_saw 25 = .ok (.iload_n 1, 1) := dk_27 (dk_at dksX3_saw_1 1 rfl rfl)
theorem dX3_saw_26 : decode cX3_saw 26 = .ok (.aload_n 0, 1) := dk_42 (dk_at dksX3_saw_1 2 rfl rfl)
theorem dX3_saw_27 : decode cX3_saw 27 = .ok (.invokevirtual 270, 3) := dk_182 1 14 (dk_at dksX3_saw_1 3 rfl rfl)
theorem dX3_saw_30 : decode cX3_saw 30 = .ok (.invokevirtual 285, 3) := dk_182 1 29 (dk_at dksX3_saw_1 6 rfl rfl)
theorem dX3_saw_33 : decode cX3_saw 33 = .ok (.istore_n 2, 1) := dk_61 (dk_at dksX3_saw_1 9 rfl rfl)
theorem dX3_saw_34 : decode cX3_saw 34 = .ok (.aload_n 0, 1) := dk_42 (dk_at dksX3_saw_1 10 rfl rfl)
theorem dX3_saw_35 : decode cX3_saw 35 = .ok (.aload_n 0, 1) := dk_42 (dk_at dksX3_saw_1 11 rfl rfl)
theorem dX3_saw_36 : decode cX3_saw 36 = .ok (.getfield 12, 3) := dk_180 0 12 (dk_at dksX3_saw_1 12 rfl rfl)
theorem dX3_saw_39 : decode cX3_saw 39 = .ok (.aload_n 0, 1) := dk_42 (dk_at dksX3_saw_1 15 rfl rfl)
theorem dX3_saw_40 : decode cX3_saw 40 = .ok (.getfield 28, 3) := dk_180 0 28 (dk_at dksX3_saw_1 16 rfl rfl)
theorem dX3_saw_43 : decode cX3_saw 43 = .ok (.getfield 78, 3) := dk_180 0 78 (dk_at dksX3_saw_1 19 rfl rfl)
theorem dX3_saw_46 : decode cX3_saw 46 = .ok (.invokevirtual 82, 3) := dk_182 0 82 (dk_at dksX3_saw_2 0 rfl rfl)
theorem dX3_saw_49 : decode cX3_saw 49 = .ok (.invokevirtual 92, 3) := dk_182 0 92 (dk_at dksX3_saw_2 3 rfl rfl)
theorem dX3_saw_52 : decode cX3_saw 52 = .ok (.istore_n 3, 1) := dk_62 (dk_at dksX3_saw_2 6 rfl rfl)
theorem dX3_saw_53 : decode cX3_saw 53 = .ok (.aload_n 0, 1) := dk_42 (dk_at dksX3_saw_2 7 rfl rfl)
theorem dX3_saw_54 : decode cX3_saw 54 = .ok (.invokevirtual 49, 3) := dk_182 0 49 (dk_at dksX3_saw_2 8 rfl rfl)
theorem dX3_saw_57 : decode cX3_saw 57 = .ok (.aload_n 0, 1) := dk_42 (dk_at dksX3_saw_2 11 rfl rfl)
theorem dX3_saw_58 : decode cX3_saw 58 = .ok (.invokevirtual 36, 3) := dk_182 0 36 (dk_at dksX3_saw_2 12 rfl rfl)
theorem dX3_saw_61 : decode cX3_saw 61 = .ok (.ifCond .ne 24, 3) := dk_154 0 24 (dk_at dksX3_saw_2 15 rfl rfl)
theorem dX3_saw_64 : decode cX3_saw 64 = .ok (.aload_n 0, 1) := dk_42 (dk_at dksX3_saw_2 18 rfl rfl)
theorem dX3_saw_65 : decode cX3_saw 65 = .ok (.getfield 12, 3) := dk_180 0 12 (dk_at dksX3_saw_2 19 rfl rfl)
theorem dX3_saw_68 : decode cX3_saw 68 = .ok (.getfield 295, 3) := dk_180 1 39 (dk_at dksX3_saw_3 0 rfl rfl)
theorem dX3_saw_71 : decode cX3_saw 71 = .ok (.new 298, 3) := dk_187 1 42 (dk_at dksX3_saw_3 3 rfl rfl)
theorem dX3_saw_74 : decode cX3_saw 74 = .ok (.dup, 1) := dk_89 (dk_at dksX3_saw_3 6 rfl rfl)
theorem dX3_saw_75 : decode cX3_saw 75 = .ok (.iload_n 1, 1) := dk_27 (dk_at dksX3_saw_3 7 rfl rfl)
theorem dX3_saw_76 : decode cX3_saw 76 = .ok (.iload_n 2, 1) := dk_28 (dk_at dksX3_saw_3 8 rfl rfl)
theorem dX3_saw_77 : decode cX3_saw 77 = .ok (.iload_n 3, 1) := dk_29 (dk_at dksX3_saw_3 9 rfl rfl)
theorem dX3_saw_78 : decode cX3_saw 78 = .ok (.invokespecial 300, 3) := dk_183 1 44 (dk_at dksX3_saw_3 10 rfl rfl)
theorem dX3_saw_81 : decode cX3_saw 81 = .ok (.invokevirtual 209, 3) := dk_182 0 209 (dk_at dksX3_saw_3 13 rfl rfl)
theorem dX3_saw_84 : decode cX3_saw 84 = .ok (.pop, 1) := dk_87 (dk_at dksX3_saw_3 16 rfl rfl)
theorem dX3_saw_85 : decode cX3_saw 85 = .ok (.return_, 1) := dk_177 (dk_at dksX3_saw_3 17 rfl rfl)
abbrev cX3_eatsSemicolon : ByteArray := prog_6_method_5_code
def yX3_eatsSemicolon : MethodName := ⟨RX3, "eatsSemicolon", "()Z"⟩
def dkwX3_eatsSemicolon_1 : List UInt8 := [4, 172]
abbrev dktX3_eatsSemicolon_1 : List UInt8 := dkwX3_eatsSemicolon_1 ++ []
def dkwX3_eatsSemicolon_0 : List UInt8 := [42, 182, 0, 36, 154, 0, 14, 42, 180, 0, 28, 180, 0, 46, 7, 159, 0, 5, 3, 172, 42, 182, 0, 49]
abbrev dktX3_eatsSemicolon_0 : List UInt8 := dkwX3_eatsSemicolon_0 ++ dktX3_eatsSemicolon_1
theorem dksX3_eatsSemicolon_0 : cX3_eatsSemicolon.data.toList.drop 0 = dktX3_eatsSemicolon_0 := by decide +kernel
theorem dksX3_eatsSemicolon_1 : cX3_eatsSemicolon.data.toList.drop 24 = dktX3_eatsSemicolon_1 := dk_seg dksX3_eatsSemicolon_0 24 rfl rfl
theorem dX3_eatsSemicolon_0 : decode cX3_eatsSemicolon 0 = .ok (.aload_n 0, 1) := dk_42 (dk_at dksX3_eatsSemicolon_0 0 rfl rfl)
theorem dX3_eatsSemicolon_1 : decode cX3_eatsSemicolon 1 = .ok (.invokevirtual 36, 3) := dk_182 0 36 (dk_at dksX3_eatsSemicolon_0 1 rfl rfl)
theorem dX3_eatsSemicolon_4 : decode cX3_eatsSemicolon 4 = .ok (.ifCond .ne 14, 3) := dk_154 0 14 (dk_at dksX3_eatsSemicolon_0 4 rfl rfl)
theorem dX3_eatsSemicolon_7 : decode cX3_eatsSemicolon 7 = .ok (.aload_n 0, 1) := dk_42 (dk_at dksX3_eatsSemicolon_0 7 rfl rfl)
theorem dX3_eatsSemicolon_8 : decode cX3_eatsSemicolon 8 = .ok (.getfield 28, 3) := dk_180 0 28 (dk_at dksX3_eatsSemicolon_0 8 rfl rfl)
theorem dX3_eatsSemicolon_11 : decode cX3_eatsSemicolon 11 = .ok (.getfield 46, 3) := dk_180 0 46 (dk_at dksX3_eatsSemicolon_0 11 rfl rfl)
theorem dX3_eatsSemicolon_14 : decode cX3_eatsSemicolon 14 = .ok (.iconst 4, 1) := dk_7 (dk_at dksX3_eatsSemicolon_0 14 rfl rfl)
theorem dX3_eatsSemicolon_15 : decode cX3_eatsSemicolon 15 = .ok (.if_icmp .eq 5, 3) := dk_159 0 5 (dk_at dksX3_eatsSemicolon_0 15 rfl rfl)
theorem dX3_eatsSemicolon_18 : decode cX3_eatsSemicolon 18 = .ok (.iconst 0, 1) := dk_3 (dk_at dksX3_eatsSemicolon_0 18 rfl rfl)
theorem dX3_eatsSemicolon_19 : decode cX3_eatsSemicolon 19 = .ok (.ireturn, 1) := dk_172 (dk_at dksX3_eatsSemicolon_0 19 rfl rfl)
theorem dX3_eatsSemicolon_20 : decode cX3_eatsSemicolon 20 = .ok (.aload_n 0, 1) := dk_42 (dk_at dksX3_eatsSemicolon_0 20 rfl rfl)
theorem dX3_eatsSemicolon_21 : decode cX3_eatsSemicolon 21 = .ok (.invokevirtual 49, 3) := dk_182 0 49 (dk_at dksX3_eatsSemicolon_0 21 rfl rfl)
theorem dX3_eatsSemicolon_24 : decode cX3_eatsSemicolon 24 = .ok (.iconst 1, 1) := dk_4 (dk_at dksX3_eatsSemicolon_1 0 rfl rfl)
theorem dX3_eatsSemicolon_25 : decode cX3_eatsSemicolon 25 = .ok (.ireturn, 1) := dk_172 (dk_at dksX3_eatsSemicolon_1 1 rfl rfl)
theorem q129 : (Jvm.Cond.initialized "RoofRegatta$Reader") ∈ lw_all := lw_g (lw_at lw_m1 6 rfl) rfl
theorem q266 : (Jvm.Cond.instantiable "RoofRegatta$Reader" (5 : Nat)) ∈ lw_all := lw_g (lw_at lw_m1 143 rfl) rfl
theorem q284 : (Jvm.Cond.instanceMethod ({ cls := "RoofRegatta$Reader", name := "<init>", desc := "(LRoofRegatta$Tokens;)V" } : Jvm.MethodName)) ∈ lw_all := lw_g (lw_at lw_m1 161 rfl) rfl
theorem q285 : (Jvm.Cond.code ({ cls := "RoofRegatta$Reader", name := "<init>", desc := "(LRoofRegatta$Tokens;)V" } : Jvm.MethodName) prog_6_method_1_code (2 : Nat) (Option.none : Option Jvm.ClassFile.FieldType)) ∈ lw_all := lw_g (lw_at lw_m1 162 rfl) rfl
theorem q286 : (Jvm.Cond.methodLink "RoofRegatta$Reader" (3 : Nat) ({ cls := "java/lang/Object", name := "<init>", desc := "()V" } : Jvm.MethodName)) ∈ lw_all := lw_g (lw_at lw_m1 163 rfl) rfl
theorem q287 : (Jvm.Cond.classLink "RoofRegatta$Reader" (9 : Nat) "RoofRegatta$Regatta") ∈ lw_all := lw_g (lw_at lw_m1 164 rfl) rfl
theorem q289 : (Jvm.Cond.methodLinkNest "RoofRegatta$Reader" (11 : Nat) ({ cls := "RoofRegatta$Regatta", name := "<init>", desc := "()V" } : Jvm.MethodName) "RoofRegatta") ∈ lw_tbl := lw_at lw_m1 166 rfl
theorem q296 : (Jvm.Cond.fieldLink "RoofRegatta$Reader" (106 : Nat) "RoofRegatta$Regatta" "water" "I") ∈ lw_all := lw_g (lw_at lw_m1 173 rfl) rfl
theorem q298 : (Jvm.Cond.fieldLink "RoofRegatta$Reader" (172 : Nat) "RoofRegatta$Regatta" "bridge" "I") ∈ lw_all := lw_g (lw_at lw_m1 175 rfl) rfl
theorem q301 : (Jvm.Cond.fieldLink "RoofRegatta$Reader" (174 : Nat) "RoofRegatta$Regatta" "storey" "I") ∈ lw_all := lw_g (lw_at lw_m1 178 rfl) rfl
theorem q303 : (Jvm.Cond.fieldLink "RoofRegatta$Reader" (176 : Nat) "RoofRegatta$Regatta" "rain" "I") ∈ lw_all := lw_g (lw_at lw_m1 180 rfl) rfl
theorem q306 : (Jvm.Cond.fieldLink "RoofRegatta$Reader" (178 : Nat) "RoofRegatta$Regatta" "by" "I") ∈ lw_all := lw_g (lw_at lw_m1 183 rfl) rfl
theorem q308 : (Jvm.Cond.fieldLink "RoofRegatta$Reader" (275 : Nat) "RoofRegatta$Regatta" "friendships" "I") ∈ lw_all := lw_g (lw_at lw_m1 185 rfl) rfl
theorem q311 : (Jvm.Cond.fieldLink "RoofRegatta$Reader" (288 : Nat) "RoofRegatta$Regatta" "manyPrizes" "I") ∈ lw_all := lw_g (lw_at lw_m1 188 rfl) rfl
theorem q315 : (Jvm.Cond.fieldLink "RoofRegatta$Reader" (291 : Nat) "RoofRegatta$Regatta" "prizes" "[I") ∈ lw_all := lw_g (lw_at lw_m1 192 rfl) rfl
theorem q319 : (Jvm.Cond.fieldLink "RoofRegatta$Reader" (180 : Nat) "RoofRegatta$Regatta" "bends" "Ljava/util/ArrayList;") ∈ lw_all := lw_g (lw_at lw_m1 196 rfl) rfl
theorem q322 : (Jvm.Cond.fieldLink "RoofRegatta$Reader" (109 : Nat) "RoofRegatta$Regatta" "houses" "Ljava/util/ArrayList;") ∈ lw_all := lw_g (lw_at lw_m1 199 rfl) rfl
theorem q327 : (Jvm.Cond.fieldLink "RoofRegatta$Reader" (247 : Nat) "RoofRegatta$Regatta" "lodgers" "Ljava/util/ArrayList;") ∈ lw_all := lw_g (lw_at lw_m1 204 rfl) rfl
theorem q329 : (Jvm.Cond.fieldLink "RoofRegatta$Reader" (295 : Nat) "RoofRegatta$Regatta" "seen" "Ljava/util/ArrayList;") ∈ lw_all := lw_g (lw_at lw_m1 206 rfl) rfl
theorem q356 : (Jvm.Cond.methodLink "RoofRegatta$Reader" (22 : Nat) ({ cls := "RoofRegatta$Tokens", name := "next", desc := "()LRoofRegatta$Token;" } : Jvm.MethodName)) ∈ lw_all := lw_g (lw_at lw_m1 233 rfl) rfl
theorem q372 : (Jvm.Cond.fieldLink "RoofRegatta$Reader" (46 : Nat) "RoofRegatta$Token" "sort" "I") ∈ lw_all := lw_g (lw_at lw_m2 9 rfl) rfl
theorem q374 : (Jvm.Cond.fieldLink "RoofRegatta$Reader" (40 : Nat) "RoofRegatta$Token" "place" "I") ∈ lw_all := lw_g (lw_at lw_m2 11 rfl) rfl
theorem q376 : (Jvm.Cond.fieldLink "RoofRegatta$Reader" (60 : Nat) "RoofRegatta$Token" "number" "I") ∈ lw_all := lw_g (lw_at lw_m2 13 rfl) rfl
theorem q378 : (Jvm.Cond.fieldLink "RoofRegatta$Reader" (78 : Nat) "RoofRegatta$Token" "word" "Ljava/lang/String;") ∈ lw_all := lw_g (lw_at lw_m2 15 rfl) rfl
theorem q578 : (Jvm.Cond.fieldLink "RoofRegatta$Reader" (18 : Nat) "RoofRegatta$Reader" "tokens" "LRoofRegatta$Tokens;") ∈ lw_all := lw_g (lw_at lw_m2 215 rfl) rfl
theorem q579 : (Jvm.Cond.fieldLink "RoofRegatta$Reader" (12 : Nat) "RoofRegatta$Reader" "regatta" "LRoofRegatta$Regatta;") ∈ lw_all := lw_g (lw_at lw_m2 216 rfl) rfl
theorem q580 : (Jvm.Cond.fieldLink "RoofRegatta$Reader" (28 : Nat) "RoofRegatta$Reader" "now" "LRoofRegatta$Token;") ∈ lw_all := lw_g (lw_at lw_m2 217 rfl) rfl
theorem q581 : (Jvm.Cond.fieldLink "RoofRegatta$Reader" (32 : Nat) "RoofRegatta$Reader" "fault" "I") ∈ lw_all := lw_g (lw_at lw_m2 218 rfl) rfl
theorem q583 : (Jvm.Cond.fieldLink "RoofRegatta$Reader" (45 : Nat) "RoofRegatta$Reader" "place" "I") ∈ lw_all := lw_g (lw_at lw_m2 220 rfl) rfl
theorem q585 : (Jvm.Cond.laysFinal "RoofRegatta$Reader" "RoofRegatta$Reader" "tokens" "LRoofRegatta$Tokens;") ∈ lw_all := lw_g (lw_at lw_m2 222 rfl) rfl
theorem q586 : (Jvm.Cond.soleField "RoofRegatta$Reader" "tokens") ∈ lw_all := lw_g (lw_at lw_m2 223 rfl) rfl
theorem q587 : (Jvm.Cond.laysFinal "RoofRegatta$Reader" "RoofRegatta$Reader" "regatta" "LRoofRegatta$Regatta;") ∈ lw_all := lw_g (lw_at lw_m2 224 rfl) rfl
theorem q588 : (Jvm.Cond.soleField "RoofRegatta$Reader" "regatta") ∈ lw_all := lw_g (lw_at lw_m2 225 rfl) rfl
theorem q589 : (Jvm.Cond.lays "RoofRegatta$Reader" "RoofRegatta$Reader" "now" "LRoofRegatta$Token;") ∈ lw_all := lw_g (lw_at lw_m2 226 rfl) rfl
theorem q590 : (Jvm.Cond.soleField "RoofRegatta$Reader" "now") ∈ lw_all := lw_g (lw_at lw_m2 227 rfl) rfl
theorem q591 : (Jvm.Cond.lays "RoofRegatta$Reader" "RoofRegatta$Reader" "fault" "I") ∈ lw_all := lw_g (lw_at lw_m2 228 rfl) rfl
theorem q592 : (Jvm.Cond.soleField "RoofRegatta$Reader" "fault") ∈ lw_all := lw_g (lw_at lw_m2 229 rfl) rfl
theorem q593 : (Jvm.Cond.lays "RoofRegatta$Reader" "RoofRegatta$Reader" "place" "I") ∈ lw_all := lw_g (lw_at lw_m2 230 rfl) rfl
theorem q594 : (Jvm.Cond.soleField "RoofRegatta$Reader" "place") ∈ lw_all := lw_g (lw_at lw_m2 231 rfl) rfl
theorem q595 : (Jvm.Cond.superclass "RoofRegatta$Reader" "java/lang/Object") ∈ lw_all := lw_g (lw_at lw_m2 232 rfl) rfl
theorem q597 : (Jvm.Cond.instanceMethod ({ cls := "RoofRegatta$Reader", name := "read", desc := "()LRoofRegatta$Regatta;" } : Jvm.MethodName)) ∈ lw_all := lw_g (lw_at lw_m2 234 rfl) rfl
theorem q598 : (Jvm.Cond.selects "RoofRegatta$Reader" ({ cls := "RoofRegatta$Reader", name := "read", desc := "()LRoofRegatta$Regatta;" } : Jvm.MethodName) ({ cls := "RoofRegatta$Reader", name := "read", desc := "()LRoofRegatta$Regatta;" } : Jvm.MethodName)) ∈ lw_all := lw_g (lw_at lw_m2 235 rfl) rfl
theorem q599 : (Jvm.Cond.code ({ cls := "RoofRegatta$Reader", name := "read", desc := "()LRoofRegatta$Regatta;" } : Jvm.MethodName) prog_6_method_15_code (1 : Nat) (Option.some (Jvm.ClassFile.FieldType.object "RoofRegatta$Regatta"))) ∈ lw_all := lw_g (lw_at lw_m2 236 rfl) rfl
theorem q600 : (Jvm.Cond.methodLink "RoofRegatta$Reader" (100 : Nat) ({ cls := "RoofRegatta$Reader", name := "line", desc := "()V" } : Jvm.MethodName)) ∈ lw_all := lw_g (lw_at lw_m2 237 rfl) rfl
theorem q601 : (Jvm.Cond.privateMethod ({ cls := "RoofRegatta$Reader", name := "line", desc := "()V" } : Jvm.MethodName)) ∈ lw_tbl := lw_at lw_m2 238 rfl
theorem q602 : (Jvm.Cond.instanceMethod ({ cls := "RoofRegatta$Reader", name := "line", desc := "()V" } : Jvm.MethodName)) ∈ lw_all := lw_g (lw_at lw_m2 239 rfl) rfl
theorem q603 : (Jvm.Cond.code ({ cls := "RoofRegatta$Reader", name := "line", desc := "()V" } : Jvm.MethodName) prog_6_method_16_code (3 : Nat) (Option.none : Option Jvm.ClassFile.FieldType)) ∈ lw_all := lw_g (lw_at lw_m3 0 rfl) rfl
theorem q604 : (Jvm.Cond.stringRef "RoofRegatta$Reader" (118 : Nat) "") ∈ lw_tbl := lw_at lw_m3 1 rfl
theorem q605 : (Jvm.Cond.methodLink "RoofRegatta$Reader" (120 : Nat) ({ cls := "java/lang/String", name := "hashCode", desc := "()I" } : Jvm.MethodName)) ∈ lw_all := lw_g (lw_at lw_m3 2 rfl) rfl
theorem q658 : (Jvm.Cond.stringRef "RoofRegatta$Reader" (126 : Nat) "regatta") ∈ lw_tbl := lw_at lw_m3 55 rfl
theorem q659 : (Jvm.Cond.methodLink "RoofRegatta$Reader" (127 : Nat) ({ cls := "java/lang/String", name := "equals", desc := "(Ljava/lang/Object;)Z" } : Jvm.MethodName)) ∈ lw_all := lw_g (lw_at lw_m3 56 rfl) rfl
theorem q667 : (Jvm.Cond.stringRef "RoofRegatta$Reader" (131 : Nat) "bend") ∈ lw_tbl := lw_at lw_m3 64 rfl
theorem q668 : (Jvm.Cond.stringRef "RoofRegatta$Reader" (132 : Nat) "house") ∈ lw_tbl := lw_at lw_m3 65 rfl
theorem q669 : (Jvm.Cond.stringRef "RoofRegatta$Reader" (133 : Nat) "lodger") ∈ lw_tbl := lw_at lw_m3 66 rfl
theorem q670 : (Jvm.Cond.stringRef "RoofRegatta$Reader" (134 : Nat) "aboard") ∈ lw_tbl := lw_at lw_m3 67 rfl
theorem q671 : (Jvm.Cond.stringRef "RoofRegatta$Reader" (136 : Nat) "friend") ∈ lw_tbl := lw_at lw_m3 68 rfl
theorem q672 : (Jvm.Cond.stringRef "RoofRegatta$Reader" (138 : Nat) "prize") ∈ lw_tbl := lw_at lw_m3 69 rfl
theorem q673 : (Jvm.Cond.stringRef "RoofRegatta$Reader" (140 : Nat) "saw") ∈ lw_tbl := lw_at lw_m3 70 rfl
theorem q674 : (Jvm.Cond.methodLink "RoofRegatta$Reader" (142 : Nat) ({ cls := "RoofRegatta$Reader", name := "regattaLine", desc := "()V" } : Jvm.MethodName)) ∈ lw_all := lw_g (lw_at lw_m3 71 rfl) rfl
theorem q675 : (Jvm.Cond.privateMethod ({ cls := "RoofRegatta$Reader", name := "regattaLine", desc := "()V" } : Jvm.MethodName)) ∈ lw_tbl := lw_at lw_m3 72 rfl
theorem q676 : (Jvm.Cond.instanceMethod ({ cls := "RoofRegatta$Reader", name := "regattaLine", desc := "()V" } : Jvm.MethodName)) ∈ lw_all := lw_g (lw_at lw_m3 73 rfl) rfl
theorem q677 : (Jvm.Cond.code ({ cls := "RoofRegatta$Reader", name := "regattaLine", desc := "()V" } : Jvm.MethodName) prog_6_method_18_code (6 : Nat) (Option.none : Option Jvm.ClassFile.FieldType)) ∈ lw_all := lw_g (lw_at lw_m3 74 rfl) rfl
theorem q678 : (Jvm.Cond.methodLink "RoofRegatta$Reader" (56 : Nat) ({ cls := "RoofRegatta$Reader", name := "wrong", desc := "(I)V" } : Jvm.MethodName)) ∈ lw_all := lw_g (lw_at lw_m3 75 rfl) rfl
theorem q679 : (Jvm.Cond.privateMethod ({ cls := "RoofRegatta$Reader", name := "wrong", desc := "(I)V" } : Jvm.MethodName)) ∈ lw_tbl := lw_at lw_m3 76 rfl
theorem q680 : (Jvm.Cond.instanceMethod ({ cls := "RoofRegatta$Reader", name := "wrong", desc := "(I)V" } : Jvm.MethodName)) ∈ lw_all := lw_g (lw_at lw_m3 77 rfl) rfl
theorem q681 : (Jvm.Cond.code ({ cls := "RoofRegatta$Reader", name := "wrong", desc := "(I)V" } : Jvm.MethodName) prog_6_method_3_code (2 : Nat) (Option.none : Option Jvm.ClassFile.FieldType)) ∈ lw_all := lw_g (lw_at lw_m3 78 rfl) rfl
theorem q682 : (Jvm.Cond.methodLink "RoofRegatta$Reader" (36 : Nat) ({ cls := "RoofRegatta$Reader", name := "isOver", desc := "()Z" } : Jvm.MethodName)) ∈ lw_all := lw_g (lw_at lw_m3 79 rfl) rfl
theorem q683 : (Jvm.Cond.privateMethod ({ cls := "RoofRegatta$Reader", name := "isOver", desc := "()Z" } : Jvm.MethodName)) ∈ lw_tbl := lw_at lw_m3 80 rfl
theorem q684 : (Jvm.Cond.instanceMethod ({ cls := "RoofRegatta$Reader", name := "isOver", desc := "()Z" } : Jvm.MethodName)) ∈ lw_all := lw_g (lw_at lw_m3 81 rfl) rfl
theorem q685 : (Jvm.Cond.code ({ cls := "RoofRegatta$Reader", name := "isOver", desc := "()Z" } : Jvm.MethodName) prog_6_method_2_code (1 : Nat) (Option.some Jvm.ClassFile.FieldType.boolean)) ∈ lw_all := lw_g (lw_at lw_m3 82 rfl) rfl
theorem q686 : (Jvm.Cond.methodLink "RoofRegatta$Reader" (49 : Nat) ({ cls := "RoofRegatta$Reader", name := "on", desc := "()V" } : Jvm.MethodName)) ∈ lw_all := lw_g (lw_at lw_m3 83 rfl) rfl
theorem q687 : (Jvm.Cond.privateMethod ({ cls := "RoofRegatta$Reader", name := "on", desc := "()V" } : Jvm.MethodName)) ∈ lw_tbl := lw_at lw_m3 84 rfl
theorem q688 : (Jvm.Cond.instanceMethod ({ cls := "RoofRegatta$Reader", name := "on", desc := "()V" } : Jvm.MethodName)) ∈ lw_all := lw_g (lw_at lw_m3 85 rfl) rfl
theorem q689 : (Jvm.Cond.code ({ cls := "RoofRegatta$Reader", name := "on", desc := "()V" } : Jvm.MethodName) prog_6_method_4_code (1 : Nat) (Option.none : Option Jvm.ClassFile.FieldType)) ∈ lw_all := lw_g (lw_at lw_m3 86 rfl) rfl
theorem q690 : (Jvm.Cond.stringRef "RoofRegatta$Reader" (159 : Nat) "water") ∈ lw_tbl := lw_at lw_m3 87 rfl
theorem q691 : (Jvm.Cond.methodLink "RoofRegatta$Reader" (160 : Nat) ({ cls := "RoofRegatta$Reader", name := "part", desc := "(Ljava/lang/String;II)I" } : Jvm.MethodName)) ∈ lw_all := lw_g (lw_at lw_m3 88 rfl) rfl
theorem q692 : (Jvm.Cond.privateMethod ({ cls := "RoofRegatta$Reader", name := "part", desc := "(Ljava/lang/String;II)I" } : Jvm.MethodName)) ∈ lw_tbl := lw_at lw_m3 89 rfl
theorem q693 : (Jvm.Cond.instanceMethod ({ cls := "RoofRegatta$Reader", name := "part", desc := "(Ljava/lang/String;II)I" } : Jvm.MethodName)) ∈ lw_all := lw_g (lw_at lw_m3 90 rfl) rfl
theorem q694 : (Jvm.Cond.code ({ cls := "RoofRegatta$Reader", name := "part", desc := "(Ljava/lang/String;II)I" } : Jvm.MethodName) prog_6_method_8_code (4 : Nat) (Option.some Jvm.ClassFile.FieldType.int)) ∈ lw_all := lw_g (lw_at lw_m3 91 rfl) rfl
theorem q695 : (Jvm.Cond.methodLink "RoofRegatta$Reader" (67 : Nat) ({ cls := "RoofRegatta$Reader", name := "needs", desc := "(Ljava/lang/String;)V" } : Jvm.MethodName)) ∈ lw_all := lw_g (lw_at lw_m3 92 rfl) rfl
theorem q696 : (Jvm.Cond.privateMethod ({ cls := "RoofRegatta$Reader", name := "needs", desc := "(Ljava/lang/String;)V" } : Jvm.MethodName)) ∈ lw_tbl := lw_at lw_m3 93 rfl
theorem q697 : (Jvm.Cond.instanceMethod ({ cls := "RoofRegatta$Reader", name := "needs", desc := "(Ljava/lang/String;)V" } : Jvm.MethodName)) ∈ lw_all := lw_g (lw_at lw_m3 94 rfl) rfl
theorem q698 : (Jvm.Cond.code ({ cls := "RoofRegatta$Reader", name := "needs", desc := "(Ljava/lang/String;)V" } : Jvm.MethodName) prog_6_method_6_code (2 : Nat) (Option.none : Option Jvm.ClassFile.FieldType)) ∈ lw_all := lw_g (lw_at lw_m3 95 rfl) rfl
theorem q699 : (Jvm.Cond.methodLink "RoofRegatta$Reader" (52 : Nat) ({ cls := "RoofRegatta$Token", name := "is", desc := "(Ljava/lang/String;)Z" } : Jvm.MethodName)) ∈ lw_all := lw_g (lw_at lw_m3 96 rfl) rfl
theorem q704 : (Jvm.Cond.methodLink "RoofRegatta$Reader" (71 : Nat) ({ cls := "RoofRegatta$Reader", name := "whole", desc := "(II)I" } : Jvm.MethodName)) ∈ lw_all := lw_g (lw_at lw_m3 101 rfl) rfl
theorem q705 : (Jvm.Cond.privateMethod ({ cls := "RoofRegatta$Reader", name := "whole", desc := "(II)I" } : Jvm.MethodName)) ∈ lw_tbl := lw_at lw_m3 102 rfl
theorem q706 : (Jvm.Cond.instanceMethod ({ cls := "RoofRegatta$Reader", name := "whole", desc := "(II)I" } : Jvm.MethodName)) ∈ lw_all := lw_g (lw_at lw_m3 103 rfl) rfl
theorem q707 : (Jvm.Cond.code ({ cls := "RoofRegatta$Reader", name := "whole", desc := "(II)I" } : Jvm.MethodName) prog_6_method_7_code (4 : Nat) (Option.some Jvm.ClassFile.FieldType.int)) ∈ lw_all := lw_g (lw_at lw_m3 104 rfl) rfl
theorem q708 : (Jvm.Cond.methodLinkNest "RoofRegatta$Reader" (63 : Nat) ({ cls := "RoofRegatta", name := "in", desc := "(III)Z" } : Jvm.MethodName) "RoofRegatta") ∈ lw_tbl := lw_at lw_m3 105 rfl
theorem q709 : (Jvm.Cond.stringRef "RoofRegatta$Reader" (164 : Nat) "bridge") ∈ lw_tbl := lw_at lw_m3 106 rfl
theorem q710 : (Jvm.Cond.stringRef "RoofRegatta$Reader" (166 : Nat) "storey") ∈ lw_tbl := lw_at lw_m3 107 rfl
theorem q711 : (Jvm.Cond.stringRef "RoofRegatta$Reader" (168 : Nat) "rain") ∈ lw_tbl := lw_at lw_m3 108 rfl
theorem q712 : (Jvm.Cond.stringRef "RoofRegatta$Reader" (170 : Nat) "by") ∈ lw_tbl := lw_at lw_m3 109 rfl
theorem q713 : (Jvm.Cond.methodLink "RoofRegatta$Reader" (145 : Nat) ({ cls := "RoofRegatta$Reader", name := "bend", desc := "()V" } : Jvm.MethodName)) ∈ lw_all := lw_g (lw_at lw_m3 110 rfl) rfl
theorem q714 : (Jvm.Cond.privateMethod ({ cls := "RoofRegatta$Reader", name := "bend", desc := "()V" } : Jvm.MethodName)) ∈ lw_tbl := lw_at lw_m3 111 rfl
theorem q715 : (Jvm.Cond.instanceMethod ({ cls := "RoofRegatta$Reader", name := "bend", desc := "()V" } : Jvm.MethodName)) ∈ lw_all := lw_g (lw_at lw_m3 112 rfl) rfl
theorem q716 : (Jvm.Cond.code ({ cls := "RoofRegatta$Reader", name := "bend", desc := "()V" } : Jvm.MethodName) prog_6_method_19_code (2 : Nat) (Option.none : Option Jvm.ClassFile.FieldType)) ∈ lw_all := lw_g (lw_at lw_m3 113 rfl) rfl
theorem q717 : (Jvm.Cond.methodLink "RoofRegatta$Reader" (183 : Nat) ({ cls := "java/util/ArrayList", name := "size", desc := "()I" } : Jvm.MethodName)) ∈ lw_all := lw_g (lw_at lw_m3 114 rfl) rfl
theorem q721 : (Jvm.Cond.methodLink "RoofRegatta$Reader" (186 : Nat) ({ cls := "RoofRegatta$Reader", name := "begins", desc := "(II)V" } : Jvm.MethodName)) ∈ lw_all := lw_g (lw_at lw_m3 118 rfl) rfl
theorem q722 : (Jvm.Cond.privateMethod ({ cls := "RoofRegatta$Reader", name := "begins", desc := "(II)V" } : Jvm.MethodName)) ∈ lw_tbl := lw_at lw_m3 119 rfl
theorem q723 : (Jvm.Cond.instanceMethod ({ cls := "RoofRegatta$Reader", name := "begins", desc := "(II)V" } : Jvm.MethodName)) ∈ lw_all := lw_g (lw_at lw_m3 120 rfl) rfl
theorem q724 : (Jvm.Cond.code ({ cls := "RoofRegatta$Reader", name := "begins", desc := "(II)V" } : Jvm.MethodName) prog_6_method_17_code (3 : Nat) (Option.none : Option Jvm.ClassFile.FieldType)) ∈ lw_all := lw_g (lw_at lw_m3 121 rfl) rfl
theorem q725 : (Jvm.Cond.classLink "RoofRegatta$Reader" (190 : Nat) "RoofRegatta$Bend") ∈ lw_all := lw_g (lw_at lw_m3 122 rfl) rfl
theorem q727 : (Jvm.Cond.methodLink "RoofRegatta$Reader" (192 : Nat) ({ cls := "RoofRegatta$Reader", name := "fresh", desc := "()Ljava/lang/String;" } : Jvm.MethodName)) ∈ lw_all := lw_g (lw_at lw_m3 124 rfl) rfl
theorem q728 : (Jvm.Cond.privateMethod ({ cls := "RoofRegatta$Reader", name := "fresh", desc := "()Ljava/lang/String;" } : Jvm.MethodName)) ∈ lw_tbl := lw_at lw_m3 125 rfl
theorem q729 : (Jvm.Cond.instanceMethod ({ cls := "RoofRegatta$Reader", name := "fresh", desc := "()Ljava/lang/String;" } : Jvm.MethodName)) ∈ lw_all := lw_g (lw_at lw_m3 126 rfl) rfl
theorem q730 : (Jvm.Cond.code ({ cls := "RoofRegatta$Reader", name := "fresh", desc := "()Ljava/lang/String;" } : Jvm.MethodName) prog_6_method_9_code (2 : Nat) (Option.some (Jvm.ClassFile.FieldType.object "java/lang/String"))) ∈ lw_all := lw_g (lw_at lw_m3 127 rfl) rfl
theorem q731 : (Jvm.Cond.methodLink "RoofRegatta$Reader" (75 : Nat) ({ cls := "RoofRegatta$Token", name := "isName", desc := "()Z" } : Jvm.MethodName)) ∈ lw_all := lw_g (lw_at lw_m3 128 rfl) rfl
theorem q744 : (Jvm.Cond.methodLink "RoofRegatta$Reader" (82 : Nat) ({ cls := "RoofRegatta$Regatta", name := "bend", desc := "(Ljava/lang/String;)I" } : Jvm.MethodName)) ∈ lw_all := lw_g (lw_at lw_m3 141 rfl) rfl
theorem q763 : (Jvm.Cond.methodLink "RoofRegatta$Reader" (86 : Nat) ({ cls := "RoofRegatta$Regatta", name := "house", desc := "(Ljava/lang/String;)I" } : Jvm.MethodName)) ∈ lw_all := lw_g (lw_at lw_m3 160 rfl) rfl
theorem q768 : (Jvm.Cond.methodLink "RoofRegatta$Reader" (89 : Nat) ({ cls := "RoofRegatta$Regatta", name := "lodger", desc := "(Ljava/lang/String;)I" } : Jvm.MethodName)) ∈ lw_all := lw_g (lw_at lw_m3 165 rfl) rfl
theorem q773 : (Jvm.Cond.methodLink "RoofRegatta$Reader" (196 : Nat) ({ cls := "RoofRegatta$Bend", name := "<init>", desc := "(Ljava/lang/String;)V" } : Jvm.MethodName)) ∈ lw_all := lw_g (lw_at lw_m3 170 rfl) rfl
theorem q780 : (Jvm.Cond.fieldLink "RoofRegatta$Reader" (200 : Nat) "RoofRegatta$Bend" "length" "I") ∈ lw_all := lw_g (lw_at lw_m3 177 rfl) rfl
theorem q784 : (Jvm.Cond.fieldLink "RoofRegatta$Reader" (206 : Nat) "RoofRegatta$Bend" "inside" "I") ∈ lw_all := lw_g (lw_at lw_m3 181 rfl) rfl
theorem q793 : (Jvm.Cond.stringRef "RoofRegatta$Reader" (198 : Nat) "long") ∈ lw_tbl := lw_at lw_m3 190 rfl
theorem q794 : (Jvm.Cond.methodLink "RoofRegatta$Reader" (203 : Nat) ({ cls := "RoofRegatta$Reader", name := "side", desc := "()I" } : Jvm.MethodName)) ∈ lw_all := lw_g (lw_at lw_m3 191 rfl) rfl
theorem q795 : (Jvm.Cond.privateMethod ({ cls := "RoofRegatta$Reader", name := "side", desc := "()I" } : Jvm.MethodName)) ∈ lw_tbl := lw_at lw_m3 192 rfl
theorem q796 : (Jvm.Cond.instanceMethod ({ cls := "RoofRegatta$Reader", name := "side", desc := "()I" } : Jvm.MethodName)) ∈ lw_all := lw_g (lw_at lw_m3 193 rfl) rfl
theorem q797 : (Jvm.Cond.code ({ cls := "RoofRegatta$Reader", name := "side", desc := "()I" } : Jvm.MethodName) prog_6_method_14_code (2 : Nat) (Option.some Jvm.ClassFile.FieldType.int)) ∈ lw_all := lw_g (lw_at lw_m3 194 rfl) rfl
theorem q798 : (Jvm.Cond.stringRef "RoofRegatta$Reader" (96 : Nat) "left") ∈ lw_tbl := lw_at lw_m3 195 rfl
theorem q799 : (Jvm.Cond.stringRef "RoofRegatta$Reader" (98 : Nat) "right") ∈ lw_tbl := lw_at lw_m3 196 rfl
theorem q800 : (Jvm.Cond.methodLink "RoofRegatta$Reader" (209 : Nat) ({ cls := "java/util/ArrayList", name := "add", desc := "(Ljava/lang/Object;)Z" } : Jvm.MethodName)) ∈ lw_all := lw_g (lw_at lw_m3 197 rfl) rfl
theorem q828 : (Jvm.Cond.selects "RoofRegatta$Reader" ({ cls := "java/lang/Object", name := "getClass", desc := "()Ljava/lang/Class;" } : Jvm.MethodName) ({ cls := "java/lang/Object", name := "getClass", desc := "()Ljava/lang/Class;" } : Jvm.MethodName)) ∈ lw_all := lw_g (lw_at lw_m3 225 rfl) rfl
theorem q851 : (Jvm.Cond.methodLink "RoofRegatta$Reader" (147 : Nat) ({ cls := "RoofRegatta$Reader", name := "house", desc := "()V" } : Jvm.MethodName)) ∈ lw_all := lw_g (lw_at lw_m4 8 rfl) rfl
theorem q852 : (Jvm.Cond.privateMethod ({ cls := "RoofRegatta$Reader", name := "house", desc := "()V" } : Jvm.MethodName)) ∈ lw_tbl := lw_at lw_m4 9 rfl
theorem q853 : (Jvm.Cond.instanceMethod ({ cls := "RoofRegatta$Reader", name := "house", desc := "()V" } : Jvm.MethodName)) ∈ lw_all := lw_g (lw_at lw_m4 10 rfl) rfl
theorem q854 : (Jvm.Cond.code ({ cls := "RoofRegatta$Reader", name := "house", desc := "()V" } : Jvm.MethodName) prog_6_method_21_code (2 : Nat) (Option.none : Option Jvm.ClassFile.FieldType)) ∈ lw_all := lw_g (lw_at lw_m4 11 rfl) rfl
theorem q855 : (Jvm.Cond.methodLink "RoofRegatta$Reader" (232 : Nat) ({ cls := "RoofRegatta$Reader", name := "kind", desc := "(Ljava/lang/String;)LRoofRegatta$House;" } : Jvm.MethodName)) ∈ lw_all := lw_g (lw_at lw_m4 12 rfl) rfl
theorem q856 : (Jvm.Cond.privateMethod ({ cls := "RoofRegatta$Reader", name := "kind", desc := "(Ljava/lang/String;)LRoofRegatta$House;" } : Jvm.MethodName)) ∈ lw_tbl := lw_at lw_m4 13 rfl
theorem q857 : (Jvm.Cond.instanceMethod ({ cls := "RoofRegatta$Reader", name := "kind", desc := "(Ljava/lang/String;)LRoofRegatta$House;" } : Jvm.MethodName)) ∈ lw_all := lw_g (lw_at lw_m4 14 rfl) rfl
theorem q858 : (Jvm.Cond.code ({ cls := "RoofRegatta$Reader", name := "kind", desc := "(Ljava/lang/String;)LRoofRegatta$House;" } : Jvm.MethodName) prog_6_method_20_code (4 : Nat) (Option.some (Jvm.ClassFile.FieldType.object "RoofRegatta$House"))) ∈ lw_all := lw_g (lw_at lw_m4 15 rfl) rfl
theorem q859 : (Jvm.Cond.stringRef "RoofRegatta$Reader" (212 : Nat) "cottage") ∈ lw_tbl := lw_at lw_m4 16 rfl
theorem q860 : (Jvm.Cond.stringRef "RoofRegatta$Reader" (214 : Nat) "terrace") ∈ lw_tbl := lw_at lw_m4 17 rfl
theorem q861 : (Jvm.Cond.stringRef "RoofRegatta$Reader" (216 : Nat) "villa") ∈ lw_tbl := lw_at lw_m4 18 rfl
theorem q862 : (Jvm.Cond.stringRef "RoofRegatta$Reader" (218 : Nat) "pub") ∈ lw_tbl := lw_at lw_m4 19 rfl
theorem q863 : (Jvm.Cond.classLink "RoofRegatta$Reader" (220 : Nat) "RoofRegatta$House") ∈ lw_all := lw_g (lw_at lw_m4 20 rfl) rfl
theorem q865 : (Jvm.Cond.methodLink "RoofRegatta$Reader" (222 : Nat) ({ cls := "RoofRegatta$House", name := "<init>", desc := "(Ljava/lang/String;)V" } : Jvm.MethodName)) ∈ lw_all := lw_g (lw_at lw_m4 22 rfl) rfl
theorem q872 : (Jvm.Cond.fieldLink "RoofRegatta$Reader" (236 : Nat) "RoofRegatta$House" "lane" "I") ∈ lw_all := lw_g (lw_at lw_m4 29 rfl) rfl
theorem q874 : (Jvm.Cond.fieldLink "RoofRegatta$Reader" (241 : Nat) "RoofRegatta$House" "tiles" "I") ∈ lw_all := lw_g (lw_at lw_m4 31 rfl) rfl
theorem q878 : (Jvm.Cond.fieldLink "RoofRegatta$Reader" (245 : Nat) "RoofRegatta$House" "storeys" "I") ∈ lw_all := lw_g (lw_at lw_m4 35 rfl) rfl
theorem q889 : (Jvm.Cond.classLink "RoofRegatta$Reader" (223 : Nat) "RoofRegatta$Terrace") ∈ lw_all := lw_g (lw_at lw_m4 46 rfl) rfl
theorem q891 : (Jvm.Cond.methodLink "RoofRegatta$Reader" (225 : Nat) ({ cls := "RoofRegatta$Terrace", name := "<init>", desc := "(Ljava/lang/String;)V" } : Jvm.MethodName)) ∈ lw_all := lw_g (lw_at lw_m4 48 rfl) rfl
theorem q900 : (Jvm.Cond.classLink "RoofRegatta$Reader" (226 : Nat) "RoofRegatta$Villa") ∈ lw_all := lw_g (lw_at lw_m4 57 rfl) rfl
theorem q902 : (Jvm.Cond.methodLink "RoofRegatta$Reader" (228 : Nat) ({ cls := "RoofRegatta$Villa", name := "<init>", desc := "(Ljava/lang/String;)V" } : Jvm.MethodName)) ∈ lw_all := lw_g (lw_at lw_m4 59 rfl) rfl
theorem q911 : (Jvm.Cond.classLink "RoofRegatta$Reader" (229 : Nat) "RoofRegatta$Pub") ∈ lw_all := lw_g (lw_at lw_m4 68 rfl) rfl
theorem q913 : (Jvm.Cond.methodLink "RoofRegatta$Reader" (231 : Nat) ({ cls := "RoofRegatta$Pub", name := "<init>", desc := "(Ljava/lang/String;)V" } : Jvm.MethodName)) ∈ lw_all := lw_g (lw_at lw_m4 70 rfl) rfl
theorem q922 : (Jvm.Cond.stringRef "RoofRegatta$Reader" (239 : Nat) "tiles") ∈ lw_tbl := lw_at lw_m4 79 rfl
theorem q923 : (Jvm.Cond.stringRef "RoofRegatta$Reader" (243 : Nat) "storeys") ∈ lw_tbl := lw_at lw_m4 80 rfl
theorem q924 : (Jvm.Cond.methodLink "RoofRegatta$Reader" (149 : Nat) ({ cls := "RoofRegatta$Reader", name := "lodger", desc := "()V" } : Jvm.MethodName)) ∈ lw_all := lw_g (lw_at lw_m4 81 rfl) rfl
theorem q925 : (Jvm.Cond.privateMethod ({ cls := "RoofRegatta$Reader", name := "lodger", desc := "()V" } : Jvm.MethodName)) ∈ lw_tbl := lw_at lw_m4 82 rfl
theorem q926 : (Jvm.Cond.instanceMethod ({ cls := "RoofRegatta$Reader", name := "lodger", desc := "()V" } : Jvm.MethodName)) ∈ lw_all := lw_g (lw_at lw_m4 83 rfl) rfl
theorem q927 : (Jvm.Cond.code ({ cls := "RoofRegatta$Reader", name := "lodger", desc := "()V" } : Jvm.MethodName) prog_6_method_22_code (2 : Nat) (Option.none : Option Jvm.ClassFile.FieldType)) ∈ lw_all := lw_g (lw_at lw_m4 84 rfl) rfl
theorem q928 : (Jvm.Cond.classLink "RoofRegatta$Reader" (250 : Nat) "RoofRegatta$Lodger") ∈ lw_all := lw_g (lw_at lw_m4 85 rfl) rfl
theorem q930 : (Jvm.Cond.methodLink "RoofRegatta$Reader" (252 : Nat) ({ cls := "RoofRegatta$Lodger", name := "<init>", desc := "(Ljava/lang/String;)V" } : Jvm.MethodName)) ∈ lw_all := lw_g (lw_at lw_m4 87 rfl) rfl
theorem q937 : (Jvm.Cond.fieldLink "RoofRegatta$Reader" (255 : Nat) "RoofRegatta$Lodger" "weighs" "I") ∈ lw_all := lw_g (lw_at lw_m4 94 rfl) rfl
theorem q940 : (Jvm.Cond.fieldLink "RoofRegatta$Reader" (259 : Nat) "RoofRegatta$Lodger" "rows" "I") ∈ lw_all := lw_g (lw_at lw_m4 97 rfl) rfl
theorem q945 : (Jvm.Cond.fieldLink "RoofRegatta$Reader" (268 : Nat) "RoofRegatta$Lodger" "house" "I") ∈ lw_all := lw_g (lw_at lw_m4 102 rfl) rfl
theorem q947 : (Jvm.Cond.fieldLink "RoofRegatta$Reader" (278 : Nat) "RoofRegatta$Lodger" "friends" "I") ∈ lw_all := lw_g (lw_at lw_m4 104 rfl) rfl
theorem q960 : (Jvm.Cond.stringRef "RoofRegatta$Reader" (253 : Nat) "weighs") ∈ lw_tbl := lw_at lw_m4 117 rfl
theorem q961 : (Jvm.Cond.stringRef "RoofRegatta$Reader" (257 : Nat) "rows") ∈ lw_tbl := lw_at lw_m4 118 rfl
theorem q962 : (Jvm.Cond.methodLink "RoofRegatta$Reader" (151 : Nat) ({ cls := "RoofRegatta$Reader", name := "aboard", desc := "()V" } : Jvm.MethodName)) ∈ lw_all := lw_g (lw_at lw_m4 119 rfl) rfl
theorem q963 : (Jvm.Cond.privateMethod ({ cls := "RoofRegatta$Reader", name := "aboard", desc := "()V" } : Jvm.MethodName)) ∈ lw_tbl := lw_at lw_m4 120 rfl
theorem q964 : (Jvm.Cond.instanceMethod ({ cls := "RoofRegatta$Reader", name := "aboard", desc := "()V" } : Jvm.MethodName)) ∈ lw_all := lw_g (lw_at lw_m4 121 rfl) rfl
theorem q965 : (Jvm.Cond.code ({ cls := "RoofRegatta$Reader", name := "aboard", desc := "()V" } : Jvm.MethodName) prog_6_method_23_code (3 : Nat) (Option.none : Option Jvm.ClassFile.FieldType)) ∈ lw_all := lw_g (lw_at lw_m4 122 rfl) rfl
theorem q966 : (Jvm.Cond.methodLink "RoofRegatta$Reader" (261 : Nat) ({ cls := "RoofRegatta$Reader", name := "knownLodger", desc := "()I" } : Jvm.MethodName)) ∈ lw_all := lw_g (lw_at lw_m4 123 rfl) rfl
theorem q967 : (Jvm.Cond.privateMethod ({ cls := "RoofRegatta$Reader", name := "knownLodger", desc := "()I" } : Jvm.MethodName)) ∈ lw_tbl := lw_at lw_m4 124 rfl
theorem q968 : (Jvm.Cond.instanceMethod ({ cls := "RoofRegatta$Reader", name := "knownLodger", desc := "()I" } : Jvm.MethodName)) ∈ lw_all := lw_g (lw_at lw_m4 125 rfl) rfl
theorem q969 : (Jvm.Cond.code ({ cls := "RoofRegatta$Reader", name := "knownLodger", desc := "()I" } : Jvm.MethodName) prog_6_method_12_code (1 : Nat) (Option.some Jvm.ClassFile.FieldType.int)) ∈ lw_all := lw_g (lw_at lw_m4 126 rfl) rfl
theorem q970 : (Jvm.Cond.methodLink "RoofRegatta$Reader" (92 : Nat) ({ cls := "RoofRegatta$Reader", name := "known", desc := "(I)I" } : Jvm.MethodName)) ∈ lw_all := lw_g (lw_at lw_m4 127 rfl) rfl
theorem q971 : (Jvm.Cond.privateMethod ({ cls := "RoofRegatta$Reader", name := "known", desc := "(I)I" } : Jvm.MethodName)) ∈ lw_tbl := lw_at lw_m4 128 rfl
theorem q972 : (Jvm.Cond.instanceMethod ({ cls := "RoofRegatta$Reader", name := "known", desc := "(I)I" } : Jvm.MethodName)) ∈ lw_all := lw_g (lw_at lw_m4 129 rfl) rfl
theorem q973 : (Jvm.Cond.code ({ cls := "RoofRegatta$Reader", name := "known", desc := "(I)I" } : Jvm.MethodName) prog_6_method_10_code (2 : Nat) (Option.some Jvm.ClassFile.FieldType.int)) ∈ lw_all := lw_g (lw_at lw_m4 130 rfl) rfl
theorem q974 : (Jvm.Cond.methodLink "RoofRegatta$Reader" (264 : Nat) ({ cls := "java/util/ArrayList", name := "get", desc := "(I)Ljava/lang/Object;" } : Jvm.MethodName)) ∈ lw_all := lw_g (lw_at lw_m4 131 rfl) rfl
theorem q975 : (Jvm.Cond.methodLink "RoofRegatta$Reader" (270 : Nat) ({ cls := "RoofRegatta$Reader", name := "knownHouse", desc := "()I" } : Jvm.MethodName)) ∈ lw_all := lw_g (lw_at lw_m4 132 rfl) rfl
theorem q976 : (Jvm.Cond.privateMethod ({ cls := "RoofRegatta$Reader", name := "knownHouse", desc := "()I" } : Jvm.MethodName)) ∈ lw_tbl := lw_at lw_m4 133 rfl
theorem q977 : (Jvm.Cond.instanceMethod ({ cls := "RoofRegatta$Reader", name := "knownHouse", desc := "()I" } : Jvm.MethodName)) ∈ lw_all := lw_g (lw_at lw_m4 134 rfl) rfl
theorem q978 : (Jvm.Cond.code ({ cls := "RoofRegatta$Reader", name := "knownHouse", desc := "()I" } : Jvm.MethodName) prog_6_method_11_code (1 : Nat) (Option.some Jvm.ClassFile.FieldType.int)) ∈ lw_all := lw_g (lw_at lw_m4 135 rfl) rfl
theorem q979 : (Jvm.Cond.methodLink "RoofRegatta$Reader" (273 : Nat) ({ cls := "RoofRegatta$Regatta", name := "aboard", desc := "(I)I" } : Jvm.MethodName)) ∈ lw_all := lw_g (lw_at lw_m4 136 rfl) rfl
theorem q983 : (Jvm.Cond.methodLink "RoofRegatta$Reader" (153 : Nat) ({ cls := "RoofRegatta$Reader", name := "friend", desc := "()V" } : Jvm.MethodName)) ∈ lw_all := lw_g (lw_at lw_m4 140 rfl) rfl
theorem q984 : (Jvm.Cond.privateMethod ({ cls := "RoofRegatta$Reader", name := "friend", desc := "()V" } : Jvm.MethodName)) ∈ lw_tbl := lw_at lw_m4 141 rfl
theorem q985 : (Jvm.Cond.instanceMethod ({ cls := "RoofRegatta$Reader", name := "friend", desc := "()V" } : Jvm.MethodName)) ∈ lw_all := lw_g (lw_at lw_m4 142 rfl) rfl
theorem q986 : (Jvm.Cond.code ({ cls := "RoofRegatta$Reader", name := "friend", desc := "()V" } : Jvm.MethodName) prog_6_method_24_code (3 : Nat) (Option.none : Option Jvm.ClassFile.FieldType)) ∈ lw_all := lw_g (lw_at lw_m4 143 rfl) rfl
theorem q987 : (Jvm.Cond.methodLinkNest "RoofRegatta$Reader" (281 : Nat) ({ cls := "RoofRegatta", name := "has", desc := "(II)Z" } : Jvm.MethodName) "RoofRegatta") ∈ lw_tbl := lw_at lw_m4 144 rfl
theorem q990 : (Jvm.Cond.methodLink "RoofRegatta$Reader" (285 : Nat) ({ cls := "RoofRegatta$Reader", name := "unlike", desc := "(II)I" } : Jvm.MethodName)) ∈ lw_all := lw_g (lw_at lw_m4 147 rfl) rfl
theorem q991 : (Jvm.Cond.privateMethod ({ cls := "RoofRegatta$Reader", name := "unlike", desc := "(II)I" } : Jvm.MethodName)) ∈ lw_tbl := lw_at lw_m4 148 rfl
theorem q992 : (Jvm.Cond.instanceMethod ({ cls := "RoofRegatta$Reader", name := "unlike", desc := "(II)I" } : Jvm.MethodName)) ∈ lw_all := lw_g (lw_at lw_m4 149 rfl) rfl
theorem q993 : (Jvm.Cond.code ({ cls := "RoofRegatta$Reader", name := "unlike", desc := "(II)I" } : Jvm.MethodName) prog_6_method_13_code (3 : Nat) (Option.some Jvm.ClassFile.FieldType.int)) ∈ lw_all := lw_g (lw_at lw_m4 150 rfl) rfl
theorem q994 : (Jvm.Cond.methodLink "RoofRegatta$Reader" (155 : Nat) ({ cls := "RoofRegatta$Reader", name := "prize", desc := "()V" } : Jvm.MethodName)) ∈ lw_all := lw_g (lw_at lw_m4 151 rfl) rfl
theorem q995 : (Jvm.Cond.privateMethod ({ cls := "RoofRegatta$Reader", name := "prize", desc := "()V" } : Jvm.MethodName)) ∈ lw_tbl := lw_at lw_m4 152 rfl
theorem q996 : (Jvm.Cond.instanceMethod ({ cls := "RoofRegatta$Reader", name := "prize", desc := "()V" } : Jvm.MethodName)) ∈ lw_all := lw_g (lw_at lw_m4 153 rfl) rfl
theorem q997 : (Jvm.Cond.code ({ cls := "RoofRegatta$Reader", name := "prize", desc := "()V" } : Jvm.MethodName) prog_6_method_25_code (2 : Nat) (Option.none : Option Jvm.ClassFile.FieldType)) ∈ lw_all := lw_g (lw_at lw_m4 154 rfl) rfl
theorem q998 : (Jvm.Cond.methodLink "RoofRegatta$Reader" (157 : Nat) ({ cls := "RoofRegatta$Reader", name := "saw", desc := "()V" } : Jvm.MethodName)) ∈ lw_all := lw_g (lw_at lw_m4 155 rfl) rfl
theorem q999 : (Jvm.Cond.privateMethod ({ cls := "RoofRegatta$Reader", name := "saw", desc := "()V" } : Jvm.MethodName)) ∈ lw_tbl := lw_at lw_m4 156 rfl
theorem q1000 : (Jvm.Cond.instanceMethod ({ cls := "RoofRegatta$Reader", name := "saw", desc := "()V" } : Jvm.MethodName)) ∈ lw_all := lw_g (lw_at lw_m4 157 rfl) rfl
theorem q1001 : (Jvm.Cond.code ({ cls := "RoofRegatta$Reader", name := "saw", desc := "()V" } : Jvm.MethodName) prog_6_method_26_code (4 : Nat) (Option.none : Option Jvm.ClassFile.FieldType)) ∈ lw_all := lw_g (lw_at lw_m4 158 rfl) rfl
theorem q1002 : (Jvm.Cond.classLink "RoofRegatta$Reader" (298 : Nat) "RoofRegatta$Seen") ∈ lw_all := lw_g (lw_at lw_m4 159 rfl) rfl
theorem q1004 : (Jvm.Cond.methodLink "RoofRegatta$Reader" (300 : Nat) ({ cls := "RoofRegatta$Seen", name := "<init>", desc := "(III)V" } : Jvm.MethodName)) ∈ lw_all := lw_g (lw_at lw_m4 161 rfl) rfl
theorem q1021 : (Jvm.Cond.methodLink "RoofRegatta$Reader" (103 : Nat) ({ cls := "RoofRegatta$Reader", name := "eatsSemicolon", desc := "()Z" } : Jvm.MethodName)) ∈ lw_all := lw_g (lw_at lw_m4 178 rfl) rfl
theorem q1022 : (Jvm.Cond.privateMethod ({ cls := "RoofRegatta$Reader", name := "eatsSemicolon", desc := "()Z" } : Jvm.MethodName)) ∈ lw_tbl := lw_at lw_m4 179 rfl
theorem q1023 : (Jvm.Cond.instanceMethod ({ cls := "RoofRegatta$Reader", name := "eatsSemicolon", desc := "()Z" } : Jvm.MethodName)) ∈ lw_all := lw_g (lw_at lw_m4 180 rfl) rfl
theorem q1024 : (Jvm.Cond.code ({ cls := "RoofRegatta$Reader", name := "eatsSemicolon", desc := "()Z" } : Jvm.MethodName) prog_6_method_5_code (1 : Nat) (Option.some Jvm.ClassFile.FieldType.boolean)) ∈ lw_all := lw_g (lw_at lw_m4 181 rfl) rfl
theorem q1025 : (Jvm.Cond.methodLink "RoofRegatta$Reader" (113 : Nat) ({ cls := "java/util/ArrayList", name := "isEmpty", desc := "()Z" } : Jvm.MethodName)) ∈ lw_all := lw_g (lw_at lw_m4 182 rfl) rfl
theorem q2362 : (Jvm.Cond.castable "RoofRegatta$Reader" "java/lang/Object") ∈ lw_tbl := lw_at lw_m10 79 rfl
theorem in_X3 : ∀ w ∈ wsX30, w ∈ lw_all := lw_in wsX30 [585, 587, 589, 591, 593] (by decide +kernel) (by decide +kernel)
/-! RoofRegattaLaw -/
set_option maxRecDepth 100000
def RX0 : String := "RoofRegattaLaw"
abbrev cX0_led : ByteArray := method_3_code
def yX0_led : MethodName := ⟨RX0, "led", "(LRoofRegatta;I[J)I"⟩
def dkwX0_led_0 : List UInt8 := [44, 3, 42, 27, 182, 0, 7, 133, 80, 167, 0, 6, 78, 4, 172, 3, 172]
abbrev dktX0_led_0 : List UInt8 := dkwX0_led_0 ++ []
theorem dksX0_led_0 : cX0_led.data.toList.drop 0 = dktX0_led_0 := by decide +kernel
theorem dX0_led_0 : decode cX0_led 0 = .ok (.aload_n 2, 1) := dk_44 (dk_at dksX0_led_0 0 rfl rfl)
theorem dX0_led_1 : decode cX0_led 1 = .ok (.iconst 0, 1) := dk_3 (dk_at dksX0_led_0 1 rfl rfl)
theorem dX0_led_2 : decode cX0_led 2 = .ok (.aload_n 0, 1) := dk_42 (dk_at dksX0_led_0 2 rfl rfl)
theorem dX0_led_3 : decode cX0_led 3 = .ok (.iload_n 1, 1) := dk_27 (dk_at dksX0_led_0 3 rfl rfl)
theorem dX0_led_4 : decode cX0_led 4 = .ok (.invokevirtual 7, 3) := dk_182 0 7 (dk_at dksX0_led_0 4 rfl rfl)
theorem dX0_led_7 : decode cX0_led 7 = .ok (.i2l, 1) := dk_133 (dk_at dksX0_led_0 7 rfl rfl)
theorem dX0_led_8 : decode cX0_led 8 = .ok (.lastore, 1) := dk_80 (dk_at dksX0_led_0 8 rfl rfl)
theorem dX0_led_9 : decode cX0_led 9 = .ok (.goto 6, 3) := dk_167 0 6 (dk_at dksX0_led_0 9 rfl rfl)
theorem dX0_led_12 : decode cX0_led 12 = .ok (.astore_n 3, 1) := dk_78 (dk_at dksX0_led_0 12 rfl rfl)
theorem dX0_led_13 : decode cX0_led 13 = .ok (.iconst 1, 1) := dk_4 (dk_at dksX0_led_0 13 rfl rfl)
theorem dX0_led_14 : decode cX0_led 14 = .ok (.ireturn, 1) := dk_172 (dk_at dksX0_led_0 14 rfl rfl)
theorem dX0_led_15 : decode cX0_led 15 = .ok (.iconst 0, 1) := dk_3 (dk_at dksX0_led_0 15 rfl rfl)
theorem dX0_led_16 : decode cX0_led 16 = .ok (.ireturn, 1) := dk_172 (dk_at dksX0_led_0 16 rfl rfl)
theorem q123 : (Jvm.Cond.initialized "RoofRegattaLaw") ∈ lw_all := lw_g (lw_at lw_m1 0 rfl) rfl
theorem q156 : (Jvm.Cond.classLink "RoofRegattaLaw" (8 : Nat) "RoofRegatta") ∈ lw_all := lw_g (lw_at lw_m1 33 rfl) rfl
theorem q158 : (Jvm.Cond.methodLink "RoofRegattaLaw" (15 : Nat) ({ cls := "RoofRegatta", name := "<init>", desc := "()V" } : Jvm.MethodName)) ∈ lw_all := lw_g (lw_at lw_m1 35 rfl) rfl
theorem q250 : (Jvm.Cond.methodLink "RoofRegattaLaw" (19 : Nat) ({ cls := "RoofRegatta", name := "feed", desc := "(IIIII)I" } : Jvm.MethodName)) ∈ lw_all := lw_g (lw_at lw_m1 127 rfl) rfl
theorem q254 : (Jvm.Cond.methodLink "RoofRegattaLaw" (24 : Nat) ({ cls := "RoofRegatta", name := "regatta", desc := "(I)I" } : Jvm.MethodName)) ∈ lw_all := lw_g (lw_at lw_m1 131 rfl) rfl
theorem q1087 : (Jvm.Cond.methodLink "RoofRegattaLaw" (28 : Nat) ({ cls := "RoofRegatta", name := "fault", desc := "()I" } : Jvm.MethodName)) ∈ lw_all := lw_g (lw_at lw_m5 4 rfl) rfl
theorem q1091 : (Jvm.Cond.methodLink "RoofRegattaLaw" (33 : Nat) ({ cls := "RoofRegatta", name := "where", desc := "()I" } : Jvm.MethodName)) ∈ lw_all := lw_g (lw_at lw_m5 8 rfl) rfl
theorem q1095 : (Jvm.Cond.methodLink "RoofRegattaLaw" (37 : Nat) ({ cls := "RoofRegatta", name := "house", desc := "(II)I" } : Jvm.MethodName)) ∈ lw_all := lw_g (lw_at lw_m5 12 rfl) rfl
theorem q1158 : (Jvm.Cond.methodLink "RoofRegattaLaw" (42 : Nat) ({ cls := "RoofRegatta", name := "lodger", desc := "(II)I" } : Jvm.MethodName)) ∈ lw_all := lw_g (lw_at lw_m5 75 rfl) rfl
theorem q1171 : (Jvm.Cond.methodLink "RoofRegattaLaw" (46 : Nat) ({ cls := "RoofRegatta", name := "bend", desc := "(II)I" } : Jvm.MethodName)) ∈ lw_all := lw_g (lw_at lw_m5 88 rfl) rfl
theorem q1184 : (Jvm.Cond.methodLink "RoofRegattaLaw" (50 : Nat) ({ cls := "RoofRegatta", name := "time", desc := "(II)I" } : Jvm.MethodName)) ∈ lw_all := lw_g (lw_at lw_m5 101 rfl) rfl
theorem q1207 : (Jvm.Cond.methodLink "RoofRegattaLaw" (54 : Nat) ({ cls := "RoofRegatta", name := "soFar", desc := "(II)I" } : Jvm.MethodName)) ∈ lw_all := lw_g (lw_at lw_m5 124 rfl) rfl
theorem q1222 : (Jvm.Cond.methodLink "RoofRegattaLaw" (58 : Nat) ({ cls := "RoofRegatta", name := "total", desc := "(I)I" } : Jvm.MethodName)) ∈ lw_all := lw_g (lw_at lw_m5 139 rfl) rfl
theorem q1231 : (Jvm.Cond.methodLink "RoofRegattaLaw" (62 : Nat) ({ cls := "RoofRegatta", name := "loses", desc := "(I)I" } : Jvm.MethodName)) ∈ lw_all := lw_g (lw_at lw_m5 148 rfl) rfl
theorem q1236 : (Jvm.Cond.methodLink "RoofRegattaLaw" (66 : Nat) ({ cls := "RoofRegatta", name := "rank", desc := "(I)I" } : Jvm.MethodName)) ∈ lw_all := lw_g (lw_at lw_m5 153 rfl) rfl
theorem q1257 : (Jvm.Cond.methodLink "RoofRegattaLaw" (70 : Nat) ({ cls := "RoofRegatta", name := "ranked", desc := "(I)I" } : Jvm.MethodName)) ∈ lw_all := lw_g (lw_at lw_m5 174 rfl) rfl
theorem q1261 : (Jvm.Cond.methodLink "RoofRegattaLaw" (74 : Nat) ({ cls := "RoofRegatta", name := "out", desc := "(I)I" } : Jvm.MethodName)) ∈ lw_all := lw_g (lw_at lw_m5 178 rfl) rfl
theorem q1266 : (Jvm.Cond.methodLink "RoofRegattaLaw" (78 : Nat) ({ cls := "RoofRegatta", name := "prize", desc := "(I)I" } : Jvm.MethodName)) ∈ lw_all := lw_g (lw_at lw_m5 183 rfl) rfl
theorem q1275 : (Jvm.Cond.methodLink "RoofRegattaLaw" (82 : Nat) ({ cls := "RoofRegatta", name := "ahead", desc := "(II)I" } : Jvm.MethodName)) ∈ lw_all := lw_g (lw_at lw_m5 192 rfl) rfl
theorem q1286 : (Jvm.Cond.methodLink "RoofRegattaLaw" (94 : Nat) ({ cls := "RoofRegatta", name := "passes", desc := "()I" } : Jvm.MethodName)) ∈ lw_all := lw_g (lw_at lw_m5 203 rfl) rfl
theorem q1290 : (Jvm.Cond.methodLink "RoofRegattaLaw" (98 : Nat) ({ cls := "RoofRegatta", name := "fastest", desc := "(I)I" } : Jvm.MethodName)) ∈ lw_all := lw_g (lw_at lw_m5 207 rfl) rfl
theorem q1294 : (Jvm.Cond.methodLink "RoofRegattaLaw" (86 : Nat) ({ cls := "RoofRegatta", name := "leader", desc := "(I)I" } : Jvm.MethodName)) ∈ lw_all := lw_g (lw_at lw_m5 211 rfl) rfl
theorem q1298 : (Jvm.Cond.methodLink "RoofRegattaLaw" (90 : Nat) ({ cls := "RoofRegatta", name := "full", desc := "()I" } : Jvm.MethodName)) ∈ lw_all := lw_g (lw_at lw_m5 215 rfl) rfl
theorem q1306 : (Jvm.Cond.methodLink "RoofRegattaLaw" (102 : Nat) ({ cls := "RoofRegatta", name := "storey", desc := "(I)I" } : Jvm.MethodName)) ∈ lw_all := lw_g (lw_at lw_m5 223 rfl) rfl
theorem q1310 : (Jvm.Cond.methodLink "RoofRegattaLaw" (106 : Nat) ({ cls := "RoofRegatta", name := "together", desc := "()I" } : Jvm.MethodName)) ∈ lw_all := lw_g (lw_at lw_m5 227 rfl) rfl
theorem q1318 : (Jvm.Cond.methodLink "RoofRegattaLaw" (110 : Nat) ({ cls := "RoofRegatta", name := "bestRank", desc := "(I)I" } : Jvm.MethodName)) ∈ lw_all := lw_g (lw_at lw_m5 235 rfl) rfl
theorem q1346 : (Jvm.Cond.methodLink "RoofRegattaLaw" (114 : Nat) ({ cls := "RoofRegatta", name := "loadOf", desc := "(II)I" } : Jvm.MethodName)) ∈ lw_all := lw_g (lw_at lw_m6 23 rfl) rfl
theorem q1350 : (Jvm.Cond.methodLink "RoofRegattaLaw" (118 : Nat) ({ cls := "RoofRegatta", name := "loadMoves", desc := "(I)I" } : Jvm.MethodName)) ∈ lw_all := lw_g (lw_at lw_m6 27 rfl) rfl
theorem q1354 : (Jvm.Cond.methodLink "RoofRegattaLaw" (126 : Nat) ({ cls := "RoofRegatta", name := "friendly", desc := "()I" } : Jvm.MethodName)) ∈ lw_all := lw_g (lw_at lw_m6 31 rfl) rfl
theorem q1358 : (Jvm.Cond.methodLink "RoofRegattaLaw" (130 : Nat) ({ cls := "RoofRegatta", name := "friendlyOf", desc := "(I)I" } : Jvm.MethodName)) ∈ lw_all := lw_g (lw_at lw_m6 35 rfl) rfl
theorem q1362 : (Jvm.Cond.methodLink "RoofRegattaLaw" (122 : Nat) ({ cls := "RoofRegatta", name := "leastTotal", desc := "(I)I" } : Jvm.MethodName)) ∈ lw_all := lw_g (lw_at lw_m6 39 rfl) rfl
theorem q1375 : (Jvm.Cond.methodLink "RoofRegattaLaw" (134 : Nat) ({ cls := "RoofRegatta", name := "leastFor", desc := "(II)I" } : Jvm.MethodName)) ∈ lw_all := lw_g (lw_at lw_m6 52 rfl) rfl
theorem q1383 : (Jvm.Cond.methodLink "RoofRegattaLaw" (138 : Nat) ({ cls := "RoofRegatta", name := "toMove", desc := "(I)I" } : Jvm.MethodName)) ∈ lw_all := lw_g (lw_at lw_m6 60 rfl) rfl
theorem q1387 : (Jvm.Cond.methodLink "RoofRegattaLaw" (142 : Nat) ({ cls := "RoofRegatta", name := "waterFor", desc := "(II)I" } : Jvm.MethodName)) ∈ lw_all := lw_g (lw_at lw_m6 64 rfl) rfl
theorem q1391 : (Jvm.Cond.methodLink "RoofRegattaLaw" (146 : Nat) ({ cls := "RoofRegatta", name := "bestSwap", desc := "(I)I" } : Jvm.MethodName)) ∈ lw_all := lw_g (lw_at lw_m6 68 rfl) rfl
theorem q1395 : (Jvm.Cond.methodLink "RoofRegattaLaw" (150 : Nat) ({ cls := "RoofRegatta", name := "bestLane", desc := "(I)I" } : Jvm.MethodName)) ∈ lw_all := lw_g (lw_at lw_m6 72 rfl) rfl
theorem q1399 : (Jvm.Cond.methodLink "RoofRegattaLaw" (154 : Nat) ({ cls := "RoofRegatta", name := "fires", desc := "()I" } : Jvm.MethodName)) ∈ lw_all := lw_g (lw_at lw_m6 76 rfl) rfl
theorem q1412 : (Jvm.Cond.methodLink "RoofRegattaLaw" (158 : Nat) ({ cls := "RoofRegatta", name := "fireAt", desc := "(I)I" } : Jvm.MethodName)) ∈ lw_all := lw_g (lw_at lw_m6 89 rfl) rfl
theorem q1416 : (Jvm.Cond.methodLink "RoofRegattaLaw" (162 : Nat) ({ cls := "RoofRegatta", name := "could", desc := "()I" } : Jvm.MethodName)) ∈ lw_all := lw_g (lw_at lw_m6 93 rfl) rfl
theorem q1420 : (Jvm.Cond.methodLink "RoofRegattaLaw" (166 : Nat) ({ cls := "RoofRegatta", name := "surely", desc := "()I" } : Jvm.MethodName)) ∈ lw_all := lw_g (lw_at lw_m6 97 rfl) rfl
theorem q1424 : (Jvm.Cond.methodLink "RoofRegattaLaw" (170 : Nat) ({ cls := "RoofRegatta", name := "ask", desc := "()I" } : Jvm.MethodName)) ∈ lw_all := lw_g (lw_at lw_m6 101 rfl) rfl
theorem q1433 : (Jvm.Cond.methodLink "RoofRegattaLaw" (174 : Nat) ({ cls := "RoofRegatta", name := "askLeaves", desc := "()I" } : Jvm.MethodName)) ∈ lw_all := lw_g (lw_at lw_m6 110 rfl) rfl
theorem q1437 : (Jvm.Cond.methodLink "RoofRegattaLaw" (178 : Nat) ({ cls := "RoofRegatta", name := "judge", desc := "()I" } : Jvm.MethodName)) ∈ lw_all := lw_g (lw_at lw_m6 114 rfl) rfl
theorem q1441 : (Jvm.Cond.methodLink "RoofRegattaLaw" (182 : Nat) ({ cls := "RoofRegatta", name := "odds", desc := "(IIZ)J" } : Jvm.MethodName)) ∈ lw_all := lw_g (lw_at lw_m6 118 rfl) rfl
theorem q1461 : (Jvm.Cond.methodLink "RoofRegattaLaw" (187 : Nat) ({ cls := "RoofRegatta", name := "mean", desc := "(IZ)J" } : Jvm.MethodName)) ∈ lw_all := lw_g (lw_at lw_m6 138 rfl) rfl
theorem q1465 : (Jvm.Cond.methodLink "RoofRegattaLaw" (192 : Nat) ({ cls := "RoofRegatta", name := "hopes", desc := "(IZ)J" } : Jvm.MethodName)) ∈ lw_all := lw_g (lw_at lw_m6 142 rfl) rfl
theorem q1469 : (Jvm.Cond.methodLink "RoofRegattaLaw" (196 : Nat) ({ cls := "RoofRegatta", name := "wins", desc := "(III)I" } : Jvm.MethodName)) ∈ lw_all := lw_g (lw_at lw_m6 146 rfl) rfl
theorem q1488 : (Jvm.Cond.methodLink "RoofRegattaLaw" (201 : Nat) ({ cls := "RoofRegatta", name := "record", desc := "(II)I" } : Jvm.MethodName)) ∈ lw_all := lw_g (lw_at lw_m6 165 rfl) rfl
theorem q1493 : (Jvm.Cond.methodLink "RoofRegattaLaw" (205 : Nat) ({ cls := "RoofRegatta", name := "weir", desc := "(IZZZ)I" } : Jvm.MethodName)) ∈ lw_all := lw_g (lw_at lw_m6 170 rfl) rfl
theorem q1508 : (Jvm.Cond.methodLink "RoofRegattaLaw" (210 : Nat) ({ cls := "RoofRegatta", name := "rests", desc := "(I)I" } : Jvm.MethodName)) ∈ lw_all := lw_g (lw_at lw_m6 185 rfl) rfl
theorem q1515 : (Jvm.Cond.methodLink "RoofRegattaLaw" (214 : Nat) ({ cls := "RoofRegatta", name := "rest", desc := "(I)I" } : Jvm.MethodName)) ∈ lw_all := lw_g (lw_at lw_m6 192 rfl) rfl
theorem q1519 : (Jvm.Cond.methodLink "RoofRegattaLaw" (218 : Nat) ({ cls := "RoofRegatta", name := "board", desc := "(II)I" } : Jvm.MethodName)) ∈ lw_all := lw_g (lw_at lw_m6 196 rfl) rfl
theorem q1537 : (Jvm.Cond.methodLink "RoofRegattaLaw" (222 : Nat) ({ cls := "RoofRegatta", name := "ashore", desc := "(I)Z" } : Jvm.MethodName)) ∈ lw_all := lw_g (lw_at lw_m6 214 rfl) rfl
theorem q1549 : (Jvm.Cond.methodLink "RoofRegattaLaw" (227 : Nat) ({ cls := "RoofRegatta", name := "light", desc := "(IZ)Z" } : Jvm.MethodName)) ∈ lw_all := lw_g (lw_at lw_m6 226 rfl) rfl
theorem q1553 : (Jvm.Cond.methodLink "RoofRegattaLaw" (232 : Nat) ({ cls := "RoofRegatta", name := "cross", desc := "(I)I" } : Jvm.MethodName)) ∈ lw_all := lw_g (lw_at lw_m6 230 rfl) rfl
theorem q1557 : (Jvm.Cond.methodLink "RoofRegattaLaw" (236 : Nat) ({ cls := "RoofRegatta", name := "raise", desc := "(I)Z" } : Jvm.MethodName)) ∈ lw_all := lw_g (lw_at lw_m6 234 rfl) rfl
theorem q1561 : (Jvm.Cond.methodLink "RoofRegattaLaw" (240 : Nat) ({ cls := "RoofRegatta", name := "undo", desc := "()Z" } : Jvm.MethodName)) ∈ lw_all := lw_g (lw_at lw_m6 238 rfl) rfl
theorem q1566 : (Jvm.Cond.methodLink "RoofRegattaLaw" (245 : Nat) ({ cls := "RoofRegatta", name := "image", desc := "()I" } : Jvm.MethodName)) ∈ lw_all := lw_g (lw_at lw_m7 3 rfl) rfl
theorem q1570 : (Jvm.Cond.methodLink "RoofRegattaLaw" (249 : Nat) ({ cls := "RoofRegatta", name := "back", desc := "(I)Z" } : Jvm.MethodName)) ∈ lw_all := lw_g (lw_at lw_m7 7 rfl) rfl
theorem q1574 : (Jvm.Cond.methodLink "RoofRegattaLaw" (262 : Nat) ({ cls := "RoofRegatta", name := "size", desc := "(I)I" } : Jvm.MethodName)) ∈ lw_all := lw_g (lw_at lw_m7 11 rfl) rfl
theorem q1578 : (Jvm.Cond.methodLink "RoofRegattaLaw" (266 : Nat) ({ cls := "RoofRegatta", name := "trouble", desc := "()I" } : Jvm.MethodName)) ∈ lw_all := lw_g (lw_at lw_m7 15 rfl) rfl
theorem q1582 : (Jvm.Cond.methodLink "RoofRegattaLaw" (253 : Nat) ({ cls := "RoofRegattaLaw", name := "led", desc := "(LRoofRegatta;I[J)I" } : Jvm.MethodName)) ∈ lw_all := lw_g (lw_at lw_m7 19 rfl) rfl
theorem q1583 : (Jvm.Cond.static ({ cls := "RoofRegattaLaw", name := "led", desc := "(LRoofRegatta;I[J)I" } : Jvm.MethodName)) ∈ lw_all := lw_g (lw_at lw_m7 20 rfl) rfl
theorem q1584 : (Jvm.Cond.codeWith ({ cls := "RoofRegattaLaw", name := "led", desc := "(LRoofRegatta;I[J)I" } : Jvm.MethodName) method_3_code (4 : Nat) (Option.some Jvm.ClassFile.FieldType.int) [((0 : Nat), (9 : Nat), (12 : Nat), (13 : Nat))]) ∈ lw_all := lw_g (lw_at lw_m7 21 rfl) rfl
theorem q1585 : (Jvm.Cond.classLink "RoofRegattaLaw" (13 : Nat) "java/util/NoSuchElementException") ∈ lw_all := lw_g (lw_at lw_m7 22 rfl) rfl
theorem q1586 : (Jvm.Cond.methodLink "RoofRegattaLaw" (7 : Nat) ({ cls := "RoofRegatta", name := "led", desc := "(I)I" } : Jvm.MethodName)) ∈ lw_all := lw_g (lw_at lw_m7 23 rfl) rfl
theorem q1651 : (Jvm.Cond.classLink "RoofRegattaLaw" (16 : Nat) "RoofRegattaModel") ∈ lw_all := lw_g (lw_at lw_m7 88 rfl) rfl
theorem q1653 : (Jvm.Cond.methodLink "RoofRegattaLaw" (18 : Nat) ({ cls := "RoofRegattaModel", name := "<init>", desc := "()V" } : Jvm.MethodName)) ∈ lw_all := lw_g (lw_at lw_m7 90 rfl) rfl
theorem q1787 : (Jvm.Cond.methodLink "RoofRegattaLaw" (259 : Nat) ({ cls := "RoofRegattaModel", name := "thrown", desc := "()I" } : Jvm.MethodName)) ∈ lw_all := lw_g (lw_at lw_m7 224 rfl) rfl
theorem q1791 : (Jvm.Cond.methodLink "RoofRegattaLaw" (23 : Nat) ({ cls := "RoofRegattaModel", name := "feed", desc := "(IIIII)I" } : Jvm.MethodName)) ∈ lw_all := lw_g (lw_at lw_m7 228 rfl) rfl
theorem q1795 : (Jvm.Cond.methodLink "RoofRegattaLaw" (27 : Nat) ({ cls := "RoofRegattaModel", name := "regatta", desc := "(I)I" } : Jvm.MethodName)) ∈ lw_all := lw_g (lw_at lw_m7 232 rfl) rfl
theorem q1969 : (Jvm.Cond.methodLink "RoofRegattaLaw" (32 : Nat) ({ cls := "RoofRegattaModel", name := "fault", desc := "()I" } : Jvm.MethodName)) ∈ lw_all := lw_g (lw_at lw_m8 166 rfl) rfl
theorem q1973 : (Jvm.Cond.methodLink "RoofRegattaLaw" (36 : Nat) ({ cls := "RoofRegattaModel", name := "where", desc := "()I" } : Jvm.MethodName)) ∈ lw_all := lw_g (lw_at lw_m8 170 rfl) rfl
theorem q1977 : (Jvm.Cond.methodLink "RoofRegattaLaw" (41 : Nat) ({ cls := "RoofRegattaModel", name := "house", desc := "(II)I" } : Jvm.MethodName)) ∈ lw_all := lw_g (lw_at lw_m8 174 rfl) rfl
theorem q2012 : (Jvm.Cond.methodLink "RoofRegattaLaw" (45 : Nat) ({ cls := "RoofRegattaModel", name := "lodger", desc := "(II)I" } : Jvm.MethodName)) ∈ lw_all := lw_g (lw_at lw_m8 209 rfl) rfl
theorem q2020 : (Jvm.Cond.methodLink "RoofRegattaLaw" (49 : Nat) ({ cls := "RoofRegattaModel", name := "bend", desc := "(II)I" } : Jvm.MethodName)) ∈ lw_all := lw_g (lw_at lw_m8 217 rfl) rfl
theorem q2028 : (Jvm.Cond.methodLink "RoofRegattaLaw" (53 : Nat) ({ cls := "RoofRegattaModel", name := "time", desc := "(II)I" } : Jvm.MethodName)) ∈ lw_all := lw_g (lw_at lw_m8 225 rfl) rfl
theorem q2036 : (Jvm.Cond.methodLink "RoofRegattaLaw" (57 : Nat) ({ cls := "RoofRegattaModel", name := "soFar", desc := "(II)I" } : Jvm.MethodName)) ∈ lw_all := lw_g (lw_at lw_m8 233 rfl) rfl
theorem q2048 : (Jvm.Cond.methodLink "RoofRegattaLaw" (61 : Nat) ({ cls := "RoofRegattaModel", name := "total", desc := "(I)I" } : Jvm.MethodName)) ∈ lw_all := lw_g (lw_at lw_m9 5 rfl) rfl
theorem q2056 : (Jvm.Cond.methodLink "RoofRegattaLaw" (65 : Nat) ({ cls := "RoofRegattaModel", name := "loses", desc := "(I)I" } : Jvm.MethodName)) ∈ lw_all := lw_g (lw_at lw_m9 13 rfl) rfl
theorem q2060 : (Jvm.Cond.methodLink "RoofRegattaLaw" (69 : Nat) ({ cls := "RoofRegattaModel", name := "rank", desc := "(I)I" } : Jvm.MethodName)) ∈ lw_all := lw_g (lw_at lw_m9 17 rfl) rfl
theorem q2072 : (Jvm.Cond.methodLink "RoofRegattaLaw" (73 : Nat) ({ cls := "RoofRegattaModel", name := "ranked", desc := "(I)I" } : Jvm.MethodName)) ∈ lw_all := lw_g (lw_at lw_m9 29 rfl) rfl
theorem q2076 : (Jvm.Cond.methodLink "RoofRegattaLaw" (77 : Nat) ({ cls := "RoofRegattaModel", name := "out", desc := "(I)I" } : Jvm.MethodName)) ∈ lw_all := lw_g (lw_at lw_m9 33 rfl) rfl
theorem q2080 : (Jvm.Cond.methodLink "RoofRegattaLaw" (81 : Nat) ({ cls := "RoofRegattaModel", name := "prize", desc := "(I)I" } : Jvm.MethodName)) ∈ lw_all := lw_g (lw_at lw_m9 37 rfl) rfl
theorem q2088 : (Jvm.Cond.methodLink "RoofRegattaLaw" (85 : Nat) ({ cls := "RoofRegattaModel", name := "ahead", desc := "(II)I" } : Jvm.MethodName)) ∈ lw_all := lw_g (lw_at lw_m9 45 rfl) rfl
theorem q2100 : (Jvm.Cond.methodLink "RoofRegattaLaw" (97 : Nat) ({ cls := "RoofRegattaModel", name := "passes", desc := "()I" } : Jvm.MethodName)) ∈ lw_all := lw_g (lw_at lw_m9 57 rfl) rfl
theorem q2104 : (Jvm.Cond.methodLink "RoofRegattaLaw" (101 : Nat) ({ cls := "RoofRegattaModel", name := "fastest", desc := "(I)I" } : Jvm.MethodName)) ∈ lw_all := lw_g (lw_at lw_m9 61 rfl) rfl
theorem q2108 : (Jvm.Cond.methodLink "RoofRegattaLaw" (89 : Nat) ({ cls := "RoofRegattaModel", name := "leader", desc := "(I)I" } : Jvm.MethodName)) ∈ lw_all := lw_g (lw_at lw_m9 65 rfl) rfl
theorem q2112 : (Jvm.Cond.methodLink "RoofRegattaLaw" (105 : Nat) ({ cls := "RoofRegattaModel", name := "storey", desc := "(I)I" } : Jvm.MethodName)) ∈ lw_all := lw_g (lw_at lw_m9 69 rfl) rfl
theorem q2116 : (Jvm.Cond.methodLink "RoofRegattaLaw" (109 : Nat) ({ cls := "RoofRegattaModel", name := "together", desc := "()I" } : Jvm.MethodName)) ∈ lw_all := lw_g (lw_at lw_m9 73 rfl) rfl
theorem q2124 : (Jvm.Cond.methodLink "RoofRegattaLaw" (93 : Nat) ({ cls := "RoofRegattaModel", name := "full", desc := "()I" } : Jvm.MethodName)) ∈ lw_all := lw_g (lw_at lw_m9 81 rfl) rfl
theorem q2128 : (Jvm.Cond.methodLink "RoofRegattaLaw" (113 : Nat) ({ cls := "RoofRegattaModel", name := "bestRank", desc := "(I)I" } : Jvm.MethodName)) ∈ lw_all := lw_g (lw_at lw_m9 85 rfl) rfl
theorem q2149 : (Jvm.Cond.methodLink "RoofRegattaLaw" (117 : Nat) ({ cls := "RoofRegattaModel", name := "loadOf", desc := "(II)I" } : Jvm.MethodName)) ∈ lw_all := lw_g (lw_at lw_m9 106 rfl) rfl
theorem q2157 : (Jvm.Cond.methodLink "RoofRegattaLaw" (121 : Nat) ({ cls := "RoofRegattaModel", name := "loadMoves", desc := "(I)I" } : Jvm.MethodName)) ∈ lw_all := lw_g (lw_at lw_m9 114 rfl) rfl
theorem q2161 : (Jvm.Cond.methodLink "RoofRegattaLaw" (125 : Nat) ({ cls := "RoofRegattaModel", name := "leastTotal", desc := "(I)I" } : Jvm.MethodName)) ∈ lw_all := lw_g (lw_at lw_m9 118 rfl) rfl
theorem q2165 : (Jvm.Cond.methodLink "RoofRegattaLaw" (129 : Nat) ({ cls := "RoofRegattaModel", name := "friendly", desc := "()I" } : Jvm.MethodName)) ∈ lw_all := lw_g (lw_at lw_m9 122 rfl) rfl
theorem q2169 : (Jvm.Cond.methodLink "RoofRegattaLaw" (133 : Nat) ({ cls := "RoofRegattaModel", name := "friendlyOf", desc := "(I)I" } : Jvm.MethodName)) ∈ lw_all := lw_g (lw_at lw_m9 126 rfl) rfl
theorem q2173 : (Jvm.Cond.methodLink "RoofRegattaLaw" (137 : Nat) ({ cls := "RoofRegattaModel", name := "leastFor", desc := "(II)I" } : Jvm.MethodName)) ∈ lw_all := lw_g (lw_at lw_m9 130 rfl) rfl
theorem q2181 : (Jvm.Cond.methodLink "RoofRegattaLaw" (141 : Nat) ({ cls := "RoofRegattaModel", name := "toMove", desc := "(I)I" } : Jvm.MethodName)) ∈ lw_all := lw_g (lw_at lw_m9 138 rfl) rfl
theorem q2185 : (Jvm.Cond.methodLink "RoofRegattaLaw" (149 : Nat) ({ cls := "RoofRegattaModel", name := "bestSwap", desc := "(I)I" } : Jvm.MethodName)) ∈ lw_all := lw_g (lw_at lw_m9 142 rfl) rfl
theorem q2189 : (Jvm.Cond.methodLink "RoofRegattaLaw" (153 : Nat) ({ cls := "RoofRegattaModel", name := "bestLane", desc := "(I)I" } : Jvm.MethodName)) ∈ lw_all := lw_g (lw_at lw_m9 146 rfl) rfl
theorem q2193 : (Jvm.Cond.methodLink "RoofRegattaLaw" (145 : Nat) ({ cls := "RoofRegattaModel", name := "waterFor", desc := "(II)I" } : Jvm.MethodName)) ∈ lw_all := lw_g (lw_at lw_m9 150 rfl) rfl
theorem q2197 : (Jvm.Cond.methodLink "RoofRegattaLaw" (157 : Nat) ({ cls := "RoofRegattaModel", name := "fires", desc := "()I" } : Jvm.MethodName)) ∈ lw_all := lw_g (lw_at lw_m9 154 rfl) rfl
theorem q2209 : (Jvm.Cond.methodLink "RoofRegattaLaw" (161 : Nat) ({ cls := "RoofRegattaModel", name := "fireAt", desc := "(I)I" } : Jvm.MethodName)) ∈ lw_all := lw_g (lw_at lw_m9 166 rfl) rfl
theorem q2213 : (Jvm.Cond.methodLink "RoofRegattaLaw" (165 : Nat) ({ cls := "RoofRegattaModel", name := "could", desc := "()I" } : Jvm.MethodName)) ∈ lw_all := lw_g (lw_at lw_m9 170 rfl) rfl
theorem q2217 : (Jvm.Cond.methodLink "RoofRegattaLaw" (169 : Nat) ({ cls := "RoofRegattaModel", name := "surely", desc := "()I" } : Jvm.MethodName)) ∈ lw_all := lw_g (lw_at lw_m9 174 rfl) rfl
theorem q2221 : (Jvm.Cond.methodLink "RoofRegattaLaw" (173 : Nat) ({ cls := "RoofRegattaModel", name := "ask", desc := "()I" } : Jvm.MethodName)) ∈ lw_all := lw_g (lw_at lw_m9 178 rfl) rfl
theorem q2233 : (Jvm.Cond.methodLink "RoofRegattaLaw" (177 : Nat) ({ cls := "RoofRegattaModel", name := "askLeaves", desc := "()I" } : Jvm.MethodName)) ∈ lw_all := lw_g (lw_at lw_m9 190 rfl) rfl
theorem q2237 : (Jvm.Cond.methodLink "RoofRegattaLaw" (181 : Nat) ({ cls := "RoofRegattaModel", name := "judge", desc := "()I" } : Jvm.MethodName)) ∈ lw_all := lw_g (lw_at lw_m9 194 rfl) rfl
theorem q2241 : (Jvm.Cond.methodLink "RoofRegattaLaw" (186 : Nat) ({ cls := "RoofRegattaModel", name := "odds", desc := "(IIZ)J" } : Jvm.MethodName)) ∈ lw_all := lw_g (lw_at lw_m9 198 rfl) rfl
theorem q2253 : (Jvm.Cond.methodLink "RoofRegattaLaw" (191 : Nat) ({ cls := "RoofRegattaModel", name := "mean", desc := "(IZ)J" } : Jvm.MethodName)) ∈ lw_all := lw_g (lw_at lw_m9 210 rfl) rfl
theorem q2257 : (Jvm.Cond.methodLink "RoofRegattaLaw" (195 : Nat) ({ cls := "RoofRegattaModel", name := "hopes", desc := "(IZ)J" } : Jvm.MethodName)) ∈ lw_all := lw_g (lw_at lw_m9 214 rfl) rfl
theorem q2261 : (Jvm.Cond.methodLink "RoofRegattaLaw" (200 : Nat) ({ cls := "RoofRegattaModel", name := "wins", desc := "(III)I" } : Jvm.MethodName)) ∈ lw_all := lw_g (lw_at lw_m9 218 rfl) rfl
theorem q2271 : (Jvm.Cond.methodLink "RoofRegattaLaw" (204 : Nat) ({ cls := "RoofRegattaModel", name := "record", desc := "(II)I" } : Jvm.MethodName)) ∈ lw_all := lw_g (lw_at lw_m9 228 rfl) rfl
theorem q2275 : (Jvm.Cond.methodLink "RoofRegattaLaw" (209 : Nat) ({ cls := "RoofRegattaModel", name := "weir", desc := "(IZZZ)I" } : Jvm.MethodName)) ∈ lw_all := lw_g (lw_at lw_m9 232 rfl) rfl
theorem q2282 : (Jvm.Cond.methodLink "RoofRegattaLaw" (213 : Nat) ({ cls := "RoofRegattaModel", name := "rests", desc := "(I)I" } : Jvm.MethodName)) ∈ lw_all := lw_g (lw_at lw_m9 239 rfl) rfl
theorem q2293 : (Jvm.Cond.methodLink "RoofRegattaLaw" (217 : Nat) ({ cls := "RoofRegattaModel", name := "rest", desc := "(I)I" } : Jvm.MethodName)) ∈ lw_all := lw_g (lw_at lw_m10 10 rfl) rfl
theorem q2297 : (Jvm.Cond.methodLink "RoofRegattaLaw" (221 : Nat) ({ cls := "RoofRegattaModel", name := "board", desc := "(II)I" } : Jvm.MethodName)) ∈ lw_all := lw_g (lw_at lw_m10 14 rfl) rfl
theorem q2305 : (Jvm.Cond.methodLink "RoofRegattaLaw" (226 : Nat) ({ cls := "RoofRegattaModel", name := "ashore", desc := "(I)Z" } : Jvm.MethodName)) ∈ lw_all := lw_g (lw_at lw_m10 22 rfl) rfl
theorem q2313 : (Jvm.Cond.methodLink "RoofRegattaLaw" (231 : Nat) ({ cls := "RoofRegattaModel", name := "light", desc := "(IZ)Z" } : Jvm.MethodName)) ∈ lw_all := lw_g (lw_at lw_m10 30 rfl) rfl
theorem q2317 : (Jvm.Cond.methodLink "RoofRegattaLaw" (235 : Nat) ({ cls := "RoofRegattaModel", name := "cross", desc := "(I)I" } : Jvm.MethodName)) ∈ lw_all := lw_g (lw_at lw_m10 34 rfl) rfl
theorem q2321 : (Jvm.Cond.methodLink "RoofRegattaLaw" (239 : Nat) ({ cls := "RoofRegattaModel", name := "raise", desc := "(I)Z" } : Jvm.MethodName)) ∈ lw_all := lw_g (lw_at lw_m10 38 rfl) rfl
theorem q2325 : (Jvm.Cond.methodLink "RoofRegattaLaw" (244 : Nat) ({ cls := "RoofRegattaModel", name := "undo", desc := "()Z" } : Jvm.MethodName)) ∈ lw_all := lw_g (lw_at lw_m10 42 rfl) rfl
theorem q2329 : (Jvm.Cond.methodLink "RoofRegattaLaw" (248 : Nat) ({ cls := "RoofRegattaModel", name := "image", desc := "()I" } : Jvm.MethodName)) ∈ lw_all := lw_g (lw_at lw_m10 46 rfl) rfl
theorem q2333 : (Jvm.Cond.methodLink "RoofRegattaLaw" (252 : Nat) ({ cls := "RoofRegattaModel", name := "back", desc := "(I)Z" } : Jvm.MethodName)) ∈ lw_all := lw_g (lw_at lw_m10 50 rfl) rfl
theorem q2337 : (Jvm.Cond.methodLink "RoofRegattaLaw" (258 : Nat) ({ cls := "RoofRegattaModel", name := "led", desc := "(I)I" } : Jvm.MethodName)) ∈ lw_all := lw_g (lw_at lw_m10 54 rfl) rfl
theorem q2341 : (Jvm.Cond.methodLink "RoofRegattaLaw" (265 : Nat) ({ cls := "RoofRegattaModel", name := "size", desc := "(I)I" } : Jvm.MethodName)) ∈ lw_all := lw_g (lw_at lw_m10 58 rfl) rfl
theorem q2345 : (Jvm.Cond.methodLink "RoofRegattaLaw" (269 : Nat) ({ cls := "RoofRegattaModel", name := "trouble", desc := "()I" } : Jvm.MethodName)) ∈ lw_all := lw_g (lw_at lw_m10 62 rfl) rfl
/-! the law's own entry -/
set_option maxRecDepth 100000
abbrev cL_law : ByteArray := code
def dkwL_law_77 : List UInt8 := [3, 172, 132, 4, 6, 167, 248, 35, 4, 172]
abbrev dktL_law_77 : List UInt8 := dkwL_law_77 ++ []
def dkwL_law_76 : List UInt8 := [21, 4, 4, 96, 46, 182, 1, 9, 159, 0, 18, 3, 172, 43, 182, 1, 10, 44, 182, 1, 13, 159, 0, 5]
abbrev dktL_law_76 : List UInt8 := dkwL_law_76 ++ dktL_law_77
def dkwL_law_75 : List UInt8 := [21, 6, 133, 148, 153, 0, 5, 3, 172, 167, 0, 41, 43, 42, 21, 4, 4, 96, 46, 182, 1, 6, 44, 42]
abbrev dktL_law_75 : List UInt8 := dkwL_law_75 ++ dktL_law_76
def dkwL_law_74 : List UInt8 := [182, 1, 2, 54, 6, 44, 182, 1, 3, 21, 5, 159, 0, 5, 3, 172, 21, 5, 154, 0, 15, 45, 3, 47]
abbrev dktL_law_74 : List UInt8 := dkwL_law_74 ++ dktL_law_75
def dkwL_law_73 : List UInt8 := [3, 172, 43, 42, 21, 4, 4, 96, 46, 45, 184, 0, 253, 54, 5, 44, 42, 21, 4, 4, 96, 46]
abbrev dktL_law_73 : List UInt8 := dkwL_law_73 ++ dktL_law_74
def dkwL_law_72 : List UInt8 := [172, 43, 42, 21, 4, 4, 96, 46, 182, 0, 249, 44, 42, 21, 4, 4, 96, 46, 182, 0, 252, 159, 0, 99]
abbrev dktL_law_72 : List UInt8 := dkwL_law_72 ++ dktL_law_73
def dkwL_law_71 : List UInt8 := [182, 0, 240, 44, 182, 0, 244, 159, 0, 137, 3, 172, 43, 182, 0, 245, 44, 182, 0, 248, 159, 0, 124, 3]
abbrev dktL_law_71 : List UInt8 := dkwL_law_71 ++ dktL_law_72
def dkwL_law_70 : List UInt8 := [4, 96, 46, 182, 0, 236, 44, 42, 21, 4, 4, 96, 46, 182, 0, 239, 159, 0, 150, 3, 172, 43]
abbrev dktL_law_70 : List UInt8 := dkwL_law_70 ++ dktL_law_71
def dkwL_law_69 : List UInt8 := [96, 46, 182, 0, 232, 44, 42, 21, 4, 4, 96, 46, 182, 0, 235, 159, 0, 175, 3, 172, 43, 42, 21, 4]
abbrev dktL_law_69 : List UInt8 := dkwL_law_69 ++ dktL_law_70
def dkwL_law_68 : List UInt8 := [5, 96, 46, 153, 0, 7, 4, 167, 0, 4, 3, 182, 0, 231, 159, 0, 200, 3, 172, 43, 42, 21, 4, 4]
abbrev dktL_law_68 : List UInt8 := dkwL_law_68 ++ dktL_law_69
def dkwL_law_67 : List UInt8 := [5, 96, 46, 153, 0, 7, 4, 167, 0, 4, 3, 182, 0, 227, 44, 42, 21, 4, 4, 96, 46, 42, 21, 4]
abbrev dktL_law_67 : List UInt8 := dkwL_law_67 ++ dktL_law_68
def dkwL_law_66 : List UInt8 := [42, 21, 4, 4, 96, 46, 182, 0, 226, 159, 0, 253, 3, 172, 43, 42, 21, 4, 4, 96, 46, 42, 21, 4]
abbrev dktL_law_66 : List UInt8 := dkwL_law_66 ++ dktL_law_67
def dkwL_law_65 : List UInt8 := [21, 4, 5, 96, 46, 182, 0, 221, 159, 1, 22, 3, 172, 43, 42, 21, 4, 4, 96, 46, 182, 0, 222, 44]
abbrev dktL_law_65 : List UInt8 := dkwL_law_65 ++ dktL_law_66
def dkwL_law_64 : List UInt8 := [43, 42, 21, 4, 4, 96, 46, 42, 21, 4, 5, 96, 46, 182, 0, 218, 44, 42, 21, 4, 4, 96, 46, 42]
abbrev dktL_law_64 : List UInt8 := dkwL_law_64 ++ dktL_law_65
def dkwL_law_63 : List UInt8 := [42, 21, 4, 4, 96, 46, 182, 0, 214, 44, 42, 21, 4, 4, 96, 46, 182, 0, 217, 159, 1, 59, 3, 172]
abbrev dktL_law_63 : List UInt8 := dkwL_law_63 ++ dktL_law_64
def dkwL_law_62 : List UInt8 := [21, 4, 4, 96, 46, 182, 0, 210, 44, 42, 21, 4, 4, 96, 46, 182, 0, 213, 159, 1, 84, 3, 172, 43]
abbrev dktL_law_62 : List UInt8 := dkwL_law_62 ++ dktL_law_63
def dkwL_law_61 : List UInt8 := [21, 4, 7, 96, 46, 153, 0, 7, 4, 167, 0, 4, 3, 182, 0, 209, 159, 1, 109, 3, 172, 43, 42]
abbrev dktL_law_61 : List UInt8 := dkwL_law_61 ++ dktL_law_62
def dkwL_law_60 : List UInt8 := [153, 0, 7, 4, 167, 0, 4, 3, 42, 21, 4, 6, 96, 46, 153, 0, 7, 4, 167, 0, 4, 3, 42]
abbrev dktL_law_60 : List UInt8 := dkwL_law_60 ++ dktL_law_61
def dkwL_law_59 : List UInt8 := [153, 0, 7, 4, 167, 0, 4, 3, 182, 0, 205, 44, 42, 21, 4, 4, 96, 46, 42, 21, 4, 5, 96, 46]
abbrev dktL_law_59 : List UInt8 := dkwL_law_59 ++ dktL_law_60
def dkwL_law_58 : List UInt8 := [167, 0, 4, 3, 42, 21, 4, 6, 96, 46, 153, 0, 7, 4, 167, 0, 4, 3, 42, 21, 4, 7, 96, 46]
abbrev dktL_law_58 : List UInt8 := dkwL_law_58 ++ dktL_law_59
def dkwL_law_57 : List UInt8 := [159, 1, 218, 3, 172, 43, 42, 21, 4, 4, 96, 46, 42, 21, 4, 5, 96, 46, 153, 0, 7, 4]
abbrev dktL_law_57 : List UInt8 := dkwL_law_57 ++ dktL_law_58
def dkwL_law_56 : List UInt8 := [5, 96, 46, 182, 0, 201, 44, 42, 21, 4, 4, 96, 46, 42, 21, 4, 5, 96, 46, 182, 0, 204]
abbrev dktL_law_56 : List UInt8 := dkwL_law_56 ++ dktL_law_57
def dkwL_law_55 : List UInt8 := [42, 21, 4, 6, 96, 46, 182, 0, 200, 159, 1, 255, 3, 172, 43, 42, 21, 4, 4, 96, 46, 42, 21, 4]
abbrev dktL_law_55 : List UInt8 := dkwL_law_55 ++ dktL_law_56
def dkwL_law_54 : List UInt8 := [96, 46, 42, 21, 4, 6, 96, 46, 182, 0, 196, 44, 42, 21, 4, 4, 96, 46, 42, 21, 4, 5, 96, 46]
abbrev dktL_law_54 : List UInt8 := dkwL_law_54 ++ dktL_law_55
def dkwL_law_53 : List UInt8 := [167, 0, 4, 3, 182, 0, 195, 148, 153, 2, 48, 3, 172, 43, 42, 21, 4, 4, 96, 46, 42, 21, 4, 5]
abbrev dktL_law_53 : List UInt8 := dkwL_law_53 ++ dktL_law_54
def dkwL_law_52 : List UInt8 := [167, 0, 4, 3, 182, 0, 192, 44, 42, 21, 4, 4, 96, 46, 42, 21, 4, 5, 96, 46, 153, 0, 7, 4]
abbrev dktL_law_52 : List UInt8 := dkwL_law_52 ++ dktL_law_53
def dkwL_law_51 : List UInt8 := [153, 2, 102, 3, 172, 43, 42, 21, 4, 4, 96, 46, 42, 21, 4, 5, 96, 46, 153, 0, 7, 4]
abbrev dktL_law_51 : List UInt8 := dkwL_law_51 ++ dktL_law_52
def dkwL_law_50 : List UInt8 := [42, 21, 4, 4, 96, 46, 42, 21, 4, 5, 96, 46, 153, 0, 7, 4, 167, 0, 4, 3, 182, 0, 191, 148]
abbrev dktL_law_50 : List UInt8 := dkwL_law_50 ++ dktL_law_51
def dkwL_law_49 : List UInt8 := [42, 21, 4, 4, 96, 46, 42, 21, 4, 5, 96, 46, 153, 0, 7, 4, 167, 0, 4, 3, 182, 0, 187, 44]
abbrev dktL_law_49 : List UInt8 := dkwL_law_49 ++ dktL_law_50
def dkwL_law_48 : List UInt8 := [42, 21, 4, 6, 96, 46, 153, 0, 7, 4, 167, 0, 4, 3, 182, 0, 186, 148, 153, 2, 156, 3, 172, 43]
abbrev dktL_law_48 : List UInt8 := dkwL_law_48 ++ dktL_law_49
def dkwL_law_47 : List UInt8 := [153, 0, 7, 4, 167, 0, 4, 3, 182, 0, 182, 44, 42, 21, 4, 4, 96, 46, 42, 21, 4, 5, 96, 46]
abbrev dktL_law_47 : List UInt8 := dkwL_law_47 ++ dktL_law_48
def dkwL_law_46 : List UInt8 := [159, 2, 222, 3, 172, 43, 42, 21, 4, 4, 96, 46, 42, 21, 4, 5, 96, 46, 42, 21, 4, 6, 96, 46]
abbrev dktL_law_46 : List UInt8 := dkwL_law_46 ++ dktL_law_47
def dkwL_law_45 : List UInt8 := [172, 43, 182, 0, 174, 44, 182, 0, 177, 159, 2, 235, 3, 172, 43, 182, 0, 178, 44, 182, 0, 181]
abbrev dktL_law_45 : List UInt8 := dkwL_law_45 ++ dktL_law_46
def dkwL_law_44 : List UInt8 := [182, 0, 166, 44, 182, 0, 169, 159, 3, 5, 3, 172, 43, 182, 0, 170, 44, 182, 0, 173, 159, 2, 248, 3]
abbrev dktL_law_44 : List UInt8 := dkwL_law_44 ++ dktL_law_45
def dkwL_law_43 : List UInt8 := [182, 0, 161, 159, 3, 31, 3, 172, 43, 182, 0, 162, 44, 182, 0, 165, 159, 3, 18, 3, 172, 43]
abbrev dktL_law_43 : List UInt8 := dkwL_law_43 ++ dktL_law_44
def dkwL_law_42 : List UInt8 := [159, 3, 56, 3, 172, 43, 42, 21, 4, 4, 96, 46, 182, 0, 158, 44, 42, 21, 4, 4, 96, 46]
abbrev dktL_law_42 : List UInt8 := dkwL_law_42 ++ dktL_law_43
def dkwL_law_41 : List UInt8 := [44, 42, 21, 4, 4, 96, 46, 182, 0, 153, 159, 3, 69, 3, 172, 43, 182, 0, 154, 44, 182, 0, 157]
abbrev dktL_law_41 : List UInt8 := dkwL_law_41 ++ dktL_law_42
def dkwL_law_40 : List UInt8 := [42, 21, 4, 4, 96, 46, 182, 0, 149, 159, 3, 94, 3, 172, 43, 42, 21, 4, 4, 96, 46, 182, 0, 150]
abbrev dktL_law_40 : List UInt8 := dkwL_law_40 ++ dktL_law_41
def dkwL_law_39 : List UInt8 := [21, 4, 5, 96, 46, 182, 0, 145, 159, 3, 119, 3, 172, 43, 42, 21, 4, 4, 96, 46, 182, 0, 146, 44]
abbrev dktL_law_39 : List UInt8 := dkwL_law_39 ++ dktL_law_40
def dkwL_law_38 : List UInt8 := [42, 21, 4, 4, 96, 46, 42, 21, 4, 5, 96, 46, 182, 0, 142, 44, 42, 21, 4, 4, 96, 46, 42]
abbrev dktL_law_38 : List UInt8 := dkwL_law_38 ++ dktL_law_39
def dkwL_law_37 : List UInt8 := [21, 4, 4, 96, 46, 182, 0, 138, 44, 42, 21, 4, 4, 96, 46, 182, 0, 141, 159, 3, 156, 3, 172, 43]
abbrev dktL_law_37 : List UInt8 := dkwL_law_37 ++ dktL_law_38
def dkwL_law_36 : List UInt8 := [44, 42, 21, 4, 4, 96, 46, 42, 21, 4, 5, 96, 46, 182, 0, 137, 159, 3, 181, 3, 172, 43, 42]
abbrev dktL_law_36 : List UInt8 := dkwL_law_36 ++ dktL_law_37
def dkwL_law_35 : List UInt8 := [182, 0, 133, 159, 3, 218, 3, 172, 43, 42, 21, 4, 4, 96, 46, 42, 21, 4, 5, 96, 46, 182, 0, 134]
abbrev dktL_law_35 : List UInt8 := dkwL_law_35 ++ dktL_law_36
def dkwL_law_34 : List UInt8 := [159, 3, 243, 3, 172, 43, 42, 21, 4, 4, 96, 46, 182, 0, 130, 44, 42, 21, 4, 4, 96, 46]
abbrev dktL_law_34 : List UInt8 := dkwL_law_34 ++ dktL_law_35
def dkwL_law_33 : List UInt8 := [44, 42, 21, 4, 4, 96, 46, 182, 0, 125, 159, 4, 0, 3, 172, 43, 182, 0, 126, 44, 182, 0, 129]
abbrev dktL_law_33 : List UInt8 := dkwL_law_33 ++ dktL_law_34
def dkwL_law_32 : List UInt8 := [42, 21, 4, 4, 96, 46, 182, 0, 121, 159, 4, 25, 3, 172, 43, 42, 21, 4, 4, 96, 46, 182, 0, 122]
abbrev dktL_law_32 : List UInt8 := dkwL_law_32 ++ dktL_law_33
def dkwL_law_31 : List UInt8 := [21, 4, 5, 96, 46, 182, 0, 117, 159, 4, 50, 3, 172, 43, 42, 21, 4, 4, 96, 46, 182, 0, 118, 44]
abbrev dktL_law_31 : List UInt8 := dkwL_law_31 ++ dktL_law_32
def dkwL_law_30 : List UInt8 := [42, 21, 4, 4, 96, 46, 42, 21, 4, 5, 96, 46, 182, 0, 114, 44, 42, 21, 4, 4, 96, 46, 42]
abbrev dktL_law_30 : List UInt8 := dkwL_law_30 ++ dktL_law_31
def dkwL_law_29 : List UInt8 := [21, 4, 4, 96, 46, 182, 0, 110, 44, 42, 21, 4, 4, 96, 46, 182, 0, 113, 159, 4, 87, 3, 172, 43]
abbrev dktL_law_29 : List UInt8 := dkwL_law_29 ++ dktL_law_30
def dkwL_law_28 : List UInt8 := [46, 182, 0, 105, 159, 4, 125, 3, 172, 43, 182, 0, 106, 44, 182, 0, 109, 159, 4, 112, 3, 172, 43, 42]
abbrev dktL_law_28 : List UInt8 := dkwL_law_28 ++ dktL_law_29
def dkwL_law_27 : List UInt8 := [182, 0, 101, 159, 4, 150, 3, 172, 43, 42, 21, 4, 4, 96, 46, 182, 0, 102, 44, 42, 21, 4, 4, 96]
abbrev dktL_law_27 : List UInt8 := dkwL_law_27 ++ dktL_law_28
def dkwL_law_26 : List UInt8 := [159, 4, 175, 3, 172, 43, 42, 21, 4, 4, 96, 46, 182, 0, 98, 44, 42, 21, 4, 4, 96, 46]
abbrev dktL_law_26 : List UInt8 := dkwL_law_26 ++ dktL_law_27
def dkwL_law_25 : List UInt8 := [172, 43, 182, 0, 90, 44, 182, 0, 93, 159, 4, 188, 3, 172, 43, 182, 0, 94, 44, 182, 0, 97]
abbrev dktL_law_25 : List UInt8 := dkwL_law_25 ++ dktL_law_26
def dkwL_law_24 : List UInt8 := [43, 42, 21, 4, 4, 96, 46, 182, 0, 86, 44, 42, 21, 4, 4, 96, 46, 182, 0, 89, 159, 4, 201, 3]
abbrev dktL_law_24 : List UInt8 := dkwL_law_24 ++ dktL_law_25
def dkwL_law_23 : List UInt8 := [182, 0, 82, 44, 42, 21, 4, 4, 96, 46, 42, 21, 4, 5, 96, 46, 182, 0, 85, 159, 4, 226, 3, 172]
abbrev dktL_law_23 : List UInt8 := dkwL_law_23 ++ dktL_law_24
def dkwL_law_22 : List UInt8 := [96, 46, 182, 0, 81, 159, 5, 7, 3, 172, 43, 42, 21, 4, 4, 96, 46, 42, 21, 4, 5, 96, 46]
abbrev dktL_law_22 : List UInt8 := dkwL_law_22 ++ dktL_law_23
def dkwL_law_21 : List UInt8 := [46, 182, 0, 77, 159, 5, 32, 3, 172, 43, 42, 21, 4, 4, 96, 46, 182, 0, 78, 44, 42, 21, 4, 4]
abbrev dktL_law_21 : List UInt8 := dkwL_law_21 ++ dktL_law_22
def dkwL_law_20 : List UInt8 := [182, 0, 73, 159, 5, 57, 3, 172, 43, 42, 21, 4, 4, 96, 46, 182, 0, 74, 44, 42, 21, 4, 4, 96]
abbrev dktL_law_20 : List UInt8 := dkwL_law_20 ++ dktL_law_21
def dkwL_law_19 : List UInt8 := [159, 5, 82, 3, 172, 43, 42, 21, 4, 4, 96, 46, 182, 0, 70, 44, 42, 21, 4, 4, 96, 46]
abbrev dktL_law_19 : List UInt8 := dkwL_law_19 ++ dktL_law_20
def dkwL_law_18 : List UInt8 := [3, 172, 43, 42, 21, 4, 4, 96, 46, 182, 0, 66, 44, 42, 21, 4, 4, 96, 46, 182, 0, 69]
abbrev dktL_law_18 : List UInt8 := dkwL_law_18 ++ dktL_law_19
def dkwL_law_17 : List UInt8 := [172, 43, 42, 21, 4, 4, 96, 46, 182, 0, 62, 44, 42, 21, 4, 4, 96, 46, 182, 0, 65, 159, 5, 107]
abbrev dktL_law_17 : List UInt8 := dkwL_law_17 ++ dktL_law_18
def dkwL_law_16 : List UInt8 := [43, 42, 21, 4, 4, 96, 46, 182, 0, 58, 44, 42, 21, 4, 4, 96, 46, 182, 0, 61, 159, 5, 132, 3]
abbrev dktL_law_16 : List UInt8 := dkwL_law_16 ++ dktL_law_17
def dkwL_law_15 : List UInt8 := [182, 0, 54, 44, 42, 21, 4, 4, 96, 46, 42, 21, 4, 5, 96, 46, 182, 0, 57, 159, 5, 157, 3, 172]
abbrev dktL_law_15 : List UInt8 := dkwL_law_15 ++ dktL_law_16
def dkwL_law_14 : List UInt8 := [5, 96, 46, 182, 0, 53, 159, 5, 194, 3, 172, 43, 42, 21, 4, 4, 96, 46, 42, 21, 4, 5, 96, 46]
abbrev dktL_law_14 : List UInt8 := dkwL_law_14 ++ dktL_law_15
def dkwL_law_13 : List UInt8 := [21, 4, 4, 96, 46, 42, 21, 4, 5, 96, 46, 182, 0, 50, 44, 42, 21, 4, 4, 96, 46, 42, 21, 4]
abbrev dktL_law_13 : List UInt8 := dkwL_law_13 ++ dktL_law_14
def dkwL_law_12 : List UInt8 := [44, 42, 21, 4, 4, 96, 46, 42, 21, 4, 5, 96, 46, 182, 0, 49, 159, 5, 231, 3, 172, 43, 42]
abbrev dktL_law_12 : List UInt8 := dkwL_law_12 ++ dktL_law_13
def dkwL_law_11 : List UInt8 := [182, 0, 45, 159, 6, 12, 3, 172, 43, 42, 21, 4, 4, 96, 46, 42, 21, 4, 5, 96, 46, 182, 0, 46]
abbrev dktL_law_11 : List UInt8 := dkwL_law_11 ++ dktL_law_12
def dkwL_law_10 : List UInt8 := [96, 46, 42, 21, 4, 5, 96, 46, 182, 0, 42, 44, 42, 21, 4, 4, 96, 46, 42, 21, 4, 5, 96, 46]
abbrev dktL_law_10 : List UInt8 := dkwL_law_10 ++ dktL_law_11
def dkwL_law_9 : List UInt8 := [21, 4, 4, 96, 46, 42, 21, 4, 5, 96, 46, 182, 0, 41, 159, 6, 49, 3, 172, 43, 42, 21, 4, 4]
abbrev dktL_law_9 : List UInt8 := dkwL_law_9 ++ dktL_law_10
def dkwL_law_8 : List UInt8 := [159, 6, 86, 3, 172, 43, 42, 21, 4, 4, 96, 46, 42, 21, 4, 5, 96, 46, 182, 0, 37, 44, 42]
abbrev dktL_law_8 : List UInt8 := dkwL_law_8 ++ dktL_law_9
def dkwL_law_7 : List UInt8 := [3, 172, 43, 182, 0, 28, 44, 182, 0, 32, 159, 6, 99, 3, 172, 43, 182, 0, 33, 44, 182, 0, 36]
abbrev dktL_law_7 : List UInt8 := dkwL_law_7 ++ dktL_law_8
def dkwL_law_6 : List UInt8 := [172, 43, 42, 21, 4, 4, 96, 46, 182, 0, 24, 44, 42, 21, 4, 4, 96, 46, 182, 0, 27, 159, 6, 112]
abbrev dktL_law_6 : List UInt8 := dkwL_law_6 ++ dktL_law_7
def dkwL_law_5 : List UInt8 := [21, 4, 6, 96, 46, 42, 21, 4, 7, 96, 46, 42, 21, 4, 8, 96, 46, 182, 0, 23, 159, 6, 137, 3]
abbrev dktL_law_5 : List UInt8 := dkwL_law_5 ++ dktL_law_6
def dkwL_law_4 : List UInt8 := [46, 42, 21, 4, 8, 96, 46, 182, 0, 19, 44, 42, 21, 4, 4, 96, 46, 42, 21, 4, 5, 96, 46, 42]
abbrev dktL_law_4 : List UInt8 := dkwL_law_4 ++ dktL_law_5
def dkwL_law_3 : List UInt8 := [43, 42, 21, 4, 4, 96, 46, 42, 21, 4, 5, 96, 46, 42, 21, 4, 6, 96, 46, 42, 21, 4, 7, 96]
abbrev dktL_law_3 : List UInt8 := dkwL_law_3 ++ dktL_law_4
def dkwL_law_2 : List UInt8 := [170, 0, 0, 0, 0, 0, 7, 201, 0, 0, 0, 0, 0, 0, 0, 58, 0, 0, 0, 252, 0, 0, 1, 69, 0, 0, 1, 94, 0, 0, 1, 107, 0, 0, 1, 120, 0, 0, 1, 157, 0, 0, 1, 194, 0, 0, 1, 231, 0, 0, 2, 12, 0, 0, 2, 49, 0, 0, 2, 74, 0, 0, 2, 99, 0, 0, 2, 124, 0, 0, 2, 149, 0, 0, 2, 174, 0, 0, 2, 199, 0, 0, 2, 236, 0, 0, 3, 5, 0, 0, 3, 18, 0, 0, 3, 31, 0, 0, 3, 56, 0, 0, 3, 81, 0, 0, 3, 94, 0, 0, 3, 119, 0, 0, 3, 156, 0, 0, 3, 181, 0, 0, 3, 206, 0, 0, 3, 219, 0, 0, 3, 244, 0, 0, 4, 25, 0, 0, 4, 50, 0, 0, 4, 87, 0, 0, 4, 112, 0, 0, 4, 137, 0, 0, 4, 150, 0, 0, 4, 175, 0, 0, 4, 188, 0, 0, 4, 201, 0, 0, 4, 214, 0, 0, 4, 227, 0, 0, 4, 240, 0, 0, 5, 50, 0, 0, 5, 104, 0, 0, 5, 158, 0, 0, 5, 207, 0, 0, 5, 244, 0, 0, 6, 97, 0, 0, 6, 122, 0, 0, 6, 147, 0, 0, 6, 184, 0, 0, 6, 209, 0, 0, 7, 6, 0, 0, 7, 31, 0, 0, 7, 56, 0, 0, 7, 69, 0, 0, 7, 82, 0, 0, 7, 107, 0, 0, 7, 163, 0, 0, 7, 188]
abbrev dktL_law_2 : List UInt8 := dkwL_law_2 ++ dktL_law_3
def dkwL_law_1 : List UInt8 := [21, 4, 42, 190, 16, 6, 100, 163, 7, 217, 42, 21, 4, 46, 16, 63, 126]
abbrev dktL_law_1 : List UInt8 := dkwL_law_1 ++ dktL_law_2
def dkwL_law_0 : List UInt8 := [187, 0, 8, 89, 183, 0, 15, 76, 187, 0, 16, 89, 183, 0, 18, 77, 4, 188, 11, 78, 3, 54, 4]
abbrev dktL_law_0 : List UInt8 := dkwL_law_0 ++ dktL_law_1
theorem dksL_law_0 : cL_law.data.toList.drop 0 = dktL_law_0 := by decide +kernel
theorem dksL_law_1 : cL_law.data.toList.drop 23 = dktL_law_1 := dk_seg dksL_law_0 23 rfl rfl
theorem dksL_law_2 : cL_law.data.toList.drop 40 = dktL_law_2 := dk_seg dksL_law_1 17 rfl rfl
theorem dksL_law_3 : cL_law.data.toList.drop 292 = dktL_law_3 := dk_seg dksL_law_2 252 rfl rfl
theorem dksL_law_4 : cL_law.data.toList.drop 316 = dktL_law_4 := dk_seg dksL_law_3 24 rfl rfl
theorem dksL_law_5 : cL_law.data.toList.drop 340 = dktL_law_5 := dk_seg dksL_law_4 24 rfl rfl
theorem dksL_law_6 : cL_law.data.toList.drop 364 = dktL_law_6 := dk_seg dksL_law_5 24 rfl rfl
theorem dksL_law_7 : cL_law.data.toList.drop 388 = dktL_law_7 := dk_seg dksL_law_6 24 rfl rfl
theorem dksL_law_8 : cL_law.data.toList.drop 411 = dktL_law_8 := dk_seg dksL_law_7 23 rfl rfl
theorem dksL_law_9 : cL_law.data.toList.drop 434 = dktL_law_9 := dk_seg dksL_law_8 23 rfl rfl
theorem dksL_law_10 : cL_law.data.toList.drop 458 = dktL_law_10 := dk_seg dksL_law_9 24 rfl rfl
theorem dksL_law_11 : cL_law.data.toList.drop 482 = dktL_law_11 := dk_seg dksL_law_10 24 rfl rfl
theorem dksL_law_12 : cL_law.data.toList.drop 506 = dktL_law_12 := dk_seg dksL_law_11 24 rfl rfl
theorem dksL_law_13 : cL_law.data.toList.drop 529 = dktL_law_13 := dk_seg dksL_law_12 23 rfl rfl
theorem dksL_law_14 : cL_law.data.toList.drop 553 = dktL_law_14 := dk_seg dksL_law_13 24 rfl rfl
theorem dksL_law_15 : cL_law.data.toList.drop 577 = dktL_law_15 := dk_seg dksL_law_14 24 rfl rfl
theorem dksL_law_16 : cL_law.data.toList.drop 601 = dktL_law_16 := dk_seg dksL_law_15 24 rfl rfl
theorem dksL_law_17 : cL_law.data.toList.drop 625 = dktL_law_17 := dk_seg dksL_law_16 24 rfl rfl
theorem dksL_law_18 : cL_law.data.toList.drop 649 = dktL_law_18 := dk_seg dksL_law_17 24 rfl rfl
theorem dksL_law_19 : cL_law.data.toList.drop 671 = dktL_law_19 := dk_seg dksL_law_18 22 rfl rfl
theorem dksL_law_20 : cL_law.data.toList.drop 693 = dktL_law_20 := dk_seg dksL_law_19 22 rfl rfl
theorem dksL_law_21 : cL_law.data.toList.drop 717 = dktL_law_21 := dk_seg dksL_law_20 24 rfl rfl
theorem dksL_law_22 : cL_law.data.toList.drop 741 = dktL_law_22 := dk_seg dksL_law_21 24 rfl rfl
theorem dksL_law_23 : cL_law.data.toList.drop 764 = dktL_law_23 := dk_seg dksL_law_22 23 rfl rfl
theorem dksL_law_24 : cL_law.data.toList.drop 788 = dktL_law_24 := dk_seg dksL_law_23 24 rfl rfl
theorem dksL_law_25 : cL_law.data.toList.drop 812 = dktL_law_25 := dk_seg dksL_law_24 24 rfl rfl
theorem dksL_law_26 : cL_law.data.toList.drop 834 = dktL_law_26 := dk_seg dksL_law_25 22 rfl rfl
theorem dksL_law_27 : cL_law.data.toList.drop 856 = dktL_law_27 := dk_seg dksL_law_26 22 rfl rfl
theorem dksL_law_28 : cL_law.data.toList.drop 880 = dktL_law_28 := dk_seg dksL_law_27 24 rfl rfl
theorem dksL_law_29 : cL_law.data.toList.drop 904 = dktL_law_29 := dk_seg dksL_law_28 24 rfl rfl
theorem dksL_law_30 : cL_law.data.toList.drop 928 = dktL_law_30 := dk_seg dksL_law_29 24 rfl rfl
theorem dksL_law_31 : cL_law.data.toList.drop 951 = dktL_law_31 := dk_seg dksL_law_30 23 rfl rfl
theorem dksL_law_32 : cL_law.data.toList.drop 975 = dktL_law_32 := dk_seg dksL_law_31 24 rfl rfl
theorem dksL_law_33 : cL_law.data.toList.drop 999 = dktL_law_33 := dk_seg dksL_law_32 24 rfl rfl
theorem dksL_law_34 : cL_law.data.toList.drop 1022 = dktL_law_34 := dk_seg dksL_law_33 23 rfl rfl
theorem dksL_law_35 : cL_law.data.toList.drop 1044 = dktL_law_35 := dk_seg dksL_law_34 22 rfl rfl
theorem dksL_law_36 : cL_law.data.toList.drop 1068 = dktL_law_36 := dk_seg dksL_law_35 24 rfl rfl
theorem dksL_law_37 : cL_law.data.toList.drop 1091 = dktL_law_37 := dk_seg dksL_law_36 23 rfl rfl
theorem dksL_law_38 : cL_law.data.toList.drop 1115 = dktL_law_38 := dk_seg dksL_law_37 24 rfl rfl
theorem dksL_law_39 : cL_law.data.toList.drop 1138 = dktL_law_39 := dk_seg dksL_law_38 23 rfl rfl
theorem dksL_law_40 : cL_law.data.toList.drop 1162 = dktL_law_40 := dk_seg dksL_law_39 24 rfl rfl
theorem dksL_law_41 : cL_law.data.toList.drop 1186 = dktL_law_41 := dk_seg dksL_law_40 24 rfl rfl
theorem dksL_law_42 : cL_law.data.toList.drop 1209 = dktL_law_42 := dk_seg dksL_law_41 23 rfl rfl
theorem dksL_law_43 : cL_law.data.toList.drop 1231 = dktL_law_43 := dk_seg dksL_law_42 22 rfl rfl
theorem dksL_law_44 : cL_law.data.toList.drop 1253 = dktL_law_44 := dk_seg dksL_law_43 22 rfl rfl
theorem dksL_law_45 : cL_law.data.toList.drop 1277 = dktL_law_45 := dk_seg dksL_law_44 24 rfl rfl
theorem dksL_law_46 : cL_law.data.toList.drop 1299 = dktL_law_46 := dk_seg dksL_law_45 22 rfl rfl
theorem dksL_law_47 : cL_law.data.toList.drop 1323 = dktL_law_47 := dk_seg dksL_law_46 24 rfl rfl
theorem dksL_law_48 : cL_law.data.toList.drop 1347 = dktL_law_48 := dk_seg dksL_law_47 24 rfl rfl
theorem dksL_law_49 : cL_law.data.toList.drop 1371 = dktL_law_49 := dk_seg dksL_law_48 24 rfl rfl
theorem dksL_law_50 : cL_law.data.toList.drop 1395 = dktL_law_50 := dk_seg dksL_law_49 24 rfl rfl
theorem dksL_law_51 : cL_law.data.toList.drop 1419 = dktL_law_51 := dk_seg dksL_law_50 24 rfl rfl
theorem dksL_law_52 : cL_law.data.toList.drop 1441 = dktL_law_52 := dk_seg dksL_law_51 22 rfl rfl
theorem dksL_law_53 : cL_law.data.toList.drop 1465 = dktL_law_53 := dk_seg dksL_law_52 24 rfl rfl
theorem dksL_law_54 : cL_law.data.toList.drop 1489 = dktL_law_54 := dk_seg dksL_law_53 24 rfl rfl
theorem dksL_law_55 : cL_law.data.toList.drop 1513 = dktL_law_55 := dk_seg dksL_law_54 24 rfl rfl
theorem dksL_law_56 : cL_law.data.toList.drop 1537 = dktL_law_56 := dk_seg dksL_law_55 24 rfl rfl
theorem dksL_law_57 : cL_law.data.toList.drop 1559 = dktL_law_57 := dk_seg dksL_law_56 22 rfl rfl
theorem dksL_law_58 : cL_law.data.toList.drop 1581 = dktL_law_58 := dk_seg dksL_law_57 22 rfl rfl
theorem dksL_law_59 : cL_law.data.toList.drop 1605 = dktL_law_59 := dk_seg dksL_law_58 24 rfl rfl
theorem dksL_law_60 : cL_law.data.toList.drop 1629 = dktL_law_60 := dk_seg dksL_law_59 24 rfl rfl
theorem dksL_law_61 : cL_law.data.toList.drop 1652 = dktL_law_61 := dk_seg dksL_law_60 23 rfl rfl
theorem dksL_law_62 : cL_law.data.toList.drop 1675 = dktL_law_62 := dk_seg dksL_law_61 23 rfl rfl
theorem dksL_law_63 : cL_law.data.toList.drop 1699 = dktL_law_63 := dk_seg dksL_law_62 24 rfl rfl
theorem dksL_law_64 : cL_law.data.toList.drop 1723 = dktL_law_64 := dk_seg dksL_law_63 24 rfl rfl
theorem dksL_law_65 : cL_law.data.toList.drop 1747 = dktL_law_65 := dk_seg dksL_law_64 24 rfl rfl
theorem dksL_law_66 : cL_law.data.toList.drop 1771 = dktL_law_66 := dk_seg dksL_law_65 24 rfl rfl
theorem dksL_law_67 : cL_law.data.toList.drop 1795 = dktL_law_67 := dk_seg dksL_law_66 24 rfl rfl
theorem dksL_law_68 : cL_law.data.toList.drop 1819 = dktL_law_68 := dk_seg dksL_law_67 24 rfl rfl
theorem dksL_law_69 : cL_law.data.toList.drop 1843 = dktL_law_69 := dk_seg dksL_law_68 24 rfl rfl
theorem dksL_law_70 : cL_law.data.toList.drop 1867 = dktL_law_70 := dk_seg dksL_law_69 24 rfl rfl
theorem dksL_law_71 : cL_law.data.toList.drop 1889 = dktL_law_71 := dk_seg dksL_law_70 22 rfl rfl
theorem dksL_law_72 : cL_law.data.toList.drop 1913 = dktL_law_72 := dk_seg dksL_law_71 24 rfl rfl
theorem dksL_law_73 : cL_law.data.toList.drop 1937 = dktL_law_73 := dk_seg dksL_law_72 24 rfl rfl
theorem dksL_law_74 : cL_law.data.toList.drop 1959 = dktL_law_74 := dk_seg dksL_law_73 22 rfl rfl
theorem dksL_law_75 : cL_law.data.toList.drop 1983 = dktL_law_75 := dk_seg dksL_law_74 24 rfl rfl
theorem dksL_law_76 : cL_law.data.toList.drop 2007 = dktL_law_76 := dk_seg dksL_law_75 24 rfl rfl
theorem dksL_law_77 : cL_law.data.toList.drop 2031 = dktL_law_77 := dk_seg dksL_law_76 24 rfl rfl
theorem dL_law_0 : decode cL_law 0 = .ok (.new 8, 3) := dk_187 0 8 (dk_at dksL_law_0 0 rfl rfl)
theorem dL_law_3 : decode cL_law 3 = .ok (.dup, 1) := dk_89 (dk_at dksL_law_0 3 rfl rfl)
theorem dL_law_4 : decode cL_law 4 = .ok (.invokespecial 15, 3) := dk_183 0 15 (dk_at dksL_law_0 4 rfl rfl)
theorem dL_law_7 : decode cL_law 7 = .ok (.astore_n 1, 1) := dk_76 (dk_at dksL_law_0 7 rfl rfl)
theorem dL_law_8 : decode cL_law 8 = .ok (.new 16, 3) := dk_187 0 16 (dk_at dksL_law_0 8 rfl rfl)
theorem dL_law_11 : decode cL_law 11 = .ok (.dup, 1) := dk_89 (dk_at dksL_law_0 11 rfl rfl)
theorem dL_law_12 : decode cL_law 12 = .ok (.invokespecial 18, 3) := dk_183 0 18 (dk_at dksL_law_0 12 rfl rfl)
theorem dL_law_15 : decode cL_law 15 = .ok (.astore_n 2, 1) := dk_77 (dk_at dksL_law_0 15 rfl rfl)
theorem dL_law_16 : decode cL_law 16 = .ok (.iconst 1, 1) := dk_4 (dk_at dksL_law_0 16 rfl rfl)
theorem dL_law_17 : decode cL_law 17 = .ok (.newarray .long, 2) := dk_188_11 (dk_at dksL_law_0 17 rfl rfl)
theorem dL_law_19 : decode cL_law 19 = .ok (.astore_n 3, 1) := dk_78 (dk_at dksL_law_0 19 rfl rfl)
theorem dL_law_20 : decode cL_law 20 = .ok (.iconst 0, 1) := dk_3 (dk_at dksL_law_0 20 rfl rfl)
theorem dL_law_21 : decode cL_law 21 = .ok (.istore 4, 2) := dk_54 4 (dk_at dksL_law_0 21 rfl rfl)
theorem dL_law_23 : decode cL_law 23 = .ok (.iload 4, 2) := dk_21 4 (dk_at dksL_law_1 0 rfl rfl)
theorem dL_law_25 : decode cL_law 25 = .ok (.aload_n 0, 1) := dk_42 (dk_at dksL_law_1 2 rfl rfl)
theorem dL_law_26 : decode cL_law 26 = .ok (.arraylength, 1) := dk_190 (dk_at dksL_law_1 3 rfl rfl)
theorem dL_law_27 : decode cL_law 27 = .ok (.bipush 6, 2) := dk_16 6 (dk_at dksL_law_1 4 rfl rfl)
theorem dL_law_29 : decode cL_law 29 = .ok (.isub, 1) := dk_100 (dk_at dksL_law_1 6 rfl rfl)
theorem dL_law_30 : decode cL_law 30 = .ok (.if_icmp .gt 2009, 3) := dk_163 7 217 (dk_at dksL_law_1 7 rfl rfl)
theorem dL_law_33 : decode cL_law 33 = .ok (.aload_n 0, 1) := dk_42 (dk_at dksL_law_1 10 rfl rfl)
theorem dL_law_34 : decode cL_law 34 = .ok (.iload 4, 2) := dk_21 4 (dk_at dksL_law_1 11 rfl rfl)
theorem dL_law_36 : decode cL_law 36 = .ok (.iaload, 1) := dk_46 (dk_at dksL_law_1 13 rfl rfl)
theorem dL_law_37 : decode cL_law 37 = .ok (.bipush 63, 2) := dk_16 63 (dk_at dksL_law_1 14 rfl rfl)
theorem dL_law_39 : decode cL_law 39 = .ok (.iand, 1) := dk_126 (dk_at dksL_law_1 16 rfl rfl)
theorem dL_law_40 : decode cL_law 40 = .ok (.tableswitch 1993 0 58 #[252, 325, 350, 363, 376, 413, 450, 487, 524, 561, 586, 611, 636, 661, 686, 711, 748, 773, 786, 799, 824, 849, 862, 887, 924, 949, 974, 987, 1012, 1049, 1074, 1111, 1136, 1161, 1174, 1199, 1212, 1225, 1238, 1251, 1264, 1330, 1384, 1438, 1487, 1524, 1633, 1658, 1683, 1720, 1745, 1798, 1823, 1848, 1861, 1874, 1899, 1955, 1980], 252) := by decide +kernel
theorem dL_law_292 : decode cL_law 292 = .ok (.aload_n 1, 1) := dk_43 (dk_at dksL_law_3 0 rfl rfl)
theorem dL_law_293 : decode cL_law 293 = .ok (.aload_n 0, 1) := dk_42 (dk_at dksL_law_3 1 rfl rfl)
theorem dL_law_294 : decode cL_law 294 = .ok (.iload 4, 2) := dk_21 4 (dk_at dksL_law_3 2 rfl rfl)
theorem dL_law_296 : decode cL_law 296 = .ok (.iconst 1, 1) := dk_4 (dk_at dksL_law_3 4 rfl rfl)
theorem dL_law_297 : decode cL_law 297 = .ok (.iadd, 1) := dk_96 (dk_at dksL_law_3 5 rfl rfl)
theorem dL_law_298 : decode cL_law 298 = .ok (.iaload, 1) := dk_46 (dk_at dksL_law_3 6 rfl rfl)
theorem dL_law_299 : decode cL_law 299 = .ok (.aload_n 0, 1) := dk_42 (dk_at dksL_law_3 7 rfl rfl)
theorem dL_law_300 : decode cL_law 300 = .ok (.iload 4, 2) := dk_21 4 (dk_at dksL_law_3 8 rfl rfl)
theorem dL_law_302 : decode cL_law 302 = .ok (.iconst 2, 1) := dk_5 (dk_at dksL_law_3 10 rfl rfl)
theorem dL_law_303 : decode cL_law 303 = .ok (.iadd, 1) := dk_96 (dk_at dksL_law_3 11 rfl rfl)
theorem dL_law_304 : decode cL_law 304 = .ok (.iaload, 1) := dk_46 (dk_at dksL_law_3 12 rfl rfl)
theorem dL_law_305 : decode cL_law 305 = .ok (.aload_n 0, 1) := dk_42 (dk_at dksL_law_3 13 rfl rfl)
theorem dL_law_306 : decode cL_law 306 = .ok (.iload 4, 2) := dk_21 4 (dk_at dksL_law_3 14 rfl rfl)
theorem dL_law_308 : decode cL_law 308 = .ok (.iconst 3, 1) := dk_6 (dk_at dksL_law_3 16 rfl rfl)
theorem dL_law_309 : decode cL_law 309 = .ok (.iadd, 1) := dk_96 (dk_at dksL_law_3 17 rfl rfl)
theorem dL_law_310 : decode cL_law 310 = .ok (.iaload, 1) := dk_46 (dk_at dksL_law_3 18 rfl rfl)
theorem dL_law_311 : decode cL_law 311 = .ok (.aload_n 0, 1) := dk_42 (dk_at dksL_law_3 19 rfl rfl)
theorem dL_law_312 : decode cL_law 312 = .ok (.iload 4, 2) := dk_21 4 (dk_at dksL_law_3 20 rfl rfl)
theorem dL_law_314 : decode cL_law 314 = .ok (.iconst 4, 1) := dk_7 (dk_at dksL_law_3 22 rfl rfl)
theorem dL_law_315 : decode cL_law 315 = .ok (.iadd, 1) := dk_96 (dk_at dksL_law_3 23 rfl rfl)
theorem dL_law_316 : decode cL_law 316 = .ok (.iaload, 1) := dk_46 (dk_at dksL_law_4 0 rfl rfl)
theorem dL_law_317 : decode cL_law 317 = .ok (.aload_n 0, 1) := dk_42 (dk_at dksL_law_4 1 rfl rfl)
theorem dL_law_318 : decode cL_law 318 = .ok (.iload 4, 2) := dk_21 4 (dk_at dksL_law_4 2 rfl rfl)
theorem dL_law_320 : decode cL_law 320 = .ok (.iconst 5, 1) := dk_8 (dk_at dksL_law_4 4 rfl rfl)
theorem dL_law_321 : decode cL_law 321 = .ok (.iadd, 1) := dk_96 (dk_at dksL_law_4 5 rfl rfl)
theorem dL_law_322 : decode cL_law 322 = .ok (.iaload, 1) := dk_46 (dk_at dksL_law_4 6 rfl rfl)
theorem dL_law_323 : decode cL_law 323 = .ok (.invokevirtual 19, 3) := dk_182 0 19 (dk_at dksL_law_4 7 rfl rfl)
theorem dL_law_326 : decode cL_law 326 = .ok (.aload_n 2, 1) := dk_44 (dk_at dksL_law_4 10 rfl rfl)
theorem dL_law_327 : decode cL_law 327 = .ok (.aload_n 0, 1) := dk_42 (dk_at dksL_law_4 11 rfl rfl)
theorem dL_law_328 : decode cL_law 328 = .ok (.iload 4, 2) := dk_21 4 (dk_at dksL_law_4 12 rfl rfl)
theorem dL_law_330 : decode cL_law 330 = .ok (.iconst 1, 1) := dk_4 (dk_at dksL_law_4 14 rfl rfl)
theorem dL_law_331 : decode cL_law 331 = .ok (.iadd, 1) := dk_96 (dk_at dksL_law_4 15 rfl rfl)
theorem dL_law_332 : decode cL_law 332 = .ok (.iaload, 1) := dk_46 (dk_at dksL_law_4 16 rfl rfl)
theorem dL_law_333 : decode cL_law 333 = .ok (.aload_n 0, 1) := dk_42 (dk_at dksL_law_4 17 rfl rfl)
theorem dL_law_334 : decode cL_law 334 = .ok (.iload 4, 2) := dk_21 4 (dk_at dksL_law_4 18 rfl rfl)
theorem dL_law_336 : decode cL_law 336 = .ok (.iconst 2, 1) := dk_5 (dk_at dksL_law_4 20 rfl rfl)
theorem dL_law_337 : decode cL_law 337 = .ok (.iadd, 1) := dk_96 (dk_at dksL_law_4 21 rfl rfl)
theorem dL_law_338 : decode cL_law 338 = .ok (.iaload, 1) := dk_46 (dk_at dksL_law_4 22 rfl rfl)
theorem dL_law_339 : decode cL_law 339 = .ok (.aload_n 0, 1) := dk_42 (dk_at dksL_law_4 23 rfl rfl)
theorem dL_law_340 : decode cL_law 340 = .ok (.iload 4, 2) := dk_21 4 (dk_at dksL_law_5 0 rfl rfl)
theorem dL_law_342 : decode cL_law 342 = .ok (.iconst 3, 1) := dk_6 (dk_at dksL_law_5 2 rfl rfl)
theorem dL_law_343 : decode cL_law 343 = .ok (.iadd, 1) := dk_96 (dk_at dksL_law_5 3 rfl rfl)
theorem dL_law_344 : decode cL_law 344 = .ok (.iaload, 1) := dk_46 (dk_at dksL_law_5 4 rfl rfl)
theorem dL_law_345 : decode cL_law 345 = .ok (.aload_n 0, 1) := dk_42 (dk_at dksL_law_5 5 rfl rfl)
theorem dL_law_346 : decode cL_law 346 = .ok (.iload 4, 2) := dk_21 4 (dk_at dksL_law_5 6 rfl rfl)
theorem dL_law_348 : decode cL_law 348 = .ok (.iconst 4, 1) := dk_7 (dk_at dksL_law_5 8 rfl rfl)
theorem dL_law_349 : decode cL_law 349 = .ok (.iadd, 1) := dk_96 (dk_at dksL_law_5 9 rfl rfl)
theorem dL_law_350 : decode cL_law 350 = .ok (.iaload, 1) := dk_46 (dk_at dksL_law_5 10 rfl rfl)
theorem dL_law_351 : decode cL_law 351 = .ok (.aload_n 0, 1) := dk_42 (dk_at dksL_law_5 11 rfl rfl)
theorem dL_law_352 : decode cL_law 352 = .ok (.iload 4, 2) := dk_21 4 (dk_at dksL_law_5 12 rfl rfl)
theorem dL_law_354 : decode cL_law 354 = .ok (.iconst 5, 1) := dk_8 (dk_at dksL_law_5 14 rfl rfl)
theorem dL_law_355 : decode cL_law 355 = .ok (.iadd, 1) := dk_96 (dk_at dksL_law_5 15 rfl rfl)
theorem dL_law_356 : decode cL_law 356 = .ok (.iaload, 1) := dk_46 (dk_at dksL_law_5 16 rfl rfl)
theorem dL_law_357 : decode cL_law 357 = .ok (.invokevirtual 23, 3) := dk_182 0 23 (dk_at dksL_law_5 17 rfl rfl)
theorem dL_law_360 : decode cL_law 360 = .ok (.if_icmp .eq 1673, 3) := dk_159 6 137 (dk_at dksL_law_5 20 rfl rfl)
theorem dL_law_363 : decode cL_law 363 = .ok (.iconst 0, 1) := dk_3 (dk_at dksL_law_5 23 rfl rfl)
theorem dL_law_364 : decode cL_law 364 = .ok (.ireturn, 1) := dk_172 (dk_at dksL_law_6 0 rfl rfl)
theorem dL_law_365 : decode cL_law 365 = .ok (.aload_n 1, 1) := dk_43 (dk_at dksL_law_6 1 rfl rfl)
theorem dL_law_366 : decode cL_law 366 = .ok (.aload_n 0, 1) := dk_42 (dk_at dksL_law_6 2 rfl rfl)
theorem dL_law_367 : decode cL_law 367 = .ok (.iload 4, 2) := dk_21 4 (dk_at dksL_law_6 3 rfl rfl)
theorem dL_law_369 : decode cL_law 369 = .ok (.iconst 1, 1) := dk_4 (dk_at dksL_law_6 5 rfl rfl)
theorem dL_law_370 : decode cL_law 370 = .ok (.iadd, 1) := dk_96 (dk_at dksL_law_6 6 rfl rfl)
theorem dL_law_371 : decode cL_law 371 = .ok (.iaload, 1) := dk_46 (dk_at dksL_law_6 7 rfl rfl)
theorem dL_law_372 : decode cL_law 372 = .ok (.invokevirtual 24, 3) := dk_182 0 24 (dk_at dksL_law_6 8 rfl rfl)
theorem dL_law_375 : decode cL_law 375 = .ok (.aload_n 2, 1) := dk_44 (dk_at dksL_law_6 11 rfl rfl)
theorem dL_law_376 : decode cL_law 376 = .ok (.aload_n 0, 1) := dk_42 (dk_at dksL_law_6 12 rfl rfl)
theorem dL_law_377 : decode cL_law 377 = .ok (.iload 4, 2) := dk_21 4 (dk_at dksL_law_6 13 rfl rfl)
theorem dL_law_379 : decode cL_law 379 = .ok (.iconst 1, 1) := dk_4 (dk_at dksL_law_6 15 rfl rfl)
theorem dL_law_380 : decode cL_law 380 = .ok (.iadd, 1) := dk_96 (dk_at dksL_law_6 16 rfl rfl)
theorem dL_law_381 : decode cL_law 381 = .ok (.iaload, 1) := dk_46 (dk_at dksL_law_6 17 rfl rfl)
theorem dL_law_382 : decode cL_law 382 = .ok (.invokevirtual 27, 3) := dk_182 0 27 (dk_at dksL_law_6 18 rfl rfl)
theorem dL_law_385 : decode cL_law 385 = .ok (.if_icmp .eq 1648, 3) := dk_159 6 112 (dk_at dksL_law_6 21 rfl rfl)
theorem dL_law_388 : decode cL_law 388 = .ok (.iconst 0, 1) := dk_3 (dk_at dksL_law_7 0 rfl rfl)
theorem dL_law_389 : decode cL_law 389 = .ok (.ireturn, 1) := dk_172 (dk_at dksL_law_7 1 rfl rfl)
theorem dL_law_390 : decode cL_law 390 = .ok (.aload_n 1, 1) := dk_43 (dk_at dksL_law_7 2 rfl rfl)
theorem dL_law_391 : decode cL_law 391 = .ok (.invokevirtual 28, 3) := dk_182 0 28 (dk_at dksL_law_7 3 rfl rfl)
theorem dL_law_394 : decode cL_law 394 = .ok (.aload_n 2, 1) := dk_44 (dk_at dksL_law_7 6 rfl rfl)
theorem dL_law_395 : decode cL_law 395 = .ok (.invokevirtual 32, 3) := dk_182 0 32 (dk_at dksL_law_7 7 rfl rfl)
theorem dL_law_398 : decode cL_law 398 = .ok (.if_icmp .eq 1635, 3) := dk_159 6 99 (dk_at dksL_law_7 10 rfl rfl)
theorem dL_law_401 : decode cL_law 401 = .ok (.iconst 0, 1) := dk_3 (dk_at dksL_law_7 13 rfl rfl)
theorem dL_law_402 : decode cL_law 402 = .ok (.ireturn, 1) := dk_172 (dk_at dksL_law_7 14 rfl rfl)
theorem dL_law_403 : decode cL_law 403 = .ok (.aload_n 1, 1) := dk_43 (dk_at dksL_law_7 15 rfl rfl)
theorem dL_law_404 : decode cL_law 404 = .ok (.invokevirtual 33, 3) := dk_182 0 33 (dk_at dksL_law_7 16 rfl rfl)
theorem dL_law_407 : decode cL_law 407 = .ok (.aload_n 2, 1) := dk_44 (dk_at dksL_law_7 19 rfl rfl)
theorem dL_law_408 : decode cL_law 408 = .ok (.invokevirtual 36, 3) := dk_182 0 36 (dk_at dksL_law_7 20 rfl rfl)
theorem dL_law_411 : decode cL_law 411 = .ok (.if_icmp .eq 1622, 3) := dk_159 6 86 (dk_at dksL_law_8 0 rfl rfl)
theorem dL_law_414 : decode cL_law 414 = .ok (.iconst 0, 1) := dk_3 (dk_at dksL_law_8 3 rfl rfl)
theorem dL_law_415 : decode cL_law 415 = .ok (.ireturn, 1) := dk_172 (dk_at dksL_law_8 4 rfl rfl)
theorem dL_law_416 : decode cL_law 416 = .ok (.aload_n 1, 1) := dk_43 (dk_at dksL_law_8 5 rfl rfl)
theorem dL_law_417 : decode cL_law 417 = .ok (.aload_n 0, 1) := dk_42 (dk_at dksL_law_8 6 rfl rfl)
theorem dL_law_418 : decode cL_law 418 = .ok (.iload 4, 2) := dk_21 4 (dk_at dksL_law_8 7 rfl rfl)
theorem dL_law_420 : decode cL_law 420 = .ok (.iconst 1, 1) := dk_4 (dk_at dksL_law_8 9 rfl rfl)
theorem dL_law_421 : decode cL_law 421 = .ok (.iadd, 1) := dk_96 (dk_at dksL_law_8 10 rfl rfl)
theorem dL_law_422 : decode cL_law 422 = .ok (.iaload, 1) := dk_46 (dk_at dksL_law_8 11 rfl rfl)
theorem dL_law_423 : decode cL_law 423 = .ok (.aload_n 0, 1) := dk_42 (dk_at dksL_law_8 12 rfl rfl)
theorem dL_law_424 : decode cL_law 424 = .ok (.iload 4, 2) := dk_21 4 (dk_at dksL_law_8 13 rfl rfl)
theorem dL_law_426 : decode cL_law 426 = .ok (.iconst 2, 1) := dk_5 (dk_at dksL_law_8 15 rfl rfl)
theorem dL_law_427 : decode cL_law 427 = .ok (.iadd, 1) := dk_96 (dk_at dksL_law_8 16 rfl rfl)
theorem dL_law_428 : decode cL_law 428 = .ok (.iaload, 1) := dk_46 (dk_at dksL_law_8 17 rfl rfl)
theorem dL_law_429 : decode cL_law 429 = .ok (.invokevirtual 37, 3) := dk_182 0 37 (dk_at dksL_law_8 18 rfl rfl)
theorem dL_law_432 : decode cL_law 432 = .ok (.aload_n 2, 1) := dk_44 (dk_at dksL_law_8 21 rfl rfl)
theorem dL_law_433 : decode cL_law 433 = .ok (.aload_n 0, 1) := dk_42 (dk_at dksL_law_8 22 rfl rfl)
theorem dL_law_434 : decode cL_law 434 = .ok (.iload 4, 2) := dk_21 4 (dk_at dksL_law_9 0 rfl rfl)
theorem dL_law_436 : decode cL_law 436 = .ok (.iconst 1, 1) := dk_4 (dk_at dksL_law_9 2 rfl rfl)
theorem dL_law_437 : decode cL_law 437 = .ok (.iadd, 1) := dk_96 (dk_at dksL_law_9 3 rfl rfl)
theorem dL_law_438 : decode cL_law 438 = .ok (.iaload, 1) := dk_46 (dk_at dksL_law_9 4 rfl rfl)
theorem dL_law_439 : decode cL_law 439 = .ok (.aload_n 0, 1) := dk_42 (dk_at dksL_law_9 5 rfl rfl)
theorem dL_law_440 : decode cL_law 440 = .ok (.iload 4, 2) := dk_21 4 (dk_at dksL_law_9 6 rfl rfl)
theorem dL_law_442 : decode cL_law 442 = .ok (.iconst 2, 1) := dk_5 (dk_at dksL_law_9 8 rfl rfl)
theorem dL_law_443 : decode cL_law 443 = .ok (.iadd, 1) := dk_96 (dk_at dksL_law_9 9 rfl rfl)
theorem dL_law_444 : decode cL_law 444 = .ok (.iaload, 1) := dk_46 (dk_at dksL_law_9 10 rfl rfl)
theorem dL_law_445 : decode cL_law 445 = .ok (.invokevirtual 41, 3) := dk_182 0 41 (dk_at dksL_law_9 11 rfl rfl)
theorem dL_law_448 : decode cL_law 448 = .ok (.if_icmp .eq 1585, 3) := dk_159 6 49 (dk_at dksL_law_9 14 rfl rfl)
theorem dL_law_451 : decode cL_law 451 = .ok (.iconst 0, 1) := dk_3 (dk_at dksL_law_9 17 rfl rfl)
theorem dL_law_452 : decode cL_law 452 = .ok (.ireturn, 1) := dk_172 (dk_at dksL_law_9 18 rfl rfl)
theorem dL_law_453 : decode cL_law 453 = .ok (.aload_n 1, 1) := dk_43 (dk_at dksL_law_9 19 rfl rfl)
theorem dL_law_454 : decode cL_law 454 = .ok (.aload_n 0, 1) := dk_42 (dk_at dksL_law_9 20 rfl rfl)
theorem dL_law_455 : decode cL_law 455 = .ok (.iload 4, 2) := dk_21 4 (dk_at dksL_law_9 21 rfl rfl)
theorem dL_law_457 : decode cL_law 457 = .ok (.iconst 1, 1) := dk_4 (dk_at dksL_law_9 23 rfl rfl)
theorem dL_law_458 : decode cL_law 458 = .ok (.iadd, 1) := dk_96 (dk_at dksL_law_10 0 rfl rfl)
theorem dL_law_459 : decode cL_law 459 = .ok (.iaload, 1) := dk_46 (dk_at dksL_law_10 1 rfl rfl)
theorem dL_law_460 : decode cL_law 460 = .ok (.aload_n 0, 1) := dk_42 (dk_at dksL_law_10 2 rfl rfl)
theorem dL_law_461 : decode cL_law 461 = .ok (.iload 4, 2) := dk_21 4 (dk_at dksL_law_10 3 rfl rfl)
theorem dL_law_463 : decode cL_law 463 = .ok (.iconst 2, 1) := dk_5 (dk_at dksL_law_10 5 rfl rfl)
theorem dL_law_464 : decode cL_law 464 = .ok (.iadd, 1) := dk_96 (dk_at dksL_law_10 6 rfl rfl)
theorem dL_law_465 : decode cL_law 465 = .ok (.iaload, 1) := dk_46 (dk_at dksL_law_10 7 rfl rfl)
theorem dL_law_466 : decode cL_law 466 = .ok (.invokevirtual 42, 3) := dk_182 0 42 (dk_at dksL_law_10 8 rfl rfl)
theorem dL_law_469 : decode cL_law 469 = .ok (.aload_n 2, 1) := dk_44 (dk_at dksL_law_10 11 rfl rfl)
theorem dL_law_470 : decode cL_law 470 = .ok (.aload_n 0, 1) := dk_42 (dk_at dksL_law_10 12 rfl rfl)
theorem dL_law_471 : decode cL_law 471 = .ok (.iload 4, 2) := dk_21 4 (dk_at dksL_law_10 13 rfl rfl)
theorem dL_law_473 : decode cL_law 473 = .ok (.iconst 1, 1) := dk_4 (dk_at dksL_law_10 15 rfl rfl)
theorem dL_law_474 : decode cL_law 474 = .ok (.iadd, 1) := dk_96 (dk_at dksL_law_10 16 rfl rfl)
theorem dL_law_475 : decode cL_law 475 = .ok (.iaload, 1) := dk_46 (dk_at dksL_law_10 17 rfl rfl)
theorem dL_law_476 : decode cL_law 476 = .ok (.aload_n 0, 1) := dk_42 (dk_at dksL_law_10 18 rfl rfl)
theorem dL_law_477 : decode cL_law 477 = .ok (.iload 4, 2) := dk_21 4 (dk_at dksL_law_10 19 rfl rfl)
theorem dL_law_479 : decode cL_law 479 = .ok (.iconst 2, 1) := dk_5 (dk_at dksL_law_10 21 rfl rfl)
theorem dL_law_480 : decode cL_law 480 = .ok (.iadd, 1) := dk_96 (dk_at dksL_law_10 22 rfl rfl)
theorem dL_law_481 : decode cL_law 481 = .ok (.iaload, 1) := dk_46 (dk_at dksL_law_10 23 rfl rfl)
theorem dL_law_482 : decode cL_law 482 = .ok (.invokevirtual 45, 3) := dk_182 0 45 (dk_at dksL_law_11 0 rfl rfl)
theorem dL_law_485 : decode cL_law 485 = .ok (.if_icmp .eq 1548, 3) := dk_159 6 12 (dk_at dksL_law_11 3 rfl rfl)
theorem dL_law_488 : decode cL_law 488 = .ok (.iconst 0, 1) := dk_3 (dk_at dksL_law_11 6 rfl rfl)
theorem dL_law_489 : decode cL_law 489 = .ok (.ireturn, 1) := dk_172 (dk_at dksL_law_11 7 rfl rfl)
theorem dL_law_490 : decode cL_law 490 = .ok (.aload_n 1, 1) := dk_43 (dk_at dksL_law_11 8 rfl rfl)
theorem dL_law_491 : decode cL_law 491 = .ok (.aload_n 0, 1) := dk_42 (dk_at dksL_law_11 9 rfl rfl)
theorem dL_law_492 : decode cL_law 492 = .ok (.iload 4, 2) := dk_21 4 (dk_at dksL_law_11 10 rfl rfl)
theorem dL_law_494 : decode cL_law 494 = .ok (.iconst 1, 1) := dk_4 (dk_at dksL_law_11 12 rfl rfl)
theorem dL_law_495 : decode cL_law 495 = .ok (.iadd, 1) := dk_96 (dk_at dksL_law_11 13 rfl rfl)
theorem dL_law_496 : decode cL_law 496 = .ok (.iaload, 1) := dk_46 (dk_at dksL_law_11 14 rfl rfl)
theorem dL_law_497 : decode cL_law 497 = .ok (.aload_n 0, 1) := dk_42 (dk_at dksL_law_11 15 rfl rfl)
theorem dL_law_498 : decode cL_law 498 = .ok (.iload 4, 2) := dk_21 4 (dk_at dksL_law_11 16 rfl rfl)
theorem dL_law_500 : decode cL_law 500 = .ok (.iconst 2, 1) := dk_5 (dk_at dksL_law_11 18 rfl rfl)
theorem dL_law_501 : decode cL_law 501 = .ok (.iadd, 1) := dk_96 (dk_at dksL_law_11 19 rfl rfl)
theorem dL_law_502 : decode cL_law 502 = .ok (.iaload, 1) := dk_46 (dk_at dksL_law_11 20 rfl rfl)
theorem dL_law_503 : decode cL_law 503 = .ok (.invokevirtual 46, 3) := dk_182 0 46 (dk_at dksL_law_11 21 rfl rfl)
theorem dL_law_506 : decode cL_law 506 = .ok (.aload_n 2, 1) := dk_44 (dk_at dksL_law_12 0 rfl rfl)
theorem dL_law_507 : decode cL_law 507 = .ok (.aload_n 0, 1) := dk_42 (dk_at dksL_law_12 1 rfl rfl)
theorem dL_law_508 : decode cL_law 508 = .ok (.iload 4, 2) := dk_21 4 (dk_at dksL_law_12 2 rfl rfl)
theorem dL_law_510 : decode cL_law 510 = .ok (.iconst 1, 1) := dk_4 (dk_at dksL_law_12 4 rfl rfl)
theorem dL_law_511 : decode cL_law 511 = .ok (.iadd, 1) := dk_96 (dk_at dksL_law_12 5 rfl rfl)
theorem dL_law_512 : decode cL_law 512 = .ok (.iaload, 1) := dk_46 (dk_at dksL_law_12 6 rfl rfl)
theorem dL_law_513 : decode cL_law 513 = .ok (.aload_n 0, 1) := dk_42 (dk_at dksL_law_12 7 rfl rfl)
theorem dL_law_514 : decode cL_law 514 = .ok (.iload 4, 2) := dk_21 4 (dk_at dksL_law_12 8 rfl rfl)
theorem dL_law_516 : decode cL_law 516 = .ok (.iconst 2, 1) := dk_5 (dk_at dksL_law_12 10 rfl rfl)
theorem dL_law_517 : decode cL_law 517 = .ok (.iadd, 1) := dk_96 (dk_at dksL_law_12 11 rfl rfl)
theorem dL_law_518 : decode cL_law 518 = .ok (.iaload, 1) := dk_46 (dk_at dksL_law_12 12 rfl rfl)
theorem dL_law_519 : decode cL_law 519 = .ok (.invokevirtual 49, 3) := dk_182 0 49 (dk_at dksL_law_12 13 rfl rfl)
theorem dL_law_522 : decode cL_law 522 = .ok (.if_icmp .eq 1511, 3) := dk_159 5 231 (dk_at dksL_law_12 16 rfl rfl)
theorem dL_law_525 : decode cL_law 525 = .ok (.iconst 0, 1) := dk_3 (dk_at dksL_law_12 19 rfl rfl)
theorem dL_law_526 : decode cL_law 526 = .ok (.ireturn, 1) := dk_172 (dk_at dksL_law_12 20 rfl rfl)
theorem dL_law_527 : decode cL_law 527 = .ok (.aload_n 1, 1) := dk_43 (dk_at dksL_law_12 21 rfl rfl)
theorem dL_law_528 : decode cL_law 528 = .ok (.aload_n 0, 1) := dk_42 (dk_at dksL_law_12 22 rfl rfl)
theorem dL_law_529 : decode cL_law 529 = .ok (.iload 4, 2) := dk_21 4 (dk_at dksL_law_13 0 rfl rfl)
theorem dL_law_531 : decode cL_law 531 = .ok (.iconst 1, 1) := dk_4 (dk_at dksL_law_13 2 rfl rfl)
theorem dL_law_532 : decode cL_law 532 = .ok (.iadd, 1) := dk_96 (dk_at dksL_law_13 3 rfl rfl)
theorem dL_law_533 : decode cL_law 533 = .ok (.iaload, 1) := dk_46 (dk_at dksL_law_13 4 rfl rfl)
theorem dL_law_534 : decode cL_law 534 = .ok (.aload_n 0, 1) := dk_42 (dk_at dksL_law_13 5 rfl rfl)
theorem dL_law_535 : decode cL_law 535 = .ok (.iload 4, 2) := dk_21 4 (dk_at dksL_law_13 6 rfl rfl)
theorem dL_law_537 : decode cL_law 537 = .ok (.iconst 2, 1) := dk_5 (dk_at dksL_law_13 8 rfl rfl)
theorem dL_law_538 : decode cL_law 538 = .ok (.iadd, 1) := dk_96 (dk_at dksL_law_13 9 rfl rfl)
theorem dL_law_539 : decode cL_law 539 = .ok (.iaload, 1) := dk_46 (dk_at dksL_law_13 10 rfl rfl)
theorem dL_law_540 : decode cL_law 540 = .ok (.invokevirtual 50, 3) := dk_182 0 50 (dk_at dksL_law_13 11 rfl rfl)
theorem dL_law_543 : decode cL_law 543 = .ok (.aload_n 2, 1) := dk_44 (dk_at dksL_law_13 14 rfl rfl)
theorem dL_law_544 : decode cL_law 544 = .ok (.aload_n 0, 1) := dk_42 (dk_at dksL_law_13 15 rfl rfl)
theorem dL_law_545 : decode cL_law 545 = .ok (.iload 4, 2) := dk_21 4 (dk_at dksL_law_13 16 rfl rfl)
theorem dL_law_547 : decode cL_law 547 = .ok (.iconst 1, 1) := dk_4 (dk_at dksL_law_13 18 rfl rfl)
theorem dL_law_548 : decode cL_law 548 = .ok (.iadd, 1) := dk_96 (dk_at dksL_law_13 19 rfl rfl)
theorem dL_law_549 : decode cL_law 549 = .ok (.iaload, 1) := dk_46 (dk_at dksL_law_13 20 rfl rfl)
theorem dL_law_550 : decode cL_law 550 = .ok (.aload_n 0, 1) := dk_42 (dk_at dksL_law_13 21 rfl rfl)
theorem dL_law_551 : decode cL_law 551 = .ok (.iload 4, 2) := dk_21 4 (dk_at dksL_law_13 22 rfl rfl)
theorem dL_law_553 : decode cL_law 553 = .ok (.iconst 2, 1) := dk_5 (dk_at dksL_law_14 0 rfl rfl)
theorem dL_law_554 : decode cL_law 554 = .ok (.iadd, 1) := dk_96 (dk_at dksL_law_14 1 rfl rfl)
theorem dL_law_555 : decode cL_law 555 = .ok (.iaload, 1) := dk_46 (dk_at dksL_law_14 2 rfl rfl)
theorem dL_law_556 : decode cL_law 556 = .ok (.invokevirtual 53, 3) := dk_182 0 53 (dk_at dksL_law_14 3 rfl rfl)
theorem dL_law_559 : decode cL_law 559 = .ok (.if_icmp .eq 1474, 3) := dk_159 5 194 (dk_at dksL_law_14 6 rfl rfl)
theorem dL_law_562 : decode cL_law 562 = .ok (.iconst 0, 1) := dk_3 (dk_at dksL_law_14 9 rfl rfl)
theorem dL_law_563 : decode cL_law 563 = .ok (.ireturn, 1) := dk_172 (dk_at dksL_law_14 10 rfl rfl)
theorem dL_law_564 : decode cL_law 564 = .ok (.aload_n 1, 1) := dk_43 (dk_at dksL_law_14 11 rfl rfl)
theorem dL_law_565 : decode cL_law 565 = .ok (.aload_n 0, 1) := dk_42 (dk_at dksL_law_14 12 rfl rfl)
theorem dL_law_566 : decode cL_law 566 = .ok (.iload 4, 2) := dk_21 4 (dk_at dksL_law_14 13 rfl rfl)
theorem dL_law_568 : decode cL_law 568 = .ok (.iconst 1, 1) := dk_4 (dk_at dksL_law_14 15 rfl rfl)
theorem dL_law_569 : decode cL_law 569 = .ok (.iadd, 1) := dk_96 (dk_at dksL_law_14 16 rfl rfl)
theorem dL_law_570 : decode cL_law 570 = .ok (.iaload, 1) := dk_46 (dk_at dksL_law_14 17 rfl rfl)
theorem dL_law_571 : decode cL_law 571 = .ok (.aload_n 0, 1) := dk_42 (dk_at dksL_law_14 18 rfl rfl)
theorem dL_law_572 : decode cL_law 572 = .ok (.iload 4, 2) := dk_21 4 (dk_at dksL_law_14 19 rfl rfl)
theorem dL_law_574 : decode cL_law 574 = .ok (.iconst 2, 1) := dk_5 (dk_at dksL_law_14 21 rfl rfl)
theorem dL_law_575 : decode cL_law 575 = .ok (.iadd, 1) := dk_96 (dk_at dksL_law_14 22 rfl rfl)
theorem dL_law_576 : decode cL_law 576 = .ok (.iaload, 1) := dk_46 (dk_at dksL_law_14 23 rfl rfl)
theorem dL_law_577 : decode cL_law 577 = .ok (.invokevirtual 54, 3) := dk_182 0 54 (dk_at dksL_law_15 0 rfl rfl)
theorem dL_law_580 : decode cL_law 580 = .ok (.aload_n 2, 1) := dk_44 (dk_at dksL_law_15 3 rfl rfl)
theorem dL_law_581 : decode cL_law 581 = .ok (.aload_n 0, 1) := dk_42 (dk_at dksL_law_15 4 rfl rfl)
theorem dL_law_582 : decode cL_law 582 = .ok (.iload 4, 2) := dk_21 4 (dk_at dksL_law_15 5 rfl rfl)
theorem dL_law_584 : decode cL_law 584 = .ok (.iconst 1, 1) := dk_4 (dk_at dksL_law_15 7 rfl rfl)
theorem dL_law_585 : decode cL_law 585 = .ok (.iadd, 1) := dk_96 (dk_at dksL_law_15 8 rfl rfl)
theorem dL_law_586 : decode cL_law 586 = .ok (.iaload, 1) := dk_46 (dk_at dksL_law_15 9 rfl rfl)
theorem dL_law_587 : decode cL_law 587 = .ok (.aload_n 0, 1) := dk_42 (dk_at dksL_law_15 10 rfl rfl)
theorem dL_law_588 : decode cL_law 588 = .ok (.iload 4, 2) := dk_21 4 (dk_at dksL_law_15 11 rfl rfl)
theorem dL_law_590 : decode cL_law 590 = .ok (.iconst 2, 1) := dk_5 (dk_at dksL_law_15 13 rfl rfl)
theorem dL_law_591 : decode cL_law 591 = .ok (.iadd, 1) := dk_96 (dk_at dksL_law_15 14 rfl rfl)
theorem dL_law_592 : decode cL_law 592 = .ok (.iaload, 1) := dk_46 (dk_at dksL_law_15 15 rfl rfl)
theorem dL_law_593 : decode cL_law 593 = .ok (.invokevirtual 57, 3) := dk_182 0 57 (dk_at dksL_law_15 16 rfl rfl)
theorem dL_law_596 : decode cL_law 596 = .ok (.if_icmp .eq 1437, 3) := dk_159 5 157 (dk_at dksL_law_15 19 rfl rfl)
theorem dL_law_599 : decode cL_law 599 = .ok (.iconst 0, 1) := dk_3 (dk_at dksL_law_15 22 rfl rfl)
theorem dL_law_600 : decode cL_law 600 = .ok (.ireturn, 1) := dk_172 (dk_at dksL_law_15 23 rfl rfl)
theorem dL_law_601 : decode cL_law 601 = .ok (.aload_n 1, 1) := dk_43 (dk_at dksL_law_16 0 rfl rfl)
theorem dL_law_602 : decode cL_law 602 = .ok (.aload_n 0, 1) := dk_42 (dk_at dksL_law_16 1 rfl rfl)
theorem dL_law_603 : decode cL_law 603 = .ok (.iload 4, 2) := dk_21 4 (dk_at dksL_law_16 2 rfl rfl)
theorem dL_law_605 : decode cL_law 605 = .ok (.iconst 1, 1) := dk_4 (dk_at dksL_law_16 4 rfl rfl)
theorem dL_law_606 : decode cL_law 606 = .ok (.iadd, 1) := dk_96 (dk_at dksL_law_16 5 rfl rfl)
theorem dL_law_607 : decode cL_law 607 = .ok (.iaload, 1) := dk_46 (dk_at dksL_law_16 6 rfl rfl)
theorem dL_law_608 : decode cL_law 608 = .ok (.invokevirtual 58, 3) := dk_182 0 58 (dk_at dksL_law_16 7 rfl rfl)
theorem dL_law_611 : decode cL_law 611 = .ok (.aload_n 2, 1) := dk_44 (dk_at dksL_law_16 10 rfl rfl)
theorem dL_law_612 : decode cL_law 612 = .ok (.aload_n 0, 1) := dk_42 (dk_at dksL_law_16 11 rfl rfl)
theorem dL_law_613 : decode cL_law 613 = .ok (.iload 4, 2) := dk_21 4 (dk_at dksL_law_16 12 rfl rfl)
theorem dL_law_615 : decode cL_law 615 = .ok (.iconst 1, 1) := dk_4 (dk_at dksL_law_16 14 rfl rfl)
theorem dL_law_616 : decode cL_law 616 = .ok (.iadd, 1) := dk_96 (dk_at dksL_law_16 15 rfl rfl)
theorem dL_law_617 : decode cL_law 617 = .ok (.iaload, 1) := dk_46 (dk_at dksL_law_16 16 rfl rfl)
theorem dL_law_618 : decode cL_law 618 = .ok (.invokevirtual 61, 3) := dk_182 0 61 (dk_at dksL_law_16 17 rfl rfl)
theorem dL_law_621 : decode cL_law 621 = .ok (.if_icmp .eq 1412, 3) := dk_159 5 132 (dk_at dksL_law_16 20 rfl rfl)
theorem dL_law_624 : decode cL_law 624 = .ok (.iconst 0, 1) := dk_3 (dk_at dksL_law_16 23 rfl rfl)
theorem dL_law_625 : decode cL_law 625 = .ok (.ireturn, 1) := dk_172 (dk_at dksL_law_17 0 rfl rfl)
theorem dL_law_626 : decode cL_law 626 = .ok (.aload_n 1, 1) := dk_43 (dk_at dksL_law_17 1 rfl rfl)
theorem dL_law_627 : decode cL_law 627 = .ok (.aload_n 0, 1) := dk_42 (dk_at dksL_law_17 2 rfl rfl)
theorem dL_law_628 : decode cL_law 628 = .ok (.iload 4, 2) := dk_21 4 (dk_at dksL_law_17 3 rfl rfl)
theorem dL_law_630 : decode cL_law 630 = .ok (.iconst 1, 1) := dk_4 (dk_at dksL_law_17 5 rfl rfl)
theorem dL_law_631 : decode cL_law 631 = .ok (.iadd, 1) := dk_96 (dk_at dksL_law_17 6 rfl rfl)
theorem dL_law_632 : decode cL_law 632 = .ok (.iaload, 1) := dk_46 (dk_at dksL_law_17 7 rfl rfl)
theorem dL_law_633 : decode cL_law 633 = .ok (.invokevirtual 62, 3) := dk_182 0 62 (dk_at dksL_law_17 8 rfl rfl)
theorem dL_law_636 : decode cL_law 636 = .ok (.aload_n 2, 1) := dk_44 (dk_at dksL_law_17 11 rfl rfl)
theorem dL_law_637 : decode cL_law 637 = .ok (.aload_n 0, 1) := dk_42 (dk_at dksL_law_17 12 rfl rfl)
theorem dL_law_638 : decode cL_law 638 = .ok (.iload 4, 2) := dk_21 4 (dk_at dksL_law_17 13 rfl rfl)
theorem dL_law_640 : decode cL_law 640 = .ok (.iconst 1, 1) := dk_4 (dk_at dksL_law_17 15 rfl rfl)
theorem dL_law_641 : decode cL_law 641 = .ok (.iadd, 1) := dk_96 (dk_at dksL_law_17 16 rfl rfl)
theorem dL_law_642 : decode cL_law 642 = .ok (.iaload, 1) := dk_46 (dk_at dksL_law_17 17 rfl rfl)
theorem dL_law_643 : decode cL_law 643 = .ok (.invokevirtual 65, 3) := dk_182 0 65 (dk_at dksL_law_17 18 rfl rfl)
theorem dL_law_646 : decode cL_law 646 = .ok (.if_icmp .eq 1387, 3) := dk_159 5 107 (dk_at dksL_law_17 21 rfl rfl)
theorem dL_law_649 : decode cL_law 649 = .ok (.iconst 0, 1) := dk_3 (dk_at dksL_law_18 0 rfl rfl)
theorem dL_law_650 : decode cL_law 650 = .ok (.ireturn, 1) := dk_172 (dk_at dksL_law_18 1 rfl rfl)
theorem dL_law_651 : decode cL_law 651 = .ok (.aload_n 1, 1) := dk_43 (dk_at dksL_law_18 2 rfl rfl)
theorem dL_law_652 : decode cL_law 652 = .ok (.aload_n 0, 1) := dk_42 (dk_at dksL_law_18 3 rfl rfl)
theorem dL_law_653 : decode cL_law 653 = .ok (.iload 4, 2) := dk_21 4 (dk_at dksL_law_18 4 rfl rfl)
theorem dL_law_655 : decode cL_law 655 = .ok (.iconst 1, 1) := dk_4 (dk_at dksL_law_18 6 rfl rfl)
theorem dL_law_656 : decode cL_law 656 = .ok (.iadd, 1) := dk_96 (dk_at dksL_law_18 7 rfl rfl)
theorem dL_law_657 : decode cL_law 657 = .ok (.iaload, 1) := dk_46 (dk_at dksL_law_18 8 rfl rfl)
theorem dL_law_658 : decode cL_law 658 = .ok (.invokevirtual 66, 3) := dk_182 0 66 (dk_at dksL_law_18 9 rfl rfl)
theorem dL_law_661 : decode cL_law 661 = .ok (.aload_n 2, 1) := dk_44 (dk_at dksL_law_18 12 rfl rfl)
theorem dL_law_662 : decode cL_law 662 = .ok (.aload_n 0, 1) := dk_42 (dk_at dksL_law_18 13 rfl rfl)
theorem dL_law_663 : decode cL_law 663 = .ok (.iload 4, 2) := dk_21 4 (dk_at dksL_law_18 14 rfl rfl)
theorem dL_law_665 : decode cL_law 665 = .ok (.iconst 1, 1) := dk_4 (dk_at dksL_law_18 16 rfl rfl)
theorem dL_law_666 : decode cL_law 666 = .ok (.iadd, 1) := dk_96 (dk_at dksL_law_18 17 rfl rfl)
theorem dL_law_667 : decode cL_law 667 = .ok (.iaload, 1) := dk_46 (dk_at dksL_law_18 18 rfl rfl)
theorem dL_law_668 : decode cL_law 668 = .ok (.invokevirtual 69, 3) := dk_182 0 69 (dk_at dksL_law_18 19 rfl rfl)
theorem dL_law_671 : decode cL_law 671 = .ok (.if_icmp .eq 1362, 3) := dk_159 5 82 (dk_at dksL_law_19 0 rfl rfl)
theorem dL_law_674 : decode cL_law 674 = .ok (.iconst 0, 1) := dk_3 (dk_at dksL_law_19 3 rfl rfl)
theorem dL_law_675 : decode cL_law 675 = .ok (.ireturn, 1) := dk_172 (dk_at dksL_law_19 4 rfl rfl)
theorem dL_law_676 : decode cL_law 676 = .ok (.aload_n 1, 1) := dk_43 (dk_at dksL_law_19 5 rfl rfl)
theorem dL_law_677 : decode cL_law 677 = .ok (.aload_n 0, 1) := dk_42 (dk_at dksL_law_19 6 rfl rfl)
theorem dL_law_678 : decode cL_law 678 = .ok (.iload 4, 2) := dk_21 4 (dk_at dksL_law_19 7 rfl rfl)
theorem dL_law_680 : decode cL_law 680 = .ok (.iconst 1, 1) := dk_4 (dk_at dksL_law_19 9 rfl rfl)
theorem dL_law_681 : decode cL_law 681 = .ok (.iadd, 1) := dk_96 (dk_at dksL_law_19 10 rfl rfl)
theorem dL_law_682 : decode cL_law 682 = .ok (.iaload, 1) := dk_46 (dk_at dksL_law_19 11 rfl rfl)
theorem dL_law_683 : decode cL_law 683 = .ok (.invokevirtual 70, 3) := dk_182 0 70 (dk_at dksL_law_19 12 rfl rfl)
theorem dL_law_686 : decode cL_law 686 = .ok (.aload_n 2, 1) := dk_44 (dk_at dksL_law_19 15 rfl rfl)
theorem dL_law_687 : decode cL_law 687 = .ok (.aload_n 0, 1) := dk_42 (dk_at dksL_law_19 16 rfl rfl)
theorem dL_law_688 : decode cL_law 688 = .ok (.iload 4, 2) := dk_21 4 (dk_at dksL_law_19 17 rfl rfl)
theorem dL_law_690 : decode cL_law 690 = .ok (.iconst 1, 1) := dk_4 (dk_at dksL_law_19 19 rfl rfl)
theorem dL_law_691 : decode cL_law 691 = .ok (.iadd, 1) := dk_96 (dk_at dksL_law_19 20 rfl rfl)
theorem dL_law_692 : decode cL_law 692 = .ok (.iaload, 1) := dk_46 (dk_at dksL_law_19 21 rfl rfl)
theorem dL_law_693 : decode cL_law 693 = .ok (.invokevirtual 73, 3) := dk_182 0 73 (dk_at dksL_law_20 0 rfl rfl)
theorem dL_law_696 : decode cL_law 696 = .ok (.if_icmp .eq 1337, 3) := dk_159 5 57 (dk_at dksL_law_20 3 rfl rfl)
theorem dL_law_699 : decode cL_law 699 = .ok (.iconst 0, 1) := dk_3 (dk_at dksL_law_20 6 rfl rfl)
theorem dL_law_700 : decode cL_law 700 = .ok (.ireturn, 1) := dk_172 (dk_at dksL_law_20 7 rfl rfl)
theorem dL_law_701 : decode cL_law 701 = .ok (.aload_n 1, 1) := dk_43 (dk_at dksL_law_20 8 rfl rfl)
theorem dL_law_702 : decode cL_law 702 = .ok (.aload_n 0, 1) := dk_42 (dk_at dksL_law_20 9 rfl rfl)
theorem dL_law_703 : decode cL_law 703 = .ok (.iload 4, 2) := dk_21 4 (dk_at dksL_law_20 10 rfl rfl)
theorem dL_law_705 : decode cL_law 705 = .ok (.iconst 1, 1) := dk_4 (dk_at dksL_law_20 12 rfl rfl)
theorem dL_law_706 : decode cL_law 706 = .ok (.iadd, 1) := dk_96 (dk_at dksL_law_20 13 rfl rfl)
theorem dL_law_707 : decode cL_law 707 = .ok (.iaload, 1) := dk_46 (dk_at dksL_law_20 14 rfl rfl)
theorem dL_law_708 : decode cL_law 708 = .ok (.invokevirtual 74, 3) := dk_182 0 74 (dk_at dksL_law_20 15 rfl rfl)
theorem dL_law_711 : decode cL_law 711 = .ok (.aload_n 2, 1) := dk_44 (dk_at dksL_law_20 18 rfl rfl)
theorem dL_law_712 : decode cL_law 712 = .ok (.aload_n 0, 1) := dk_42 (dk_at dksL_law_20 19 rfl rfl)
theorem dL_law_713 : decode cL_law 713 = .ok (.iload 4, 2) := dk_21 4 (dk_at dksL_law_20 20 rfl rfl)
theorem dL_law_715 : decode cL_law 715 = .ok (.iconst 1, 1) := dk_4 (dk_at dksL_law_20 22 rfl rfl)
theorem dL_law_716 : decode cL_law 716 = .ok (.iadd, 1) := dk_96 (dk_at dksL_law_20 23 rfl rfl)
theorem dL_law_717 : decode cL_law 717 = .ok (.iaload, 1) := dk_46 (dk_at dksL_law_21 0 rfl rfl)
theorem dL_law_718 : decode cL_law 718 = .ok (.invokevirtual 77, 3) := dk_182 0 77 (dk_at dksL_law_21 1 rfl rfl)
theorem dL_law_721 : decode cL_law 721 = .ok (.if_icmp .eq 1312, 3) := dk_159 5 32 (dk_at dksL_law_21 4 rfl rfl)
theorem dL_law_724 : decode cL_law 724 = .ok (.iconst 0, 1) := dk_3 (dk_at dksL_law_21 7 rfl rfl)
theorem dL_law_725 : decode cL_law 725 = .ok (.ireturn, 1) := dk_172 (dk_at dksL_law_21 8 rfl rfl)
theorem dL_law_726 : decode cL_law 726 = .ok (.aload_n 1, 1) := dk_43 (dk_at dksL_law_21 9 rfl rfl)
theorem dL_law_727 : decode cL_law 727 = .ok (.aload_n 0, 1) := dk_42 (dk_at dksL_law_21 10 rfl rfl)
theorem dL_law_728 : decode cL_law 728 = .ok (.iload 4, 2) := dk_21 4 (dk_at dksL_law_21 11 rfl rfl)
theorem dL_law_730 : decode cL_law 730 = .ok (.iconst 1, 1) := dk_4 (dk_at dksL_law_21 13 rfl rfl)
theorem dL_law_731 : decode cL_law 731 = .ok (.iadd, 1) := dk_96 (dk_at dksL_law_21 14 rfl rfl)
theorem dL_law_732 : decode cL_law 732 = .ok (.iaload, 1) := dk_46 (dk_at dksL_law_21 15 rfl rfl)
theorem dL_law_733 : decode cL_law 733 = .ok (.invokevirtual 78, 3) := dk_182 0 78 (dk_at dksL_law_21 16 rfl rfl)
theorem dL_law_736 : decode cL_law 736 = .ok (.aload_n 2, 1) := dk_44 (dk_at dksL_law_21 19 rfl rfl)
theorem dL_law_737 : decode cL_law 737 = .ok (.aload_n 0, 1) := dk_42 (dk_at dksL_law_21 20 rfl rfl)
theorem dL_law_738 : decode cL_law 738 = .ok (.iload 4, 2) := dk_21 4 (dk_at dksL_law_21 21 rfl rfl)
theorem dL_law_740 : decode cL_law 740 = .ok (.iconst 1, 1) := dk_4 (dk_at dksL_law_21 23 rfl rfl)
theorem dL_law_741 : decode cL_law 741 = .ok (.iadd, 1) := dk_96 (dk_at dksL_law_22 0 rfl rfl)
theorem dL_law_742 : decode cL_law 742 = .ok (.iaload, 1) := dk_46 (dk_at dksL_law_22 1 rfl rfl)
theorem dL_law_743 : decode cL_law 743 = .ok (.invokevirtual 81, 3) := dk_182 0 81 (dk_at dksL_law_22 2 rfl rfl)
theorem dL_law_746 : decode cL_law 746 = .ok (.if_icmp .eq 1287, 3) := dk_159 5 7 (dk_at dksL_law_22 5 rfl rfl)
theorem dL_law_749 : decode cL_law 749 = .ok (.iconst 0, 1) := dk_3 (dk_at dksL_law_22 8 rfl rfl)
theorem dL_law_750 : decode cL_law 750 = .ok (.ireturn, 1) := dk_172 (dk_at dksL_law_22 9 rfl rfl)
theorem dL_law_751 : decode cL_law 751 = .ok (.aload_n 1, 1) := dk_43 (dk_at dksL_law_22 10 rfl rfl)
theorem dL_law_752 : decode cL_law 752 = .ok (.aload_n 0, 1) := dk_42 (dk_at dksL_law_22 11 rfl rfl)
theorem dL_law_753 : decode cL_law 753 = .ok (.iload 4, 2) := dk_21 4 (dk_at dksL_law_22 12 rfl rfl)
theorem dL_law_755 : decode cL_law 755 = .ok (.iconst 1, 1) := dk_4 (dk_at dksL_law_22 14 rfl rfl)
theorem dL_law_756 : decode cL_law 756 = .ok (.iadd, 1) := dk_96 (dk_at dksL_law_22 15 rfl rfl)
theorem dL_law_757 : decode cL_law 757 = .ok (.iaload, 1) := dk_46 (dk_at dksL_law_22 16 rfl rfl)
theorem dL_law_758 : decode cL_law 758 = .ok (.aload_n 0, 1) := dk_42 (dk_at dksL_law_22 17 rfl rfl)
theorem dL_law_759 : decode cL_law 759 = .ok (.iload 4, 2) := dk_21 4 (dk_at dksL_law_22 18 rfl rfl)
theorem dL_law_761 : decode cL_law 761 = .ok (.iconst 2, 1) := dk_5 (dk_at dksL_law_22 20 rfl rfl)
theorem dL_law_762 : decode cL_law 762 = .ok (.iadd, 1) := dk_96 (dk_at dksL_law_22 21 rfl rfl)
theorem dL_law_763 : decode cL_law 763 = .ok (.iaload, 1) := dk_46 (dk_at dksL_law_22 22 rfl rfl)
theorem dL_law_764 : decode cL_law 764 = .ok (.invokevirtual 82, 3) := dk_182 0 82 (dk_at dksL_law_23 0 rfl rfl)
theorem dL_law_767 : decode cL_law 767 = .ok (.aload_n 2, 1) := dk_44 (dk_at dksL_law_23 3 rfl rfl)
theorem dL_law_768 : decode cL_law 768 = .ok (.aload_n 0, 1) := dk_42 (dk_at dksL_law_23 4 rfl rfl)
theorem dL_law_769 : decode cL_law 769 = .ok (.iload 4, 2) := dk_21 4 (dk_at dksL_law_23 5 rfl rfl)
theorem dL_law_771 : decode cL_law 771 = .ok (.iconst 1, 1) := dk_4 (dk_at dksL_law_23 7 rfl rfl)
theorem dL_law_772 : decode cL_law 772 = .ok (.iadd, 1) := dk_96 (dk_at dksL_law_23 8 rfl rfl)
theorem dL_law_773 : decode cL_law 773 = .ok (.iaload, 1) := dk_46 (dk_at dksL_law_23 9 rfl rfl)
theorem dL_law_774 : decode cL_law 774 = .ok (.aload_n 0, 1) := dk_42 (dk_at dksL_law_23 10 rfl rfl)
theorem dL_law_775 : decode cL_law 775 = .ok (.iload 4, 2) := dk_21 4 (dk_at dksL_law_23 11 rfl rfl)
theorem dL_law_777 : decode cL_law 777 = .ok (.iconst 2, 1) := dk_5 (dk_at dksL_law_23 13 rfl rfl)
theorem dL_law_778 : decode cL_law 778 = .ok (.iadd, 1) := dk_96 (dk_at dksL_law_23 14 rfl rfl)
theorem dL_law_779 : decode cL_law 779 = .ok (.iaload, 1) := dk_46 (dk_at dksL_law_23 15 rfl rfl)
theorem dL_law_780 : decode cL_law 780 = .ok (.invokevirtual 85, 3) := dk_182 0 85 (dk_at dksL_law_23 16 rfl rfl)
theorem dL_law_783 : decode cL_law 783 = .ok (.if_icmp .eq 1250, 3) := dk_159 4 226 (dk_at dksL_law_23 19 rfl rfl)
theorem dL_law_786 : decode cL_law 786 = .ok (.iconst 0, 1) := dk_3 (dk_at dksL_law_23 22 rfl rfl)
theorem dL_law_787 : decode cL_law 787 = .ok (.ireturn, 1) := dk_172 (dk_at dksL_law_23 23 rfl rfl)
theorem dL_law_788 : decode cL_law 788 = .ok (.aload_n 1, 1) := dk_43 (dk_at dksL_law_24 0 rfl rfl)
theorem dL_law_789 : decode cL_law 789 = .ok (.aload_n 0, 1) := dk_42 (dk_at dksL_law_24 1 rfl rfl)
theorem dL_law_790 : decode cL_law 790 = .ok (.iload 4, 2) := dk_21 4 (dk_at dksL_law_24 2 rfl rfl)
theorem dL_law_792 : decode cL_law 792 = .ok (.iconst 1, 1) := dk_4 (dk_at dksL_law_24 4 rfl rfl)
theorem dL_law_793 : decode cL_law 793 = .ok (.iadd, 1) := dk_96 (dk_at dksL_law_24 5 rfl rfl)
theorem dL_law_794 : decode cL_law 794 = .ok (.iaload, 1) := dk_46 (dk_at dksL_law_24 6 rfl rfl)
theorem dL_law_795 : decode cL_law 795 = .ok (.invokevirtual 86, 3) := dk_182 0 86 (dk_at dksL_law_24 7 rfl rfl)
theorem dL_law_798 : decode cL_law 798 = .ok (.aload_n 2, 1) := dk_44 (dk_at dksL_law_24 10 rfl rfl)
theorem dL_law_799 : decode cL_law 799 = .ok (.aload_n 0, 1) := dk_42 (dk_at dksL_law_24 11 rfl rfl)
theorem dL_law_800 : decode cL_law 800 = .ok (.iload 4, 2) := dk_21 4 (dk_at dksL_law_24 12 rfl rfl)
theorem dL_law_802 : decode cL_law 802 = .ok (.iconst 1, 1) := dk_4 (dk_at dksL_law_24 14 rfl rfl)
theorem dL_law_803 : decode cL_law 803 = .ok (.iadd, 1) := dk_96 (dk_at dksL_law_24 15 rfl rfl)
theorem dL_law_804 : decode cL_law 804 = .ok (.iaload, 1) := dk_46 (dk_at dksL_law_24 16 rfl rfl)
theorem dL_law_805 : decode cL_law 805 = .ok (.invokevirtual 89, 3) := dk_182 0 89 (dk_at dksL_law_24 17 rfl rfl)
theorem dL_law_808 : decode cL_law 808 = .ok (.if_icmp .eq 1225, 3) := dk_159 4 201 (dk_at dksL_law_24 20 rfl rfl)
theorem dL_law_811 : decode cL_law 811 = .ok (.iconst 0, 1) := dk_3 (dk_at dksL_law_24 23 rfl rfl)
theorem dL_law_812 : decode cL_law 812 = .ok (.ireturn, 1) := dk_172 (dk_at dksL_law_25 0 rfl rfl)
theorem dL_law_813 : decode cL_law 813 = .ok (.aload_n 1, 1) := dk_43 (dk_at dksL_law_25 1 rfl rfl)
theorem dL_law_814 : decode cL_law 814 = .ok (.invokevirtual 90, 3) := dk_182 0 90 (dk_at dksL_law_25 2 rfl rfl)
theorem dL_law_817 : decode cL_law 817 = .ok (.aload_n 2, 1) := dk_44 (dk_at dksL_law_25 5 rfl rfl)
theorem dL_law_818 : decode cL_law 818 = .ok (.invokevirtual 93, 3) := dk_182 0 93 (dk_at dksL_law_25 6 rfl rfl)
theorem dL_law_821 : decode cL_law 821 = .ok (.if_icmp .eq 1212, 3) := dk_159 4 188 (dk_at dksL_law_25 9 rfl rfl)
theorem dL_law_824 : decode cL_law 824 = .ok (.iconst 0, 1) := dk_3 (dk_at dksL_law_25 12 rfl rfl)
theorem dL_law_825 : decode cL_law 825 = .ok (.ireturn, 1) := dk_172 (dk_at dksL_law_25 13 rfl rfl)
theorem dL_law_826 : decode cL_law 826 = .ok (.aload_n 1, 1) := dk_43 (dk_at dksL_law_25 14 rfl rfl)
theorem dL_law_827 : decode cL_law 827 = .ok (.invokevirtual 94, 3) := dk_182 0 94 (dk_at dksL_law_25 15 rfl rfl)
theorem dL_law_830 : decode cL_law 830 = .ok (.aload_n 2, 1) := dk_44 (dk_at dksL_law_25 18 rfl rfl)
theorem dL_law_831 : decode cL_law 831 = .ok (.invokevirtual 97, 3) := dk_182 0 97 (dk_at dksL_law_25 19 rfl rfl)
theorem dL_law_834 : decode cL_law 834 = .ok (.if_icmp .eq 1199, 3) := dk_159 4 175 (dk_at dksL_law_26 0 rfl rfl)
theorem dL_law_837 : decode cL_law 837 = .ok (.iconst 0, 1) := dk_3 (dk_at dksL_law_26 3 rfl rfl)
theorem dL_law_838 : decode cL_law 838 = .ok (.ireturn, 1) := dk_172 (dk_at dksL_law_26 4 rfl rfl)
theorem dL_law_839 : decode cL_law 839 = .ok (.aload_n 1, 1) := dk_43 (dk_at dksL_law_26 5 rfl rfl)
theorem dL_law_840 : decode cL_law 840 = .ok (.aload_n 0, 1) := dk_42 (dk_at dksL_law_26 6 rfl rfl)
theorem dL_law_841 : decode cL_law 841 = .ok (.iload 4, 2) := dk_21 4 (dk_at dksL_law_26 7 rfl rfl)
theorem dL_law_843 : decode cL_law 843 = .ok (.iconst 1, 1) := dk_4 (dk_at dksL_law_26 9 rfl rfl)
theorem dL_law_844 : decode cL_law 844 = .ok (.iadd, 1) := dk_96 (dk_at dksL_law_26 10 rfl rfl)
theorem dL_law_845 : decode cL_law 845 = .ok (.iaload, 1) := dk_46 (dk_at dksL_law_26 11 rfl rfl)
theorem dL_law_846 : decode cL_law 846 = .ok (.invokevirtual 98, 3) := dk_182 0 98 (dk_at dksL_law_26 12 rfl rfl)
theorem dL_law_849 : decode cL_law 849 = .ok (.aload_n 2, 1) := dk_44 (dk_at dksL_law_26 15 rfl rfl)
theorem dL_law_850 : decode cL_law 850 = .ok (.aload_n 0, 1) := dk_42 (dk_at dksL_law_26 16 rfl rfl)
theorem dL_law_851 : decode cL_law 851 = .ok (.iload 4, 2) := dk_21 4 (dk_at dksL_law_26 17 rfl rfl)
theorem dL_law_853 : decode cL_law 853 = .ok (.iconst 1, 1) := dk_4 (dk_at dksL_law_26 19 rfl rfl)
theorem dL_law_854 : decode cL_law 854 = .ok (.iadd, 1) := dk_96 (dk_at dksL_law_26 20 rfl rfl)
theorem dL_law_855 : decode cL_law 855 = .ok (.iaload, 1) := dk_46 (dk_at dksL_law_26 21 rfl rfl)
theorem dL_law_856 : decode cL_law 856 = .ok (.invokevirtual 101, 3) := dk_182 0 101 (dk_at dksL_law_27 0 rfl rfl)
theorem dL_law_859 : decode cL_law 859 = .ok (.if_icmp .eq 1174, 3) := dk_159 4 150 (dk_at dksL_law_27 3 rfl rfl)
theorem dL_law_862 : decode cL_law 862 = .ok (.iconst 0, 1) := dk_3 (dk_at dksL_law_27 6 rfl rfl)
theorem dL_law_863 : decode cL_law 863 = .ok (.ireturn, 1) := dk_172 (dk_at dksL_law_27 7 rfl rfl)
theorem dL_law_864 : decode cL_law 864 = .ok (.aload_n 1, 1) := dk_43 (dk_at dksL_law_27 8 rfl rfl)
theorem dL_law_865 : decode cL_law 865 = .ok (.aload_n 0, 1) := dk_42 (dk_at dksL_law_27 9 rfl rfl)
theorem dL_law_866 : decode cL_law 866 = .ok (.iload 4, 2) := dk_21 4 (dk_at dksL_law_27 10 rfl rfl)
theorem dL_law_868 : decode cL_law 868 = .ok (.iconst 1, 1) := dk_4 (dk_at dksL_law_27 12 rfl rfl)
theorem dL_law_869 : decode cL_law 869 = .ok (.iadd, 1) := dk_96 (dk_at dksL_law_27 13 rfl rfl)
theorem dL_law_870 : decode cL_law 870 = .ok (.iaload, 1) := dk_46 (dk_at dksL_law_27 14 rfl rfl)
theorem dL_law_871 : decode cL_law 871 = .ok (.invokevirtual 102, 3) := dk_182 0 102 (dk_at dksL_law_27 15 rfl rfl)
theorem dL_law_874 : decode cL_law 874 = .ok (.aload_n 2, 1) := dk_44 (dk_at dksL_law_27 18 rfl rfl)
theorem dL_law_875 : decode cL_law 875 = .ok (.aload_n 0, 1) := dk_42 (dk_at dksL_law_27 19 rfl rfl)
theorem dL_law_876 : decode cL_law 876 = .ok (.iload 4, 2) := dk_21 4 (dk_at dksL_law_27 20 rfl rfl)
theorem dL_law_878 : decode cL_law 878 = .ok (.iconst 1, 1) := dk_4 (dk_at dksL_law_27 22 rfl rfl)
theorem dL_law_879 : decode cL_law 879 = .ok (.iadd, 1) := dk_96 (dk_at dksL_law_27 23 rfl rfl)
theorem dL_law_880 : decode cL_law 880 = .ok (.iaload, 1) := dk_46 (dk_at dksL_law_28 0 rfl rfl)
theorem dL_law_881 : decode cL_law 881 = .ok (.invokevirtual 105, 3) := dk_182 0 105 (dk_at dksL_law_28 1 rfl rfl)
theorem dL_law_884 : decode cL_law 884 = .ok (.if_icmp .eq 1149, 3) := dk_159 4 125 (dk_at dksL_law_28 4 rfl rfl)
theorem dL_law_887 : decode cL_law 887 = .ok (.iconst 0, 1) := dk_3 (dk_at dksL_law_28 7 rfl rfl)
theorem dL_law_888 : decode cL_law 888 = .ok (.ireturn, 1) := dk_172 (dk_at dksL_law_28 8 rfl rfl)
theorem dL_law_889 : decode cL_law 889 = .ok (.aload_n 1, 1) := dk_43 (dk_at dksL_law_28 9 rfl rfl)
theorem dL_law_890 : decode cL_law 890 = .ok (.invokevirtual 106, 3) := dk_182 0 106 (dk_at dksL_law_28 10 rfl rfl)
theorem dL_law_893 : decode cL_law 893 = .ok (.aload_n 2, 1) := dk_44 (dk_at dksL_law_28 13 rfl rfl)
theorem dL_law_894 : decode cL_law 894 = .ok (.invokevirtual 109, 3) := dk_182 0 109 (dk_at dksL_law_28 14 rfl rfl)
theorem dL_law_897 : decode cL_law 897 = .ok (.if_icmp .eq 1136, 3) := dk_159 4 112 (dk_at dksL_law_28 17 rfl rfl)
theorem dL_law_900 : decode cL_law 900 = .ok (.iconst 0, 1) := dk_3 (dk_at dksL_law_28 20 rfl rfl)
theorem dL_law_901 : decode cL_law 901 = .ok (.ireturn, 1) := dk_172 (dk_at dksL_law_28 21 rfl rfl)
theorem dL_law_902 : decode cL_law 902 = .ok (.aload_n 1, 1) := dk_43 (dk_at dksL_law_28 22 rfl rfl)
theorem dL_law_903 : decode cL_law 903 = .ok (.aload_n 0, 1) := dk_42 (dk_at dksL_law_28 23 rfl rfl)
theorem dL_law_904 : decode cL_law 904 = .ok (.iload 4, 2) := dk_21 4 (dk_at dksL_law_29 0 rfl rfl)
theorem dL_law_906 : decode cL_law 906 = .ok (.iconst 1, 1) := dk_4 (dk_at dksL_law_29 2 rfl rfl)
theorem dL_law_907 : decode cL_law 907 = .ok (.iadd, 1) := dk_96 (dk_at dksL_law_29 3 rfl rfl)
theorem dL_law_908 : decode cL_law 908 = .ok (.iaload, 1) := dk_46 (dk_at dksL_law_29 4 rfl rfl)
theorem dL_law_909 : decode cL_law 909 = .ok (.invokevirtual 110, 3) := dk_182 0 110 (dk_at dksL_law_29 5 rfl rfl)
theorem dL_law_912 : decode cL_law 912 = .ok (.aload_n 2, 1) := dk_44 (dk_at dksL_law_29 8 rfl rfl)
theorem dL_law_913 : decode cL_law 913 = .ok (.aload_n 0, 1) := dk_42 (dk_at dksL_law_29 9 rfl rfl)
theorem dL_law_914 : decode cL_law 914 = .ok (.iload 4, 2) := dk_21 4 (dk_at dksL_law_29 10 rfl rfl)
theorem dL_law_916 : decode cL_law 916 = .ok (.iconst 1, 1) := dk_4 (dk_at dksL_law_29 12 rfl rfl)
theorem dL_law_917 : decode cL_law 917 = .ok (.iadd, 1) := dk_96 (dk_at dksL_law_29 13 rfl rfl)
theorem dL_law_918 : decode cL_law 918 = .ok (.iaload, 1) := dk_46 (dk_at dksL_law_29 14 rfl rfl)
theorem dL_law_919 : decode cL_law 919 = .ok (.invokevirtual 113, 3) := dk_182 0 113 (dk_at dksL_law_29 15 rfl rfl)
theorem dL_law_922 : decode cL_law 922 = .ok (.if_icmp .eq 1111, 3) := dk_159 4 87 (dk_at dksL_law_29 18 rfl rfl)
theorem dL_law_925 : decode cL_law 925 = .ok (.iconst 0, 1) := dk_3 (dk_at dksL_law_29 21 rfl rfl)
theorem dL_law_926 : decode cL_law 926 = .ok (.ireturn, 1) := dk_172 (dk_at dksL_law_29 22 rfl rfl)
theorem dL_law_927 : decode cL_law 927 = .ok (.aload_n 1, 1) := dk_43 (dk_at dksL_law_29 23 rfl rfl)
theorem dL_law_928 : decode cL_law 928 = .ok (.aload_n 0, 1) := dk_42 (dk_at dksL_law_30 0 rfl rfl)
theorem dL_law_929 : decode cL_law 929 = .ok (.iload 4, 2) := dk_21 4 (dk_at dksL_law_30 1 rfl rfl)
theorem dL_law_931 : decode cL_law 931 = .ok (.iconst 1, 1) := dk_4 (dk_at dksL_law_30 3 rfl rfl)
theorem dL_law_932 : decode cL_law 932 = .ok (.iadd, 1) := dk_96 (dk_at dksL_law_30 4 rfl rfl)
theorem dL_law_933 : decode cL_law 933 = .ok (.iaload, 1) := dk_46 (dk_at dksL_law_30 5 rfl rfl)
theorem dL_law_934 : decode cL_law 934 = .ok (.aload_n 0, 1) := dk_42 (dk_at dksL_law_30 6 rfl rfl)
theorem dL_law_935 : decode cL_law 935 = .ok (.iload 4, 2) := dk_21 4 (dk_at dksL_law_30 7 rfl rfl)
theorem dL_law_937 : decode cL_law 937 = .ok (.iconst 2, 1) := dk_5 (dk_at dksL_law_30 9 rfl rfl)
theorem dL_law_938 : decode cL_law 938 = .ok (.iadd, 1) := dk_96 (dk_at dksL_law_30 10 rfl rfl)
theorem dL_law_939 : decode cL_law 939 = .ok (.iaload, 1) := dk_46 (dk_at dksL_law_30 11 rfl rfl)
theorem dL_law_940 : decode cL_law 940 = .ok (.invokevirtual 114, 3) := dk_182 0 114 (dk_at dksL_law_30 12 rfl rfl)
theorem dL_law_943 : decode cL_law 943 = .ok (.aload_n 2, 1) := dk_44 (dk_at dksL_law_30 15 rfl rfl)
theorem dL_law_944 : decode cL_law 944 = .ok (.aload_n 0, 1) := dk_42 (dk_at dksL_law_30 16 rfl rfl)
theorem dL_law_945 : decode cL_law 945 = .ok (.iload 4, 2) := dk_21 4 (dk_at dksL_law_30 17 rfl rfl)
theorem dL_law_947 : decode cL_law 947 = .ok (.iconst 1, 1) := dk_4 (dk_at dksL_law_30 19 rfl rfl)
theorem dL_law_948 : decode cL_law 948 = .ok (.iadd, 1) := dk_96 (dk_at dksL_law_30 20 rfl rfl)
theorem dL_law_949 : decode cL_law 949 = .ok (.iaload, 1) := dk_46 (dk_at dksL_law_30 21 rfl rfl)
theorem dL_law_950 : decode cL_law 950 = .ok (.aload_n 0, 1) := dk_42 (dk_at dksL_law_30 22 rfl rfl)
theorem dL_law_951 : decode cL_law 951 = .ok (.iload 4, 2) := dk_21 4 (dk_at dksL_law_31 0 rfl rfl)
theorem dL_law_953 : decode cL_law 953 = .ok (.iconst 2, 1) := dk_5 (dk_at dksL_law_31 2 rfl rfl)
theorem dL_law_954 : decode cL_law 954 = .ok (.iadd, 1) := dk_96 (dk_at dksL_law_31 3 rfl rfl)
theorem dL_law_955 : decode cL_law 955 = .ok (.iaload, 1) := dk_46 (dk_at dksL_law_31 4 rfl rfl)
theorem dL_law_956 : decode cL_law 956 = .ok (.invokevirtual 117, 3) := dk_182 0 117 (dk_at dksL_law_31 5 rfl rfl)
theorem dL_law_959 : decode cL_law 959 = .ok (.if_icmp .eq 1074, 3) := dk_159 4 50 (dk_at dksL_law_31 8 rfl rfl)
theorem dL_law_962 : decode cL_law 962 = .ok (.iconst 0, 1) := dk_3 (dk_at dksL_law_31 11 rfl rfl)
theorem dL_law_963 : decode cL_law 963 = .ok (.ireturn, 1) := dk_172 (dk_at dksL_law_31 12 rfl rfl)
theorem dL_law_964 : decode cL_law 964 = .ok (.aload_n 1, 1) := dk_43 (dk_at dksL_law_31 13 rfl rfl)
theorem dL_law_965 : decode cL_law 965 = .ok (.aload_n 0, 1) := dk_42 (dk_at dksL_law_31 14 rfl rfl)
theorem dL_law_966 : decode cL_law 966 = .ok (.iload 4, 2) := dk_21 4 (dk_at dksL_law_31 15 rfl rfl)
theorem dL_law_968 : decode cL_law 968 = .ok (.iconst 1, 1) := dk_4 (dk_at dksL_law_31 17 rfl rfl)
theorem dL_law_969 : decode cL_law 969 = .ok (.iadd, 1) := dk_96 (dk_at dksL_law_31 18 rfl rfl)
theorem dL_law_970 : decode cL_law 970 = .ok (.iaload, 1) := dk_46 (dk_at dksL_law_31 19 rfl rfl)
theorem dL_law_971 : decode cL_law 971 = .ok (.invokevirtual 118, 3) := dk_182 0 118 (dk_at dksL_law_31 20 rfl rfl)
theorem dL_law_974 : decode cL_law 974 = .ok (.aload_n 2, 1) := dk_44 (dk_at dksL_law_31 23 rfl rfl)
theorem dL_law_975 : decode cL_law 975 = .ok (.aload_n 0, 1) := dk_42 (dk_at dksL_law_32 0 rfl rfl)
theorem dL_law_976 : decode cL_law 976 = .ok (.iload 4, 2) := dk_21 4 (dk_at dksL_law_32 1 rfl rfl)
theorem dL_law_978 : decode cL_law 978 = .ok (.iconst 1, 1) := dk_4 (dk_at dksL_law_32 3 rfl rfl)
theorem dL_law_979 : decode cL_law 979 = .ok (.iadd, 1) := dk_96 (dk_at dksL_law_32 4 rfl rfl)
theorem dL_law_980 : decode cL_law 980 = .ok (.iaload, 1) := dk_46 (dk_at dksL_law_32 5 rfl rfl)
theorem dL_law_981 : decode cL_law 981 = .ok (.invokevirtual 121, 3) := dk_182 0 121 (dk_at dksL_law_32 6 rfl rfl)
theorem dL_law_984 : decode cL_law 984 = .ok (.if_icmp .eq 1049, 3) := dk_159 4 25 (dk_at dksL_law_32 9 rfl rfl)
theorem dL_law_987 : decode cL_law 987 = .ok (.iconst 0, 1) := dk_3 (dk_at dksL_law_32 12 rfl rfl)
theorem dL_law_988 : decode cL_law 988 = .ok (.ireturn, 1) := dk_172 (dk_at dksL_law_32 13 rfl rfl)
theorem dL_law_989 : decode cL_law 989 = .ok (.aload_n 1, 1) := dk_43 (dk_at dksL_law_32 14 rfl rfl)
theorem dL_law_990 : decode cL_law 990 = .ok (.aload_n 0, 1) := dk_42 (dk_at dksL_law_32 15 rfl rfl)
theorem dL_law_991 : decode cL_law 991 = .ok (.iload 4, 2) := dk_21 4 (dk_at dksL_law_32 16 rfl rfl)
theorem dL_law_993 : decode cL_law 993 = .ok (.iconst 1, 1) := dk_4 (dk_at dksL_law_32 18 rfl rfl)
theorem dL_law_994 : decode cL_law 994 = .ok (.iadd, 1) := dk_96 (dk_at dksL_law_32 19 rfl rfl)
theorem dL_law_995 : decode cL_law 995 = .ok (.iaload, 1) := dk_46 (dk_at dksL_law_32 20 rfl rfl)
theorem dL_law_996 : decode cL_law 996 = .ok (.invokevirtual 122, 3) := dk_182 0 122 (dk_at dksL_law_32 21 rfl rfl)
theorem dL_law_999 : decode cL_law 999 = .ok (.aload_n 2, 1) := dk_44 (dk_at dksL_law_33 0 rfl rfl)
theorem dL_law_1000 : decode cL_law 1000 = .ok (.aload_n 0, 1) := dk_42 (dk_at dksL_law_33 1 rfl rfl)
theorem dL_law_1001 : decode cL_law 1001 = .ok (.iload 4, 2) := dk_21 4 (dk_at dksL_law_33 2 rfl rfl)
theorem dL_law_1003 : decode cL_law 1003 = .ok (.iconst 1, 1) := dk_4 (dk_at dksL_law_33 4 rfl rfl)
theorem dL_law_1004 : decode cL_law 1004 = .ok (.iadd, 1) := dk_96 (dk_at dksL_law_33 5 rfl rfl)
theorem dL_law_1005 : decode cL_law 1005 = .ok (.iaload, 1) := dk_46 (dk_at dksL_law_33 6 rfl rfl)
theorem dL_law_1006 : decode cL_law 1006 = .ok (.invokevirtual 125, 3) := dk_182 0 125 (dk_at dksL_law_33 7 rfl rfl)
theorem dL_law_1009 : decode cL_law 1009 = .ok (.if_icmp .eq 1024, 3) := dk_159 4 0 (dk_at dksL_law_33 10 rfl rfl)
theorem dL_law_1012 : decode cL_law 1012 = .ok (.iconst 0, 1) := dk_3 (dk_at dksL_law_33 13 rfl rfl)
theorem dL_law_1013 : decode cL_law 1013 = .ok (.ireturn, 1) := dk_172 (dk_at dksL_law_33 14 rfl rfl)
theorem dL_law_1014 : decode cL_law 1014 = .ok (.aload_n 1, 1) := dk_43 (dk_at dksL_law_33 15 rfl rfl)
theorem dL_law_1015 : decode cL_law 1015 = .ok (.invokevirtual 126, 3) := dk_182 0 126 (dk_at dksL_law_33 16 rfl rfl)
theorem dL_law_1018 : decode cL_law 1018 = .ok (.aload_n 2, 1) := dk_44 (dk_at dksL_law_33 19 rfl rfl)
theorem dL_law_1019 : decode cL_law 1019 = .ok (.invokevirtual 129, 3) := dk_182 0 129 (dk_at dksL_law_33 20 rfl rfl)
theorem dL_law_1022 : decode cL_law 1022 = .ok (.if_icmp .eq 1011, 3) := dk_159 3 243 (dk_at dksL_law_34 0 rfl rfl)
theorem dL_law_1025 : decode cL_law 1025 = .ok (.iconst 0, 1) := dk_3 (dk_at dksL_law_34 3 rfl rfl)
theorem dL_law_1026 : decode cL_law 1026 = .ok (.ireturn, 1) := dk_172 (dk_at dksL_law_34 4 rfl rfl)
theorem dL_law_1027 : decode cL_law 1027 = .ok (.aload_n 1, 1) := dk_43 (dk_at dksL_law_34 5 rfl rfl)
theorem dL_law_1028 : decode cL_law 1028 = .ok (.aload_n 0, 1) := dk_42 (dk_at dksL_law_34 6 rfl rfl)
theorem dL_law_1029 : decode cL_law 1029 = .ok (.iload 4, 2) := dk_21 4 (dk_at dksL_law_34 7 rfl rfl)
theorem dL_law_1031 : decode cL_law 1031 = .ok (.iconst 1, 1) := dk_4 (dk_at dksL_law_34 9 rfl rfl)
theorem dL_law_1032 : decode cL_law 1032 = .ok (.iadd, 1) := dk_96 (dk_at dksL_law_34 10 rfl rfl)
theorem dL_law_1033 : decode cL_law 1033 = .ok (.iaload, 1) := dk_46 (dk_at dksL_law_34 11 rfl rfl)
theorem dL_law_1034 : decode cL_law 1034 = .ok (.invokevirtual 130, 3) := dk_182 0 130 (dk_at dksL_law_34 12 rfl rfl)
theorem dL_law_1037 : decode cL_law 1037 = .ok (.aload_n 2, 1) := dk_44 (dk_at dksL_law_34 15 rfl rfl)
theorem dL_law_1038 : decode cL_law 1038 = .ok (.aload_n 0, 1) := dk_42 (dk_at dksL_law_34 16 rfl rfl)
theorem dL_law_1039 : decode cL_law 1039 = .ok (.iload 4, 2) := dk_21 4 (dk_at dksL_law_34 17 rfl rfl)
theorem dL_law_1041 : decode cL_law 1041 = .ok (.iconst 1, 1) := dk_4 (dk_at dksL_law_34 19 rfl rfl)
theorem dL_law_1042 : decode cL_law 1042 = .ok (.iadd, 1) := dk_96 (dk_at dksL_law_34 20 rfl rfl)
theorem dL_law_1043 : decode cL_law 1043 = .ok (.iaload, 1) := dk_46 (dk_at dksL_law_34 21 rfl rfl)
theorem dL_law_1044 : decode cL_law 1044 = .ok (.invokevirtual 133, 3) := dk_182 0 133 (dk_at dksL_law_35 0 rfl rfl)
theorem dL_law_1047 : decode cL_law 1047 = .ok (.if_icmp .eq 986, 3) := dk_159 3 218 (dk_at dksL_law_35 3 rfl rfl)
theorem dL_law_1050 : decode cL_law 1050 = .ok (.iconst 0, 1) := dk_3 (dk_at dksL_law_35 6 rfl rfl)
theorem dL_law_1051 : decode cL_law 1051 = .ok (.ireturn, 1) := dk_172 (dk_at dksL_law_35 7 rfl rfl)
theorem dL_law_1052 : decode cL_law 1052 = .ok (.aload_n 1, 1) := dk_43 (dk_at dksL_law_35 8 rfl rfl)
theorem dL_law_1053 : decode cL_law 1053 = .ok (.aload_n 0, 1) := dk_42 (dk_at dksL_law_35 9 rfl rfl)
theorem dL_law_1054 : decode cL_law 1054 = .ok (.iload 4, 2) := dk_21 4 (dk_at dksL_law_35 10 rfl rfl)
theorem dL_law_1056 : decode cL_law 1056 = .ok (.iconst 1, 1) := dk_4 (dk_at dksL_law_35 12 rfl rfl)
theorem dL_law_1057 : decode cL_law 1057 = .ok (.iadd, 1) := dk_96 (dk_at dksL_law_35 13 rfl rfl)
theorem dL_law_1058 : decode cL_law 1058 = .ok (.iaload, 1) := dk_46 (dk_at dksL_law_35 14 rfl rfl)
theorem dL_law_1059 : decode cL_law 1059 = .ok (.aload_n 0, 1) := dk_42 (dk_at dksL_law_35 15 rfl rfl)
theorem dL_law_1060 : decode cL_law 1060 = .ok (.iload 4, 2) := dk_21 4 (dk_at dksL_law_35 16 rfl rfl)
theorem dL_law_1062 : decode cL_law 1062 = .ok (.iconst 2, 1) := dk_5 (dk_at dksL_law_35 18 rfl rfl)
theorem dL_law_1063 : decode cL_law 1063 = .ok (.iadd, 1) := dk_96 (dk_at dksL_law_35 19 rfl rfl)
theorem dL_law_1064 : decode cL_law 1064 = .ok (.iaload, 1) := dk_46 (dk_at dksL_law_35 20 rfl rfl)
theorem dL_law_1065 : decode cL_law 1065 = .ok (.invokevirtual 134, 3) := dk_182 0 134 (dk_at dksL_law_35 21 rfl rfl)
theorem dL_law_1068 : decode cL_law 1068 = .ok (.aload_n 2, 1) := dk_44 (dk_at dksL_law_36 0 rfl rfl)
theorem dL_law_1069 : decode cL_law 1069 = .ok (.aload_n 0, 1) := dk_42 (dk_at dksL_law_36 1 rfl rfl)
theorem dL_law_1070 : decode cL_law 1070 = .ok (.iload 4, 2) := dk_21 4 (dk_at dksL_law_36 2 rfl rfl)
theorem dL_law_1072 : decode cL_law 1072 = .ok (.iconst 1, 1) := dk_4 (dk_at dksL_law_36 4 rfl rfl)
theorem dL_law_1073 : decode cL_law 1073 = .ok (.iadd, 1) := dk_96 (dk_at dksL_law_36 5 rfl rfl)
theorem dL_law_1074 : decode cL_law 1074 = .ok (.iaload, 1) := dk_46 (dk_at dksL_law_36 6 rfl rfl)
theorem dL_law_1075 : decode cL_law 1075 = .ok (.aload_n 0, 1) := dk_42 (dk_at dksL_law_36 7 rfl rfl)
theorem dL_law_1076 : decode cL_law 1076 = .ok (.iload 4, 2) := dk_21 4 (dk_at dksL_law_36 8 rfl rfl)
theorem dL_law_1078 : decode cL_law 1078 = .ok (.iconst 2, 1) := dk_5 (dk_at dksL_law_36 10 rfl rfl)
theorem dL_law_1079 : decode cL_law 1079 = .ok (.iadd, 1) := dk_96 (dk_at dksL_law_36 11 rfl rfl)
theorem dL_law_1080 : decode cL_law 1080 = .ok (.iaload, 1) := dk_46 (dk_at dksL_law_36 12 rfl rfl)
theorem dL_law_1081 : decode cL_law 1081 = .ok (.invokevirtual 137, 3) := dk_182 0 137 (dk_at dksL_law_36 13 rfl rfl)
theorem dL_law_1084 : decode cL_law 1084 = .ok (.if_icmp .eq 949, 3) := dk_159 3 181 (dk_at dksL_law_36 16 rfl rfl)
theorem dL_law_1087 : decode cL_law 1087 = .ok (.iconst 0, 1) := dk_3 (dk_at dksL_law_36 19 rfl rfl)
theorem dL_law_1088 : decode cL_law 1088 = .ok (.ireturn, 1) := dk_172 (dk_at dksL_law_36 20 rfl rfl)
theorem dL_law_1089 : decode cL_law 1089 = .ok (.aload_n 1, 1) := dk_43 (dk_at dksL_law_36 21 rfl rfl)
theorem dL_law_1090 : decode cL_law 1090 = .ok (.aload_n 0, 1) := dk_42 (dk_at dksL_law_36 22 rfl rfl)
theorem dL_law_1091 : decode cL_law 1091 = .ok (.iload 4, 2) := dk_21 4 (dk_at dksL_law_37 0 rfl rfl)
theorem dL_law_1093 : decode cL_law 1093 = .ok (.iconst 1, 1) := dk_4 (dk_at dksL_law_37 2 rfl rfl)
theorem dL_law_1094 : decode cL_law 1094 = .ok (.iadd, 1) := dk_96 (dk_at dksL_law_37 3 rfl rfl)
theorem dL_law_1095 : decode cL_law 1095 = .ok (.iaload, 1) := dk_46 (dk_at dksL_law_37 4 rfl rfl)
theorem dL_law_1096 : decode cL_law 1096 = .ok (.invokevirtual 138, 3) := dk_182 0 138 (dk_at dksL_law_37 5 rfl rfl)
theorem dL_law_1099 : decode cL_law 1099 = .ok (.aload_n 2, 1) := dk_44 (dk_at dksL_law_37 8 rfl rfl)
theorem dL_law_1100 : decode cL_law 1100 = .ok (.aload_n 0, 1) := dk_42 (dk_at dksL_law_37 9 rfl rfl)
theorem dL_law_1101 : decode cL_law 1101 = .ok (.iload 4, 2) := dk_21 4 (dk_at dksL_law_37 10 rfl rfl)
theorem dL_law_1103 : decode cL_law 1103 = .ok (.iconst 1, 1) := dk_4 (dk_at dksL_law_37 12 rfl rfl)
theorem dL_law_1104 : decode cL_law 1104 = .ok (.iadd, 1) := dk_96 (dk_at dksL_law_37 13 rfl rfl)
theorem dL_law_1105 : decode cL_law 1105 = .ok (.iaload, 1) := dk_46 (dk_at dksL_law_37 14 rfl rfl)
theorem dL_law_1106 : decode cL_law 1106 = .ok (.invokevirtual 141, 3) := dk_182 0 141 (dk_at dksL_law_37 15 rfl rfl)
theorem dL_law_1109 : decode cL_law 1109 = .ok (.if_icmp .eq 924, 3) := dk_159 3 156 (dk_at dksL_law_37 18 rfl rfl)
theorem dL_law_1112 : decode cL_law 1112 = .ok (.iconst 0, 1) := dk_3 (dk_at dksL_law_37 21 rfl rfl)
theorem dL_law_1113 : decode cL_law 1113 = .ok (.ireturn, 1) := dk_172 (dk_at dksL_law_37 22 rfl rfl)
theorem dL_law_1114 : decode cL_law 1114 = .ok (.aload_n 1, 1) := dk_43 (dk_at dksL_law_37 23 rfl rfl)
theorem dL_law_1115 : decode cL_law 1115 = .ok (.aload_n 0, 1) := dk_42 (dk_at dksL_law_38 0 rfl rfl)
theorem dL_law_1116 : decode cL_law 1116 = .ok (.iload 4, 2) := dk_21 4 (dk_at dksL_law_38 1 rfl rfl)
theorem dL_law_1118 : decode cL_law 1118 = .ok (.iconst 1, 1) := dk_4 (dk_at dksL_law_38 3 rfl rfl)
theorem dL_law_1119 : decode cL_law 1119 = .ok (.iadd, 1) := dk_96 (dk_at dksL_law_38 4 rfl rfl)
theorem dL_law_1120 : decode cL_law 1120 = .ok (.iaload, 1) := dk_46 (dk_at dksL_law_38 5 rfl rfl)
theorem dL_law_1121 : decode cL_law 1121 = .ok (.aload_n 0, 1) := dk_42 (dk_at dksL_law_38 6 rfl rfl)
theorem dL_law_1122 : decode cL_law 1122 = .ok (.iload 4, 2) := dk_21 4 (dk_at dksL_law_38 7 rfl rfl)
theorem dL_law_1124 : decode cL_law 1124 = .ok (.iconst 2, 1) := dk_5 (dk_at dksL_law_38 9 rfl rfl)
theorem dL_law_1125 : decode cL_law 1125 = .ok (.iadd, 1) := dk_96 (dk_at dksL_law_38 10 rfl rfl)
theorem dL_law_1126 : decode cL_law 1126 = .ok (.iaload, 1) := dk_46 (dk_at dksL_law_38 11 rfl rfl)
theorem dL_law_1127 : decode cL_law 1127 = .ok (.invokevirtual 142, 3) := dk_182 0 142 (dk_at dksL_law_38 12 rfl rfl)
theorem dL_law_1130 : decode cL_law 1130 = .ok (.aload_n 2, 1) := dk_44 (dk_at dksL_law_38 15 rfl rfl)
theorem dL_law_1131 : decode cL_law 1131 = .ok (.aload_n 0, 1) := dk_42 (dk_at dksL_law_38 16 rfl rfl)
theorem dL_law_1132 : decode cL_law 1132 = .ok (.iload 4, 2) := dk_21 4 (dk_at dksL_law_38 17 rfl rfl)
theorem dL_law_1134 : decode cL_law 1134 = .ok (.iconst 1, 1) := dk_4 (dk_at dksL_law_38 19 rfl rfl)
theorem dL_law_1135 : decode cL_law 1135 = .ok (.iadd, 1) := dk_96 (dk_at dksL_law_38 20 rfl rfl)
theorem dL_law_1136 : decode cL_law 1136 = .ok (.iaload, 1) := dk_46 (dk_at dksL_law_38 21 rfl rfl)
theorem dL_law_1137 : decode cL_law 1137 = .ok (.aload_n 0, 1) := dk_42 (dk_at dksL_law_38 22 rfl rfl)
theorem dL_law_1138 : decode cL_law 1138 = .ok (.iload 4, 2) := dk_21 4 (dk_at dksL_law_39 0 rfl rfl)
theorem dL_law_1140 : decode cL_law 1140 = .ok (.iconst 2, 1) := dk_5 (dk_at dksL_law_39 2 rfl rfl)
theorem dL_law_1141 : decode cL_law 1141 = .ok (.iadd, 1) := dk_96 (dk_at dksL_law_39 3 rfl rfl)
theorem dL_law_1142 : decode cL_law 1142 = .ok (.iaload, 1) := dk_46 (dk_at dksL_law_39 4 rfl rfl)
theorem dL_law_1143 : decode cL_law 1143 = .ok (.invokevirtual 145, 3) := dk_182 0 145 (dk_at dksL_law_39 5 rfl rfl)
theorem dL_law_1146 : decode cL_law 1146 = .ok (.if_icmp .eq 887, 3) := dk_159 3 119 (dk_at dksL_law_39 8 rfl rfl)
theorem dL_law_1149 : decode cL_law 1149 = .ok (.iconst 0, 1) := dk_3 (dk_at dksL_law_39 11 rfl rfl)
theorem dL_law_1150 : decode cL_law 1150 = .ok (.ireturn, 1) := dk_172 (dk_at dksL_law_39 12 rfl rfl)
theorem dL_law_1151 : decode cL_law 1151 = .ok (.aload_n 1, 1) := dk_43 (dk_at dksL_law_39 13 rfl rfl)
theorem dL_law_1152 : decode cL_law 1152 = .ok (.aload_n 0, 1) := dk_42 (dk_at dksL_law_39 14 rfl rfl)
theorem dL_law_1153 : decode cL_law 1153 = .ok (.iload 4, 2) := dk_21 4 (dk_at dksL_law_39 15 rfl rfl)
theorem dL_law_1155 : decode cL_law 1155 = .ok (.iconst 1, 1) := dk_4 (dk_at dksL_law_39 17 rfl rfl)
theorem dL_law_1156 : decode cL_law 1156 = .ok (.iadd, 1) := dk_96 (dk_at dksL_law_39 18 rfl rfl)
theorem dL_law_1157 : decode cL_law 1157 = .ok (.iaload, 1) := dk_46 (dk_at dksL_law_39 19 rfl rfl)
theorem dL_law_1158 : decode cL_law 1158 = .ok (.invokevirtual 146, 3) := dk_182 0 146 (dk_at dksL_law_39 20 rfl rfl)
theorem dL_law_1161 : decode cL_law 1161 = .ok (.aload_n 2, 1) := dk_44 (dk_at dksL_law_39 23 rfl rfl)
theorem dL_law_1162 : decode cL_law 1162 = .ok (.aload_n 0, 1) := dk_42 (dk_at dksL_law_40 0 rfl rfl)
theorem dL_law_1163 : decode cL_law 1163 = .ok (.iload 4, 2) := dk_21 4 (dk_at dksL_law_40 1 rfl rfl)
theorem dL_law_1165 : decode cL_law 1165 = .ok (.iconst 1, 1) := dk_4 (dk_at dksL_law_40 3 rfl rfl)
theorem dL_law_1166 : decode cL_law 1166 = .ok (.iadd, 1) := dk_96 (dk_at dksL_law_40 4 rfl rfl)
theorem dL_law_1167 : decode cL_law 1167 = .ok (.iaload, 1) := dk_46 (dk_at dksL_law_40 5 rfl rfl)
theorem dL_law_1168 : decode cL_law 1168 = .ok (.invokevirtual 149, 3) := dk_182 0 149 (dk_at dksL_law_40 6 rfl rfl)
theorem dL_law_1171 : decode cL_law 1171 = .ok (.if_icmp .eq 862, 3) := dk_159 3 94 (dk_at dksL_law_40 9 rfl rfl)
theorem dL_law_1174 : decode cL_law 1174 = .ok (.iconst 0, 1) := dk_3 (dk_at dksL_law_40 12 rfl rfl)
theorem dL_law_1175 : decode cL_law 1175 = .ok (.ireturn, 1) := dk_172 (dk_at dksL_law_40 13 rfl rfl)
theorem dL_law_1176 : decode cL_law 1176 = .ok (.aload_n 1, 1) := dk_43 (dk_at dksL_law_40 14 rfl rfl)
theorem dL_law_1177 : decode cL_law 1177 = .ok (.aload_n 0, 1) := dk_42 (dk_at dksL_law_40 15 rfl rfl)
theorem dL_law_1178 : decode cL_law 1178 = .ok (.iload 4, 2) := dk_21 4 (dk_at dksL_law_40 16 rfl rfl)
theorem dL_law_1180 : decode cL_law 1180 = .ok (.iconst 1, 1) := dk_4 (dk_at dksL_law_40 18 rfl rfl)
theorem dL_law_1181 : decode cL_law 1181 = .ok (.iadd, 1) := dk_96 (dk_at dksL_law_40 19 rfl rfl)
theorem dL_law_1182 : decode cL_law 1182 = .ok (.iaload, 1) := dk_46 (dk_at dksL_law_40 20 rfl rfl)
theorem dL_law_1183 : decode cL_law 1183 = .ok (.invokevirtual 150, 3) := dk_182 0 150 (dk_at dksL_law_40 21 rfl rfl)
theorem dL_law_1186 : decode cL_law 1186 = .ok (.aload_n 2, 1) := dk_44 (dk_at dksL_law_41 0 rfl rfl)
theorem dL_law_1187 : decode cL_law 1187 = .ok (.aload_n 0, 1) := dk_42 (dk_at dksL_law_41 1 rfl rfl)
theorem dL_law_1188 : decode cL_law 1188 = .ok (.iload 4, 2) := dk_21 4 (dk_at dksL_law_41 2 rfl rfl)
theorem dL_law_1190 : decode cL_law 1190 = .ok (.iconst 1, 1) := dk_4 (dk_at dksL_law_41 4 rfl rfl)
theorem dL_law_1191 : decode cL_law 1191 = .ok (.iadd, 1) := dk_96 (dk_at dksL_law_41 5 rfl rfl)
theorem dL_law_1192 : decode cL_law 1192 = .ok (.iaload, 1) := dk_46 (dk_at dksL_law_41 6 rfl rfl)
theorem dL_law_1193 : decode cL_law 1193 = .ok (.invokevirtual 153, 3) := dk_182 0 153 (dk_at dksL_law_41 7 rfl rfl)
theorem dL_law_1196 : decode cL_law 1196 = .ok (.if_icmp .eq 837, 3) := dk_159 3 69 (dk_at dksL_law_41 10 rfl rfl)
theorem dL_law_1199 : decode cL_law 1199 = .ok (.iconst 0, 1) := dk_3 (dk_at dksL_law_41 13 rfl rfl)
theorem dL_law_1200 : decode cL_law 1200 = .ok (.ireturn, 1) := dk_172 (dk_at dksL_law_41 14 rfl rfl)
theorem dL_law_1201 : decode cL_law 1201 = .ok (.aload_n 1, 1) := dk_43 (dk_at dksL_law_41 15 rfl rfl)
theorem dL_law_1202 : decode cL_law 1202 = .ok (.invokevirtual 154, 3) := dk_182 0 154 (dk_at dksL_law_41 16 rfl rfl)
theorem dL_law_1205 : decode cL_law 1205 = .ok (.aload_n 2, 1) := dk_44 (dk_at dksL_law_41 19 rfl rfl)
theorem dL_law_1206 : decode cL_law 1206 = .ok (.invokevirtual 157, 3) := dk_182 0 157 (dk_at dksL_law_41 20 rfl rfl)
theorem dL_law_1209 : decode cL_law 1209 = .ok (.if_icmp .eq 824, 3) := dk_159 3 56 (dk_at dksL_law_42 0 rfl rfl)
theorem dL_law_1212 : decode cL_law 1212 = .ok (.iconst 0, 1) := dk_3 (dk_at dksL_law_42 3 rfl rfl)
theorem dL_law_1213 : decode cL_law 1213 = .ok (.ireturn, 1) := dk_172 (dk_at dksL_law_42 4 rfl rfl)
theorem dL_law_1214 : decode cL_law 1214 = .ok (.aload_n 1, 1) := dk_43 (dk_at dksL_law_42 5 rfl rfl)
theorem dL_law_1215 : decode cL_law 1215 = .ok (.aload_n 0, 1) := dk_42 (dk_at dksL_law_42 6 rfl rfl)
theorem dL_law_1216 : decode cL_law 1216 = .ok (.iload 4, 2) := dk_21 4 (dk_at dksL_law_42 7 rfl rfl)
theorem dL_law_1218 : decode cL_law 1218 = .ok (.iconst 1, 1) := dk_4 (dk_at dksL_law_42 9 rfl rfl)
theorem dL_law_1219 : decode cL_law 1219 = .ok (.iadd, 1) := dk_96 (dk_at dksL_law_42 10 rfl rfl)
theorem dL_law_1220 : decode cL_law 1220 = .ok (.iaload, 1) := dk_46 (dk_at dksL_law_42 11 rfl rfl)
theorem dL_law_1221 : decode cL_law 1221 = .ok (.invokevirtual 158, 3) := dk_182 0 158 (dk_at dksL_law_42 12 rfl rfl)
theorem dL_law_1224 : decode cL_law 1224 = .ok (.aload_n 2, 1) := dk_44 (dk_at dksL_law_42 15 rfl rfl)
theorem dL_law_1225 : decode cL_law 1225 = .ok (.aload_n 0, 1) := dk_42 (dk_at dksL_law_42 16 rfl rfl)
theorem dL_law_1226 : decode cL_law 1226 = .ok (.iload 4, 2) := dk_21 4 (dk_at dksL_law_42 17 rfl rfl)
theorem dL_law_1228 : decode cL_law 1228 = .ok (.iconst 1, 1) := dk_4 (dk_at dksL_law_42 19 rfl rfl)
theorem dL_law_1229 : decode cL_law 1229 = .ok (.iadd, 1) := dk_96 (dk_at dksL_law_42 20 rfl rfl)
theorem dL_law_1230 : decode cL_law 1230 = .ok (.iaload, 1) := dk_46 (dk_at dksL_law_42 21 rfl rfl)
theorem dL_law_1231 : decode cL_law 1231 = .ok (.invokevirtual 161, 3) := dk_182 0 161 (dk_at dksL_law_43 0 rfl rfl)
theorem dL_law_1234 : decode cL_law 1234 = .ok (.if_icmp .eq 799, 3) := dk_159 3 31 (dk_at dksL_law_43 3 rfl rfl)
theorem dL_law_1237 : decode cL_law 1237 = .ok (.iconst 0, 1) := dk_3 (dk_at dksL_law_43 6 rfl rfl)
theorem dL_law_1238 : decode cL_law 1238 = .ok (.ireturn, 1) := dk_172 (dk_at dksL_law_43 7 rfl rfl)
theorem dL_law_1239 : decode cL_law 1239 = .ok (.aload_n 1, 1) := dk_43 (dk_at dksL_law_43 8 rfl rfl)
theorem dL_law_1240 : decode cL_law 1240 = .ok (.invokevirtual 162, 3) := dk_182 0 162 (dk_at dksL_law_43 9 rfl rfl)
theorem dL_law_1243 : decode cL_law 1243 = .ok (.aload_n 2, 1) := dk_44 (dk_at dksL_law_43 12 rfl rfl)
theorem dL_law_1244 : decode cL_law 1244 = .ok (.invokevirtual 165, 3) := dk_182 0 165 (dk_at dksL_law_43 13 rfl rfl)
theorem dL_law_1247 : decode cL_law 1247 = .ok (.if_icmp .eq 786, 3) := dk_159 3 18 (dk_at dksL_law_43 16 rfl rfl)
theorem dL_law_1250 : decode cL_law 1250 = .ok (.iconst 0, 1) := dk_3 (dk_at dksL_law_43 19 rfl rfl)
theorem dL_law_1251 : decode cL_law 1251 = .ok (.ireturn, 1) := dk_172 (dk_at dksL_law_43 20 rfl rfl)
theorem dL_law_1252 : decode cL_law 1252 = .ok (.aload_n 1, 1) := dk_43 (dk_at dksL_law_43 21 rfl rfl)
theorem dL_law_1253 : decode cL_law 1253 = .ok (.invokevirtual 166, 3) := dk_182 0 166 (dk_at dksL_law_44 0 rfl rfl)
theorem dL_law_1256 : decode cL_law 1256 = .ok (.aload_n 2, 1) := dk_44 (dk_at dksL_law_44 3 rfl rfl)
theorem dL_law_1257 : decode cL_law 1257 = .ok (.invokevirtual 169, 3) := dk_182 0 169 (dk_at dksL_law_44 4 rfl rfl)
theorem dL_law_1260 : decode cL_law 1260 = .ok (.if_icmp .eq 773, 3) := dk_159 3 5 (dk_at dksL_law_44 7 rfl rfl)
theorem dL_law_1263 : decode cL_law 1263 = .ok (.iconst 0, 1) := dk_3 (dk_at dksL_law_44 10 rfl rfl)
theorem dL_law_1264 : decode cL_law 1264 = .ok (.ireturn, 1) := dk_172 (dk_at dksL_law_44 11 rfl rfl)
theorem dL_law_1265 : decode cL_law 1265 = .ok (.aload_n 1, 1) := dk_43 (dk_at dksL_law_44 12 rfl rfl)
theorem dL_law_1266 : decode cL_law 1266 = .ok (.invokevirtual 170, 3) := dk_182 0 170 (dk_at dksL_law_44 13 rfl rfl)
theorem dL_law_1269 : decode cL_law 1269 = .ok (.aload_n 2, 1) := dk_44 (dk_at dksL_law_44 16 rfl rfl)
theorem dL_law_1270 : decode cL_law 1270 = .ok (.invokevirtual 173, 3) := dk_182 0 173 (dk_at dksL_law_44 17 rfl rfl)
theorem dL_law_1273 : decode cL_law 1273 = .ok (.if_icmp .eq 760, 3) := dk_159 2 248 (dk_at dksL_law_44 20 rfl rfl)
theorem dL_law_1276 : decode cL_law 1276 = .ok (.iconst 0, 1) := dk_3 (dk_at dksL_law_44 23 rfl rfl)
theorem dL_law_1277 : decode cL_law 1277 = .ok (.ireturn, 1) := dk_172 (dk_at dksL_law_45 0 rfl rfl)
theorem dL_law_1278 : decode cL_law 1278 = .ok (.aload_n 1, 1) := dk_43 (dk_at dksL_law_45 1 rfl rfl)
theorem dL_law_1279 : decode cL_law 1279 = .ok (.invokevirtual 174, 3) := dk_182 0 174 (dk_at dksL_law_45 2 rfl rfl)
theorem dL_law_1282 : decode cL_law 1282 = .ok (.aload_n 2, 1) := dk_44 (dk_at dksL_law_45 5 rfl rfl)
theorem dL_law_1283 : decode cL_law 1283 = .ok (.invokevirtual 177, 3) := dk_182 0 177 (dk_at dksL_law_45 6 rfl rfl)
theorem dL_law_1286 : decode cL_law 1286 = .ok (.if_icmp .eq 747, 3) := dk_159 2 235 (dk_at dksL_law_45 9 rfl rfl)
theorem dL_law_1289 : decode cL_law 1289 = .ok (.iconst 0, 1) := dk_3 (dk_at dksL_law_45 12 rfl rfl)
theorem dL_law_1290 : decode cL_law 1290 = .ok (.ireturn, 1) := dk_172 (dk_at dksL_law_45 13 rfl rfl)
theorem dL_law_1291 : decode cL_law 1291 = .ok (.aload_n 1, 1) := dk_43 (dk_at dksL_law_45 14 rfl rfl)
theorem dL_law_1292 : decode cL_law 1292 = .ok (.invokevirtual 178, 3) := dk_182 0 178 (dk_at dksL_law_45 15 rfl rfl)
theorem dL_law_1295 : decode cL_law 1295 = .ok (.aload_n 2, 1) := dk_44 (dk_at dksL_law_45 18 rfl rfl)
theorem dL_law_1296 : decode cL_law 1296 = .ok (.invokevirtual 181, 3) := dk_182 0 181 (dk_at dksL_law_45 19 rfl rfl)
theorem dL_law_1299 : decode cL_law 1299 = .ok (.if_icmp .eq 734, 3) := dk_159 2 222 (dk_at dksL_law_46 0 rfl rfl)
theorem dL_law_1302 : decode cL_law 1302 = .ok (.iconst 0, 1) := dk_3 (dk_at dksL_law_46 3 rfl rfl)
theorem dL_law_1303 : decode cL_law 1303 = .ok (.ireturn, 1) := dk_172 (dk_at dksL_law_46 4 rfl rfl)
theorem dL_law_1304 : decode cL_law 1304 = .ok (.aload_n 1, 1) := dk_43 (dk_at dksL_law_46 5 rfl rfl)
theorem dL_law_1305 : decode cL_law 1305 = .ok (.aload_n 0, 1) := dk_42 (dk_at dksL_law_46 6 rfl rfl)
theorem dL_law_1306 : decode cL_law 1306 = .ok (.iload 4, 2) := dk_21 4 (dk_at dksL_law_46 7 rfl rfl)
theorem dL_law_1308 : decode cL_law 1308 = .ok (.iconst 1, 1) := dk_4 (dk_at dksL_law_46 9 rfl rfl)
theorem dL_law_1309 : decode cL_law 1309 = .ok (.iadd, 1) := dk_96 (dk_at dksL_law_46 10 rfl rfl)
theorem dL_law_1310 : decode cL_law 1310 = .ok (.iaload, 1) := dk_46 (dk_at dksL_law_46 11 rfl rfl)
theorem dL_law_1311 : decode cL_law 1311 = .ok (.aload_n 0, 1) := dk_42 (dk_at dksL_law_46 12 rfl rfl)
theorem dL_law_1312 : decode cL_law 1312 = .ok (.iload 4, 2) := dk_21 4 (dk_at dksL_law_46 13 rfl rfl)
theorem dL_law_1314 : decode cL_law 1314 = .ok (.iconst 2, 1) := dk_5 (dk_at dksL_law_46 15 rfl rfl)
theorem dL_law_1315 : decode cL_law 1315 = .ok (.iadd, 1) := dk_96 (dk_at dksL_law_46 16 rfl rfl)
theorem dL_law_1316 : decode cL_law 1316 = .ok (.iaload, 1) := dk_46 (dk_at dksL_law_46 17 rfl rfl)
theorem dL_law_1317 : decode cL_law 1317 = .ok (.aload_n 0, 1) := dk_42 (dk_at dksL_law_46 18 rfl rfl)
theorem dL_law_1318 : decode cL_law 1318 = .ok (.iload 4, 2) := dk_21 4 (dk_at dksL_law_46 19 rfl rfl)
theorem dL_law_1320 : decode cL_law 1320 = .ok (.iconst 3, 1) := dk_6 (dk_at dksL_law_46 21 rfl rfl)
theorem dL_law_1321 : decode cL_law 1321 = .ok (.iadd, 1) := dk_96 (dk_at dksL_law_46 22 rfl rfl)
theorem dL_law_1322 : decode cL_law 1322 = .ok (.iaload, 1) := dk_46 (dk_at dksL_law_46 23 rfl rfl)
theorem dL_law_1323 : decode cL_law 1323 = .ok (.ifCond .eq 7, 3) := dk_153 0 7 (dk_at dksL_law_47 0 rfl rfl)
theorem dL_law_1326 : decode cL_law 1326 = .ok (.iconst 1, 1) := dk_4 (dk_at dksL_law_47 3 rfl rfl)
theorem dL_law_1327 : decode cL_law 1327 = .ok (.goto 4, 3) := dk_167 0 4 (dk_at dksL_law_47 4 rfl rfl)
theorem dL_law_1330 : decode cL_law 1330 = .ok (.iconst 0, 1) := dk_3 (dk_at dksL_law_47 7 rfl rfl)
theorem dL_law_1331 : decode cL_law 1331 = .ok (.invokevirtual 182, 3) := dk_182 0 182 (dk_at dksL_law_47 8 rfl rfl)
theorem dL_law_1334 : decode cL_law 1334 = .ok (.aload_n 2, 1) := dk_44 (dk_at dksL_law_47 11 rfl rfl)
theorem dL_law_1335 : decode cL_law 1335 = .ok (.aload_n 0, 1) := dk_42 (dk_at dksL_law_47 12 rfl rfl)
theorem dL_law_1336 : decode cL_law 1336 = .ok (.iload 4, 2) := dk_21 4 (dk_at dksL_law_47 13 rfl rfl)
theorem dL_law_1338 : decode cL_law 1338 = .ok (.iconst 1, 1) := dk_4 (dk_at dksL_law_47 15 rfl rfl)
theorem dL_law_1339 : decode cL_law 1339 = .ok (.iadd, 1) := dk_96 (dk_at dksL_law_47 16 rfl rfl)
theorem dL_law_1340 : decode cL_law 1340 = .ok (.iaload, 1) := dk_46 (dk_at dksL_law_47 17 rfl rfl)
theorem dL_law_1341 : decode cL_law 1341 = .ok (.aload_n 0, 1) := dk_42 (dk_at dksL_law_47 18 rfl rfl)
theorem dL_law_1342 : decode cL_law 1342 = .ok (.iload 4, 2) := dk_21 4 (dk_at dksL_law_47 19 rfl rfl)
theorem dL_law_1344 : decode cL_law 1344 = .ok (.iconst 2, 1) := dk_5 (dk_at dksL_law_47 21 rfl rfl)
theorem dL_law_1345 : decode cL_law 1345 = .ok (.iadd, 1) := dk_96 (dk_at dksL_law_47 22 rfl rfl)
theorem dL_law_1346 : decode cL_law 1346 = .ok (.iaload, 1) := dk_46 (dk_at dksL_law_47 23 rfl rfl)
theorem dL_law_1347 : decode cL_law 1347 = .ok (.aload_n 0, 1) := dk_42 (dk_at dksL_law_48 0 rfl rfl)
theorem dL_law_1348 : decode cL_law 1348 = .ok (.iload 4, 2) := dk_21 4 (dk_at dksL_law_48 1 rfl rfl)
theorem dL_law_1350 : decode cL_law 1350 = .ok (.iconst 3, 1) := dk_6 (dk_at dksL_law_48 3 rfl rfl)
theorem dL_law_1351 : decode cL_law 1351 = .ok (.iadd, 1) := dk_96 (dk_at dksL_law_48 4 rfl rfl)
theorem dL_law_1352 : decode cL_law 1352 = .ok (.iaload, 1) := dk_46 (dk_at dksL_law_48 5 rfl rfl)
theorem dL_law_1353 : decode cL_law 1353 = .ok (.ifCond .eq 7, 3) := dk_153 0 7 (dk_at dksL_law_48 6 rfl rfl)
theorem dL_law_1356 : decode cL_law 1356 = .ok (.iconst 1, 1) := dk_4 (dk_at dksL_law_48 9 rfl rfl)
theorem dL_law_1357 : decode cL_law 1357 = .ok (.goto 4, 3) := dk_167 0 4 (dk_at dksL_law_48 10 rfl rfl)
theorem dL_law_1360 : decode cL_law 1360 = .ok (.iconst 0, 1) := dk_3 (dk_at dksL_law_48 13 rfl rfl)
theorem dL_law_1361 : decode cL_law 1361 = .ok (.invokevirtual 186, 3) := dk_182 0 186 (dk_at dksL_law_48 14 rfl rfl)
theorem dL_law_1364 : decode cL_law 1364 = .ok (.lcmp, 1) := dk_148 (dk_at dksL_law_48 17 rfl rfl)
theorem dL_law_1365 : decode cL_law 1365 = .ok (.ifCond .eq 668, 3) := dk_153 2 156 (dk_at dksL_law_48 18 rfl rfl)
theorem dL_law_1368 : decode cL_law 1368 = .ok (.iconst 0, 1) := dk_3 (dk_at dksL_law_48 21 rfl rfl)
theorem dL_law_1369 : decode cL_law 1369 = .ok (.ireturn, 1) := dk_172 (dk_at dksL_law_48 22 rfl rfl)
theorem dL_law_1370 : decode cL_law 1370 = .ok (.aload_n 1, 1) := dk_43 (dk_at dksL_law_48 23 rfl rfl)
theorem dL_law_1371 : decode cL_law 1371 = .ok (.aload_n 0, 1) := dk_42 (dk_at dksL_law_49 0 rfl rfl)
theorem dL_law_1372 : decode cL_law 1372 = .ok (.iload 4, 2) := dk_21 4 (dk_at dksL_law_49 1 rfl rfl)
theorem dL_law_1374 : decode cL_law 1374 = .ok (.iconst 1, 1) := dk_4 (dk_at dksL_law_49 3 rfl rfl)
theorem dL_law_1375 : decode cL_law 1375 = .ok (.iadd, 1) := dk_96 (dk_at dksL_law_49 4 rfl rfl)
theorem dL_law_1376 : decode cL_law 1376 = .ok (.iaload, 1) := dk_46 (dk_at dksL_law_49 5 rfl rfl)
theorem dL_law_1377 : decode cL_law 1377 = .ok (.aload_n 0, 1) := dk_42 (dk_at dksL_law_49 6 rfl rfl)
theorem dL_law_1378 : decode cL_law 1378 = .ok (.iload 4, 2) := dk_21 4 (dk_at dksL_law_49 7 rfl rfl)
theorem dL_law_1380 : decode cL_law 1380 = .ok (.iconst 2, 1) := dk_5 (dk_at dksL_law_49 9 rfl rfl)
theorem dL_law_1381 : decode cL_law 1381 = .ok (.iadd, 1) := dk_96 (dk_at dksL_law_49 10 rfl rfl)
theorem dL_law_1382 : decode cL_law 1382 = .ok (.iaload, 1) := dk_46 (dk_at dksL_law_49 11 rfl rfl)
theorem dL_law_1383 : decode cL_law 1383 = .ok (.ifCond .eq 7, 3) := dk_153 0 7 (dk_at dksL_law_49 12 rfl rfl)
theorem dL_law_1386 : decode cL_law 1386 = .ok (.iconst 1, 1) := dk_4 (dk_at dksL_law_49 15 rfl rfl)
theorem dL_law_1387 : decode cL_law 1387 = .ok (.goto 4, 3) := dk_167 0 4 (dk_at dksL_law_49 16 rfl rfl)
theorem dL_law_1390 : decode cL_law 1390 = .ok (.iconst 0, 1) := dk_3 (dk_at dksL_law_49 19 rfl rfl)
theorem dL_law_1391 : decode cL_law 1391 = .ok (.invokevirtual 187, 3) := dk_182 0 187 (dk_at dksL_law_49 20 rfl rfl)
theorem dL_law_1394 : decode cL_law 1394 = .ok (.aload_n 2, 1) := dk_44 (dk_at dksL_law_49 23 rfl rfl)
theorem dL_law_1395 : decode cL_law 1395 = .ok (.aload_n 0, 1) := dk_42 (dk_at dksL_law_50 0 rfl rfl)
theorem dL_law_1396 : decode cL_law 1396 = .ok (.iload 4, 2) := dk_21 4 (dk_at dksL_law_50 1 rfl rfl)
theorem dL_law_1398 : decode cL_law 1398 = .ok (.iconst 1, 1) := dk_4 (dk_at dksL_law_50 3 rfl rfl)
theorem dL_law_1399 : decode cL_law 1399 = .ok (.iadd, 1) := dk_96 (dk_at dksL_law_50 4 rfl rfl)
theorem dL_law_1400 : decode cL_law 1400 = .ok (.iaload, 1) := dk_46 (dk_at dksL_law_50 5 rfl rfl)
theorem dL_law_1401 : decode cL_law 1401 = .ok (.aload_n 0, 1) := dk_42 (dk_at dksL_law_50 6 rfl rfl)
theorem dL_law_1402 : decode cL_law 1402 = .ok (.iload 4, 2) := dk_21 4 (dk_at dksL_law_50 7 rfl rfl)
theorem dL_law_1404 : decode cL_law 1404 = .ok (.iconst 2, 1) := dk_5 (dk_at dksL_law_50 9 rfl rfl)
theorem dL_law_1405 : decode cL_law 1405 = .ok (.iadd, 1) := dk_96 (dk_at dksL_law_50 10 rfl rfl)
theorem dL_law_1406 : decode cL_law 1406 = .ok (.iaload, 1) := dk_46 (dk_at dksL_law_50 11 rfl rfl)
theorem dL_law_1407 : decode cL_law 1407 = .ok (.ifCond .eq 7, 3) := dk_153 0 7 (dk_at dksL_law_50 12 rfl rfl)
theorem dL_law_1410 : decode cL_law 1410 = .ok (.iconst 1, 1) := dk_4 (dk_at dksL_law_50 15 rfl rfl)
theorem dL_law_1411 : decode cL_law 1411 = .ok (.goto 4, 3) := dk_167 0 4 (dk_at dksL_law_50 16 rfl rfl)
theorem dL_law_1414 : decode cL_law 1414 = .ok (.iconst 0, 1) := dk_3 (dk_at dksL_law_50 19 rfl rfl)
theorem dL_law_1415 : decode cL_law 1415 = .ok (.invokevirtual 191, 3) := dk_182 0 191 (dk_at dksL_law_50 20 rfl rfl)
theorem dL_law_1418 : decode cL_law 1418 = .ok (.lcmp, 1) := dk_148 (dk_at dksL_law_50 23 rfl rfl)
theorem dL_law_1419 : decode cL_law 1419 = .ok (.ifCond .eq 614, 3) := dk_153 2 102 (dk_at dksL_law_51 0 rfl rfl)
theorem dL_law_1422 : decode cL_law 1422 = .ok (.iconst 0, 1) := dk_3 (dk_at dksL_law_51 3 rfl rfl)
theorem dL_law_1423 : decode cL_law 1423 = .ok (.ireturn, 1) := dk_172 (dk_at dksL_law_51 4 rfl rfl)
theorem dL_law_1424 : decode cL_law 1424 = .ok (.aload_n 1, 1) := dk_43 (dk_at dksL_law_51 5 rfl rfl)
theorem dL_law_1425 : decode cL_law 1425 = .ok (.aload_n 0, 1) := dk_42 (dk_at dksL_law_51 6 rfl rfl)
theorem dL_law_1426 : decode cL_law 1426 = .ok (.iload 4, 2) := dk_21 4 (dk_at dksL_law_51 7 rfl rfl)
theorem dL_law_1428 : decode cL_law 1428 = .ok (.iconst 1, 1) := dk_4 (dk_at dksL_law_51 9 rfl rfl)
theorem dL_law_1429 : decode cL_law 1429 = .ok (.iadd, 1) := dk_96 (dk_at dksL_law_51 10 rfl rfl)
theorem dL_law_1430 : decode cL_law 1430 = .ok (.iaload, 1) := dk_46 (dk_at dksL_law_51 11 rfl rfl)
theorem dL_law_1431 : decode cL_law 1431 = .ok (.aload_n 0, 1) := dk_42 (dk_at dksL_law_51 12 rfl rfl)
theorem dL_law_1432 : decode cL_law 1432 = .ok (.iload 4, 2) := dk_21 4 (dk_at dksL_law_51 13 rfl rfl)
theorem dL_law_1434 : decode cL_law 1434 = .ok (.iconst 2, 1) := dk_5 (dk_at dksL_law_51 15 rfl rfl)
theorem dL_law_1435 : decode cL_law 1435 = .ok (.iadd, 1) := dk_96 (dk_at dksL_law_51 16 rfl rfl)
theorem dL_law_1436 : decode cL_law 1436 = .ok (.iaload, 1) := dk_46 (dk_at dksL_law_51 17 rfl rfl)
theorem dL_law_1437 : decode cL_law 1437 = .ok (.ifCond .eq 7, 3) := dk_153 0 7 (dk_at dksL_law_51 18 rfl rfl)
theorem dL_law_1440 : decode cL_law 1440 = .ok (.iconst 1, 1) := dk_4 (dk_at dksL_law_51 21 rfl rfl)
theorem dL_law_1441 : decode cL_law 1441 = .ok (.goto 4, 3) := dk_167 0 4 (dk_at dksL_law_52 0 rfl rfl)
theorem dL_law_1444 : decode cL_law 1444 = .ok (.iconst 0, 1) := dk_3 (dk_at dksL_law_52 3 rfl rfl)
theorem dL_law_1445 : decode cL_law 1445 = .ok (.invokevirtual 192, 3) := dk_182 0 192 (dk_at dksL_law_52 4 rfl rfl)
theorem dL_law_1448 : decode cL_law 1448 = .ok (.aload_n 2, 1) := dk_44 (dk_at dksL_law_52 7 rfl rfl)
theorem dL_law_1449 : decode cL_law 1449 = .ok (.aload_n 0, 1) := dk_42 (dk_at dksL_law_52 8 rfl rfl)
theorem dL_law_1450 : decode cL_law 1450 = .ok (.iload 4, 2) := dk_21 4 (dk_at dksL_law_52 9 rfl rfl)
theorem dL_law_1452 : decode cL_law 1452 = .ok (.iconst 1, 1) := dk_4 (dk_at dksL_law_52 11 rfl rfl)
theorem dL_law_1453 : decode cL_law 1453 = .ok (.iadd, 1) := dk_96 (dk_at dksL_law_52 12 rfl rfl)
theorem dL_law_1454 : decode cL_law 1454 = .ok (.iaload, 1) := dk_46 (dk_at dksL_law_52 13 rfl rfl)
theorem dL_law_1455 : decode cL_law 1455 = .ok (.aload_n 0, 1) := dk_42 (dk_at dksL_law_52 14 rfl rfl)
theorem dL_law_1456 : decode cL_law 1456 = .ok (.iload 4, 2) := dk_21 4 (dk_at dksL_law_52 15 rfl rfl)
theorem dL_law_1458 : decode cL_law 1458 = .ok (.iconst 2, 1) := dk_5 (dk_at dksL_law_52 17 rfl rfl)
theorem dL_law_1459 : decode cL_law 1459 = .ok (.iadd, 1) := dk_96 (dk_at dksL_law_52 18 rfl rfl)
theorem dL_law_1460 : decode cL_law 1460 = .ok (.iaload, 1) := dk_46 (dk_at dksL_law_52 19 rfl rfl)
theorem dL_law_1461 : decode cL_law 1461 = .ok (.ifCond .eq 7, 3) := dk_153 0 7 (dk_at dksL_law_52 20 rfl rfl)
theorem dL_law_1464 : decode cL_law 1464 = .ok (.iconst 1, 1) := dk_4 (dk_at dksL_law_52 23 rfl rfl)
theorem dL_law_1465 : decode cL_law 1465 = .ok (.goto 4, 3) := dk_167 0 4 (dk_at dksL_law_53 0 rfl rfl)
theorem dL_law_1468 : decode cL_law 1468 = .ok (.iconst 0, 1) := dk_3 (dk_at dksL_law_53 3 rfl rfl)
theorem dL_law_1469 : decode cL_law 1469 = .ok (.invokevirtual 195, 3) := dk_182 0 195 (dk_at dksL_law_53 4 rfl rfl)
theorem dL_law_1472 : decode cL_law 1472 = .ok (.lcmp, 1) := dk_148 (dk_at dksL_law_53 7 rfl rfl)
theorem dL_law_1473 : decode cL_law 1473 = .ok (.ifCond .eq 560, 3) := dk_153 2 48 (dk_at dksL_law_53 8 rfl rfl)
theorem dL_law_1476 : decode cL_law 1476 = .ok (.iconst 0, 1) := dk_3 (dk_at dksL_law_53 11 rfl rfl)
theorem dL_law_1477 : decode cL_law 1477 = .ok (.ireturn, 1) := dk_172 (dk_at dksL_law_53 12 rfl rfl)
theorem dL_law_1478 : decode cL_law 1478 = .ok (.aload_n 1, 1) := dk_43 (dk_at dksL_law_53 13 rfl rfl)
theorem dL_law_1479 : decode cL_law 1479 = .ok (.aload_n 0, 1) := dk_42 (dk_at dksL_law_53 14 rfl rfl)
theorem dL_law_1480 : decode cL_law 1480 = .ok (.iload 4, 2) := dk_21 4 (dk_at dksL_law_53 15 rfl rfl)
theorem dL_law_1482 : decode cL_law 1482 = .ok (.iconst 1, 1) := dk_4 (dk_at dksL_law_53 17 rfl rfl)
theorem dL_law_1483 : decode cL_law 1483 = .ok (.iadd, 1) := dk_96 (dk_at dksL_law_53 18 rfl rfl)
theorem dL_law_1484 : decode cL_law 1484 = .ok (.iaload, 1) := dk_46 (dk_at dksL_law_53 19 rfl rfl)
theorem dL_law_1485 : decode cL_law 1485 = .ok (.aload_n 0, 1) := dk_42 (dk_at dksL_law_53 20 rfl rfl)
theorem dL_law_1486 : decode cL_law 1486 = .ok (.iload 4, 2) := dk_21 4 (dk_at dksL_law_53 21 rfl rfl)
theorem dL_law_1488 : decode cL_law 1488 = .ok (.iconst 2, 1) := dk_5 (dk_at dksL_law_53 23 rfl rfl)
theorem dL_law_1489 : decode cL_law 1489 = .ok (.iadd, 1) := dk_96 (dk_at dksL_law_54 0 rfl rfl)
theorem dL_law_1490 : decode cL_law 1490 = .ok (.iaload, 1) := dk_46 (dk_at dksL_law_54 1 rfl rfl)
theorem dL_law_1491 : decode cL_law 1491 = .ok (.aload_n 0, 1) := dk_42 (dk_at dksL_law_54 2 rfl rfl)
theorem dL_law_1492 : decode cL_law 1492 = .ok (.iload 4, 2) := dk_21 4 (dk_at dksL_law_54 3 rfl rfl)
theorem dL_law_1494 : decode cL_law 1494 = .ok (.iconst 3, 1) := dk_6 (dk_at dksL_law_54 5 rfl rfl)
theorem dL_law_1495 : decode cL_law 1495 = .ok (.iadd, 1) := dk_96 (dk_at dksL_law_54 6 rfl rfl)
theorem dL_law_1496 : decode cL_law 1496 = .ok (.iaload, 1) := dk_46 (dk_at dksL_law_54 7 rfl rfl)
theorem dL_law_1497 : decode cL_law 1497 = .ok (.invokevirtual 196, 3) := dk_182 0 196 (dk_at dksL_law_54 8 rfl rfl)
theorem dL_law_1500 : decode cL_law 1500 = .ok (.aload_n 2, 1) := dk_44 (dk_at dksL_law_54 11 rfl rfl)
theorem dL_law_1501 : decode cL_law 1501 = .ok (.aload_n 0, 1) := dk_42 (dk_at dksL_law_54 12 rfl rfl)
theorem dL_law_1502 : decode cL_law 1502 = .ok (.iload 4, 2) := dk_21 4 (dk_at dksL_law_54 13 rfl rfl)
theorem dL_law_1504 : decode cL_law 1504 = .ok (.iconst 1, 1) := dk_4 (dk_at dksL_law_54 15 rfl rfl)
theorem dL_law_1505 : decode cL_law 1505 = .ok (.iadd, 1) := dk_96 (dk_at dksL_law_54 16 rfl rfl)
theorem dL_law_1506 : decode cL_law 1506 = .ok (.iaload, 1) := dk_46 (dk_at dksL_law_54 17 rfl rfl)
theorem dL_law_1507 : decode cL_law 1507 = .ok (.aload_n 0, 1) := dk_42 (dk_at dksL_law_54 18 rfl rfl)
theorem dL_law_1508 : decode cL_law 1508 = .ok (.iload 4, 2) := dk_21 4 (dk_at dksL_law_54 19 rfl rfl)
theorem dL_law_1510 : decode cL_law 1510 = .ok (.iconst 2, 1) := dk_5 (dk_at dksL_law_54 21 rfl rfl)
theorem dL_law_1511 : decode cL_law 1511 = .ok (.iadd, 1) := dk_96 (dk_at dksL_law_54 22 rfl rfl)
theorem dL_law_1512 : decode cL_law 1512 = .ok (.iaload, 1) := dk_46 (dk_at dksL_law_54 23 rfl rfl)
theorem dL_law_1513 : decode cL_law 1513 = .ok (.aload_n 0, 1) := dk_42 (dk_at dksL_law_55 0 rfl rfl)
theorem dL_law_1514 : decode cL_law 1514 = .ok (.iload 4, 2) := dk_21 4 (dk_at dksL_law_55 1 rfl rfl)
theorem dL_law_1516 : decode cL_law 1516 = .ok (.iconst 3, 1) := dk_6 (dk_at dksL_law_55 3 rfl rfl)
theorem dL_law_1517 : decode cL_law 1517 = .ok (.iadd, 1) := dk_96 (dk_at dksL_law_55 4 rfl rfl)
theorem dL_law_1518 : decode cL_law 1518 = .ok (.iaload, 1) := dk_46 (dk_at dksL_law_55 5 rfl rfl)
theorem dL_law_1519 : decode cL_law 1519 = .ok (.invokevirtual 200, 3) := dk_182 0 200 (dk_at dksL_law_55 6 rfl rfl)
theorem dL_law_1522 : decode cL_law 1522 = .ok (.if_icmp .eq 511, 3) := dk_159 1 255 (dk_at dksL_law_55 9 rfl rfl)
theorem dL_law_1525 : decode cL_law 1525 = .ok (.iconst 0, 1) := dk_3 (dk_at dksL_law_55 12 rfl rfl)
theorem dL_law_1526 : decode cL_law 1526 = .ok (.ireturn, 1) := dk_172 (dk_at dksL_law_55 13 rfl rfl)
theorem dL_law_1527 : decode cL_law 1527 = .ok (.aload_n 1, 1) := dk_43 (dk_at dksL_law_55 14 rfl rfl)
theorem dL_law_1528 : decode cL_law 1528 = .ok (.aload_n 0, 1) := dk_42 (dk_at dksL_law_55 15 rfl rfl)
theorem dL_law_1529 : decode cL_law 1529 = .ok (.iload 4, 2) := dk_21 4 (dk_at dksL_law_55 16 rfl rfl)
theorem dL_law_1531 : decode cL_law 1531 = .ok (.iconst 1, 1) := dk_4 (dk_at dksL_law_55 18 rfl rfl)
theorem dL_law_1532 : decode cL_law 1532 = .ok (.iadd, 1) := dk_96 (dk_at dksL_law_55 19 rfl rfl)
theorem dL_law_1533 : decode cL_law 1533 = .ok (.iaload, 1) := dk_46 (dk_at dksL_law_55 20 rfl rfl)
theorem dL_law_1534 : decode cL_law 1534 = .ok (.aload_n 0, 1) := dk_42 (dk_at dksL_law_55 21 rfl rfl)
theorem dL_law_1535 : decode cL_law 1535 = .ok (.iload 4, 2) := dk_21 4 (dk_at dksL_law_55 22 rfl rfl)
theorem dL_law_1537 : decode cL_law 1537 = .ok (.iconst 2, 1) := dk_5 (dk_at dksL_law_56 0 rfl rfl)
theorem dL_law_1538 : decode cL_law 1538 = .ok (.iadd, 1) := dk_96 (dk_at dksL_law_56 1 rfl rfl)
theorem dL_law_1539 : decode cL_law 1539 = .ok (.iaload, 1) := dk_46 (dk_at dksL_law_56 2 rfl rfl)
theorem dL_law_1540 : decode cL_law 1540 = .ok (.invokevirtual 201, 3) := dk_182 0 201 (dk_at dksL_law_56 3 rfl rfl)
theorem dL_law_1543 : decode cL_law 1543 = .ok (.aload_n 2, 1) := dk_44 (dk_at dksL_law_56 6 rfl rfl)
theorem dL_law_1544 : decode cL_law 1544 = .ok (.aload_n 0, 1) := dk_42 (dk_at dksL_law_56 7 rfl rfl)
theorem dL_law_1545 : decode cL_law 1545 = .ok (.iload 4, 2) := dk_21 4 (dk_at dksL_law_56 8 rfl rfl)
theorem dL_law_1547 : decode cL_law 1547 = .ok (.iconst 1, 1) := dk_4 (dk_at dksL_law_56 10 rfl rfl)
theorem dL_law_1548 : decode cL_law 1548 = .ok (.iadd, 1) := dk_96 (dk_at dksL_law_56 11 rfl rfl)
theorem dL_law_1549 : decode cL_law 1549 = .ok (.iaload, 1) := dk_46 (dk_at dksL_law_56 12 rfl rfl)
theorem dL_law_1550 : decode cL_law 1550 = .ok (.aload_n 0, 1) := dk_42 (dk_at dksL_law_56 13 rfl rfl)
theorem dL_law_1551 : decode cL_law 1551 = .ok (.iload 4, 2) := dk_21 4 (dk_at dksL_law_56 14 rfl rfl)
theorem dL_law_1553 : decode cL_law 1553 = .ok (.iconst 2, 1) := dk_5 (dk_at dksL_law_56 16 rfl rfl)
theorem dL_law_1554 : decode cL_law 1554 = .ok (.iadd, 1) := dk_96 (dk_at dksL_law_56 17 rfl rfl)
theorem dL_law_1555 : decode cL_law 1555 = .ok (.iaload, 1) := dk_46 (dk_at dksL_law_56 18 rfl rfl)
theorem dL_law_1556 : decode cL_law 1556 = .ok (.invokevirtual 204, 3) := dk_182 0 204 (dk_at dksL_law_56 19 rfl rfl)
theorem dL_law_1559 : decode cL_law 1559 = .ok (.if_icmp .eq 474, 3) := dk_159 1 218 (dk_at dksL_law_57 0 rfl rfl)
theorem dL_law_1562 : decode cL_law 1562 = .ok (.iconst 0, 1) := dk_3 (dk_at dksL_law_57 3 rfl rfl)
theorem dL_law_1563 : decode cL_law 1563 = .ok (.ireturn, 1) := dk_172 (dk_at dksL_law_57 4 rfl rfl)
theorem dL_law_1564 : decode cL_law 1564 = .ok (.aload_n 1, 1) := dk_43 (dk_at dksL_law_57 5 rfl rfl)
theorem dL_law_1565 : decode cL_law 1565 = .ok (.aload_n 0, 1) := dk_42 (dk_at dksL_law_57 6 rfl rfl)
theorem dL_law_1566 : decode cL_law 1566 = .ok (.iload 4, 2) := dk_21 4 (dk_at dksL_law_57 7 rfl rfl)
theorem dL_law_1568 : decode cL_law 1568 = .ok (.iconst 1, 1) := dk_4 (dk_at dksL_law_57 9 rfl rfl)
theorem dL_law_1569 : decode cL_law 1569 = .ok (.iadd, 1) := dk_96 (dk_at dksL_law_57 10 rfl rfl)
theorem dL_law_1570 : decode cL_law 1570 = .ok (.iaload, 1) := dk_46 (dk_at dksL_law_57 11 rfl rfl)
theorem dL_law_1571 : decode cL_law 1571 = .ok (.aload_n 0, 1) := dk_42 (dk_at dksL_law_57 12 rfl rfl)
theorem dL_law_1572 : decode cL_law 1572 = .ok (.iload 4, 2) := dk_21 4 (dk_at dksL_law_57 13 rfl rfl)
theorem dL_law_1574 : decode cL_law 1574 = .ok (.iconst 2, 1) := dk_5 (dk_at dksL_law_57 15 rfl rfl)
theorem dL_law_1575 : decode cL_law 1575 = .ok (.iadd, 1) := dk_96 (dk_at dksL_law_57 16 rfl rfl)
theorem dL_law_1576 : decode cL_law 1576 = .ok (.iaload, 1) := dk_46 (dk_at dksL_law_57 17 rfl rfl)
theorem dL_law_1577 : decode cL_law 1577 = .ok (.ifCond .eq 7, 3) := dk_153 0 7 (dk_at dksL_law_57 18 rfl rfl)
theorem dL_law_1580 : decode cL_law 1580 = .ok (.iconst 1, 1) := dk_4 (dk_at dksL_law_57 21 rfl rfl)
theorem dL_law_1581 : decode cL_law 1581 = .ok (.goto 4, 3) := dk_167 0 4 (dk_at dksL_law_58 0 rfl rfl)
theorem dL_law_1584 : decode cL_law 1584 = .ok (.iconst 0, 1) := dk_3 (dk_at dksL_law_58 3 rfl rfl)
theorem dL_law_1585 : decode cL_law 1585 = .ok (.aload_n 0, 1) := dk_42 (dk_at dksL_law_58 4 rfl rfl)
theorem dL_law_1586 : decode cL_law 1586 = .ok (.iload 4, 2) := dk_21 4 (dk_at dksL_law_58 5 rfl rfl)
theorem dL_law_1588 : decode cL_law 1588 = .ok (.iconst 3, 1) := dk_6 (dk_at dksL_law_58 7 rfl rfl)
theorem dL_law_1589 : decode cL_law 1589 = .ok (.iadd, 1) := dk_96 (dk_at dksL_law_58 8 rfl rfl)
theorem dL_law_1590 : decode cL_law 1590 = .ok (.iaload, 1) := dk_46 (dk_at dksL_law_58 9 rfl rfl)
theorem dL_law_1591 : decode cL_law 1591 = .ok (.ifCond .eq 7, 3) := dk_153 0 7 (dk_at dksL_law_58 10 rfl rfl)
theorem dL_law_1594 : decode cL_law 1594 = .ok (.iconst 1, 1) := dk_4 (dk_at dksL_law_58 13 rfl rfl)
theorem dL_law_1595 : decode cL_law 1595 = .ok (.goto 4, 3) := dk_167 0 4 (dk_at dksL_law_58 14 rfl rfl)
theorem dL_law_1598 : decode cL_law 1598 = .ok (.iconst 0, 1) := dk_3 (dk_at dksL_law_58 17 rfl rfl)
theorem dL_law_1599 : decode cL_law 1599 = .ok (.aload_n 0, 1) := dk_42 (dk_at dksL_law_58 18 rfl rfl)
theorem dL_law_1600 : decode cL_law 1600 = .ok (.iload 4, 2) := dk_21 4 (dk_at dksL_law_58 19 rfl rfl)
theorem dL_law_1602 : decode cL_law 1602 = .ok (.iconst 4, 1) := dk_7 (dk_at dksL_law_58 21 rfl rfl)
theorem dL_law_1603 : decode cL_law 1603 = .ok (.iadd, 1) := dk_96 (dk_at dksL_law_58 22 rfl rfl)
theorem dL_law_1604 : decode cL_law 1604 = .ok (.iaload, 1) := dk_46 (dk_at dksL_law_58 23 rfl rfl)
theorem dL_law_1605 : decode cL_law 1605 = .ok (.ifCond .eq 7, 3) := dk_153 0 7 (dk_at dksL_law_59 0 rfl rfl)
theorem dL_law_1608 : decode cL_law 1608 = .ok (.iconst 1, 1) := dk_4 (dk_at dksL_law_59 3 rfl rfl)
theorem dL_law_1609 : decode cL_law 1609 = .ok (.goto 4, 3) := dk_167 0 4 (dk_at dksL_law_59 4 rfl rfl)
theorem dL_law_1612 : decode cL_law 1612 = .ok (.iconst 0, 1) := dk_3 (dk_at dksL_law_59 7 rfl rfl)
theorem dL_law_1613 : decode cL_law 1613 = .ok (.invokevirtual 205, 3) := dk_182 0 205 (dk_at dksL_law_59 8 rfl rfl)
theorem dL_law_1616 : decode cL_law 1616 = .ok (.aload_n 2, 1) := dk_44 (dk_at dksL_law_59 11 rfl rfl)
theorem dL_law_1617 : decode cL_law 1617 = .ok (.aload_n 0, 1) := dk_42 (dk_at dksL_law_59 12 rfl rfl)
theorem dL_law_1618 : decode cL_law 1618 = .ok (.iload 4, 2) := dk_21 4 (dk_at dksL_law_59 13 rfl rfl)
theorem dL_law_1620 : decode cL_law 1620 = .ok (.iconst 1, 1) := dk_4 (dk_at dksL_law_59 15 rfl rfl)
theorem dL_law_1621 : decode cL_law 1621 = .ok (.iadd, 1) := dk_96 (dk_at dksL_law_59 16 rfl rfl)
theorem dL_law_1622 : decode cL_law 1622 = .ok (.iaload, 1) := dk_46 (dk_at dksL_law_59 17 rfl rfl)
theorem dL_law_1623 : decode cL_law 1623 = .ok (.aload_n 0, 1) := dk_42 (dk_at dksL_law_59 18 rfl rfl)
theorem dL_law_1624 : decode cL_law 1624 = .ok (.iload 4, 2) := dk_21 4 (dk_at dksL_law_59 19 rfl rfl)
theorem dL_law_1626 : decode cL_law 1626 = .ok (.iconst 2, 1) := dk_5 (dk_at dksL_law_59 21 rfl rfl)
theorem dL_law_1627 : decode cL_law 1627 = .ok (.iadd, 1) := dk_96 (dk_at dksL_law_59 22 rfl rfl)
theorem dL_law_1628 : decode cL_law 1628 = .ok (.iaload, 1) := dk_46 (dk_at dksL_law_59 23 rfl rfl)
theorem dL_law_1629 : decode cL_law 1629 = .ok (.ifCond .eq 7, 3) := dk_153 0 7 (dk_at dksL_law_60 0 rfl rfl)
theorem dL_law_1632 : decode cL_law 1632 = .ok (.iconst 1, 1) := dk_4 (dk_at dksL_law_60 3 rfl rfl)
theorem dL_law_1633 : decode cL_law 1633 = .ok (.goto 4, 3) := dk_167 0 4 (dk_at dksL_law_60 4 rfl rfl)
theorem dL_law_1636 : decode cL_law 1636 = .ok (.iconst 0, 1) := dk_3 (dk_at dksL_law_60 7 rfl rfl)
theorem dL_law_1637 : decode cL_law 1637 = .ok (.aload_n 0, 1) := dk_42 (dk_at dksL_law_60 8 rfl rfl)
theorem dL_law_1638 : decode cL_law 1638 = .ok (.iload 4, 2) := dk_21 4 (dk_at dksL_law_60 9 rfl rfl)
theorem dL_law_1640 : decode cL_law 1640 = .ok (.iconst 3, 1) := dk_6 (dk_at dksL_law_60 11 rfl rfl)
theorem dL_law_1641 : decode cL_law 1641 = .ok (.iadd, 1) := dk_96 (dk_at dksL_law_60 12 rfl rfl)
theorem dL_law_1642 : decode cL_law 1642 = .ok (.iaload, 1) := dk_46 (dk_at dksL_law_60 13 rfl rfl)
theorem dL_law_1643 : decode cL_law 1643 = .ok (.ifCond .eq 7, 3) := dk_153 0 7 (dk_at dksL_law_60 14 rfl rfl)
theorem dL_law_1646 : decode cL_law 1646 = .ok (.iconst 1, 1) := dk_4 (dk_at dksL_law_60 17 rfl rfl)
theorem dL_law_1647 : decode cL_law 1647 = .ok (.goto 4, 3) := dk_167 0 4 (dk_at dksL_law_60 18 rfl rfl)
theorem dL_law_1650 : decode cL_law 1650 = .ok (.iconst 0, 1) := dk_3 (dk_at dksL_law_60 21 rfl rfl)
theorem dL_law_1651 : decode cL_law 1651 = .ok (.aload_n 0, 1) := dk_42 (dk_at dksL_law_60 22 rfl rfl)
theorem dL_law_1652 : decode cL_law 1652 = .ok (.iload 4, 2) := dk_21 4 (dk_at dksL_law_61 0 rfl rfl)
theorem dL_law_1654 : decode cL_law 1654 = .ok (.iconst 4, 1) := dk_7 (dk_at dksL_law_61 2 rfl rfl)
theorem dL_law_1655 : decode cL_law 1655 = .ok (.iadd, 1) := dk_96 (dk_at dksL_law_61 3 rfl rfl)
theorem dL_law_1656 : decode cL_law 1656 = .ok (.iaload, 1) := dk_46 (dk_at dksL_law_61 4 rfl rfl)
theorem dL_law_1657 : decode cL_law 1657 = .ok (.ifCond .eq 7, 3) := dk_153 0 7 (dk_at dksL_law_61 5 rfl rfl)
theorem dL_law_1660 : decode cL_law 1660 = .ok (.iconst 1, 1) := dk_4 (dk_at dksL_law_61 8 rfl rfl)
theorem dL_law_1661 : decode cL_law 1661 = .ok (.goto 4, 3) := dk_167 0 4 (dk_at dksL_law_61 9 rfl rfl)
theorem dL_law_1664 : decode cL_law 1664 = .ok (.iconst 0, 1) := dk_3 (dk_at dksL_law_61 12 rfl rfl)
theorem dL_law_1665 : decode cL_law 1665 = .ok (.invokevirtual 209, 3) := dk_182 0 209 (dk_at dksL_law_61 13 rfl rfl)
theorem dL_law_1668 : decode cL_law 1668 = .ok (.if_icmp .eq 365, 3) := dk_159 1 109 (dk_at dksL_law_61 16 rfl rfl)
theorem dL_law_1671 : decode cL_law 1671 = .ok (.iconst 0, 1) := dk_3 (dk_at dksL_law_61 19 rfl rfl)
theorem dL_law_1672 : decode cL_law 1672 = .ok (.ireturn, 1) := dk_172 (dk_at dksL_law_61 20 rfl rfl)
theorem dL_law_1673 : decode cL_law 1673 = .ok (.aload_n 1, 1) := dk_43 (dk_at dksL_law_61 21 rfl rfl)
theorem dL_law_1674 : decode cL_law 1674 = .ok (.aload_n 0, 1) := dk_42 (dk_at dksL_law_61 22 rfl rfl)
theorem dL_law_1675 : decode cL_law 1675 = .ok (.iload 4, 2) := dk_21 4 (dk_at dksL_law_62 0 rfl rfl)
theorem dL_law_1677 : decode cL_law 1677 = .ok (.iconst 1, 1) := dk_4 (dk_at dksL_law_62 2 rfl rfl)
theorem dL_law_1678 : decode cL_law 1678 = .ok (.iadd, 1) := dk_96 (dk_at dksL_law_62 3 rfl rfl)
theorem dL_law_1679 : decode cL_law 1679 = .ok (.iaload, 1) := dk_46 (dk_at dksL_law_62 4 rfl rfl)
theorem dL_law_1680 : decode cL_law 1680 = .ok (.invokevirtual 210, 3) := dk_182 0 210 (dk_at dksL_law_62 5 rfl rfl)
theorem dL_law_1683 : decode cL_law 1683 = .ok (.aload_n 2, 1) := dk_44 (dk_at dksL_law_62 8 rfl rfl)
theorem dL_law_1684 : decode cL_law 1684 = .ok (.aload_n 0, 1) := dk_42 (dk_at dksL_law_62 9 rfl rfl)
theorem dL_law_1685 : decode cL_law 1685 = .ok (.iload 4, 2) := dk_21 4 (dk_at dksL_law_62 10 rfl rfl)
theorem dL_law_1687 : decode cL_law 1687 = .ok (.iconst 1, 1) := dk_4 (dk_at dksL_law_62 12 rfl rfl)
theorem dL_law_1688 : decode cL_law 1688 = .ok (.iadd, 1) := dk_96 (dk_at dksL_law_62 13 rfl rfl)
theorem dL_law_1689 : decode cL_law 1689 = .ok (.iaload, 1) := dk_46 (dk_at dksL_law_62 14 rfl rfl)
theorem dL_law_1690 : decode cL_law 1690 = .ok (.invokevirtual 213, 3) := dk_182 0 213 (dk_at dksL_law_62 15 rfl rfl)
theorem dL_law_1693 : decode cL_law 1693 = .ok (.if_icmp .eq 340, 3) := dk_159 1 84 (dk_at dksL_law_62 18 rfl rfl)
theorem dL_law_1696 : decode cL_law 1696 = .ok (.iconst 0, 1) := dk_3 (dk_at dksL_law_62 21 rfl rfl)
theorem dL_law_1697 : decode cL_law 1697 = .ok (.ireturn, 1) := dk_172 (dk_at dksL_law_62 22 rfl rfl)
theorem dL_law_1698 : decode cL_law 1698 = .ok (.aload_n 1, 1) := dk_43 (dk_at dksL_law_62 23 rfl rfl)
theorem dL_law_1699 : decode cL_law 1699 = .ok (.aload_n 0, 1) := dk_42 (dk_at dksL_law_63 0 rfl rfl)
theorem dL_law_1700 : decode cL_law 1700 = .ok (.iload 4, 2) := dk_21 4 (dk_at dksL_law_63 1 rfl rfl)
theorem dL_law_1702 : decode cL_law 1702 = .ok (.iconst 1, 1) := dk_4 (dk_at dksL_law_63 3 rfl rfl)
theorem dL_law_1703 : decode cL_law 1703 = .ok (.iadd, 1) := dk_96 (dk_at dksL_law_63 4 rfl rfl)
theorem dL_law_1704 : decode cL_law 1704 = .ok (.iaload, 1) := dk_46 (dk_at dksL_law_63 5 rfl rfl)
theorem dL_law_1705 : decode cL_law 1705 = .ok (.invokevirtual 214, 3) := dk_182 0 214 (dk_at dksL_law_63 6 rfl rfl)
theorem dL_law_1708 : decode cL_law 1708 = .ok (.aload_n 2, 1) := dk_44 (dk_at dksL_law_63 9 rfl rfl)
theorem dL_law_1709 : decode cL_law 1709 = .ok (.aload_n 0, 1) := dk_42 (dk_at dksL_law_63 10 rfl rfl)
theorem dL_law_1710 : decode cL_law 1710 = .ok (.iload 4, 2) := dk_21 4 (dk_at dksL_law_63 11 rfl rfl)
theorem dL_law_1712 : decode cL_law 1712 = .ok (.iconst 1, 1) := dk_4 (dk_at dksL_law_63 13 rfl rfl)
theorem dL_law_1713 : decode cL_law 1713 = .ok (.iadd, 1) := dk_96 (dk_at dksL_law_63 14 rfl rfl)
theorem dL_law_1714 : decode cL_law 1714 = .ok (.iaload, 1) := dk_46 (dk_at dksL_law_63 15 rfl rfl)
theorem dL_law_1715 : decode cL_law 1715 = .ok (.invokevirtual 217, 3) := dk_182 0 217 (dk_at dksL_law_63 16 rfl rfl)
theorem dL_law_1718 : decode cL_law 1718 = .ok (.if_icmp .eq 315, 3) := dk_159 1 59 (dk_at dksL_law_63 19 rfl rfl)
theorem dL_law_1721 : decode cL_law 1721 = .ok (.iconst 0, 1) := dk_3 (dk_at dksL_law_63 22 rfl rfl)
theorem dL_law_1722 : decode cL_law 1722 = .ok (.ireturn, 1) := dk_172 (dk_at dksL_law_63 23 rfl rfl)
theorem dL_law_1723 : decode cL_law 1723 = .ok (.aload_n 1, 1) := dk_43 (dk_at dksL_law_64 0 rfl rfl)
theorem dL_law_1724 : decode cL_law 1724 = .ok (.aload_n 0, 1) := dk_42 (dk_at dksL_law_64 1 rfl rfl)
theorem dL_law_1725 : decode cL_law 1725 = .ok (.iload 4, 2) := dk_21 4 (dk_at dksL_law_64 2 rfl rfl)
theorem dL_law_1727 : decode cL_law 1727 = .ok (.iconst 1, 1) := dk_4 (dk_at dksL_law_64 4 rfl rfl)
theorem dL_law_1728 : decode cL_law 1728 = .ok (.iadd, 1) := dk_96 (dk_at dksL_law_64 5 rfl rfl)
theorem dL_law_1729 : decode cL_law 1729 = .ok (.iaload, 1) := dk_46 (dk_at dksL_law_64 6 rfl rfl)
theorem dL_law_1730 : decode cL_law 1730 = .ok (.aload_n 0, 1) := dk_42 (dk_at dksL_law_64 7 rfl rfl)
theorem dL_law_1731 : decode cL_law 1731 = .ok (.iload 4, 2) := dk_21 4 (dk_at dksL_law_64 8 rfl rfl)
theorem dL_law_1733 : decode cL_law 1733 = .ok (.iconst 2, 1) := dk_5 (dk_at dksL_law_64 10 rfl rfl)
theorem dL_law_1734 : decode cL_law 1734 = .ok (.iadd, 1) := dk_96 (dk_at dksL_law_64 11 rfl rfl)
theorem dL_law_1735 : decode cL_law 1735 = .ok (.iaload, 1) := dk_46 (dk_at dksL_law_64 12 rfl rfl)
theorem dL_law_1736 : decode cL_law 1736 = .ok (.invokevirtual 218, 3) := dk_182 0 218 (dk_at dksL_law_64 13 rfl rfl)
theorem dL_law_1739 : decode cL_law 1739 = .ok (.aload_n 2, 1) := dk_44 (dk_at dksL_law_64 16 rfl rfl)
theorem dL_law_1740 : decode cL_law 1740 = .ok (.aload_n 0, 1) := dk_42 (dk_at dksL_law_64 17 rfl rfl)
theorem dL_law_1741 : decode cL_law 1741 = .ok (.iload 4, 2) := dk_21 4 (dk_at dksL_law_64 18 rfl rfl)
theorem dL_law_1743 : decode cL_law 1743 = .ok (.iconst 1, 1) := dk_4 (dk_at dksL_law_64 20 rfl rfl)
theorem dL_law_1744 : decode cL_law 1744 = .ok (.iadd, 1) := dk_96 (dk_at dksL_law_64 21 rfl rfl)
theorem dL_law_1745 : decode cL_law 1745 = .ok (.iaload, 1) := dk_46 (dk_at dksL_law_64 22 rfl rfl)
theorem dL_law_1746 : decode cL_law 1746 = .ok (.aload_n 0, 1) := dk_42 (dk_at dksL_law_64 23 rfl rfl)
theorem dL_law_1747 : decode cL_law 1747 = .ok (.iload 4, 2) := dk_21 4 (dk_at dksL_law_65 0 rfl rfl)
theorem dL_law_1749 : decode cL_law 1749 = .ok (.iconst 2, 1) := dk_5 (dk_at dksL_law_65 2 rfl rfl)
theorem dL_law_1750 : decode cL_law 1750 = .ok (.iadd, 1) := dk_96 (dk_at dksL_law_65 3 rfl rfl)
theorem dL_law_1751 : decode cL_law 1751 = .ok (.iaload, 1) := dk_46 (dk_at dksL_law_65 4 rfl rfl)
theorem dL_law_1752 : decode cL_law 1752 = .ok (.invokevirtual 221, 3) := dk_182 0 221 (dk_at dksL_law_65 5 rfl rfl)
theorem dL_law_1755 : decode cL_law 1755 = .ok (.if_icmp .eq 278, 3) := dk_159 1 22 (dk_at dksL_law_65 8 rfl rfl)
theorem dL_law_1758 : decode cL_law 1758 = .ok (.iconst 0, 1) := dk_3 (dk_at dksL_law_65 11 rfl rfl)
theorem dL_law_1759 : decode cL_law 1759 = .ok (.ireturn, 1) := dk_172 (dk_at dksL_law_65 12 rfl rfl)
theorem dL_law_1760 : decode cL_law 1760 = .ok (.aload_n 1, 1) := dk_43 (dk_at dksL_law_65 13 rfl rfl)
theorem dL_law_1761 : decode cL_law 1761 = .ok (.aload_n 0, 1) := dk_42 (dk_at dksL_law_65 14 rfl rfl)
theorem dL_law_1762 : decode cL_law 1762 = .ok (.iload 4, 2) := dk_21 4 (dk_at dksL_law_65 15 rfl rfl)
theorem dL_law_1764 : decode cL_law 1764 = .ok (.iconst 1, 1) := dk_4 (dk_at dksL_law_65 17 rfl rfl)
theorem dL_law_1765 : decode cL_law 1765 = .ok (.iadd, 1) := dk_96 (dk_at dksL_law_65 18 rfl rfl)
theorem dL_law_1766 : decode cL_law 1766 = .ok (.iaload, 1) := dk_46 (dk_at dksL_law_65 19 rfl rfl)
theorem dL_law_1767 : decode cL_law 1767 = .ok (.invokevirtual 222, 3) := dk_182 0 222 (dk_at dksL_law_65 20 rfl rfl)
theorem dL_law_1770 : decode cL_law 1770 = .ok (.aload_n 2, 1) := dk_44 (dk_at dksL_law_65 23 rfl rfl)
theorem dL_law_1771 : decode cL_law 1771 = .ok (.aload_n 0, 1) := dk_42 (dk_at dksL_law_66 0 rfl rfl)
theorem dL_law_1772 : decode cL_law 1772 = .ok (.iload 4, 2) := dk_21 4 (dk_at dksL_law_66 1 rfl rfl)
theorem dL_law_1774 : decode cL_law 1774 = .ok (.iconst 1, 1) := dk_4 (dk_at dksL_law_66 3 rfl rfl)
theorem dL_law_1775 : decode cL_law 1775 = .ok (.iadd, 1) := dk_96 (dk_at dksL_law_66 4 rfl rfl)
theorem dL_law_1776 : decode cL_law 1776 = .ok (.iaload, 1) := dk_46 (dk_at dksL_law_66 5 rfl rfl)
theorem dL_law_1777 : decode cL_law 1777 = .ok (.invokevirtual 226, 3) := dk_182 0 226 (dk_at dksL_law_66 6 rfl rfl)
theorem dL_law_1780 : decode cL_law 1780 = .ok (.if_icmp .eq 253, 3) := dk_159 0 253 (dk_at dksL_law_66 9 rfl rfl)
theorem dL_law_1783 : decode cL_law 1783 = .ok (.iconst 0, 1) := dk_3 (dk_at dksL_law_66 12 rfl rfl)
theorem dL_law_1784 : decode cL_law 1784 = .ok (.ireturn, 1) := dk_172 (dk_at dksL_law_66 13 rfl rfl)
theorem dL_law_1785 : decode cL_law 1785 = .ok (.aload_n 1, 1) := dk_43 (dk_at dksL_law_66 14 rfl rfl)
theorem dL_law_1786 : decode cL_law 1786 = .ok (.aload_n 0, 1) := dk_42 (dk_at dksL_law_66 15 rfl rfl)
theorem dL_law_1787 : decode cL_law 1787 = .ok (.iload 4, 2) := dk_21 4 (dk_at dksL_law_66 16 rfl rfl)
theorem dL_law_1789 : decode cL_law 1789 = .ok (.iconst 1, 1) := dk_4 (dk_at dksL_law_66 18 rfl rfl)
theorem dL_law_1790 : decode cL_law 1790 = .ok (.iadd, 1) := dk_96 (dk_at dksL_law_66 19 rfl rfl)
theorem dL_law_1791 : decode cL_law 1791 = .ok (.iaload, 1) := dk_46 (dk_at dksL_law_66 20 rfl rfl)
theorem dL_law_1792 : decode cL_law 1792 = .ok (.aload_n 0, 1) := dk_42 (dk_at dksL_law_66 21 rfl rfl)
theorem dL_law_1793 : decode cL_law 1793 = .ok (.iload 4, 2) := dk_21 4 (dk_at dksL_law_66 22 rfl rfl)
theorem dL_law_1795 : decode cL_law 1795 = .ok (.iconst 2, 1) := dk_5 (dk_at dksL_law_67 0 rfl rfl)
theorem dL_law_1796 : decode cL_law 1796 = .ok (.iadd, 1) := dk_96 (dk_at dksL_law_67 1 rfl rfl)
theorem dL_law_1797 : decode cL_law 1797 = .ok (.iaload, 1) := dk_46 (dk_at dksL_law_67 2 rfl rfl)
theorem dL_law_1798 : decode cL_law 1798 = .ok (.ifCond .eq 7, 3) := dk_153 0 7 (dk_at dksL_law_67 3 rfl rfl)
theorem dL_law_1801 : decode cL_law 1801 = .ok (.iconst 1, 1) := dk_4 (dk_at dksL_law_67 6 rfl rfl)
theorem dL_law_1802 : decode cL_law 1802 = .ok (.goto 4, 3) := dk_167 0 4 (dk_at dksL_law_67 7 rfl rfl)
theorem dL_law_1805 : decode cL_law 1805 = .ok (.iconst 0, 1) := dk_3 (dk_at dksL_law_67 10 rfl rfl)
theorem dL_law_1806 : decode cL_law 1806 = .ok (.invokevirtual 227, 3) := dk_182 0 227 (dk_at dksL_law_67 11 rfl rfl)
theorem dL_law_1809 : decode cL_law 1809 = .ok (.aload_n 2, 1) := dk_44 (dk_at dksL_law_67 14 rfl rfl)
theorem dL_law_1810 : decode cL_law 1810 = .ok (.aload_n 0, 1) := dk_42 (dk_at dksL_law_67 15 rfl rfl)
theorem dL_law_1811 : decode cL_law 1811 = .ok (.iload 4, 2) := dk_21 4 (dk_at dksL_law_67 16 rfl rfl)
theorem dL_law_1813 : decode cL_law 1813 = .ok (.iconst 1, 1) := dk_4 (dk_at dksL_law_67 18 rfl rfl)
theorem dL_law_1814 : decode cL_law 1814 = .ok (.iadd, 1) := dk_96 (dk_at dksL_law_67 19 rfl rfl)
theorem dL_law_1815 : decode cL_law 1815 = .ok (.iaload, 1) := dk_46 (dk_at dksL_law_67 20 rfl rfl)
theorem dL_law_1816 : decode cL_law 1816 = .ok (.aload_n 0, 1) := dk_42 (dk_at dksL_law_67 21 rfl rfl)
theorem dL_law_1817 : decode cL_law 1817 = .ok (.iload 4, 2) := dk_21 4 (dk_at dksL_law_67 22 rfl rfl)
theorem dL_law_1819 : decode cL_law 1819 = .ok (.iconst 2, 1) := dk_5 (dk_at dksL_law_68 0 rfl rfl)
theorem dL_law_1820 : decode cL_law 1820 = .ok (.iadd, 1) := dk_96 (dk_at dksL_law_68 1 rfl rfl)
theorem dL_law_1821 : decode cL_law 1821 = .ok (.iaload, 1) := dk_46 (dk_at dksL_law_68 2 rfl rfl)
theorem dL_law_1822 : decode cL_law 1822 = .ok (.ifCond .eq 7, 3) := dk_153 0 7 (dk_at dksL_law_68 3 rfl rfl)
theorem dL_law_1825 : decode cL_law 1825 = .ok (.iconst 1, 1) := dk_4 (dk_at dksL_law_68 6 rfl rfl)
theorem dL_law_1826 : decode cL_law 1826 = .ok (.goto 4, 3) := dk_167 0 4 (dk_at dksL_law_68 7 rfl rfl)
theorem dL_law_1829 : decode cL_law 1829 = .ok (.iconst 0, 1) := dk_3 (dk_at dksL_law_68 10 rfl rfl)
theorem dL_law_1830 : decode cL_law 1830 = .ok (.invokevirtual 231, 3) := dk_182 0 231 (dk_at dksL_law_68 11 rfl rfl)
theorem dL_law_1833 : decode cL_law 1833 = .ok (.if_icmp .eq 200, 3) := dk_159 0 200 (dk_at dksL_law_68 14 rfl rfl)
theorem dL_law_1836 : decode cL_law 1836 = .ok (.iconst 0, 1) := dk_3 (dk_at dksL_law_68 17 rfl rfl)
theorem dL_law_1837 : decode cL_law 1837 = .ok (.ireturn, 1) := dk_172 (dk_at dksL_law_68 18 rfl rfl)
theorem dL_law_1838 : decode cL_law 1838 = .ok (.aload_n 1, 1) := dk_43 (dk_at dksL_law_68 19 rfl rfl)
theorem dL_law_1839 : decode cL_law 1839 = .ok (.aload_n 0, 1) := dk_42 (dk_at dksL_law_68 20 rfl rfl)
theorem dL_law_1840 : decode cL_law 1840 = .ok (.iload 4, 2) := dk_21 4 (dk_at dksL_law_68 21 rfl rfl)
theorem dL_law_1842 : decode cL_law 1842 = .ok (.iconst 1, 1) := dk_4 (dk_at dksL_law_68 23 rfl rfl)
theorem dL_law_1843 : decode cL_law 1843 = .ok (.iadd, 1) := dk_96 (dk_at dksL_law_69 0 rfl rfl)
theorem dL_law_1844 : decode cL_law 1844 = .ok (.iaload, 1) := dk_46 (dk_at dksL_law_69 1 rfl rfl)
theorem dL_law_1845 : decode cL_law 1845 = .ok (.invokevirtual 232, 3) := dk_182 0 232 (dk_at dksL_law_69 2 rfl rfl)
theorem dL_law_1848 : decode cL_law 1848 = .ok (.aload_n 2, 1) := dk_44 (dk_at dksL_law_69 5 rfl rfl)
theorem dL_law_1849 : decode cL_law 1849 = .ok (.aload_n 0, 1) := dk_42 (dk_at dksL_law_69 6 rfl rfl)
theorem dL_law_1850 : decode cL_law 1850 = .ok (.iload 4, 2) := dk_21 4 (dk_at dksL_law_69 7 rfl rfl)
theorem dL_law_1852 : decode cL_law 1852 = .ok (.iconst 1, 1) := dk_4 (dk_at dksL_law_69 9 rfl rfl)
theorem dL_law_1853 : decode cL_law 1853 = .ok (.iadd, 1) := dk_96 (dk_at dksL_law_69 10 rfl rfl)
theorem dL_law_1854 : decode cL_law 1854 = .ok (.iaload, 1) := dk_46 (dk_at dksL_law_69 11 rfl rfl)
theorem dL_law_1855 : decode cL_law 1855 = .ok (.invokevirtual 235, 3) := dk_182 0 235 (dk_at dksL_law_69 12 rfl rfl)
theorem dL_law_1858 : decode cL_law 1858 = .ok (.if_icmp .eq 175, 3) := dk_159 0 175 (dk_at dksL_law_69 15 rfl rfl)
theorem dL_law_1861 : decode cL_law 1861 = .ok (.iconst 0, 1) := dk_3 (dk_at dksL_law_69 18 rfl rfl)
theorem dL_law_1862 : decode cL_law 1862 = .ok (.ireturn, 1) := dk_172 (dk_at dksL_law_69 19 rfl rfl)
theorem dL_law_1863 : decode cL_law 1863 = .ok (.aload_n 1, 1) := dk_43 (dk_at dksL_law_69 20 rfl rfl)
theorem dL_law_1864 : decode cL_law 1864 = .ok (.aload_n 0, 1) := dk_42 (dk_at dksL_law_69 21 rfl rfl)
theorem dL_law_1865 : decode cL_law 1865 = .ok (.iload 4, 2) := dk_21 4 (dk_at dksL_law_69 22 rfl rfl)
theorem dL_law_1867 : decode cL_law 1867 = .ok (.iconst 1, 1) := dk_4 (dk_at dksL_law_70 0 rfl rfl)
theorem dL_law_1868 : decode cL_law 1868 = .ok (.iadd, 1) := dk_96 (dk_at dksL_law_70 1 rfl rfl)
theorem dL_law_1869 : decode cL_law 1869 = .ok (.iaload, 1) := dk_46 (dk_at dksL_law_70 2 rfl rfl)
theorem dL_law_1870 : decode cL_law 1870 = .ok (.invokevirtual 236, 3) := dk_182 0 236 (dk_at dksL_law_70 3 rfl rfl)
theorem dL_law_1873 : decode cL_law 1873 = .ok (.aload_n 2, 1) := dk_44 (dk_at dksL_law_70 6 rfl rfl)
theorem dL_law_1874 : decode cL_law 1874 = .ok (.aload_n 0, 1) := dk_42 (dk_at dksL_law_70 7 rfl rfl)
theorem dL_law_1875 : decode cL_law 1875 = .ok (.iload 4, 2) := dk_21 4 (dk_at dksL_law_70 8 rfl rfl)
theorem dL_law_1877 : decode cL_law 1877 = .ok (.iconst 1, 1) := dk_4 (dk_at dksL_law_70 10 rfl rfl)
theorem dL_law_1878 : decode cL_law 1878 = .ok (.iadd, 1) := dk_96 (dk_at dksL_law_70 11 rfl rfl)
theorem dL_law_1879 : decode cL_law 1879 = .ok (.iaload, 1) := dk_46 (dk_at dksL_law_70 12 rfl rfl)
theorem dL_law_1880 : decode cL_law 1880 = .ok (.invokevirtual 239, 3) := dk_182 0 239 (dk_at dksL_law_70 13 rfl rfl)
theorem dL_law_1883 : decode cL_law 1883 = .ok (.if_icmp .eq 150, 3) := dk_159 0 150 (dk_at dksL_law_70 16 rfl rfl)
theorem dL_law_1886 : decode cL_law 1886 = .ok (.iconst 0, 1) := dk_3 (dk_at dksL_law_70 19 rfl rfl)
theorem dL_law_1887 : decode cL_law 1887 = .ok (.ireturn, 1) := dk_172 (dk_at dksL_law_70 20 rfl rfl)
theorem dL_law_1888 : decode cL_law 1888 = .ok (.aload_n 1, 1) := dk_43 (dk_at dksL_law_70 21 rfl rfl)
theorem dL_law_1889 : decode cL_law 1889 = .ok (.invokevirtual 240, 3) := dk_182 0 240 (dk_at dksL_law_71 0 rfl rfl)
theorem dL_law_1892 : decode cL_law 1892 = .ok (.aload_n 2, 1) := dk_44 (dk_at dksL_law_71 3 rfl rfl)
theorem dL_law_1893 : decode cL_law 1893 = .ok (.invokevirtual 244, 3) := dk_182 0 244 (dk_at dksL_law_71 4 rfl rfl)
theorem dL_law_1896 : decode cL_law 1896 = .ok (.if_icmp .eq 137, 3) := dk_159 0 137 (dk_at dksL_law_71 7 rfl rfl)
theorem dL_law_1899 : decode cL_law 1899 = .ok (.iconst 0, 1) := dk_3 (dk_at dksL_law_71 10 rfl rfl)
theorem dL_law_1900 : decode cL_law 1900 = .ok (.ireturn, 1) := dk_172 (dk_at dksL_law_71 11 rfl rfl)
theorem dL_law_1901 : decode cL_law 1901 = .ok (.aload_n 1, 1) := dk_43 (dk_at dksL_law_71 12 rfl rfl)
theorem dL_law_1902 : decode cL_law 1902 = .ok (.invokevirtual 245, 3) := dk_182 0 245 (dk_at dksL_law_71 13 rfl rfl)
theorem dL_law_1905 : decode cL_law 1905 = .ok (.aload_n 2, 1) := dk_44 (dk_at dksL_law_71 16 rfl rfl)
theorem dL_law_1906 : decode cL_law 1906 = .ok (.invokevirtual 248, 3) := dk_182 0 248 (dk_at dksL_law_71 17 rfl rfl)
theorem dL_law_1909 : decode cL_law 1909 = .ok (.if_icmp .eq 124, 3) := dk_159 0 124 (dk_at dksL_law_71 20 rfl rfl)
theorem dL_law_1912 : decode cL_law 1912 = .ok (.iconst 0, 1) := dk_3 (dk_at dksL_law_71 23 rfl rfl)
theorem dL_law_1913 : decode cL_law 1913 = .ok (.ireturn, 1) := dk_172 (dk_at dksL_law_72 0 rfl rfl)
theorem dL_law_1914 : decode cL_law 1914 = .ok (.aload_n 1, 1) := dk_43 (dk_at dksL_law_72 1 rfl rfl)
theorem dL_law_1915 : decode cL_law 1915 = .ok (.aload_n 0, 1) := dk_42 (dk_at dksL_law_72 2 rfl rfl)
theorem dL_law_1916 : decode cL_law 1916 = .ok (.iload 4, 2) := dk_21 4 (dk_at dksL_law_72 3 rfl rfl)
theorem dL_law_1918 : decode cL_law 1918 = .ok (.iconst 1, 1) := dk_4 (dk_at dksL_law_72 5 rfl rfl)
theorem dL_law_1919 : decode cL_law 1919 = .ok (.iadd, 1) := dk_96 (dk_at dksL_law_72 6 rfl rfl)
theorem dL_law_1920 : decode cL_law 1920 = .ok (.iaload, 1) := dk_46 (dk_at dksL_law_72 7 rfl rfl)
theorem dL_law_1921 : decode cL_law 1921 = .ok (.invokevirtual 249, 3) := dk_182 0 249 (dk_at dksL_law_72 8 rfl rfl)
theorem dL_law_1924 : decode cL_law 1924 = .ok (.aload_n 2, 1) := dk_44 (dk_at dksL_law_72 11 rfl rfl)
theorem dL_law_1925 : decode cL_law 1925 = .ok (.aload_n 0, 1) := dk_42 (dk_at dksL_law_72 12 rfl rfl)
theorem dL_law_1926 : decode cL_law 1926 = .ok (.iload 4, 2) := dk_21 4 (dk_at dksL_law_72 13 rfl rfl)
theorem dL_law_1928 : decode cL_law 1928 = .ok (.iconst 1, 1) := dk_4 (dk_at dksL_law_72 15 rfl rfl)
theorem dL_law_1929 : decode cL_law 1929 = .ok (.iadd, 1) := dk_96 (dk_at dksL_law_72 16 rfl rfl)
theorem dL_law_1930 : decode cL_law 1930 = .ok (.iaload, 1) := dk_46 (dk_at dksL_law_72 17 rfl rfl)
theorem dL_law_1931 : decode cL_law 1931 = .ok (.invokevirtual 252, 3) := dk_182 0 252 (dk_at dksL_law_72 18 rfl rfl)
theorem dL_law_1934 : decode cL_law 1934 = .ok (.if_icmp .eq 99, 3) := dk_159 0 99 (dk_at dksL_law_72 21 rfl rfl)
theorem dL_law_1937 : decode cL_law 1937 = .ok (.iconst 0, 1) := dk_3 (dk_at dksL_law_73 0 rfl rfl)
theorem dL_law_1938 : decode cL_law 1938 = .ok (.ireturn, 1) := dk_172 (dk_at dksL_law_73 1 rfl rfl)
theorem dL_law_1939 : decode cL_law 1939 = .ok (.aload_n 1, 1) := dk_43 (dk_at dksL_law_73 2 rfl rfl)
theorem dL_law_1940 : decode cL_law 1940 = .ok (.aload_n 0, 1) := dk_42 (dk_at dksL_law_73 3 rfl rfl)
theorem dL_law_1941 : decode cL_law 1941 = .ok (.iload 4, 2) := dk_21 4 (dk_at dksL_law_73 4 rfl rfl)
theorem dL_law_1943 : decode cL_law 1943 = .ok (.iconst 1, 1) := dk_4 (dk_at dksL_law_73 6 rfl rfl)
theorem dL_law_1944 : decode cL_law 1944 = .ok (.iadd, 1) := dk_96 (dk_at dksL_law_73 7 rfl rfl)
theorem dL_law_1945 : decode cL_law 1945 = .ok (.iaload, 1) := dk_46 (dk_at dksL_law_73 8 rfl rfl)
theorem dL_law_1946 : decode cL_law 1946 = .ok (.aload_n 3, 1) := dk_45 (dk_at dksL_law_73 9 rfl rfl)
theorem dL_law_1947 : decode cL_law 1947 = .ok (.invokestatic 253, 3) := dk_184 0 253 (dk_at dksL_law_73 10 rfl rfl)
theorem dL_law_1950 : decode cL_law 1950 = .ok (.istore 5, 2) := dk_54 5 (dk_at dksL_law_73 13 rfl rfl)
theorem dL_law_1952 : decode cL_law 1952 = .ok (.aload_n 2, 1) := dk_44 (dk_at dksL_law_73 15 rfl rfl)
theorem dL_law_1953 : decode cL_law 1953 = .ok (.aload_n 0, 1) := dk_42 (dk_at dksL_law_73 16 rfl rfl)
theorem dL_law_1954 : decode cL_law 1954 = .ok (.iload 4, 2) := dk_21 4 (dk_at dksL_law_73 17 rfl rfl)
theorem dL_law_1956 : decode cL_law 1956 = .ok (.iconst 1, 1) := dk_4 (dk_at dksL_law_73 19 rfl rfl)
theorem dL_law_1957 : decode cL_law 1957 = .ok (.iadd, 1) := dk_96 (dk_at dksL_law_73 20 rfl rfl)
theorem dL_law_1958 : decode cL_law 1958 = .ok (.iaload, 1) := dk_46 (dk_at dksL_law_73 21 rfl rfl)
theorem dL_law_1959 : decode cL_law 1959 = .ok (.invokevirtual 258, 3) := dk_182 1 2 (dk_at dksL_law_74 0 rfl rfl)
theorem dL_law_1962 : decode cL_law 1962 = .ok (.istore 6, 2) := dk_54 6 (dk_at dksL_law_74 3 rfl rfl)
theorem dL_law_1964 : decode cL_law 1964 = .ok (.aload_n 2, 1) := dk_44 (dk_at dksL_law_74 5 rfl rfl)
theorem dL_law_1965 : decode cL_law 1965 = .ok (.invokevirtual 259, 3) := dk_182 1 3 (dk_at dksL_law_74 6 rfl rfl)
theorem dL_law_1968 : decode cL_law 1968 = .ok (.iload 5, 2) := dk_21 5 (dk_at dksL_law_74 9 rfl rfl)
theorem dL_law_1970 : decode cL_law 1970 = .ok (.if_icmp .eq 5, 3) := dk_159 0 5 (dk_at dksL_law_74 11 rfl rfl)
theorem dL_law_1973 : decode cL_law 1973 = .ok (.iconst 0, 1) := dk_3 (dk_at dksL_law_74 14 rfl rfl)
theorem dL_law_1974 : decode cL_law 1974 = .ok (.ireturn, 1) := dk_172 (dk_at dksL_law_74 15 rfl rfl)
theorem dL_law_1975 : decode cL_law 1975 = .ok (.iload 5, 2) := dk_21 5 (dk_at dksL_law_74 16 rfl rfl)
theorem dL_law_1977 : decode cL_law 1977 = .ok (.ifCond .ne 15, 3) := dk_154 0 15 (dk_at dksL_law_74 18 rfl rfl)
theorem dL_law_1980 : decode cL_law 1980 = .ok (.aload_n 3, 1) := dk_45 (dk_at dksL_law_74 21 rfl rfl)
theorem dL_law_1981 : decode cL_law 1981 = .ok (.iconst 0, 1) := dk_3 (dk_at dksL_law_74 22 rfl rfl)
theorem dL_law_1982 : decode cL_law 1982 = .ok (.laload, 1) := dk_47 (dk_at dksL_law_74 23 rfl rfl)
theorem dL_law_1983 : decode cL_law 1983 = .ok (.iload 6, 2) := dk_21 6 (dk_at dksL_law_75 0 rfl rfl)
theorem dL_law_1985 : decode cL_law 1985 = .ok (.i2l, 1) := dk_133 (dk_at dksL_law_75 2 rfl rfl)
theorem dL_law_1986 : decode cL_law 1986 = .ok (.lcmp, 1) := dk_148 (dk_at dksL_law_75 3 rfl rfl)
theorem dL_law_1987 : decode cL_law 1987 = .ok (.ifCond .eq 5, 3) := dk_153 0 5 (dk_at dksL_law_75 4 rfl rfl)
theorem dL_law_1990 : decode cL_law 1990 = .ok (.iconst 0, 1) := dk_3 (dk_at dksL_law_75 7 rfl rfl)
theorem dL_law_1991 : decode cL_law 1991 = .ok (.ireturn, 1) := dk_172 (dk_at dksL_law_75 8 rfl rfl)
theorem dL_law_1992 : decode cL_law 1992 = .ok (.goto 41, 3) := dk_167 0 41 (dk_at dksL_law_75 9 rfl rfl)
theorem dL_law_1995 : decode cL_law 1995 = .ok (.aload_n 1, 1) := dk_43 (dk_at dksL_law_75 12 rfl rfl)
theorem dL_law_1996 : decode cL_law 1996 = .ok (.aload_n 0, 1) := dk_42 (dk_at dksL_law_75 13 rfl rfl)
theorem dL_law_1997 : decode cL_law 1997 = .ok (.iload 4, 2) := dk_21 4 (dk_at dksL_law_75 14 rfl rfl)
theorem dL_law_1999 : decode cL_law 1999 = .ok (.iconst 1, 1) := dk_4 (dk_at dksL_law_75 16 rfl rfl)
theorem dL_law_2000 : decode cL_law 2000 = .ok (.iadd, 1) := dk_96 (dk_at dksL_law_75 17 rfl rfl)
theorem dL_law_2001 : decode cL_law 2001 = .ok (.iaload, 1) := dk_46 (dk_at dksL_law_75 18 rfl rfl)
theorem dL_law_2002 : decode cL_law 2002 = .ok (.invokevirtual 262, 3) := dk_182 1 6 (dk_at dksL_law_75 19 rfl rfl)
theorem dL_law_2005 : decode cL_law 2005 = .ok (.aload_n 2, 1) := dk_44 (dk_at dksL_law_75 22 rfl rfl)
theorem dL_law_2006 : decode cL_law 2006 = .ok (.aload_n 0, 1) := dk_42 (dk_at dksL_law_75 23 rfl rfl)
theorem dL_law_2007 : decode cL_law 2007 = .ok (.iload 4, 2) := dk_21 4 (dk_at dksL_law_76 0 rfl rfl)
theorem dL_law_2009 : decode cL_law 2009 = .ok (.iconst 1, 1) := dk_4 (dk_at dksL_law_76 2 rfl rfl)
theorem dL_law_2010 : decode cL_law 2010 = .ok (.iadd, 1) := dk_96 (dk_at dksL_law_76 3 rfl rfl)
theorem dL_law_2011 : decode cL_law 2011 = .ok (.iaload, 1) := dk_46 (dk_at dksL_law_76 4 rfl rfl)
theorem dL_law_2012 : decode cL_law 2012 = .ok (.invokevirtual 265, 3) := dk_182 1 9 (dk_at dksL_law_76 5 rfl rfl)
theorem dL_law_2015 : decode cL_law 2015 = .ok (.if_icmp .eq 18, 3) := dk_159 0 18 (dk_at dksL_law_76 8 rfl rfl)
theorem dL_law_2018 : decode cL_law 2018 = .ok (.iconst 0, 1) := dk_3 (dk_at dksL_law_76 11 rfl rfl)
theorem dL_law_2019 : decode cL_law 2019 = .ok (.ireturn, 1) := dk_172 (dk_at dksL_law_76 12 rfl rfl)
theorem dL_law_2020 : decode cL_law 2020 = .ok (.aload_n 1, 1) := dk_43 (dk_at dksL_law_76 13 rfl rfl)
theorem dL_law_2021 : decode cL_law 2021 = .ok (.invokevirtual 266, 3) := dk_182 1 10 (dk_at dksL_law_76 14 rfl rfl)
theorem dL_law_2024 : decode cL_law 2024 = .ok (.aload_n 2, 1) := dk_44 (dk_at dksL_law_76 17 rfl rfl)
theorem dL_law_2025 : decode cL_law 2025 = .ok (.invokevirtual 269, 3) := dk_182 1 13 (dk_at dksL_law_76 18 rfl rfl)
theorem dL_law_2028 : decode cL_law 2028 = .ok (.if_icmp .eq 5, 3) := dk_159 0 5 (dk_at dksL_law_76 21 rfl rfl)
theorem dL_law_2031 : decode cL_law 2031 = .ok (.iconst 0, 1) := dk_3 (dk_at dksL_law_77 0 rfl rfl)
theorem dL_law_2032 : decode cL_law 2032 = .ok (.ireturn, 1) := dk_172 (dk_at dksL_law_77 1 rfl rfl)
theorem dL_law_2033 : decode cL_law 2033 = .ok (.iinc 4 6, 3) := dk_132 4 6 (dk_at dksL_law_77 2 rfl rfl)
theorem dL_law_2036 : decode cL_law 2036 = .ok (.goto (-2013), 3) := dk_167 248 35 (dk_at dksL_law_77 5 rfl rfl)
theorem dL_law_2039 : decode cL_law 2039 = .ok (.iconst 1, 1) := dk_4 (dk_at dksL_law_77 8 rfl rfl)
theorem dL_law_2040 : decode cL_law 2040 = .ok (.ireturn, 1) := dk_172 (dk_at dksL_law_77 9 rfl rfl)
