/-! RoofRegatta -/
set_option maxRecDepth 100000
def RX1 : String := "RoofRegatta"
def TX1 : u_T := fun k => match k with
  | 0 => ("RoofRegatta", "tape", "[B", true)
  | 1 => ("RoofRegatta", "taped", "I", false)
  | 2 => ("RoofRegatta", "fault", "I", false)
  | 3 => ("RoofRegatta", "where", "I", false)
  | 4 => ("RoofRegatta", "trouble", "I", false)
  | 5 => ("RoofRegatta", "regatta", "LRoofRegatta$Regatta;", false)
  | 6 => ("RoofRegatta", "river", "LRoofRegatta$River;", false)
  | 7 => ("RoofRegatta", "tried", "LRoofRegatta$River;", false)
  | 8 => ("RoofRegatta", "past", "Ljava/util/ArrayList;", true)
  | 9 => ("RoofRegatta", "images", "Ljava/util/ArrayList;", true)
  | 10 => ("RoofRegatta", "bestLoad", "[I", true)
  | 11 => ("RoofRegatta", "bestOf", "I", false)
  | 12 => ("RoofRegatta", "bestMoves", "I", false)
  | 13 => ("RoofRegatta", "firesNow", "I", false)
  | 14 => ("RoofRegatta", "someLit", "I", false)
  | 15 => ("RoofRegatta", "allLit", "I", false)
  | 16 => ("RoofRegatta", "litIn", "[I", true)
  | 17 => ("RoofRegatta", "askLeft", "I", false)
  | _ => ("RoofRegatta", "seedThen", "I", false)
def tyX1 : Nat → FieldType := fun k => match k with
  | 0 => .array .byte
  | 1 => .int
  | 2 => .int
  | 3 => .int
  | 4 => .int
  | 5 => .object "RoofRegatta$Regatta"
  | 6 => .object "RoofRegatta$River"
  | 7 => .object "RoofRegatta$River"
  | 8 => .object "java/util/ArrayList"
  | 9 => .object "java/util/ArrayList"
  | 10 => .array .int
  | 11 => .int
  | 12 => .int
  | 13 => .int
  | 14 => .int
  | 15 => .int
  | 16 => .array .int
  | 17 => .int
  | _ => .int
abbrev wsX10 : List Cond := u_ws RX1 TX1 19
set_option maxRecDepth 100000 in
theorem nmX1 : ∀ a, a < 19 → ∀ b, b < 19 → a ≠ b → (TX1 a).2.1 ≠ (TX1 b).2.1 := by decide +kernel
set_option maxRecDepth 100000 in
theorem tyX1_ok : ∀ k, k < 19 → parseFieldDescriptor (TX1 k).2.2.1 = some (tyX1 k) := by decide +kernel
abbrev cX1_init : ByteArray := prog_1_method_1_code
def yX1_init : MethodName := ⟨RX1, "<init>", "()V"⟩
def dkwX1_init_2 : List UInt8 := [42, 7, 188, 10, 181, 0, 31, 177]
abbrev dktX1_init_2 : List UInt8 := dkwX1_init_2 ++ []
def dkwX1_init_1 : List UInt8 := [183, 0, 19, 181, 0, 20, 42, 187, 0, 17, 89, 183, 0, 19, 181, 0, 24, 42, 8, 188, 10, 181, 0, 27]
abbrev dktX1_init_1 : List UInt8 := dkwX1_init_1 ++ dktX1_init_2
def dkwX1_init_0 : List UInt8 := [42, 183, 0, 1, 42, 17, 3, 132, 188, 8, 181, 0, 9, 42, 2, 181, 0, 13, 42, 187, 0, 17, 89]
abbrev dktX1_init_0 : List UInt8 := dkwX1_init_0 ++ dktX1_init_1
theorem dksX1_init_0 : cX1_init.data.toList.drop 0 = dktX1_init_0 := by decide +kernel
theorem dksX1_init_1 : cX1_init.data.toList.drop 23 = dktX1_init_1 := dk_seg dksX1_init_0 23 rfl rfl
theorem dksX1_init_2 : cX1_init.data.toList.drop 47 = dktX1_init_2 := dk_seg dksX1_init_1 24 rfl rfl
theorem dX1_init_0 : decode cX1_init 0 = .ok (.aload_n 0, 1) := dk_42 (dk_at dksX1_init_0 0 rfl rfl)
theorem dX1_init_1 : decode cX1_init 1 = .ok (.invokespecial 1, 3) := dk_183 0 1 (dk_at dksX1_init_0 1 rfl rfl)
theorem dX1_init_4 : decode cX1_init 4 = .ok (.aload_n 0, 1) := dk_42 (dk_at dksX1_init_0 4 rfl rfl)
theorem dX1_init_5 : decode cX1_init 5 = .ok (.sipush 900, 3) := dk_17 3 132 (dk_at dksX1_init_0 5 rfl rfl)
theorem dX1_init_8 : decode cX1_init 8 = .ok (.newarray .byte, 2) := dk_188_8 (dk_at dksX1_init_0 8 rfl rfl)
theorem dX1_init_10 : decode cX1_init 10 = .ok (.putfield 9, 3) := dk_181 0 9 (dk_at dksX1_init_0 10 rfl rfl)
theorem dX1_init_13 : decode cX1_init 13 = .ok (.aload_n 0, 1) := dk_42 (dk_at dksX1_init_0 13 rfl rfl)
theorem dX1_init_14 : decode cX1_init 14 = .ok (.iconst (-1), 1) := dk_2 (dk_at dksX1_init_0 14 rfl rfl)
theorem dX1_init_15 : decode cX1_init 15 = .ok (.putfield 13, 3) := dk_181 0 13 (dk_at dksX1_init_0 15 rfl rfl)
theorem dX1_init_18 : decode cX1_init 18 = .ok (.aload_n 0, 1) := dk_42 (dk_at dksX1_init_0 18 rfl rfl)
theorem dX1_init_19 : decode cX1_init 19 = .ok (.new 17, 3) := dk_187 0 17 (dk_at dksX1_init_0 19 rfl rfl)
theorem dX1_init_22 : decode cX1_init 22 = .ok (.dup, 1) := dk_89 (dk_at dksX1_init_0 22 rfl rfl)
theorem dX1_init_23 : decode cX1_init 23 = .ok (.invokespecial 19, 3) := dk_183 0 19 (dk_at dksX1_init_1 0 rfl rfl)
theorem dX1_init_26 : decode cX1_init 26 = .ok (.putfield 20, 3) := dk_181 0 20 (dk_at dksX1_init_1 3 rfl rfl)
theorem dX1_init_29 : decode cX1_init 29 = .ok (.aload_n 0, 1) := dk_42 (dk_at dksX1_init_1 6 rfl rfl)
theorem dX1_init_30 : decode cX1_init 30 = .ok (.new 17, 3) := dk_187 0 17 (dk_at dksX1_init_1 7 rfl rfl)
theorem dX1_init_33 : decode cX1_init 33 = .ok (.dup, 1) := dk_89 (dk_at dksX1_init_1 10 rfl rfl)
theorem dX1_init_34 : decode cX1_init 34 = .ok (.invokespecial 19, 3) := dk_183 0 19 (dk_at dksX1_init_1 11 rfl rfl)
theorem dX1_init_37 : decode cX1_init 37 = .ok (.putfield 24, 3) := dk_181 0 24 (dk_at dksX1_init_1 14 rfl rfl)
theorem dX1_init_40 : decode cX1_init 40 = .ok (.aload_n 0, 1) := dk_42 (dk_at dksX1_init_1 17 rfl rfl)
theorem dX1_init_41 : decode cX1_init 41 = .ok (.iconst 5, 1) := dk_8 (dk_at dksX1_init_1 18 rfl rfl)
theorem dX1_init_42 : decode cX1_init 42 = .ok (.newarray .int, 2) := dk_188_10 (dk_at dksX1_init_1 19 rfl rfl)
theorem dX1_init_44 : decode cX1_init 44 = .ok (.putfield 27, 3) := dk_181 0 27 (dk_at dksX1_init_1 21 rfl rfl)
theorem dX1_init_47 : decode cX1_init 47 = .ok (.aload_n 0, 1) := dk_42 (dk_at dksX1_init_2 0 rfl rfl)
theorem dX1_init_48 : decode cX1_init 48 = .ok (.iconst 4, 1) := dk_7 (dk_at dksX1_init_2 1 rfl rfl)
theorem dX1_init_49 : decode cX1_init 49 = .ok (.newarray .int, 2) := dk_188_10 (dk_at dksX1_init_2 2 rfl rfl)
theorem dX1_init_51 : decode cX1_init 51 = .ok (.putfield 31, 3) := dk_181 0 31 (dk_at dksX1_init_2 4 rfl rfl)
theorem dX1_init_54 : decode cX1_init 54 = .ok (.return_, 1) := dk_177 (dk_at dksX1_init_2 7 rfl rfl)
abbrev cX1_feed : ByteArray := prog_1_method_13_code
def yX1_feed : MethodName := ⟨RX1, "feed", "(IIIII)I"⟩
def dkwX1_feed_5 : List UInt8 := [180, 0, 54, 172]
abbrev dktX1_feed_5 : List UInt8 := dkwX1_feed_5 ++ []
def dkwX1_feed_4 : List UInt8 := [112, 104, 100, 124, 145, 84, 132, 6, 1, 167, 255, 172, 42, 89, 180, 0, 54, 16, 20, 96, 181, 0, 54, 42]
abbrev dktX1_feed_4 : List UInt8 := dkwX1_feed_4 ++ dktX1_feed_5
def dkwX1_feed_3 : List UInt8 := [21, 5, 54, 7, 42, 180, 0, 9, 42, 180, 0, 54, 21, 6, 96, 21, 7, 16, 24, 16, 8, 21, 6, 7]
abbrev dktX1_feed_3 : List UInt8 := dkwX1_feed_3 ++ dktX1_feed_4
def dkwX1_feed_2 : List UInt8 := [21, 6, 16, 12, 162, 0, 7, 29, 167, 0, 17, 21, 6, 16, 16, 162, 0, 8, 21, 4, 167, 0, 5]
abbrev dktX1_feed_2 : List UInt8 := dkwX1_feed_2 ++ dktX1_feed_3
def dkwX1_feed_1 : List UInt8 := [162, 0, 83, 21, 6, 7, 162, 0, 7, 27, 167, 0, 39, 21, 6, 16, 8, 162, 0, 7, 28, 167, 0, 28]
abbrev dktX1_feed_1 : List UInt8 := dkwX1_feed_1 ++ dktX1_feed_2
def dkwX1_feed_0 : List UInt8 := [42, 180, 0, 54, 16, 20, 96, 17, 3, 132, 164, 0, 5, 2, 172, 3, 54, 6, 21, 6, 16, 20]
abbrev dktX1_feed_0 : List UInt8 := dkwX1_feed_0 ++ dktX1_feed_1
theorem dksX1_feed_0 : cX1_feed.data.toList.drop 0 = dktX1_feed_0 := by decide +kernel
theorem dksX1_feed_1 : cX1_feed.data.toList.drop 22 = dktX1_feed_1 := dk_seg dksX1_feed_0 22 rfl rfl
theorem dksX1_feed_2 : cX1_feed.data.toList.drop 46 = dktX1_feed_2 := dk_seg dksX1_feed_1 24 rfl rfl
theorem dksX1_feed_3 : cX1_feed.data.toList.drop 69 = dktX1_feed_3 := dk_seg dksX1_feed_2 23 rfl rfl
theorem dksX1_feed_4 : cX1_feed.data.toList.drop 93 = dktX1_feed_4 := dk_seg dksX1_feed_3 24 rfl rfl
theorem dksX1_feed_5 : cX1_feed.data.toList.drop 117 = dktX1_feed_5 := dk_seg dksX1_feed_4 24 rfl rfl
theorem dX1_feed_0 : decode cX1_feed 0 = .ok (.aload_n 0, 1) := dk_42 (dk_at dksX1_feed_0 0 rfl rfl)
theorem dX1_feed_1 : decode cX1_feed 1 = .ok (.getfield 54, 3) := dk_180 0 54 (dk_at dksX1_feed_0 1 rfl rfl)
theorem dX1_feed_4 : decode cX1_feed 4 = .ok (.bipush 20, 2) := dk_16 20 (dk_at dksX1_feed_0 4 rfl rfl)
theorem dX1_feed_6 : decode cX1_feed 6 = .ok (.iadd, 1) := dk_96 (dk_at dksX1_feed_0 6 rfl rfl)
theorem dX1_feed_7 : decode cX1_feed 7 = .ok (.sipush 900, 3) := dk_17 3 132 (dk_at dksX1_feed_0 7 rfl rfl)
theorem dX1_feed_10 : decode cX1_feed 10 = .ok (.if_icmp .le 5, 3) := dk_164 0 5 (dk_at dksX1_feed_0 10 rfl rfl)
theorem dX1_feed_13 : decode cX1_feed 13 = .ok (.iconst (-1), 1) := dk_2 (dk_at dksX1_feed_0 13 rfl rfl)
theorem dX1_feed_14 : decode cX1_feed 14 = .ok (.ireturn, 1) := dk_172 (dk_at dksX1_feed_0 14 rfl rfl)
theorem dX1_feed_15 : decode cX1_feed 15 = .ok (.iconst 0, 1) := dk_3 (dk_at dksX1_feed_0 15 rfl rfl)
theorem dX1_feed_16 : decode cX1_feed 16 = .ok (.istore 6, 2) := dk_54 6 (dk_at dksX1_feed_0 16 rfl rfl)
theorem dX1_feed_18 : decode cX1_feed 18 = .ok (.iload 6, 2) := dk_21 6 (dk_at dksX1_feed_0 18 rfl rfl)
theorem dX1_feed_20 : decode cX1_feed 20 = .ok (.bipush 20, 2) := dk_16 20 (dk_at dksX1_feed_0 20 rfl rfl)
theorem dX1_feed_22 : decode cX1_feed 22 = .ok (.if_icmp .ge 83, 3) := dk_162 0 83 (dk_at dksX1_feed_1 0 rfl rfl)
theorem dX1_feed_25 : decode cX1_feed 25 = .ok (.iload 6, 2) := dk_21 6 (dk_at dksX1_feed_1 3 rfl rfl)
theorem dX1_feed_27 : decode cX1_feed 27 = .ok (.iconst 4, 1) := dk_7 (dk_at dksX1_feed_1 5 rfl rfl)
theorem dX1_feed_28 : decode cX1_feed 28 = .ok (.if_icmp .ge 7, 3) := dk_162 0 7 (dk_at dksX1_feed_1 6 rfl rfl)
theorem dX1_feed_31 : decode cX1_feed 31 = .ok (.iload_n 1, 1) := dk_27 (dk_at dksX1_feed_1 9 rfl rfl)
theorem dX1_feed_32 : decode cX1_feed 32 = .ok (.goto 39, 3) := dk_167 0 39 (dk_at dksX1_feed_1 10 rfl rfl)
theorem dX1_feed_35 : decode cX1_feed 35 = .ok (.iload 6, 2) := dk_21 6 (dk_at dksX1_feed_1 13 rfl rfl)
theorem dX1_feed_37 : decode cX1_feed 37 = .ok (.bipush 8, 2) := dk_16 8 (dk_at dksX1_feed_1 15 rfl rfl)
theorem dX1_feed_39 : decode cX1_feed 39 = .ok (.if_icmp .ge 7, 3) := dk_162 0 7 (dk_at dksX1_feed_1 17 rfl rfl)
theorem dX1_feed_42 : decode cX1_feed 42 = .ok (.iload_n 2, 1) := dk_28 (dk_at dksX1_feed_1 20 rfl rfl)
theorem dX1_feed_43 : decode cX1_feed 43 = .ok (.goto 28, 3) := dk_167 0 28 (dk_at dksX1_feed_1 21 rfl rfl)
theorem dX1_feed_46 : decode cX1_feed 46 = .ok (.iload 6, 2) := dk_21 6 (dk_at dksX1_feed_2 0 rfl rfl)
theorem dX1_feed_48 : decode cX1_feed 48 = .ok (.bipush 12, 2) := dk_16 12 (dk_at dksX1_feed_2 2 rfl rfl)
theorem dX1_feed_50 : decode cX1_feed 50 = .ok (.if_icmp .ge 7, 3) := dk_162 0 7 (dk_at dksX1_feed_2 4 rfl rfl)
theorem dX1_feed_53 : decode cX1_feed 53 = .ok (.iload_n 3, 1) := dk_29 (dk_at dksX1_feed_2 7 rfl rfl)
theorem dX1_feed_54 : decode cX1_feed 54 = .ok (.goto 17, 3) := dk_167 0 17 (dk_at dksX1_feed_2 8 rfl rfl)
theorem dX1_feed_57 : decode cX1_feed 57 = .ok (.iload 6, 2) := dk_21 6 (dk_at dksX1_feed_2 11 rfl rfl)
theorem dX1_feed_59 : decode cX1_feed 59 = .ok (.bipush 16, 2) := dk_16 16 (dk_at dksX1_feed_2 13 rfl rfl)
theorem dX1_feed_61 : decode cX1_feed 61 = .ok (.if_icmp .ge 8, 3) := dk_162 0 8 (dk_at dksX1_feed_2 15 rfl rfl)
theorem dX1_feed_64 : decode cX1_feed 64 = .ok (.iload 4, 2) := dk_21 4 (dk_at dksX1_feed_2 18 rfl rfl)
theorem dX1_feed_66 : decode cX1_feed 66 = .ok (.goto 5, 3) := dk_167 0 5 (dk_at dksX1_feed_2 20 rfl rfl)
theorem dX1_feed_69 : decode cX1_feed 69 = .ok (.iload 5, 2) := dk_21 5 (dk_at dksX1_feed_3 0 rfl rfl)
theorem dX1_feed_71 : decode cX1_feed 71 = .ok (.istore 7, 2) := dk_54 7 (dk_at dksX1_feed_3 2 rfl rfl)
theorem dX1_feed_73 : decode cX1_feed 73 = .ok (.aload_n 0, 1) := dk_42 (dk_at dksX1_feed_3 4 rfl rfl)
theorem dX1_feed_74 : decode cX1_feed 74 = .ok (.getfield 9, 3) := dk_180 0 9 (dk_at dksX1_feed_3 5 rfl rfl)
theorem dX1_feed_77 : decode cX1_feed 77 = .ok (.aload_n 0, 1) := dk_42 (dk_at dksX1_feed_3 8 rfl rfl)
theorem dX1_feed_78 : decode cX1_feed 78 = .ok (.getfield 54, 3) := dk_180 0 54 (dk_at dksX1_feed_3 9 rfl rfl)
theorem dX1_feed_81 : decode cX1_feed 81 = .ok (.iload 6, 2) := dk_21 6 (dk_at dksX1_feed_3 12 rfl rfl)
theorem dX1_feed_83 : decode cX1_feed 83 = .ok (.iadd, 1) := dk_96 (dk_at dksX1_feed_3 14 rfl rfl)
theorem dX1_feed_84 : decode cX1_feed 84 = .ok (.iload 7, 2) := dk_21 7 (dk_at dksX1_feed_3 15 rfl rfl)
theorem dX1_feed_86 : decode cX1_feed 86 = .ok (.bipush 24, 2) := dk_16 24 (dk_at dksX1_feed_3 17 rfl rfl)
theorem dX1_feed_88 : decode cX1_feed 88 = .ok (.bipush 8, 2) := dk_16 8 (dk_at dksX1_feed_3 19 rfl rfl)
theorem dX1_feed_90 : decode cX1_feed 90 = .ok (.iload 6, 2) := dk_21 6 (dk_at dksX1_feed_3 21 rfl rfl)
theorem dX1_feed_92 : decode cX1_feed 92 = .ok (.iconst 4, 1) := dk_7 (dk_at dksX1_feed_3 23 rfl rfl)
theorem dX1_feed_93 : decode cX1_feed 93 = .ok (.irem, 1) := dk_112 (dk_at dksX1_feed_4 0 rfl rfl)
theorem dX1_feed_94 : decode cX1_feed 94 = .ok (.imul, 1) := dk_104 (dk_at dksX1_feed_4 1 rfl rfl)
theorem dX1_feed_95 : decode cX1_feed 95 = .ok (.isub, 1) := dk_100 (dk_at dksX1_feed_4 2 rfl rfl)
theorem dX1_feed_96 : decode cX1_feed 96 = .ok (.iushr, 1) := dk_124 (dk_at dksX1_feed_4 3 rfl rfl)
theorem dX1_feed_97 : decode cX1_feed 97 = .ok (.i2b, 1) := dk_145 (dk_at dksX1_feed_4 4 rfl rfl)
theorem dX1_feed_98 : decode cX1_feed 98 = .ok (.bastore, 1) := dk_84 (dk_at dksX1_feed_4 5 rfl rfl)
theorem dX1_feed_99 : decode cX1_feed 99 = .ok (.iinc 6 1, 3) := dk_132 6 1 (dk_at dksX1_feed_4 6 rfl rfl)
theorem dX1_feed_102 : decode cX1_feed 102 = .ok (.goto (-84), 3) := dk_167 255 172 (dk_at dksX1_feed_4 9 rfl rfl)
theorem dX1_feed_105 : decode cX1_feed 105 = .ok (.aload_n 0, 1) := dk_42 (dk_at dksX1_feed_4 12 rfl rfl)
theorem dX1_feed_106 : decode cX1_feed 106 = .ok (.dup, 1) := dk_89 (dk_at dksX1_feed_4 13 rfl rfl)
theorem dX1_feed_107 : decode cX1_feed 107 = .ok (.getfield 54, 3) := dk_180 0 54 (dk_at dksX1_feed_4 14 rfl rfl)
theorem dX1_feed_110 : decode cX1_feed 110 = .ok (.bipush 20, 2) := dk_16 20 (dk_at dksX1_feed_4 17 rfl rfl)
theorem dX1_feed_112 : decode cX1_feed 112 = .ok (.iadd, 1) := dk_96 (dk_at dksX1_feed_4 19 rfl rfl)
theorem dX1_feed_113 : decode cX1_feed 113 = .ok (.putfield 54, 3) := dk_181 0 54 (dk_at dksX1_feed_4 20 rfl rfl)
theorem dX1_feed_116 : decode cX1_feed 116 = .ok (.aload_n 0, 1) := dk_42 (dk_at dksX1_feed_4 23 rfl rfl)
theorem dX1_feed_117 : decode cX1_feed 117 = .ok (.getfield 54, 3) := dk_180 0 54 (dk_at dksX1_feed_5 0 rfl rfl)
theorem dX1_feed_120 : decode cX1_feed 120 = .ok (.ireturn, 1) := dk_172 (dk_at dksX1_feed_5 3 rfl rfl)
abbrev cX1_regatta : ByteArray := prog_1_method_14_code
def yX1_regatta : MethodName := ⟨RX1, "regatta", "(I)I"⟩
def dkwX1_regatta_5 : List UInt8 := [42, 180, 0, 20, 182, 0, 105, 42, 180, 0, 24, 182, 0, 105, 42, 42, 182, 0, 108, 182, 0, 47, 172]
abbrev dktX1_regatta_5 : List UInt8 := dkwX1_regatta_5 ++ []
def dkwX1_regatta_4 : List UInt8 := [183, 0, 88, 181, 0, 91, 42, 180, 0, 91, 182, 0, 95, 42, 42, 180, 0, 91, 182, 0, 98, 181, 0, 102]
abbrev dktX1_regatta_4 : List UInt8 := dkwX1_regatta_4 ++ dktX1_regatta_5
def dkwX1_regatta_3 : List UInt8 := [180, 0, 79, 181, 0, 13, 2, 172, 42, 45, 181, 0, 82, 42, 187, 0, 86, 89, 42, 180, 0, 82]
abbrev dktX1_regatta_3 : List UInt8 := dkwX1_regatta_3 ++ dktX1_regatta_4
def dkwX1_regatta_2 : List UInt8 := [182, 0, 71, 78, 42, 44, 180, 0, 75, 181, 0, 78, 45, 199, 0, 18, 42, 7, 181, 0, 40, 42, 44]
abbrev dktX1_regatta_2 : List UInt8 := dkwX1_regatta_2 ++ dktX1_regatta_3
def dkwX1_regatta_1 : List UInt8 := [187, 0, 63, 89, 42, 180, 0, 9, 27, 183, 0, 65, 183, 0, 68, 77, 42, 3, 181, 0, 54, 44]
abbrev dktX1_regatta_1 : List UInt8 := dkwX1_regatta_1 ++ dktX1_regatta_2
def dkwX1_regatta_0 : List UInt8 := [27, 3, 42, 180, 0, 54, 184, 0, 57, 154, 0, 9, 42, 5, 182, 0, 43, 172, 187, 0, 61, 89]
abbrev dktX1_regatta_0 : List UInt8 := dkwX1_regatta_0 ++ dktX1_regatta_1
theorem dksX1_regatta_0 : cX1_regatta.data.toList.drop 0 = dktX1_regatta_0 := by decide +kernel
theorem dksX1_regatta_1 : cX1_regatta.data.toList.drop 22 = dktX1_regatta_1 := dk_seg dksX1_regatta_0 22 rfl rfl
theorem dksX1_regatta_2 : cX1_regatta.data.toList.drop 44 = dktX1_regatta_2 := dk_seg dksX1_regatta_1 22 rfl rfl
theorem dksX1_regatta_3 : cX1_regatta.data.toList.drop 67 = dktX1_regatta_3 := dk_seg dksX1_regatta_2 23 rfl rfl
theorem dksX1_regatta_4 : cX1_regatta.data.toList.drop 89 = dktX1_regatta_4 := dk_seg dksX1_regatta_3 22 rfl rfl
theorem dksX1_regatta_5 : cX1_regatta.data.toList.drop 113 = dktX1_regatta_5 := dk_seg dksX1_regatta_4 24 rfl rfl
theorem dX1_regatta_0 : decode cX1_regatta 0 = .ok (.iload_n 1, 1) := dk_27 (dk_at dksX1_regatta_0 0 rfl rfl)
theorem dX1_regatta_1 : decode cX1_regatta 1 = .ok (.iconst 0, 1) := dk_3 (dk_at dksX1_regatta_0 1 rfl rfl)
theorem dX1_regatta_2 : decode cX1_regatta 2 = .ok (.aload_n 0, 1) := dk_42 (dk_at dksX1_regatta_0 2 rfl rfl)
theorem dX1_regatta_3 : decode cX1_regatta 3 = .ok (.getfield 54, 3) := dk_180 0 54 (dk_at dksX1_regatta_0 3 rfl rfl)
theorem dX1_regatta_6 : decode cX1_regatta 6 = .ok (.invokestatic 57, 3) := dk_184 0 57 (dk_at dksX1_regatta_0 6 rfl rfl)
theorem dX1_regatta_9 : decode cX1_regatta 9 = .ok (.ifCond .ne 9, 3) := dk_154 0 9 (dk_at dksX1_regatta_0 9 rfl rfl)
theorem dX1_regatta_12 : decode cX1_regatta 12 = .ok (.aload_n 0, 1) := dk_42 (dk_at dksX1_regatta_0 12 rfl rfl)
theorem dX1_regatta_13 : decode cX1_regatta 13 = .ok (.iconst 2, 1) := dk_5 (dk_at dksX1_regatta_0 13 rfl rfl)
theorem dX1_regatta_14 : decode cX1_regatta 14 = .ok (.invokevirtual 43, 3) := dk_182 0 43 (dk_at dksX1_regatta_0 14 rfl rfl)
theorem dX1_regatta_17 : decode cX1_regatta 17 = .ok (.ireturn, 1) := dk_172 (dk_at dksX1_regatta_0 17 rfl rfl)
theorem dX1_regatta_18 : decode cX1_regatta 18 = .ok (.new 61, 3) := dk_187 0 61 (dk_at dksX1_regatta_0 18 rfl rfl)
theorem dX1_regatta_21 : decode cX1_regatta 21 = .ok (.dup, 1) := dk_89 (dk_at dksX1_regatta_0 21 rfl rfl)
theorem dX1_regatta_22 : decode cX1_regatta 22 = .ok (.new 63, 3) := dk_187 0 63 (dk_at dksX1_regatta_1 0 rfl rfl)
theorem dX1_regatta_25 : decode cX1_regatta 25 = .ok (.dup, 1) := dk_89 (dk_at dksX1_regatta_1 3 rfl rfl)
theorem dX1_regatta_26 : decode cX1_regatta 26 = .ok (.aload_n 0, 1) := dk_42 (dk_at dksX1_regatta_1 4 rfl rfl)
theorem dX1_regatta_27 : decode cX1_regatta 27 = .ok (.getfield 9, 3) := dk_180 0 9 (dk_at dksX1_regatta_1 5 rfl rfl)
theorem dX1_regatta_30 : decode cX1_regatta 30 = .ok (.iload_n 1, 1) := dk_27 (dk_at dksX1_regatta_1 8 rfl rfl)
theorem dX1_regatta_31 : decode cX1_regatta 31 = .ok (.invokespecial 65, 3) := dk_183 0 65 (dk_at dksX1_regatta_1 9 rfl rfl)
theorem dX1_regatta_34 : decode cX1_regatta 34 = .ok (.invokespecial 68, 3) := dk_183 0 68 (dk_at dksX1_regatta_1 12 rfl rfl)
theorem dX1_regatta_37 : decode cX1_regatta 37 = .ok (.astore_n 2, 1) := dk_77 (dk_at dksX1_regatta_1 15 rfl rfl)
theorem dX1_regatta_38 : decode cX1_regatta 38 = .ok (.aload_n 0, 1) := dk_42 (dk_at dksX1_regatta_1 16 rfl rfl)
theorem dX1_regatta_39 : decode cX1_regatta 39 = .ok (.iconst 0, 1) := dk_3 (dk_at dksX1_regatta_1 17 rfl rfl)
theorem dX1_regatta_40 : decode cX1_regatta 40 = .ok (.putfield 54, 3) := dk_181 0 54 (dk_at dksX1_regatta_1 18 rfl rfl)
theorem dX1_regatta_43 : decode cX1_regatta 43 = .ok (.aload_n 2, 1) := dk_44 (dk_at dksX1_regatta_1 21 rfl rfl)
theorem dX1_regatta_44 : decode cX1_regatta 44 = .ok (.invokevirtual 71, 3) := dk_182 0 71 (dk_at dksX1_regatta_2 0 rfl rfl)
theorem dX1_regatta_47 : decode cX1_regatta 47 = .ok (.astore_n 3, 1) := dk_78 (dk_at dksX1_regatta_2 3 rfl rfl)
theorem dX1_regatta_48 : decode cX1_regatta 48 = .ok (.aload_n 0, 1) := dk_42 (dk_at dksX1_regatta_2 4 rfl rfl)
theorem dX1_regatta_49 : decode cX1_regatta 49 = .ok (.aload_n 2, 1) := dk_44 (dk_at dksX1_regatta_2 5 rfl rfl)
theorem dX1_regatta_50 : decode cX1_regatta 50 = .ok (.getfield 75, 3) := dk_180 0 75 (dk_at dksX1_regatta_2 6 rfl rfl)
theorem dX1_regatta_53 : decode cX1_regatta 53 = .ok (.putfield 78, 3) := dk_181 0 78 (dk_at dksX1_regatta_2 9 rfl rfl)
theorem dX1_regatta_56 : decode cX1_regatta 56 = .ok (.aload_n 3, 1) := dk_45 (dk_at dksX1_regatta_2 12 rfl rfl)
theorem dX1_regatta_57 : decode cX1_regatta 57 = .ok (.ifnonnull 18, 3) := dk_199 0 18 (dk_at dksX1_regatta_2 13 rfl rfl)
theorem dX1_regatta_60 : decode cX1_regatta 60 = .ok (.aload_n 0, 1) := dk_42 (dk_at dksX1_regatta_2 16 rfl rfl)
theorem dX1_regatta_61 : decode cX1_regatta 61 = .ok (.iconst 4, 1) := dk_7 (dk_at dksX1_regatta_2 17 rfl rfl)
theorem dX1_regatta_62 : decode cX1_regatta 62 = .ok (.putfield 40, 3) := dk_181 0 40 (dk_at dksX1_regatta_2 18 rfl rfl)
theorem dX1_regatta_65 : decode cX1_regatta 65 = .ok (.aload_n 0, 1) := dk_42 (dk_at dksX1_regatta_2 21 rfl rfl)
theorem dX1_regatta_66 : decode cX1_regatta 66 = .ok (.aload_n 2, 1) := dk_44 (dk_at dksX1_regatta_2 22 rfl rfl)
theorem dX1_regatta_67 : decode cX1_regatta 67 = .ok (.getfield 79, 3) := dk_180 0 79 (dk_at dksX1_regatta_3 0 rfl rfl)
theorem dX1_regatta_70 : decode cX1_regatta 70 = .ok (.putfield 13, 3) := dk_181 0 13 (dk_at dksX1_regatta_3 3 rfl rfl)
theorem dX1_regatta_73 : decode cX1_regatta 73 = .ok (.iconst (-1), 1) := dk_2 (dk_at dksX1_regatta_3 6 rfl rfl)
theorem dX1_regatta_74 : decode cX1_regatta 74 = .ok (.ireturn, 1) := dk_172 (dk_at dksX1_regatta_3 7 rfl rfl)
theorem dX1_regatta_75 : decode cX1_regatta 75 = .ok (.aload_n 0, 1) := dk_42 (dk_at dksX1_regatta_3 8 rfl rfl)
theorem dX1_regatta_76 : decode cX1_regatta 76 = .ok (.aload_n 3, 1) := dk_45 (dk_at dksX1_regatta_3 9 rfl rfl)
theorem dX1_regatta_77 : decode cX1_regatta 77 = .ok (.putfield 82, 3) := dk_181 0 82 (dk_at dksX1_regatta_3 10 rfl rfl)
theorem dX1_regatta_80 : decode cX1_regatta 80 = .ok (.aload_n 0, 1) := dk_42 (dk_at dksX1_regatta_3 13 rfl rfl)
theorem dX1_regatta_81 : decode cX1_regatta 81 = .ok (.new 86, 3) := dk_187 0 86 (dk_at dksX1_regatta_3 14 rfl rfl)
theorem dX1_regatta_84 : decode cX1_regatta 84 = .ok (.dup, 1) := dk_89 (dk_at dksX1_regatta_3 17 rfl rfl)
theorem dX1_regatta_85 : decode cX1_regatta 85 = .ok (.aload_n 0, 1) := dk_42 (dk_at dksX1_regatta_3 18 rfl rfl)
theorem dX1_regatta_86 : decode cX1_regatta 86 = .ok (.getfield 82, 3) := dk_180 0 82 (dk_at dksX1_regatta_3 19 rfl rfl)
theorem dX1_regatta_89 : decode cX1_regatta 89 = .ok (.invokespecial 88, 3) := dk_183 0 88 (dk_at dksX1_regatta_4 0 rfl rfl)
theorem dX1_regatta_92 : decode cX1_regatta 92 = .ok (.putfield 91, 3) := dk_181 0 91 (dk_at dksX1_regatta_4 3 rfl rfl)
theorem dX1_regatta_95 : decode cX1_regatta 95 = .ok (.aload_n 0, 1) := dk_42 (dk_at dksX1_regatta_4 6 rfl rfl)
theorem dX1_regatta_96 : decode cX1_regatta 96 = .ok (.getfield 91, 3) := dk_180 0 91 (dk_at dksX1_regatta_4 7 rfl rfl)
theorem dX1_regatta_99 : decode cX1_regatta 99 = .ok (.invokevirtual 95, 3) := dk_182 0 95 (dk_at dksX1_regatta_4 10 rfl rfl)
theorem dX1_regatta_102 : decode cX1_regatta 102 = .ok (.aload_n 0, 1) := dk_42 (dk_at dksX1_regatta_4 13 rfl rfl)
theorem dX1_regatta_103 : decode cX1_regatta 103 = .ok (.aload_n 0, 1) := dk_42 (dk_at dksX1_regatta_4 14 rfl rfl)
theorem dX1_regatta_104 : decode cX1_regatta 104 = .ok (.getfield 91, 3) := dk_180 0 91 (dk_at dksX1_regatta_4 15 rfl rfl)
theorem dX1_regatta_107 : decode cX1_regatta 107 = .ok (.invokevirtual 98, 3) := dk_182 0 98 (dk_at dksX1_regatta_4 18 rfl rfl)
theorem dX1_regatta_110 : decode cX1_regatta 110 = .ok (.putfield 102, 3) := dk_181 0 102 (dk_at dksX1_regatta_4 21 rfl rfl)
theorem dX1_regatta_113 : decode cX1_regatta 113 = .ok (.aload_n 0, 1) := dk_42 (dk_at dksX1_regatta_5 0 rfl rfl)
theorem dX1_regatta_114 : decode cX1_regatta 114 = .ok (.getfield 20, 3) := dk_180 0 20 (dk_at dksX1_regatta_5 1 rfl rfl)
theorem dX1_regatta_117 : decode cX1_regatta 117 = .ok (.invokevirtual 105, 3) := dk_182 0 105 (dk_at dksX1_regatta_5 4 rfl rfl)
theorem dX1_regatta_120 : decode cX1_regatta 120 = .ok (.aload_n 0, 1) := dk_42 (dk_at dksX1_regatta_5 7 rfl rfl)
theorem dX1_regatta_121 : decode cX1_regatta 121 = .ok (.getfield 24, 3) := dk_180 0 24 (dk_at dksX1_regatta_5 8 rfl rfl)
theorem dX1_regatta_124 : decode cX1_regatta 124 = .ok (.invokevirtual 105, 3) := dk_182 0 105 (dk_at dksX1_regatta_5 11 rfl rfl)
theorem dX1_regatta_127 : decode cX1_regatta 127 = .ok (.aload_n 0, 1) := dk_42 (dk_at dksX1_regatta_5 14 rfl rfl)
theorem dX1_regatta_128 : decode cX1_regatta 128 = .ok (.aload_n 0, 1) := dk_42 (dk_at dksX1_regatta_5 15 rfl rfl)
theorem dX1_regatta_129 : decode cX1_regatta 129 = .ok (.invokevirtual 108, 3) := dk_182 0 108 (dk_at dksX1_regatta_5 16 rfl rfl)
theorem dX1_regatta_132 : decode cX1_regatta 132 = .ok (.invokevirtual 47, 3) := dk_182 0 47 (dk_at dksX1_regatta_5 19 rfl rfl)
theorem dX1_regatta_135 : decode cX1_regatta 135 = .ok (.ireturn, 1) := dk_172 (dk_at dksX1_regatta_5 22 rfl rfl)
abbrev cX1_in : ByteArray := prog_1_method_2_code
def yX1_in : MethodName := ⟨RX1, "in", "(III)Z"⟩
def dkwX1_in_0 : List UInt8 := [26, 27, 161, 0, 12, 26, 28, 163, 0, 7, 4, 167, 0, 4, 3, 172]
abbrev dktX1_in_0 : List UInt8 := dkwX1_in_0 ++ []
theorem dksX1_in_0 : cX1_in.data.toList.drop 0 = dktX1_in_0 := by decide +kernel
theorem dX1_in_0 : decode cX1_in 0 = .ok (.iload_n 0, 1) := dk_26 (dk_at dksX1_in_0 0 rfl rfl)
theorem dX1_in_1 : decode cX1_in 1 = .ok (.iload_n 1, 1) := dk_27 (dk_at dksX1_in_0 1 rfl rfl)
theorem dX1_in_2 : decode cX1_in 2 = .ok (.if_icmp .lt 12, 3) := dk_161 0 12 (dk_at dksX1_in_0 2 rfl rfl)
theorem dX1_in_5 : decode cX1_in 5 = .ok (.iload_n 0, 1) := dk_26 (dk_at dksX1_in_0 5 rfl rfl)
theorem dX1_in_6 : decode cX1_in 6 = .ok (.iload_n 2, 1) := dk_28 (dk_at dksX1_in_0 6 rfl rfl)
theorem dX1_in_7 : decode cX1_in 7 = .ok (.if_icmp .gt 7, 3) := dk_163 0 7 (dk_at dksX1_in_0 7 rfl rfl)
theorem dX1_in_10 : decode cX1_in 10 = .ok (.iconst 1, 1) := dk_4 (dk_at dksX1_in_0 10 rfl rfl)
theorem dX1_in_11 : decode cX1_in 11 = .ok (.goto 4, 3) := dk_167 0 4 (dk_at dksX1_in_0 11 rfl rfl)
theorem dX1_in_14 : decode cX1_in 14 = .ok (.iconst 0, 1) := dk_3 (dk_at dksX1_in_0 14 rfl rfl)
theorem dX1_in_15 : decode cX1_in 15 = .ok (.ireturn, 1) := dk_172 (dk_at dksX1_in_0 15 rfl rfl)
abbrev cX1_refused : ByteArray := prog_1_method_7_code
def yX1_refused : MethodName := ⟨RX1, "refused", "(I)I"⟩
def dkwX1_refused_0 : List UInt8 := [42, 27, 181, 0, 40, 42, 2, 181, 0, 13, 2, 172]
abbrev dktX1_refused_0 : List UInt8 := dkwX1_refused_0 ++ []
theorem dksX1_refused_0 : cX1_refused.data.toList.drop 0 = dktX1_refused_0 := by decide +kernel
theorem dX1_refused_0 : decode cX1_refused 0 = .ok (.aload_n 0, 1) := dk_42 (dk_at dksX1_refused_0 0 rfl rfl)
theorem dX1_refused_1 : decode cX1_refused 1 = .ok (.iload_n 1, 1) := dk_27 (dk_at dksX1_refused_0 1 rfl rfl)
theorem dX1_refused_2 : decode cX1_refused 2 = .ok (.putfield 40, 3) := dk_181 0 40 (dk_at dksX1_refused_0 2 rfl rfl)
theorem dX1_refused_5 : decode cX1_refused 5 = .ok (.aload_n 0, 1) := dk_42 (dk_at dksX1_refused_0 5 rfl rfl)
theorem dX1_refused_6 : decode cX1_refused 6 = .ok (.iconst (-1), 1) := dk_2 (dk_at dksX1_refused_0 6 rfl rfl)
theorem dX1_refused_7 : decode cX1_refused 7 = .ok (.putfield 13, 3) := dk_181 0 13 (dk_at dksX1_refused_0 7 rfl rfl)
theorem dX1_refused_10 : decode cX1_refused 10 = .ok (.iconst (-1), 1) := dk_2 (dk_at dksX1_refused_0 10 rfl rfl)
theorem dX1_refused_11 : decode cX1_refused 11 = .ok (.ireturn, 1) := dk_172 (dk_at dksX1_refused_0 11 rfl rfl)
abbrev cX1_has : ByteArray := prog_1_method_3_code
def yX1_has : MethodName := ⟨RX1, "has", "(II)Z"⟩
def dkwX1_has_0 : List UInt8 := [26, 27, 122, 4, 126, 4, 160, 0, 7, 4, 167, 0, 4, 3, 172]
abbrev dktX1_has_0 : List UInt8 := dkwX1_has_0 ++ []
theorem dksX1_has_0 : cX1_has.data.toList.drop 0 = dktX1_has_0 := by decide +kernel
theorem dX1_has_0 : decode cX1_has 0 = .ok (.iload_n 0, 1) := dk_26 (dk_at dksX1_has_0 0 rfl rfl)
theorem dX1_has_1 : decode cX1_has 1 = .ok (.iload_n 1, 1) := dk_27 (dk_at dksX1_has_0 1 rfl rfl)
theorem dX1_has_2 : decode cX1_has 2 = .ok (.ishr, 1) := dk_122 (dk_at dksX1_has_0 2 rfl rfl)
theorem dX1_has_3 : decode cX1_has 3 = .ok (.iconst 1, 1) := dk_4 (dk_at dksX1_has_0 3 rfl rfl)
theorem dX1_has_4 : decode cX1_has 4 = .ok (.iand, 1) := dk_126 (dk_at dksX1_has_0 4 rfl rfl)
theorem dX1_has_5 : decode cX1_has 5 = .ok (.iconst 1, 1) := dk_4 (dk_at dksX1_has_0 5 rfl rfl)
theorem dX1_has_6 : decode cX1_has 6 = .ok (.if_icmp .ne 7, 3) := dk_160 0 7 (dk_at dksX1_has_0 6 rfl rfl)
theorem dX1_has_9 : decode cX1_has 9 = .ok (.iconst 1, 1) := dk_4 (dk_at dksX1_has_0 9 rfl rfl)
theorem dX1_has_10 : decode cX1_has 10 = .ok (.goto 4, 3) := dk_167 0 4 (dk_at dksX1_has_0 10 rfl rfl)
theorem dX1_has_13 : decode cX1_has 13 = .ok (.iconst 0, 1) := dk_3 (dk_at dksX1_has_0 13 rfl rfl)
theorem dX1_has_14 : decode cX1_has 14 = .ok (.ireturn, 1) := dk_172 (dk_at dksX1_has_0 14 rfl rfl)
abbrev cX1_many : ByteArray := prog_1_method_17_code
def yX1_many : MethodName := ⟨RX1, "many", "()I"⟩
def dkwX1_many_0 : List UInt8 := [42, 180, 0, 82, 180, 0, 112, 182, 0, 117, 172]
abbrev dktX1_many_0 : List UInt8 := dkwX1_many_0 ++ []
theorem dksX1_many_0 : cX1_many.data.toList.drop 0 = dktX1_many_0 := by decide +kernel
theorem dX1_many_0 : decode cX1_many 0 = .ok (.aload_n 0, 1) := dk_42 (dk_at dksX1_many_0 0 rfl rfl)
theorem dX1_many_1 : decode cX1_many 1 = .ok (.getfield 82, 3) := dk_180 0 82 (dk_at dksX1_many_0 1 rfl rfl)
theorem dX1_many_4 : decode cX1_many 4 = .ok (.getfield 112, 3) := dk_180 0 112 (dk_at dksX1_many_0 4 rfl rfl)
theorem dX1_many_7 : decode cX1_many 7 = .ok (.invokevirtual 117, 3) := dk_182 0 117 (dk_at dksX1_many_0 7 rfl rfl)
theorem dX1_many_10 : decode cX1_many 10 = .ok (.ireturn, 1) := dk_172 (dk_at dksX1_many_0 10 rfl rfl)
abbrev cX1_well : ByteArray := prog_1_method_10_code
def yX1_well : MethodName := ⟨RX1, "well", "(I)I"⟩
def dkwX1_well_0 : List UInt8 := [42, 3, 181, 0, 40, 42, 2, 181, 0, 13, 27, 172]
abbrev dktX1_well_0 : List UInt8 := dkwX1_well_0 ++ []
theorem dksX1_well_0 : cX1_well.data.toList.drop 0 = dktX1_well_0 := by decide +kernel
theorem dX1_well_0 : decode cX1_well 0 = .ok (.aload_n 0, 1) := dk_42 (dk_at dksX1_well_0 0 rfl rfl)
theorem dX1_well_1 : decode cX1_well 1 = .ok (.iconst 0, 1) := dk_3 (dk_at dksX1_well_0 1 rfl rfl)
theorem dX1_well_2 : decode cX1_well 2 = .ok (.putfield 40, 3) := dk_181 0 40 (dk_at dksX1_well_0 2 rfl rfl)
theorem dX1_well_5 : decode cX1_well 5 = .ok (.aload_n 0, 1) := dk_42 (dk_at dksX1_well_0 5 rfl rfl)
theorem dX1_well_6 : decode cX1_well 6 = .ok (.iconst (-1), 1) := dk_2 (dk_at dksX1_well_0 6 rfl rfl)
theorem dX1_well_7 : decode cX1_well 7 = .ok (.putfield 13, 3) := dk_181 0 13 (dk_at dksX1_well_0 7 rfl rfl)
theorem dX1_well_10 : decode cX1_well 10 = .ok (.iload_n 1, 1) := dk_27 (dk_at dksX1_well_0 10 rfl rfl)
theorem dX1_well_11 : decode cX1_well 11 = .ok (.ireturn, 1) := dk_172 (dk_at dksX1_well_0 11 rfl rfl)
abbrev cX1_fault : ByteArray := prog_1_method_15_code
def yX1_fault : MethodName := ⟨RX1, "fault", "()I"⟩
theorem dX1_fault_0 : decode cX1_fault 0 = .ok (.aload_n 0, 1) := by decide +kernel
theorem dX1_fault_1 : decode cX1_fault 1 = .ok (.getfield 78, 3) := by decide +kernel
theorem dX1_fault_4 : decode cX1_fault 4 = .ok (.ireturn, 1) := by decide +kernel
abbrev cX1_where : ByteArray := prog_1_method_16_code
def yX1_where : MethodName := ⟨RX1, "where", "()I"⟩
theorem dX1_where_0 : decode cX1_where 0 = .ok (.aload_n 0, 1) := by decide +kernel
theorem dX1_where_1 : decode cX1_where 1 = .ok (.getfield 13, 3) := by decide +kernel
theorem dX1_where_4 : decode cX1_where 4 = .ok (.ireturn, 1) := by decide +kernel
abbrev cX1_house : ByteArray := prog_1_method_26_code
def yX1_house : MethodName := ⟨RX1, "house", "(II)I"⟩
def dkwX1_house_7 : List UInt8 := [153, 0, 7, 4, 167, 0, 4, 3, 182, 0, 47, 172]
abbrev dktX1_house_7 : List UInt8 := dkwX1_house_7 ++ []
def dkwX1_house_6 : List UInt8 := [180, 0, 91, 27, 182, 0, 164, 182, 0, 47, 172, 42, 42, 180, 0, 91, 180, 0, 167, 27, 184, 0, 170]
abbrev dktX1_house_6 : List UInt8 := dkwX1_house_6 ++ dktX1_house_7
def dkwX1_house_5 : List UInt8 := [182, 0, 157, 182, 0, 47, 172, 42, 42, 180, 0, 91, 27, 3, 182, 0, 160, 182, 0, 47, 172, 42, 42]
abbrev dktX1_house_5 : List UInt8 := dkwX1_house_5 ++ dktX1_house_6
def dkwX1_house_4 : List UInt8 := [182, 0, 47, 172, 42, 42, 180, 0, 91, 180, 0, 154, 27, 46, 182, 0, 47, 172, 42, 42, 180, 0, 91, 27]
abbrev dktX1_house_4 : List UInt8 := dkwX1_house_4 ++ dktX1_house_5
def dkwX1_house_3 : List UInt8 := [42, 45, 182, 0, 145, 182, 0, 47, 172, 42, 45, 180, 0, 148, 182, 0, 47, 172, 42, 45, 180, 0, 151]
abbrev dktX1_house_3 : List UInt8 := dkwX1_house_3 ++ dktX1_house_4
def dkwX1_house_2 : List UInt8 := [170, 0, 0, 0, 0, 0, 0, 125, 0, 0, 0, 0, 0, 0, 0, 6, 0, 0, 0, 44, 0, 0, 0, 53, 0, 0, 0, 62, 0, 0, 0, 71, 0, 0, 0, 85, 0, 0, 0, 98, 0, 0, 0, 112]
abbrev dktX1_house_2 : List UInt8 := dkwX1_house_2 ++ dktX1_house_3
def dkwX1_house_1 : List UInt8 := [42, 180, 0, 82, 180, 0, 112, 27, 182, 0, 139, 192, 0, 143, 78, 28]
abbrev dktX1_house_1 : List UInt8 := dkwX1_house_1 ++ dktX1_house_2
def dkwX1_house_0 : List UInt8 := [42, 27, 182, 0, 131, 153, 0, 13, 28, 3, 16, 7, 184, 0, 57, 154, 0, 9, 42, 4, 182, 0, 43, 172]
abbrev dktX1_house_0 : List UInt8 := dkwX1_house_0 ++ dktX1_house_1
theorem dksX1_house_0 : cX1_house.data.toList.drop 0 = dktX1_house_0 := by decide +kernel
theorem dksX1_house_1 : cX1_house.data.toList.drop 24 = dktX1_house_1 := dk_seg dksX1_house_0 24 rfl rfl
theorem dksX1_house_2 : cX1_house.data.toList.drop 40 = dktX1_house_2 := dk_seg dksX1_house_1 16 rfl rfl
theorem dksX1_house_3 : cX1_house.data.toList.drop 84 = dktX1_house_3 := dk_seg dksX1_house_2 44 rfl rfl
theorem dksX1_house_4 : cX1_house.data.toList.drop 107 = dktX1_house_4 := dk_seg dksX1_house_3 23 rfl rfl
theorem dksX1_house_5 : cX1_house.data.toList.drop 131 = dktX1_house_5 := dk_seg dksX1_house_4 24 rfl rfl
theorem dksX1_house_6 : cX1_house.data.toList.drop 154 = dktX1_house_6 := dk_seg dksX1_house_5 23 rfl rfl
theorem dksX1_house_7 : cX1_house.data.toList.drop 177 = dktX1_house_7 := dk_seg dksX1_house_6 23 rfl rfl
theorem dX1_house_0 : decode cX1_house 0 = .ok (.aload_n 0, 1) := dk_42 (dk_at dksX1_house_0 0 rfl rfl)
theorem dX1_house_1 : decode cX1_house 1 = .ok (.iload_n 1, 1) := dk_27 (dk_at dksX1_house_0 1 rfl rfl)
theorem dX1_house_2 : decode cX1_house 2 = .ok (.invokevirtual 131, 3) := dk_182 0 131 (dk_at dksX1_house_0 2 rfl rfl)
theorem dX1_house_5 : decode cX1_house 5 = .ok (.ifCond .eq 13, 3) := dk_153 0 13 (dk_at dksX1_house_0 5 rfl rfl)
theorem dX1_house_8 : decode cX1_house 8 = .ok (.iload_n 2, 1) := dk_28 (dk_at dksX1_house_0 8 rfl rfl)
theorem dX1_house_9 : decode cX1_house 9 = .ok (.iconst 0, 1) := dk_3 (dk_at dksX1_house_0 9 rfl rfl)
theorem dX1_house_10 : decode cX1_house 10 = .ok (.bipush 7, 2) := dk_16 7 (dk_at dksX1_house_0 10 rfl rfl)
theorem dX1_house_12 : decode cX1_house 12 = .ok (.invokestatic 57, 3) := dk_184 0 57 (dk_at dksX1_house_0 12 rfl rfl)
theorem dX1_house_15 : decode cX1_house 15 = .ok (.ifCond .ne 9, 3) := dk_154 0 9 (dk_at dksX1_house_0 15 rfl rfl)
theorem dX1_house_18 : decode cX1_house 18 = .ok (.aload_n 0, 1) := dk_42 (dk_at dksX1_house_0 18 rfl rfl)
theorem dX1_house_19 : decode cX1_house 19 = .ok (.iconst 1, 1) := dk_4 (dk_at dksX1_house_0 19 rfl rfl)
theorem dX1_house_20 : decode cX1_house 20 = .ok (.invokevirtual 43, 3) := dk_182 0 43 (dk_at dksX1_house_0 20 rfl rfl)
theorem dX1_house_23 : decode cX1_house 23 = .ok (.ireturn, 1) := dk_172 (dk_at dksX1_house_0 23 rfl rfl)
theorem dX1_house_24 : decode cX1_house 24 = .ok (.aload_n 0, 1) := dk_42 (dk_at dksX1_house_1 0 rfl rfl)
theorem dX1_house_25 : decode cX1_house 25 = .ok (.getfield 82, 3) := dk_180 0 82 (dk_at dksX1_house_1 1 rfl rfl)
theorem dX1_house_28 : decode cX1_house 28 = .ok (.getfield 112, 3) := dk_180 0 112 (dk_at dksX1_house_1 4 rfl rfl)
theorem dX1_house_31 : decode cX1_house 31 = .ok (.iload_n 1, 1) := dk_27 (dk_at dksX1_house_1 7 rfl rfl)
theorem dX1_house_32 : decode cX1_house 32 = .ok (.invokevirtual 139, 3) := dk_182 0 139 (dk_at dksX1_house_1 8 rfl rfl)
theorem dX1_house_35 : decode cX1_house 35 = .ok (.checkcast 143, 3) := dk_192 0 143 (dk_at dksX1_house_1 11 rfl rfl)
theorem dX1_house_38 : decode cX1_house 38 = .ok (.astore_n 3, 1) := dk_78 (dk_at dksX1_house_1 14 rfl rfl)
theorem dX1_house_39 : decode cX1_house 39 = .ok (.iload_n 2, 1) := dk_28 (dk_at dksX1_house_1 15 rfl rfl)
theorem dX1_house_40 : decode cX1_house 40 = .ok (.tableswitch 125 0 6 #[44, 53, 62, 71, 85, 98, 112], 44) := by decide +kernel
theorem dX1_house_84 : decode cX1_house 84 = .ok (.aload_n 0, 1) := dk_42 (dk_at dksX1_house_3 0 rfl rfl)
theorem dX1_house_85 : decode cX1_house 85 = .ok (.aload_n 3, 1) := dk_45 (dk_at dksX1_house_3 1 rfl rfl)
theorem dX1_house_86 : decode cX1_house 86 = .ok (.invokevirtual 145, 3) := dk_182 0 145 (dk_at dksX1_house_3 2 rfl rfl)
theorem dX1_house_89 : decode cX1_house 89 = .ok (.invokevirtual 47, 3) := dk_182 0 47 (dk_at dksX1_house_3 5 rfl rfl)
theorem dX1_house_92 : decode cX1_house 92 = .ok (.ireturn, 1) := dk_172 (dk_at dksX1_house_3 8 rfl rfl)
theorem dX1_house_93 : decode cX1_house 93 = .ok (.aload_n 0, 1) := dk_42 (dk_at dksX1_house_3 9 rfl rfl)
theorem dX1_house_94 : decode cX1_house 94 = .ok (.aload_n 3, 1) := dk_45 (dk_at dksX1_house_3 10 rfl rfl)
theorem dX1_house_95 : decode cX1_house 95 = .ok (.getfield 148, 3) := dk_180 0 148 (dk_at dksX1_house_3 11 rfl rfl)
theorem dX1_house_98 : decode cX1_house 98 = .ok (.invokevirtual 47, 3) := dk_182 0 47 (dk_at dksX1_house_3 14 rfl rfl)
theorem dX1_house_101 : decode cX1_house 101 = .ok (.ireturn, 1) := dk_172 (dk_at dksX1_house_3 17 rfl rfl)
theorem dX1_house_102 : decode cX1_house 102 = .ok (.aload_n 0, 1) := dk_42 (dk_at dksX1_house_3 18 rfl rfl)
theorem dX1_house_103 : decode cX1_house 103 = .ok (.aload_n 3, 1) := dk_45 (dk_at dksX1_house_3 19 rfl rfl)
theorem dX1_house_104 : decode cX1_house 104 = .ok (.getfield 151, 3) := dk_180 0 151 (dk_at dksX1_house_3 20 rfl rfl)
theorem dX1_house_107 : decode cX1_house 107 = .ok (.invokevirtual 47, 3) := dk_182 0 47 (dk_at dksX1_house_4 0 rfl rfl)
theorem dX1_house_110 : decode cX1_house 110 = .ok (.ireturn, 1) := dk_172 (dk_at dksX1_house_4 3 rfl rfl)
theorem dX1_house_111 : decode cX1_house 111 = .ok (.aload_n 0, 1) := dk_42 (dk_at dksX1_house_4 4 rfl rfl)
theorem dX1_house_112 : decode cX1_house 112 = .ok (.aload_n 0, 1) := dk_42 (dk_at dksX1_house_4 5 rfl rfl)
theorem dX1_house_113 : decode cX1_house 113 = .ok (.getfield 91, 3) := dk_180 0 91 (dk_at dksX1_house_4 6 rfl rfl)
theorem dX1_house_116 : decode cX1_house 116 = .ok (.getfield 154, 3) := dk_180 0 154 (dk_at dksX1_house_4 9 rfl rfl)
theorem dX1_house_119 : decode cX1_house 119 = .ok (.iload_n 1, 1) := dk_27 (dk_at dksX1_house_4 12 rfl rfl)
theorem dX1_house_120 : decode cX1_house 120 = .ok (.iaload, 1) := dk_46 (dk_at dksX1_house_4 13 rfl rfl)
theorem dX1_house_121 : decode cX1_house 121 = .ok (.invokevirtual 47, 3) := dk_182 0 47 (dk_at dksX1_house_4 14 rfl rfl)
theorem dX1_house_124 : decode cX1_house 124 = .ok (.ireturn, 1) := dk_172 (dk_at dksX1_house_4 17 rfl rfl)
theorem dX1_house_125 : decode cX1_house 125 = .ok (.aload_n 0, 1) := dk_42 (dk_at dksX1_house_4 18 rfl rfl)
theorem dX1_house_126 : decode cX1_house 126 = .ok (.aload_n 0, 1) := dk_42 (dk_at dksX1_house_4 19 rfl rfl)
theorem dX1_house_127 : decode cX1_house 127 = .ok (.getfield 91, 3) := dk_180 0 91 (dk_at dksX1_house_4 20 rfl rfl)
theorem dX1_house_130 : decode cX1_house 130 = .ok (.iload_n 1, 1) := dk_27 (dk_at dksX1_house_4 23 rfl rfl)
theorem dX1_house_131 : decode cX1_house 131 = .ok (.invokevirtual 157, 3) := dk_182 0 157 (dk_at dksX1_house_5 0 rfl rfl)
theorem dX1_house_134 : decode cX1_house 134 = .ok (.invokevirtual 47, 3) := dk_182 0 47 (dk_at dksX1_house_5 3 rfl rfl)
theorem dX1_house_137 : decode cX1_house 137 = .ok (.ireturn, 1) := dk_172 (dk_at dksX1_house_5 6 rfl rfl)
theorem dX1_house_138 : decode cX1_house 138 = .ok (.aload_n 0, 1) := dk_42 (dk_at dksX1_house_5 7 rfl rfl)
theorem dX1_house_139 : decode cX1_house 139 = .ok (.aload_n 0, 1) := dk_42 (dk_at dksX1_house_5 8 rfl rfl)
theorem dX1_house_140 : decode cX1_house 140 = .ok (.getfield 91, 3) := dk_180 0 91 (dk_at dksX1_house_5 9 rfl rfl)
theorem dX1_house_143 : decode cX1_house 143 = .ok (.iload_n 1, 1) := dk_27 (dk_at dksX1_house_5 12 rfl rfl)
theorem dX1_house_144 : decode cX1_house 144 = .ok (.iconst 0, 1) := dk_3 (dk_at dksX1_house_5 13 rfl rfl)
theorem dX1_house_145 : decode cX1_house 145 = .ok (.invokevirtual 160, 3) := dk_182 0 160 (dk_at dksX1_house_5 14 rfl rfl)
theorem dX1_house_148 : decode cX1_house 148 = .ok (.invokevirtual 47, 3) := dk_182 0 47 (dk_at dksX1_house_5 17 rfl rfl)
theorem dX1_house_151 : decode cX1_house 151 = .ok (.ireturn, 1) := dk_172 (dk_at dksX1_house_5 20 rfl rfl)
theorem dX1_house_152 : decode cX1_house 152 = .ok (.aload_n 0, 1) := dk_42 (dk_at dksX1_house_5 21 rfl rfl)
theorem dX1_house_153 : decode cX1_house 153 = .ok (.aload_n 0, 1) := dk_42 (dk_at dksX1_house_5 22 rfl rfl)
theorem dX1_house_154 : decode cX1_house 154 = .ok (.getfield 91, 3) := dk_180 0 91 (dk_at dksX1_house_6 0 rfl rfl)
theorem dX1_house_157 : decode cX1_house 157 = .ok (.iload_n 1, 1) := dk_27 (dk_at dksX1_house_6 3 rfl rfl)
theorem dX1_house_158 : decode cX1_house 158 = .ok (.invokevirtual 164, 3) := dk_182 0 164 (dk_at dksX1_house_6 4 rfl rfl)
theorem dX1_house_161 : decode cX1_house 161 = .ok (.invokevirtual 47, 3) := dk_182 0 47 (dk_at dksX1_house_6 7 rfl rfl)
theorem dX1_house_164 : decode cX1_house 164 = .ok (.ireturn, 1) := dk_172 (dk_at dksX1_house_6 10 rfl rfl)
theorem dX1_house_165 : decode cX1_house 165 = .ok (.aload_n 0, 1) := dk_42 (dk_at dksX1_house_6 11 rfl rfl)
theorem dX1_house_166 : decode cX1_house 166 = .ok (.aload_n 0, 1) := dk_42 (dk_at dksX1_house_6 12 rfl rfl)
theorem dX1_house_167 : decode cX1_house 167 = .ok (.getfield 91, 3) := dk_180 0 91 (dk_at dksX1_house_6 13 rfl rfl)
theorem dX1_house_170 : decode cX1_house 170 = .ok (.getfield 167, 3) := dk_180 0 167 (dk_at dksX1_house_6 16 rfl rfl)
theorem dX1_house_173 : decode cX1_house 173 = .ok (.iload_n 1, 1) := dk_27 (dk_at dksX1_house_6 19 rfl rfl)
theorem dX1_house_174 : decode cX1_house 174 = .ok (.invokestatic 170, 3) := dk_184 0 170 (dk_at dksX1_house_6 20 rfl rfl)
theorem dX1_house_177 : decode cX1_house 177 = .ok (.ifCond .eq 7, 3) := dk_153 0 7 (dk_at dksX1_house_7 0 rfl rfl)
theorem dX1_house_180 : decode cX1_house 180 = .ok (.iconst 1, 1) := dk_4 (dk_at dksX1_house_7 3 rfl rfl)
theorem dX1_house_181 : decode cX1_house 181 = .ok (.goto 4, 3) := dk_167 0 4 (dk_at dksX1_house_7 4 rfl rfl)
theorem dX1_house_184 : decode cX1_house 184 = .ok (.iconst 0, 1) := dk_3 (dk_at dksX1_house_7 7 rfl rfl)
theorem dX1_house_185 : decode cX1_house 185 = .ok (.invokevirtual 47, 3) := dk_182 0 47 (dk_at dksX1_house_7 8 rfl rfl)
theorem dX1_house_188 : decode cX1_house 188 = .ok (.ireturn, 1) := dk_172 (dk_at dksX1_house_7 11 rfl rfl)
abbrev cX1_isHouse : ByteArray := prog_1_method_20_code
def yX1_isHouse : MethodName := ⟨RX1, "isHouse", "(I)Z"⟩
def dkwX1_isHouse_1 : List UInt8 := [167, 0, 4, 3, 172]
abbrev dktX1_isHouse_1 : List UInt8 := dkwX1_isHouse_1 ++ []
def dkwX1_isHouse_0 : List UInt8 := [42, 180, 0, 82, 198, 0, 21, 27, 3, 42, 182, 0, 108, 4, 100, 184, 0, 57, 153, 0, 7, 4]
abbrev dktX1_isHouse_0 : List UInt8 := dkwX1_isHouse_0 ++ dktX1_isHouse_1
theorem dksX1_isHouse_0 : cX1_isHouse.data.toList.drop 0 = dktX1_isHouse_0 := by decide +kernel
theorem dksX1_isHouse_1 : cX1_isHouse.data.toList.drop 22 = dktX1_isHouse_1 := dk_seg dksX1_isHouse_0 22 rfl rfl
theorem dX1_isHouse_0 : decode cX1_isHouse 0 = .ok (.aload_n 0, 1) := dk_42 (dk_at dksX1_isHouse_0 0 rfl rfl)
theorem dX1_isHouse_1 : decode cX1_isHouse 1 = .ok (.getfield 82, 3) := dk_180 0 82 (dk_at dksX1_isHouse_0 1 rfl rfl)
theorem dX1_isHouse_4 : decode cX1_isHouse 4 = .ok (.ifnull 21, 3) := dk_198 0 21 (dk_at dksX1_isHouse_0 4 rfl rfl)
theorem dX1_isHouse_7 : decode cX1_isHouse 7 = .ok (.iload_n 1, 1) := dk_27 (dk_at dksX1_isHouse_0 7 rfl rfl)
theorem dX1_isHouse_8 : decode cX1_isHouse 8 = .ok (.iconst 0, 1) := dk_3 (dk_at dksX1_isHouse_0 8 rfl rfl)
theorem dX1_isHouse_9 : decode cX1_isHouse 9 = .ok (.aload_n 0, 1) := dk_42 (dk_at dksX1_isHouse_0 9 rfl rfl)
theorem dX1_isHouse_10 : decode cX1_isHouse 10 = .ok (.invokevirtual 108, 3) := dk_182 0 108 (dk_at dksX1_isHouse_0 10 rfl rfl)
theorem dX1_isHouse_13 : decode cX1_isHouse 13 = .ok (.iconst 1, 1) := dk_4 (dk_at dksX1_isHouse_0 13 rfl rfl)
theorem dX1_isHouse_14 : decode cX1_isHouse 14 = .ok (.isub, 1) := dk_100 (dk_at dksX1_isHouse_0 14 rfl rfl)
theorem dX1_isHouse_15 : decode cX1_isHouse 15 = .ok (.invokestatic 57, 3) := dk_184 0 57 (dk_at dksX1_isHouse_0 15 rfl rfl)
theorem dX1_isHouse_18 : decode cX1_isHouse 18 = .ok (.ifCond .eq 7, 3) := dk_153 0 7 (dk_at dksX1_isHouse_0 18 rfl rfl)
theorem dX1_isHouse_21 : decode cX1_isHouse 21 = .ok (.iconst 1, 1) := dk_4 (dk_at dksX1_isHouse_0 21 rfl rfl)
theorem dX1_isHouse_22 : decode cX1_isHouse 22 = .ok (.goto 4, 3) := dk_167 0 4 (dk_at dksX1_isHouse_1 0 rfl rfl)
theorem dX1_isHouse_25 : decode cX1_isHouse 25 = .ok (.iconst 0, 1) := dk_3 (dk_at dksX1_isHouse_1 3 rfl rfl)
theorem dX1_isHouse_26 : decode cX1_isHouse 26 = .ok (.ireturn, 1) := dk_172 (dk_at dksX1_isHouse_1 4 rfl rfl)
abbrev cX1_bits : ByteArray := prog_1_method_4_code
def yX1_bits : MethodName := ⟨RX1, "bits", "(I)I"⟩
def dkwX1_bits_0 : List UInt8 := [3, 60, 26, 61, 28, 153, 0, 15, 132, 1, 1, 28, 28, 4, 100, 126, 61, 167, 255, 243, 27, 172]
abbrev dktX1_bits_0 : List UInt8 := dkwX1_bits_0 ++ []
theorem dksX1_bits_0 : cX1_bits.data.toList.drop 0 = dktX1_bits_0 := by decide +kernel
theorem dX1_bits_0 : decode cX1_bits 0 = .ok (.iconst 0, 1) := dk_3 (dk_at dksX1_bits_0 0 rfl rfl)
theorem dX1_bits_1 : decode cX1_bits 1 = .ok (.istore_n 1, 1) := dk_60 (dk_at dksX1_bits_0 1 rfl rfl)
theorem dX1_bits_2 : decode cX1_bits 2 = .ok (.iload_n 0, 1) := dk_26 (dk_at dksX1_bits_0 2 rfl rfl)
theorem dX1_bits_3 : decode cX1_bits 3 = .ok (.istore_n 2, 1) := dk_61 (dk_at dksX1_bits_0 3 rfl rfl)
theorem dX1_bits_4 : decode cX1_bits 4 = .ok (.iload_n 2, 1) := dk_28 (dk_at dksX1_bits_0 4 rfl rfl)
theorem dX1_bits_5 : decode cX1_bits 5 = .ok (.ifCond .eq 15, 3) := dk_153 0 15 (dk_at dksX1_bits_0 5 rfl rfl)
theorem dX1_bits_8 : decode cX1_bits 8 = .ok (.iinc 1 1, 3) := dk_132 1 1 (dk_at dksX1_bits_0 8 rfl rfl)
theorem dX1_bits_11 : decode cX1_bits 11 = .ok (.iload_n 2, 1) := dk_28 (dk_at dksX1_bits_0 11 rfl rfl)
theorem dX1_bits_12 : decode cX1_bits 12 = .ok (.iload_n 2, 1) := dk_28 (dk_at dksX1_bits_0 12 rfl rfl)
theorem dX1_bits_13 : decode cX1_bits 13 = .ok (.iconst 1, 1) := dk_4 (dk_at dksX1_bits_0 13 rfl rfl)
theorem dX1_bits_14 : decode cX1_bits 14 = .ok (.isub, 1) := dk_100 (dk_at dksX1_bits_0 14 rfl rfl)
theorem dX1_bits_15 : decode cX1_bits 15 = .ok (.iand, 1) := dk_126 (dk_at dksX1_bits_0 15 rfl rfl)
theorem dX1_bits_16 : decode cX1_bits 16 = .ok (.istore_n 2, 1) := dk_61 (dk_at dksX1_bits_0 16 rfl rfl)
theorem dX1_bits_17 : decode cX1_bits 17 = .ok (.goto (-13), 3) := dk_167 255 243 (dk_at dksX1_bits_0 17 rfl rfl)
theorem dX1_bits_20 : decode cX1_bits 20 = .ok (.iload_n 1, 1) := dk_27 (dk_at dksX1_bits_0 20 rfl rfl)
theorem dX1_bits_21 : decode cX1_bits 21 = .ok (.ireturn, 1) := dk_172 (dk_at dksX1_bits_0 21 rfl rfl)
abbrev cX1_lodger : ByteArray := prog_1_method_27_code
def yX1_lodger : MethodName := ⟨RX1, "lodger", "(II)I"⟩
def dkwX1_lodger_3 : List UInt8 := [180, 0, 185, 27, 46, 167, 0, 7, 45, 180, 0, 188, 182, 0, 47, 172]
abbrev dktX1_lodger_3 : List UInt8 := dkwX1_lodger_3 ++ []
def dkwX1_lodger_2 : List UInt8 := [167, 0, 36, 28, 4, 160, 0, 10, 45, 180, 0, 182, 167, 0, 24, 28, 5, 160, 0, 15, 42, 180, 0, 91]
abbrev dktX1_lodger_2 : List UInt8 := dkwX1_lodger_2 ++ dktX1_lodger_3
def dkwX1_lodger_1 : List UInt8 := [180, 0, 82, 180, 0, 120, 27, 182, 0, 139, 192, 0, 177, 78, 42, 28, 154, 0, 10, 45, 180, 0, 179]
abbrev dktX1_lodger_1 : List UInt8 := dkwX1_lodger_1 ++ dktX1_lodger_2
def dkwX1_lodger_0 : List UInt8 := [42, 27, 182, 0, 174, 153, 0, 12, 28, 3, 6, 184, 0, 57, 154, 0, 9, 42, 4, 182, 0, 43, 172, 42]
abbrev dktX1_lodger_0 : List UInt8 := dkwX1_lodger_0 ++ dktX1_lodger_1
theorem dksX1_lodger_0 : cX1_lodger.data.toList.drop 0 = dktX1_lodger_0 := by decide +kernel
theorem dksX1_lodger_1 : cX1_lodger.data.toList.drop 24 = dktX1_lodger_1 := dk_seg dksX1_lodger_0 24 rfl rfl
theorem dksX1_lodger_2 : cX1_lodger.data.toList.drop 47 = dktX1_lodger_2 := dk_seg dksX1_lodger_1 23 rfl rfl
theorem dksX1_lodger_3 : cX1_lodger.data.toList.drop 71 = dktX1_lodger_3 := dk_seg dksX1_lodger_2 24 rfl rfl
theorem dX1_lodger_0 : decode cX1_lodger 0 = .ok (.aload_n 0, 1) := dk_42 (dk_at dksX1_lodger_0 0 rfl rfl)
theorem dX1_lodger_1 : decode cX1_lodger 1 = .ok (.iload_n 1, 1) := dk_27 (dk_at dksX1_lodger_0 1 rfl rfl)
theorem dX1_lodger_2 : decode cX1_lodger 2 = .ok (.invokevirtual 174, 3) := dk_182 0 174 (dk_at dksX1_lodger_0 2 rfl rfl)
theorem dX1_lodger_5 : decode cX1_lodger 5 = .ok (.ifCond .eq 12, 3) := dk_153 0 12 (dk_at dksX1_lodger_0 5 rfl rfl)
theorem dX1_lodger_8 : decode cX1_lodger 8 = .ok (.iload_n 2, 1) := dk_28 (dk_at dksX1_lodger_0 8 rfl rfl)
theorem dX1_lodger_9 : decode cX1_lodger 9 = .ok (.iconst 0, 1) := dk_3 (dk_at dksX1_lodger_0 9 rfl rfl)
theorem dX1_lodger_10 : decode cX1_lodger 10 = .ok (.iconst 3, 1) := dk_6 (dk_at dksX1_lodger_0 10 rfl rfl)
theorem dX1_lodger_11 : decode cX1_lodger 11 = .ok (.invokestatic 57, 3) := dk_184 0 57 (dk_at dksX1_lodger_0 11 rfl rfl)
theorem dX1_lodger_14 : decode cX1_lodger 14 = .ok (.ifCond .ne 9, 3) := dk_154 0 9 (dk_at dksX1_lodger_0 14 rfl rfl)
theorem dX1_lodger_17 : decode cX1_lodger 17 = .ok (.aload_n 0, 1) := dk_42 (dk_at dksX1_lodger_0 17 rfl rfl)
theorem dX1_lodger_18 : decode cX1_lodger 18 = .ok (.iconst 1, 1) := dk_4 (dk_at dksX1_lodger_0 18 rfl rfl)
theorem dX1_lodger_19 : decode cX1_lodger 19 = .ok (.invokevirtual 43, 3) := dk_182 0 43 (dk_at dksX1_lodger_0 19 rfl rfl)
theorem dX1_lodger_22 : decode cX1_lodger 22 = .ok (.ireturn, 1) := dk_172 (dk_at dksX1_lodger_0 22 rfl rfl)
theorem dX1_lodger_23 : decode cX1_lodger 23 = .ok (.aload_n 0, 1) := dk_42 (dk_at dksX1_lodger_0 23 rfl rfl)
theorem dX1_lodger_24 : decode cX1_lodger 24 = .ok (.getfield 82, 3) := dk_180 0 82 (dk_at dksX1_lodger_1 0 rfl rfl)
theorem dX1_lodger_27 : decode cX1_lodger 27 = .ok (.getfield 120, 3) := dk_180 0 120 (dk_at dksX1_lodger_1 3 rfl rfl)
theorem dX1_lodger_30 : decode cX1_lodger 30 = .ok (.iload_n 1, 1) := dk_27 (dk_at dksX1_lodger_1 6 rfl rfl)
theorem dX1_lodger_31 : decode cX1_lodger 31 = .ok (.invokevirtual 139, 3) := dk_182 0 139 (dk_at dksX1_lodger_1 7 rfl rfl)
theorem dX1_lodger_34 : decode cX1_lodger 34 = .ok (.checkcast 177, 3) := dk_192 0 177 (dk_at dksX1_lodger_1 10 rfl rfl)
theorem dX1_lodger_37 : decode cX1_lodger 37 = .ok (.astore_n 3, 1) := dk_78 (dk_at dksX1_lodger_1 13 rfl rfl)
theorem dX1_lodger_38 : decode cX1_lodger 38 = .ok (.aload_n 0, 1) := dk_42 (dk_at dksX1_lodger_1 14 rfl rfl)
theorem dX1_lodger_39 : decode cX1_lodger 39 = .ok (.iload_n 2, 1) := dk_28 (dk_at dksX1_lodger_1 15 rfl rfl)
theorem dX1_lodger_40 : decode cX1_lodger 40 = .ok (.ifCond .ne 10, 3) := dk_154 0 10 (dk_at dksX1_lodger_1 16 rfl rfl)
theorem dX1_lodger_43 : decode cX1_lodger 43 = .ok (.aload_n 3, 1) := dk_45 (dk_at dksX1_lodger_1 19 rfl rfl)
theorem dX1_lodger_44 : decode cX1_lodger 44 = .ok (.getfield 179, 3) := dk_180 0 179 (dk_at dksX1_lodger_1 20 rfl rfl)
theorem dX1_lodger_47 : decode cX1_lodger 47 = .ok (.goto 36, 3) := dk_167 0 36 (dk_at dksX1_lodger_2 0 rfl rfl)
theorem dX1_lodger_50 : decode cX1_lodger 50 = .ok (.iload_n 2, 1) := dk_28 (dk_at dksX1_lodger_2 3 rfl rfl)
theorem dX1_lodger_51 : decode cX1_lodger 51 = .ok (.iconst 1, 1) := dk_4 (dk_at dksX1_lodger_2 4 rfl rfl)
theorem dX1_lodger_52 : decode cX1_lodger 52 = .ok (.if_icmp .ne 10, 3) := dk_160 0 10 (dk_at dksX1_lodger_2 5 rfl rfl)
theorem dX1_lodger_55 : decode cX1_lodger 55 = .ok (.aload_n 3, 1) := dk_45 (dk_at dksX1_lodger_2 8 rfl rfl)
theorem dX1_lodger_56 : decode cX1_lodger 56 = .ok (.getfield 182, 3) := dk_180 0 182 (dk_at dksX1_lodger_2 9 rfl rfl)
theorem dX1_lodger_59 : decode cX1_lodger 59 = .ok (.goto 24, 3) := dk_167 0 24 (dk_at dksX1_lodger_2 12 rfl rfl)
theorem dX1_lodger_62 : decode cX1_lodger 62 = .ok (.iload_n 2, 1) := dk_28 (dk_at dksX1_lodger_2 15 rfl rfl)
theorem dX1_lodger_63 : decode cX1_lodger 63 = .ok (.iconst 2, 1) := dk_5 (dk_at dksX1_lodger_2 16 rfl rfl)
theorem dX1_lodger_64 : decode cX1_lodger 64 = .ok (.if_icmp .ne 15, 3) := dk_160 0 15 (dk_at dksX1_lodger_2 17 rfl rfl)
theorem dX1_lodger_67 : decode cX1_lodger 67 = .ok (.aload_n 0, 1) := dk_42 (dk_at dksX1_lodger_2 20 rfl rfl)
theorem dX1_lodger_68 : decode cX1_lodger 68 = .ok (.getfield 91, 3) := dk_180 0 91 (dk_at dksX1_lodger_2 21 rfl rfl)
theorem dX1_lodger_71 : decode cX1_lodger 71 = .ok (.getfield 185, 3) := dk_180 0 185 (dk_at dksX1_lodger_3 0 rfl rfl)
theorem dX1_lodger_74 : decode cX1_lodger 74 = .ok (.iload_n 1, 1) := dk_27 (dk_at dksX1_lodger_3 3 rfl rfl)
theorem dX1_lodger_75 : decode cX1_lodger 75 = .ok (.iaload, 1) := dk_46 (dk_at dksX1_lodger_3 4 rfl rfl)
theorem dX1_lodger_76 : decode cX1_lodger 76 = .ok (.goto 7, 3) := dk_167 0 7 (dk_at dksX1_lodger_3 5 rfl rfl)
theorem dX1_lodger_79 : decode cX1_lodger 79 = .ok (.aload_n 3, 1) := dk_45 (dk_at dksX1_lodger_3 8 rfl rfl)
theorem dX1_lodger_80 : decode cX1_lodger 80 = .ok (.getfield 188, 3) := dk_180 0 188 (dk_at dksX1_lodger_3 9 rfl rfl)
theorem dX1_lodger_83 : decode cX1_lodger 83 = .ok (.invokevirtual 47, 3) := dk_182 0 47 (dk_at dksX1_lodger_3 12 rfl rfl)
theorem dX1_lodger_86 : decode cX1_lodger 86 = .ok (.ireturn, 1) := dk_172 (dk_at dksX1_lodger_3 15 rfl rfl)
abbrev cX1_isLodger : ByteArray := prog_1_method_21_code
def yX1_isLodger : MethodName := ⟨RX1, "isLodger", "(I)Z"⟩
def dkwX1_isLodger_1 : List UInt8 := [167, 0, 4, 3, 172]
abbrev dktX1_isLodger_1 : List UInt8 := dkwX1_isLodger_1 ++ []
def dkwX1_isLodger_0 : List UInt8 := [42, 180, 0, 82, 198, 0, 21, 27, 3, 42, 182, 0, 126, 4, 100, 184, 0, 57, 153, 0, 7, 4]
abbrev dktX1_isLodger_0 : List UInt8 := dkwX1_isLodger_0 ++ dktX1_isLodger_1
theorem dksX1_isLodger_0 : cX1_isLodger.data.toList.drop 0 = dktX1_isLodger_0 := by decide +kernel
theorem dksX1_isLodger_1 : cX1_isLodger.data.toList.drop 22 = dktX1_isLodger_1 := dk_seg dksX1_isLodger_0 22 rfl rfl
theorem dX1_isLodger_0 : decode cX1_isLodger 0 = .ok (.aload_n 0, 1) := dk_42 (dk_at dksX1_isLodger_0 0 rfl rfl)
theorem dX1_isLodger_1 : decode cX1_isLodger 1 = .ok (.getfield 82, 3) := dk_180 0 82 (dk_at dksX1_isLodger_0 1 rfl rfl)
theorem dX1_isLodger_4 : decode cX1_isLodger 4 = .ok (.ifnull 21, 3) := dk_198 0 21 (dk_at dksX1_isLodger_0 4 rfl rfl)
theorem dX1_isLodger_7 : decode cX1_isLodger 7 = .ok (.iload_n 1, 1) := dk_27 (dk_at dksX1_isLodger_0 7 rfl rfl)
theorem dX1_isLodger_8 : decode cX1_isLodger 8 = .ok (.iconst 0, 1) := dk_3 (dk_at dksX1_isLodger_0 8 rfl rfl)
theorem dX1_isLodger_9 : decode cX1_isLodger 9 = .ok (.aload_n 0, 1) := dk_42 (dk_at dksX1_isLodger_0 9 rfl rfl)
theorem dX1_isLodger_10 : decode cX1_isLodger 10 = .ok (.invokevirtual 126, 3) := dk_182 0 126 (dk_at dksX1_isLodger_0 10 rfl rfl)
theorem dX1_isLodger_13 : decode cX1_isLodger 13 = .ok (.iconst 1, 1) := dk_4 (dk_at dksX1_isLodger_0 13 rfl rfl)
theorem dX1_isLodger_14 : decode cX1_isLodger 14 = .ok (.isub, 1) := dk_100 (dk_at dksX1_isLodger_0 14 rfl rfl)
theorem dX1_isLodger_15 : decode cX1_isLodger 15 = .ok (.invokestatic 57, 3) := dk_184 0 57 (dk_at dksX1_isLodger_0 15 rfl rfl)
theorem dX1_isLodger_18 : decode cX1_isLodger 18 = .ok (.ifCond .eq 7, 3) := dk_153 0 7 (dk_at dksX1_isLodger_0 18 rfl rfl)
theorem dX1_isLodger_21 : decode cX1_isLodger 21 = .ok (.iconst 1, 1) := dk_4 (dk_at dksX1_isLodger_0 21 rfl rfl)
theorem dX1_isLodger_22 : decode cX1_isLodger 22 = .ok (.goto 4, 3) := dk_167 0 4 (dk_at dksX1_isLodger_1 0 rfl rfl)
theorem dX1_isLodger_25 : decode cX1_isLodger 25 = .ok (.iconst 0, 1) := dk_3 (dk_at dksX1_isLodger_1 3 rfl rfl)
theorem dX1_isLodger_26 : decode cX1_isLodger 26 = .ok (.ireturn, 1) := dk_172 (dk_at dksX1_isLodger_1 4 rfl rfl)
abbrev cX1_crew : ByteArray := prog_1_method_18_code
def yX1_crew : MethodName := ⟨RX1, "crew", "()I"⟩
def dkwX1_crew_0 : List UInt8 := [42, 180, 0, 82, 180, 0, 120, 182, 0, 117, 172]
abbrev dktX1_crew_0 : List UInt8 := dkwX1_crew_0 ++ []
theorem dksX1_crew_0 : cX1_crew.data.toList.drop 0 = dktX1_crew_0 := by decide +kernel
theorem dX1_crew_0 : decode cX1_crew 0 = .ok (.aload_n 0, 1) := dk_42 (dk_at dksX1_crew_0 0 rfl rfl)
theorem dX1_crew_1 : decode cX1_crew 1 = .ok (.getfield 82, 3) := dk_180 0 82 (dk_at dksX1_crew_0 1 rfl rfl)
theorem dX1_crew_4 : decode cX1_crew 4 = .ok (.getfield 120, 3) := dk_180 0 120 (dk_at dksX1_crew_0 4 rfl rfl)
theorem dX1_crew_7 : decode cX1_crew 7 = .ok (.invokevirtual 117, 3) := dk_182 0 117 (dk_at dksX1_crew_0 7 rfl rfl)
theorem dX1_crew_10 : decode cX1_crew 10 = .ok (.ireturn, 1) := dk_172 (dk_at dksX1_crew_0 10 rfl rfl)
abbrev cX1_bend : ByteArray := prog_1_method_28_code
def yX1_bend : MethodName := ⟨RX1, "bend", "(II)I"⟩
def dkwX1_bend_2 : List UInt8 := [42, 180, 0, 82, 180, 0, 123, 27, 182, 0, 139, 192, 0, 194, 180, 0, 199, 182, 0, 47, 172]
abbrev dktX1_bend_2 : List UInt8 := dkwX1_bend_2 ++ []
def dkwX1_bend_1 : List UInt8 := [28, 154, 0, 23, 42, 180, 0, 82, 180, 0, 123, 27, 182, 0, 139, 192, 0, 194, 180, 0, 196, 167, 0, 20]
abbrev dktX1_bend_1 : List UInt8 := dkwX1_bend_1 ++ dktX1_bend_2
def dkwX1_bend_0 : List UInt8 := [42, 27, 182, 0, 191, 153, 0, 12, 28, 3, 4, 184, 0, 57, 154, 0, 9, 42, 4, 182, 0, 43, 172, 42]
abbrev dktX1_bend_0 : List UInt8 := dkwX1_bend_0 ++ dktX1_bend_1
theorem dksX1_bend_0 : cX1_bend.data.toList.drop 0 = dktX1_bend_0 := by decide +kernel
theorem dksX1_bend_1 : cX1_bend.data.toList.drop 24 = dktX1_bend_1 := dk_seg dksX1_bend_0 24 rfl rfl
theorem dksX1_bend_2 : cX1_bend.data.toList.drop 48 = dktX1_bend_2 := dk_seg dksX1_bend_1 24 rfl rfl
theorem dX1_bend_0 : decode cX1_bend 0 = .ok (.aload_n 0, 1) := dk_42 (dk_at dksX1_bend_0 0 rfl rfl)
theorem dX1_bend_1 : decode cX1_bend 1 = .ok (.iload_n 1, 1) := dk_27 (dk_at dksX1_bend_0 1 rfl rfl)
theorem dX1_bend_2 : decode cX1_bend 2 = .ok (.invokevirtual 191, 3) := dk_182 0 191 (dk_at dksX1_bend_0 2 rfl rfl)
theorem dX1_bend_5 : decode cX1_bend 5 = .ok (.ifCond .eq 12, 3) := dk_153 0 12 (dk_at dksX1_bend_0 5 rfl rfl)
theorem dX1_bend_8 : decode cX1_bend 8 = .ok (.iload_n 2, 1) := dk_28 (dk_at dksX1_bend_0 8 rfl rfl)
theorem dX1_bend_9 : decode cX1_bend 9 = .ok (.iconst 0, 1) := dk_3 (dk_at dksX1_bend_0 9 rfl rfl)
theorem dX1_bend_10 : decode cX1_bend 10 = .ok (.iconst 1, 1) := dk_4 (dk_at dksX1_bend_0 10 rfl rfl)
theorem dX1_bend_11 : decode cX1_bend 11 = .ok (.invokestatic 57, 3) := dk_184 0 57 (dk_at dksX1_bend_0 11 rfl rfl)
theorem dX1_bend_14 : decode cX1_bend 14 = .ok (.ifCond .ne 9, 3) := dk_154 0 9 (dk_at dksX1_bend_0 14 rfl rfl)
theorem dX1_bend_17 : decode cX1_bend 17 = .ok (.aload_n 0, 1) := dk_42 (dk_at dksX1_bend_0 17 rfl rfl)
theorem dX1_bend_18 : decode cX1_bend 18 = .ok (.iconst 1, 1) := dk_4 (dk_at dksX1_bend_0 18 rfl rfl)
theorem dX1_bend_19 : decode cX1_bend 19 = .ok (.invokevirtual 43, 3) := dk_182 0 43 (dk_at dksX1_bend_0 19 rfl rfl)
theorem dX1_bend_22 : decode cX1_bend 22 = .ok (.ireturn, 1) := dk_172 (dk_at dksX1_bend_0 22 rfl rfl)
theorem dX1_bend_23 : decode cX1_bend 23 = .ok (.aload_n 0, 1) := dk_42 (dk_at dksX1_bend_0 23 rfl rfl)
theorem dX1_bend_24 : decode cX1_bend 24 = .ok (.iload_n 2, 1) := dk_28 (dk_at dksX1_bend_1 0 rfl rfl)
theorem dX1_bend_25 : decode cX1_bend 25 = .ok (.ifCond .ne 23, 3) := dk_154 0 23 (dk_at dksX1_bend_1 1 rfl rfl)
theorem dX1_bend_28 : decode cX1_bend 28 = .ok (.aload_n 0, 1) := dk_42 (dk_at dksX1_bend_1 4 rfl rfl)
theorem dX1_bend_29 : decode cX1_bend 29 = .ok (.getfield 82, 3) := dk_180 0 82 (dk_at dksX1_bend_1 5 rfl rfl)
theorem dX1_bend_32 : decode cX1_bend 32 = .ok (.getfield 123, 3) := dk_180 0 123 (dk_at dksX1_bend_1 8 rfl rfl)
theorem dX1_bend_35 : decode cX1_bend 35 = .ok (.iload_n 1, 1) := dk_27 (dk_at dksX1_bend_1 11 rfl rfl)
theorem dX1_bend_36 : decode cX1_bend 36 = .ok (.invokevirtual 139, 3) := dk_182 0 139 (dk_at dksX1_bend_1 12 rfl rfl)
theorem dX1_bend_39 : decode cX1_bend 39 = .ok (.checkcast 194, 3) := dk_192 0 194 (dk_at dksX1_bend_1 15 rfl rfl)
theorem dX1_bend_42 : decode cX1_bend 42 = .ok (.getfield 196, 3) := dk_180 0 196 (dk_at dksX1_bend_1 18 rfl rfl)
theorem dX1_bend_45 : decode cX1_bend 45 = .ok (.goto 20, 3) := dk_167 0 20 (dk_at dksX1_bend_1 21 rfl rfl)
theorem dX1_bend_48 : decode cX1_bend 48 = .ok (.aload_n 0, 1) := dk_42 (dk_at dksX1_bend_2 0 rfl rfl)
theorem dX1_bend_49 : decode cX1_bend 49 = .ok (.getfield 82, 3) := dk_180 0 82 (dk_at dksX1_bend_2 1 rfl rfl)
theorem dX1_bend_52 : decode cX1_bend 52 = .ok (.getfield 123, 3) := dk_180 0 123 (dk_at dksX1_bend_2 4 rfl rfl)
theorem dX1_bend_55 : decode cX1_bend 55 = .ok (.iload_n 1, 1) := dk_27 (dk_at dksX1_bend_2 7 rfl rfl)
theorem dX1_bend_56 : decode cX1_bend 56 = .ok (.invokevirtual 139, 3) := dk_182 0 139 (dk_at dksX1_bend_2 8 rfl rfl)
theorem dX1_bend_59 : decode cX1_bend 59 = .ok (.checkcast 194, 3) := dk_192 0 194 (dk_at dksX1_bend_2 11 rfl rfl)
theorem dX1_bend_62 : decode cX1_bend 62 = .ok (.getfield 199, 3) := dk_180 0 199 (dk_at dksX1_bend_2 14 rfl rfl)
theorem dX1_bend_65 : decode cX1_bend 65 = .ok (.invokevirtual 47, 3) := dk_182 0 47 (dk_at dksX1_bend_2 17 rfl rfl)
theorem dX1_bend_68 : decode cX1_bend 68 = .ok (.ireturn, 1) := dk_172 (dk_at dksX1_bend_2 20 rfl rfl)
abbrev cX1_isBend : ByteArray := prog_1_method_22_code
def yX1_isBend : MethodName := ⟨RX1, "isBend", "(I)Z"⟩
def dkwX1_isBend_1 : List UInt8 := [167, 0, 4, 3, 172]
abbrev dktX1_isBend_1 : List UInt8 := dkwX1_isBend_1 ++ []
def dkwX1_isBend_0 : List UInt8 := [42, 180, 0, 82, 198, 0, 21, 27, 3, 42, 182, 0, 129, 4, 100, 184, 0, 57, 153, 0, 7, 4]
abbrev dktX1_isBend_0 : List UInt8 := dkwX1_isBend_0 ++ dktX1_isBend_1
theorem dksX1_isBend_0 : cX1_isBend.data.toList.drop 0 = dktX1_isBend_0 := by decide +kernel
theorem dksX1_isBend_1 : cX1_isBend.data.toList.drop 22 = dktX1_isBend_1 := dk_seg dksX1_isBend_0 22 rfl rfl
theorem dX1_isBend_0 : decode cX1_isBend 0 = .ok (.aload_n 0, 1) := dk_42 (dk_at dksX1_isBend_0 0 rfl rfl)
theorem dX1_isBend_1 : decode cX1_isBend 1 = .ok (.getfield 82, 3) := dk_180 0 82 (dk_at dksX1_isBend_0 1 rfl rfl)
theorem dX1_isBend_4 : decode cX1_isBend 4 = .ok (.ifnull 21, 3) := dk_198 0 21 (dk_at dksX1_isBend_0 4 rfl rfl)
theorem dX1_isBend_7 : decode cX1_isBend 7 = .ok (.iload_n 1, 1) := dk_27 (dk_at dksX1_isBend_0 7 rfl rfl)
theorem dX1_isBend_8 : decode cX1_isBend 8 = .ok (.iconst 0, 1) := dk_3 (dk_at dksX1_isBend_0 8 rfl rfl)
theorem dX1_isBend_9 : decode cX1_isBend 9 = .ok (.aload_n 0, 1) := dk_42 (dk_at dksX1_isBend_0 9 rfl rfl)
theorem dX1_isBend_10 : decode cX1_isBend 10 = .ok (.invokevirtual 129, 3) := dk_182 0 129 (dk_at dksX1_isBend_0 10 rfl rfl)
theorem dX1_isBend_13 : decode cX1_isBend 13 = .ok (.iconst 1, 1) := dk_4 (dk_at dksX1_isBend_0 13 rfl rfl)
theorem dX1_isBend_14 : decode cX1_isBend 14 = .ok (.isub, 1) := dk_100 (dk_at dksX1_isBend_0 14 rfl rfl)
theorem dX1_isBend_15 : decode cX1_isBend 15 = .ok (.invokestatic 57, 3) := dk_184 0 57 (dk_at dksX1_isBend_0 15 rfl rfl)
theorem dX1_isBend_18 : decode cX1_isBend 18 = .ok (.ifCond .eq 7, 3) := dk_153 0 7 (dk_at dksX1_isBend_0 18 rfl rfl)
theorem dX1_isBend_21 : decode cX1_isBend 21 = .ok (.iconst 1, 1) := dk_4 (dk_at dksX1_isBend_0 21 rfl rfl)
theorem dX1_isBend_22 : decode cX1_isBend 22 = .ok (.goto 4, 3) := dk_167 0 4 (dk_at dksX1_isBend_1 0 rfl rfl)
theorem dX1_isBend_25 : decode cX1_isBend 25 = .ok (.iconst 0, 1) := dk_3 (dk_at dksX1_isBend_1 3 rfl rfl)
theorem dX1_isBend_26 : decode cX1_isBend 26 = .ok (.ireturn, 1) := dk_172 (dk_at dksX1_isBend_1 4 rfl rfl)
abbrev cX1_bends : ByteArray := prog_1_method_19_code
def yX1_bends : MethodName := ⟨RX1, "bends", "()I"⟩
def dkwX1_bends_0 : List UInt8 := [42, 180, 0, 82, 180, 0, 123, 182, 0, 117, 172]
abbrev dktX1_bends_0 : List UInt8 := dkwX1_bends_0 ++ []
theorem dksX1_bends_0 : cX1_bends.data.toList.drop 0 = dktX1_bends_0 := by decide +kernel
theorem dX1_bends_0 : decode cX1_bends 0 = .ok (.aload_n 0, 1) := dk_42 (dk_at dksX1_bends_0 0 rfl rfl)
theorem dX1_bends_1 : decode cX1_bends 1 = .ok (.getfield 82, 3) := dk_180 0 82 (dk_at dksX1_bends_0 1 rfl rfl)
theorem dX1_bends_4 : decode cX1_bends 4 = .ok (.getfield 123, 3) := dk_180 0 123 (dk_at dksX1_bends_0 4 rfl rfl)
theorem dX1_bends_7 : decode cX1_bends 7 = .ok (.invokevirtual 117, 3) := dk_182 0 117 (dk_at dksX1_bends_0 7 rfl rfl)
theorem dX1_bends_10 : decode cX1_bends 10 = .ok (.ireturn, 1) := dk_172 (dk_at dksX1_bends_0 10 rfl rfl)
abbrev cX1_time : ByteArray := prog_1_method_29_code
def yX1_time : MethodName := ⟨RX1, "time", "(II)I"⟩
def dkwX1_time_1 : List UInt8 := [182, 0, 202, 182, 0, 47, 167, 0, 8, 42, 4, 182, 0, 43, 172]
abbrev dktX1_time_1 : List UInt8 := dkwX1_time_1 ++ []
def dkwX1_time_0 : List UInt8 := [42, 27, 182, 0, 131, 153, 0, 28, 42, 28, 182, 0, 191, 153, 0, 20, 42, 42, 180, 0, 91, 27, 28, 3]
abbrev dktX1_time_0 : List UInt8 := dkwX1_time_0 ++ dktX1_time_1
theorem dksX1_time_0 : cX1_time.data.toList.drop 0 = dktX1_time_0 := by decide +kernel
theorem dksX1_time_1 : cX1_time.data.toList.drop 24 = dktX1_time_1 := dk_seg dksX1_time_0 24 rfl rfl
theorem dX1_time_0 : decode cX1_time 0 = .ok (.aload_n 0, 1) := dk_42 (dk_at dksX1_time_0 0 rfl rfl)
theorem dX1_time_1 : decode cX1_time 1 = .ok (.iload_n 1, 1) := dk_27 (dk_at dksX1_time_0 1 rfl rfl)
theorem dX1_time_2 : decode cX1_time 2 = .ok (.invokevirtual 131, 3) := dk_182 0 131 (dk_at dksX1_time_0 2 rfl rfl)
theorem dX1_time_5 : decode cX1_time 5 = .ok (.ifCond .eq 28, 3) := dk_153 0 28 (dk_at dksX1_time_0 5 rfl rfl)
theorem dX1_time_8 : decode cX1_time 8 = .ok (.aload_n 0, 1) := dk_42 (dk_at dksX1_time_0 8 rfl rfl)
theorem dX1_time_9 : decode cX1_time 9 = .ok (.iload_n 2, 1) := dk_28 (dk_at dksX1_time_0 9 rfl rfl)
theorem dX1_time_10 : decode cX1_time 10 = .ok (.invokevirtual 191, 3) := dk_182 0 191 (dk_at dksX1_time_0 10 rfl rfl)
theorem dX1_time_13 : decode cX1_time 13 = .ok (.ifCond .eq 20, 3) := dk_153 0 20 (dk_at dksX1_time_0 13 rfl rfl)
theorem dX1_time_16 : decode cX1_time 16 = .ok (.aload_n 0, 1) := dk_42 (dk_at dksX1_time_0 16 rfl rfl)
theorem dX1_time_17 : decode cX1_time 17 = .ok (.aload_n 0, 1) := dk_42 (dk_at dksX1_time_0 17 rfl rfl)
theorem dX1_time_18 : decode cX1_time 18 = .ok (.getfield 91, 3) := dk_180 0 91 (dk_at dksX1_time_0 18 rfl rfl)
theorem dX1_time_21 : decode cX1_time 21 = .ok (.iload_n 1, 1) := dk_27 (dk_at dksX1_time_0 21 rfl rfl)
theorem dX1_time_22 : decode cX1_time 22 = .ok (.iload_n 2, 1) := dk_28 (dk_at dksX1_time_0 22 rfl rfl)
theorem dX1_time_23 : decode cX1_time 23 = .ok (.iconst 0, 1) := dk_3 (dk_at dksX1_time_0 23 rfl rfl)
theorem dX1_time_24 : decode cX1_time 24 = .ok (.invokevirtual 202, 3) := dk_182 0 202 (dk_at dksX1_time_1 0 rfl rfl)
theorem dX1_time_27 : decode cX1_time 27 = .ok (.invokevirtual 47, 3) := dk_182 0 47 (dk_at dksX1_time_1 3 rfl rfl)
theorem dX1_time_30 : decode cX1_time 30 = .ok (.goto 8, 3) := dk_167 0 8 (dk_at dksX1_time_1 6 rfl rfl)
theorem dX1_time_33 : decode cX1_time 33 = .ok (.aload_n 0, 1) := dk_42 (dk_at dksX1_time_1 9 rfl rfl)
theorem dX1_time_34 : decode cX1_time 34 = .ok (.iconst 1, 1) := dk_4 (dk_at dksX1_time_1 10 rfl rfl)
theorem dX1_time_35 : decode cX1_time 35 = .ok (.invokevirtual 43, 3) := dk_182 0 43 (dk_at dksX1_time_1 11 rfl rfl)
theorem dX1_time_38 : decode cX1_time 38 = .ok (.ireturn, 1) := dk_172 (dk_at dksX1_time_1 14 rfl rfl)
abbrev cX1_soFar : ByteArray := prog_1_method_30_code
def yX1_soFar : MethodName := ⟨RX1, "soFar", "(II)I"⟩
def dkwX1_soFar_1 : List UInt8 := [182, 0, 206, 182, 0, 47, 167, 0, 8, 42, 4, 182, 0, 43, 172]
abbrev dktX1_soFar_1 : List UInt8 := dkwX1_soFar_1 ++ []
def dkwX1_soFar_0 : List UInt8 := [42, 27, 182, 0, 131, 153, 0, 28, 42, 28, 182, 0, 191, 153, 0, 20, 42, 42, 180, 0, 91, 27, 28, 3]
abbrev dktX1_soFar_0 : List UInt8 := dkwX1_soFar_0 ++ dktX1_soFar_1
theorem dksX1_soFar_0 : cX1_soFar.data.toList.drop 0 = dktX1_soFar_0 := by decide +kernel
theorem dksX1_soFar_1 : cX1_soFar.data.toList.drop 24 = dktX1_soFar_1 := dk_seg dksX1_soFar_0 24 rfl rfl
theorem dX1_soFar_0 : decode cX1_soFar 0 = .ok (.aload_n 0, 1) := dk_42 (dk_at dksX1_soFar_0 0 rfl rfl)
theorem dX1_soFar_1 : decode cX1_soFar 1 = .ok (.iload_n 1, 1) := dk_27 (dk_at dksX1_soFar_0 1 rfl rfl)
theorem dX1_soFar_2 : decode cX1_soFar 2 = .ok (.invokevirtual 131, 3) := dk_182 0 131 (dk_at dksX1_soFar_0 2 rfl rfl)
theorem dX1_soFar_5 : decode cX1_soFar 5 = .ok (.ifCond .eq 28, 3) := dk_153 0 28 (dk_at dksX1_soFar_0 5 rfl rfl)
theorem dX1_soFar_8 : decode cX1_soFar 8 = .ok (.aload_n 0, 1) := dk_42 (dk_at dksX1_soFar_0 8 rfl rfl)
theorem dX1_soFar_9 : decode cX1_soFar 9 = .ok (.iload_n 2, 1) := dk_28 (dk_at dksX1_soFar_0 9 rfl rfl)
theorem dX1_soFar_10 : decode cX1_soFar 10 = .ok (.invokevirtual 191, 3) := dk_182 0 191 (dk_at dksX1_soFar_0 10 rfl rfl)
theorem dX1_soFar_13 : decode cX1_soFar 13 = .ok (.ifCond .eq 20, 3) := dk_153 0 20 (dk_at dksX1_soFar_0 13 rfl rfl)
theorem dX1_soFar_16 : decode cX1_soFar 16 = .ok (.aload_n 0, 1) := dk_42 (dk_at dksX1_soFar_0 16 rfl rfl)
theorem dX1_soFar_17 : decode cX1_soFar 17 = .ok (.aload_n 0, 1) := dk_42 (dk_at dksX1_soFar_0 17 rfl rfl)
theorem dX1_soFar_18 : decode cX1_soFar 18 = .ok (.getfield 91, 3) := dk_180 0 91 (dk_at dksX1_soFar_0 18 rfl rfl)
theorem dX1_soFar_21 : decode cX1_soFar 21 = .ok (.iload_n 1, 1) := dk_27 (dk_at dksX1_soFar_0 21 rfl rfl)
theorem dX1_soFar_22 : decode cX1_soFar 22 = .ok (.iload_n 2, 1) := dk_28 (dk_at dksX1_soFar_0 22 rfl rfl)
theorem dX1_soFar_23 : decode cX1_soFar 23 = .ok (.iconst 0, 1) := dk_3 (dk_at dksX1_soFar_0 23 rfl rfl)
theorem dX1_soFar_24 : decode cX1_soFar 24 = .ok (.invokevirtual 206, 3) := dk_182 0 206 (dk_at dksX1_soFar_1 0 rfl rfl)
theorem dX1_soFar_27 : decode cX1_soFar 27 = .ok (.invokevirtual 47, 3) := dk_182 0 47 (dk_at dksX1_soFar_1 3 rfl rfl)
theorem dX1_soFar_30 : decode cX1_soFar 30 = .ok (.goto 8, 3) := dk_167 0 8 (dk_at dksX1_soFar_1 6 rfl rfl)
theorem dX1_soFar_33 : decode cX1_soFar 33 = .ok (.aload_n 0, 1) := dk_42 (dk_at dksX1_soFar_1 9 rfl rfl)
theorem dX1_soFar_34 : decode cX1_soFar 34 = .ok (.iconst 1, 1) := dk_4 (dk_at dksX1_soFar_1 10 rfl rfl)
theorem dX1_soFar_35 : decode cX1_soFar 35 = .ok (.invokevirtual 43, 3) := dk_182 0 43 (dk_at dksX1_soFar_1 11 rfl rfl)
theorem dX1_soFar_38 : decode cX1_soFar 38 = .ok (.ireturn, 1) := dk_172 (dk_at dksX1_soFar_1 14 rfl rfl)
abbrev cX1_total : ByteArray := prog_1_method_31_code
def yX1_total : MethodName := ⟨RX1, "total", "(I)I"⟩
def dkwX1_total_1 : List UInt8 := [42, 4, 182, 0, 43, 172]
abbrev dktX1_total_1 : List UInt8 := dkwX1_total_1 ++ []
def dkwX1_total_0 : List UInt8 := [42, 27, 182, 0, 131, 153, 0, 19, 42, 42, 180, 0, 91, 27, 3, 182, 0, 209, 182, 0, 47, 167, 0, 8]
abbrev dktX1_total_0 : List UInt8 := dkwX1_total_0 ++ dktX1_total_1
theorem dksX1_total_0 : cX1_total.data.toList.drop 0 = dktX1_total_0 := by decide +kernel
theorem dksX1_total_1 : cX1_total.data.toList.drop 24 = dktX1_total_1 := dk_seg dksX1_total_0 24 rfl rfl
theorem dX1_total_0 : decode cX1_total 0 = .ok (.aload_n 0, 1) := dk_42 (dk_at dksX1_total_0 0 rfl rfl)
theorem dX1_total_1 : decode cX1_total 1 = .ok (.iload_n 1, 1) := dk_27 (dk_at dksX1_total_0 1 rfl rfl)
theorem dX1_total_2 : decode cX1_total 2 = .ok (.invokevirtual 131, 3) := dk_182 0 131 (dk_at dksX1_total_0 2 rfl rfl)
theorem dX1_total_5 : decode cX1_total 5 = .ok (.ifCond .eq 19, 3) := dk_153 0 19 (dk_at dksX1_total_0 5 rfl rfl)
theorem dX1_total_8 : decode cX1_total 8 = .ok (.aload_n 0, 1) := dk_42 (dk_at dksX1_total_0 8 rfl rfl)
theorem dX1_total_9 : decode cX1_total 9 = .ok (.aload_n 0, 1) := dk_42 (dk_at dksX1_total_0 9 rfl rfl)
theorem dX1_total_10 : decode cX1_total 10 = .ok (.getfield 91, 3) := dk_180 0 91 (dk_at dksX1_total_0 10 rfl rfl)
theorem dX1_total_13 : decode cX1_total 13 = .ok (.iload_n 1, 1) := dk_27 (dk_at dksX1_total_0 13 rfl rfl)
theorem dX1_total_14 : decode cX1_total 14 = .ok (.iconst 0, 1) := dk_3 (dk_at dksX1_total_0 14 rfl rfl)
theorem dX1_total_15 : decode cX1_total 15 = .ok (.invokevirtual 209, 3) := dk_182 0 209 (dk_at dksX1_total_0 15 rfl rfl)
theorem dX1_total_18 : decode cX1_total 18 = .ok (.invokevirtual 47, 3) := dk_182 0 47 (dk_at dksX1_total_0 18 rfl rfl)
theorem dX1_total_21 : decode cX1_total 21 = .ok (.goto 8, 3) := dk_167 0 8 (dk_at dksX1_total_0 21 rfl rfl)
theorem dX1_total_24 : decode cX1_total 24 = .ok (.aload_n 0, 1) := dk_42 (dk_at dksX1_total_1 0 rfl rfl)
theorem dX1_total_25 : decode cX1_total 25 = .ok (.iconst 1, 1) := dk_4 (dk_at dksX1_total_1 1 rfl rfl)
theorem dX1_total_26 : decode cX1_total 26 = .ok (.invokevirtual 43, 3) := dk_182 0 43 (dk_at dksX1_total_1 2 rfl rfl)
theorem dX1_total_29 : decode cX1_total 29 = .ok (.ireturn, 1) := dk_172 (dk_at dksX1_total_1 5 rfl rfl)
abbrev cX1_loses : ByteArray := prog_1_method_32_code
def yX1_loses : MethodName := ⟨RX1, "loses", "(I)I"⟩
def dkwX1_loses_1 : List UInt8 := [4, 182, 0, 43, 172]
abbrev dktX1_loses_1 : List UInt8 := dkwX1_loses_1 ++ []
def dkwX1_loses_0 : List UInt8 := [42, 27, 182, 0, 131, 153, 0, 18, 42, 42, 180, 0, 82, 27, 182, 0, 212, 182, 0, 47, 167, 0, 8, 42]
abbrev dktX1_loses_0 : List UInt8 := dkwX1_loses_0 ++ dktX1_loses_1
theorem dksX1_loses_0 : cX1_loses.data.toList.drop 0 = dktX1_loses_0 := by decide +kernel
theorem dksX1_loses_1 : cX1_loses.data.toList.drop 24 = dktX1_loses_1 := dk_seg dksX1_loses_0 24 rfl rfl
theorem dX1_loses_0 : decode cX1_loses 0 = .ok (.aload_n 0, 1) := dk_42 (dk_at dksX1_loses_0 0 rfl rfl)
theorem dX1_loses_1 : decode cX1_loses 1 = .ok (.iload_n 1, 1) := dk_27 (dk_at dksX1_loses_0 1 rfl rfl)
theorem dX1_loses_2 : decode cX1_loses 2 = .ok (.invokevirtual 131, 3) := dk_182 0 131 (dk_at dksX1_loses_0 2 rfl rfl)
theorem dX1_loses_5 : decode cX1_loses 5 = .ok (.ifCond .eq 18, 3) := dk_153 0 18 (dk_at dksX1_loses_0 5 rfl rfl)
theorem dX1_loses_8 : decode cX1_loses 8 = .ok (.aload_n 0, 1) := dk_42 (dk_at dksX1_loses_0 8 rfl rfl)
theorem dX1_loses_9 : decode cX1_loses 9 = .ok (.aload_n 0, 1) := dk_42 (dk_at dksX1_loses_0 9 rfl rfl)
theorem dX1_loses_10 : decode cX1_loses 10 = .ok (.getfield 82, 3) := dk_180 0 82 (dk_at dksX1_loses_0 10 rfl rfl)
theorem dX1_loses_13 : decode cX1_loses 13 = .ok (.iload_n 1, 1) := dk_27 (dk_at dksX1_loses_0 13 rfl rfl)
theorem dX1_loses_14 : decode cX1_loses 14 = .ok (.invokevirtual 212, 3) := dk_182 0 212 (dk_at dksX1_loses_0 14 rfl rfl)
theorem dX1_loses_17 : decode cX1_loses 17 = .ok (.invokevirtual 47, 3) := dk_182 0 47 (dk_at dksX1_loses_0 17 rfl rfl)
theorem dX1_loses_20 : decode cX1_loses 20 = .ok (.goto 8, 3) := dk_167 0 8 (dk_at dksX1_loses_0 20 rfl rfl)
theorem dX1_loses_23 : decode cX1_loses 23 = .ok (.aload_n 0, 1) := dk_42 (dk_at dksX1_loses_0 23 rfl rfl)
theorem dX1_loses_24 : decode cX1_loses 24 = .ok (.iconst 1, 1) := dk_4 (dk_at dksX1_loses_1 0 rfl rfl)
theorem dX1_loses_25 : decode cX1_loses 25 = .ok (.invokevirtual 43, 3) := dk_182 0 43 (dk_at dksX1_loses_1 1 rfl rfl)
theorem dX1_loses_28 : decode cX1_loses 28 = .ok (.ireturn, 1) := dk_172 (dk_at dksX1_loses_1 4 rfl rfl)
abbrev cX1_rank : ByteArray := prog_1_method_33_code
def yX1_rank : MethodName := ⟨RX1, "rank", "(I)I"⟩
def dkwX1_rank_1 : List UInt8 := [42, 4, 182, 0, 43, 172]
abbrev dktX1_rank_1 : List UInt8 := dkwX1_rank_1 ++ []
def dkwX1_rank_0 : List UInt8 := [42, 27, 182, 0, 131, 153, 0, 19, 42, 42, 180, 0, 91, 27, 3, 182, 0, 215, 182, 0, 47, 167, 0, 8]
abbrev dktX1_rank_0 : List UInt8 := dkwX1_rank_0 ++ dktX1_rank_1
theorem dksX1_rank_0 : cX1_rank.data.toList.drop 0 = dktX1_rank_0 := by decide +kernel
theorem dksX1_rank_1 : cX1_rank.data.toList.drop 24 = dktX1_rank_1 := dk_seg dksX1_rank_0 24 rfl rfl
theorem dX1_rank_0 : decode cX1_rank 0 = .ok (.aload_n 0, 1) := dk_42 (dk_at dksX1_rank_0 0 rfl rfl)
theorem dX1_rank_1 : decode cX1_rank 1 = .ok (.iload_n 1, 1) := dk_27 (dk_at dksX1_rank_0 1 rfl rfl)
theorem dX1_rank_2 : decode cX1_rank 2 = .ok (.invokevirtual 131, 3) := dk_182 0 131 (dk_at dksX1_rank_0 2 rfl rfl)
theorem dX1_rank_5 : decode cX1_rank 5 = .ok (.ifCond .eq 19, 3) := dk_153 0 19 (dk_at dksX1_rank_0 5 rfl rfl)
theorem dX1_rank_8 : decode cX1_rank 8 = .ok (.aload_n 0, 1) := dk_42 (dk_at dksX1_rank_0 8 rfl rfl)
theorem dX1_rank_9 : decode cX1_rank 9 = .ok (.aload_n 0, 1) := dk_42 (dk_at dksX1_rank_0 9 rfl rfl)
theorem dX1_rank_10 : decode cX1_rank 10 = .ok (.getfield 91, 3) := dk_180 0 91 (dk_at dksX1_rank_0 10 rfl rfl)
theorem dX1_rank_13 : decode cX1_rank 13 = .ok (.iload_n 1, 1) := dk_27 (dk_at dksX1_rank_0 13 rfl rfl)
theorem dX1_rank_14 : decode cX1_rank 14 = .ok (.iconst 0, 1) := dk_3 (dk_at dksX1_rank_0 14 rfl rfl)
theorem dX1_rank_15 : decode cX1_rank 15 = .ok (.invokevirtual 215, 3) := dk_182 0 215 (dk_at dksX1_rank_0 15 rfl rfl)
theorem dX1_rank_18 : decode cX1_rank 18 = .ok (.invokevirtual 47, 3) := dk_182 0 47 (dk_at dksX1_rank_0 18 rfl rfl)
theorem dX1_rank_21 : decode cX1_rank 21 = .ok (.goto 8, 3) := dk_167 0 8 (dk_at dksX1_rank_0 21 rfl rfl)
theorem dX1_rank_24 : decode cX1_rank 24 = .ok (.aload_n 0, 1) := dk_42 (dk_at dksX1_rank_1 0 rfl rfl)
theorem dX1_rank_25 : decode cX1_rank 25 = .ok (.iconst 1, 1) := dk_4 (dk_at dksX1_rank_1 1 rfl rfl)
theorem dX1_rank_26 : decode cX1_rank 26 = .ok (.invokevirtual 43, 3) := dk_182 0 43 (dk_at dksX1_rank_1 2 rfl rfl)
theorem dX1_rank_29 : decode cX1_rank 29 = .ok (.ireturn, 1) := dk_172 (dk_at dksX1_rank_1 5 rfl rfl)
abbrev cX1_ranked : ByteArray := prog_1_method_34_code
def yX1_ranked : MethodName := ⟨RX1, "ranked", "(I)I"⟩
def dkwX1_ranked_1 : List UInt8 := [182, 0, 215, 27, 159, 0, 9, 132, 2, 1, 167, 255, 240, 42, 28, 182, 0, 47, 172]
abbrev dktX1_ranked_1 : List UInt8 := dkwX1_ranked_1 ++ []
def dkwX1_ranked_0 : List UInt8 := [42, 27, 182, 0, 131, 154, 0, 9, 42, 4, 182, 0, 43, 172, 3, 61, 42, 180, 0, 91, 28, 3]
abbrev dktX1_ranked_0 : List UInt8 := dkwX1_ranked_0 ++ dktX1_ranked_1
theorem dksX1_ranked_0 : cX1_ranked.data.toList.drop 0 = dktX1_ranked_0 := by decide +kernel
theorem dksX1_ranked_1 : cX1_ranked.data.toList.drop 22 = dktX1_ranked_1 := dk_seg dksX1_ranked_0 22 rfl rfl
theorem dX1_ranked_0 : decode cX1_ranked 0 = .ok (.aload_n 0, 1) := dk_42 (dk_at dksX1_ranked_0 0 rfl rfl)
theorem dX1_ranked_1 : decode cX1_ranked 1 = .ok (.iload_n 1, 1) := dk_27 (dk_at dksX1_ranked_0 1 rfl rfl)
theorem dX1_ranked_2 : decode cX1_ranked 2 = .ok (.invokevirtual 131, 3) := dk_182 0 131 (dk_at dksX1_ranked_0 2 rfl rfl)
theorem dX1_ranked_5 : decode cX1_ranked 5 = .ok (.ifCond .ne 9, 3) := dk_154 0 9 (dk_at dksX1_ranked_0 5 rfl rfl)
theorem dX1_ranked_8 : decode cX1_ranked 8 = .ok (.aload_n 0, 1) := dk_42 (dk_at dksX1_ranked_0 8 rfl rfl)
theorem dX1_ranked_9 : decode cX1_ranked 9 = .ok (.iconst 1, 1) := dk_4 (dk_at dksX1_ranked_0 9 rfl rfl)
theorem dX1_ranked_10 : decode cX1_ranked 10 = .ok (.invokevirtual 43, 3) := dk_182 0 43 (dk_at dksX1_ranked_0 10 rfl rfl)
theorem dX1_ranked_13 : decode cX1_ranked 13 = .ok (.ireturn, 1) := dk_172 (dk_at dksX1_ranked_0 13 rfl rfl)
theorem dX1_ranked_14 : decode cX1_ranked 14 = .ok (.iconst 0, 1) := dk_3 (dk_at dksX1_ranked_0 14 rfl rfl)
theorem dX1_ranked_15 : decode cX1_ranked 15 = .ok (.istore_n 2, 1) := dk_61 (dk_at dksX1_ranked_0 15 rfl rfl)
theorem dX1_ranked_16 : decode cX1_ranked 16 = .ok (.aload_n 0, 1) := dk_42 (dk_at dksX1_ranked_0 16 rfl rfl)
theorem dX1_ranked_17 : decode cX1_ranked 17 = .ok (.getfield 91, 3) := dk_180 0 91 (dk_at dksX1_ranked_0 17 rfl rfl)
theorem dX1_ranked_20 : decode cX1_ranked 20 = .ok (.iload_n 2, 1) := dk_28 (dk_at dksX1_ranked_0 20 rfl rfl)
theorem dX1_ranked_21 : decode cX1_ranked 21 = .ok (.iconst 0, 1) := dk_3 (dk_at dksX1_ranked_0 21 rfl rfl)
theorem dX1_ranked_22 : decode cX1_ranked 22 = .ok (.invokevirtual 215, 3) := dk_182 0 215 (dk_at dksX1_ranked_1 0 rfl rfl)
theorem dX1_ranked_25 : decode cX1_ranked 25 = .ok (.iload_n 1, 1) := dk_27 (dk_at dksX1_ranked_1 3 rfl rfl)
theorem dX1_ranked_26 : decode cX1_ranked 26 = .ok (.if_icmp .eq 9, 3) := dk_159 0 9 (dk_at dksX1_ranked_1 4 rfl rfl)
theorem dX1_ranked_29 : decode cX1_ranked 29 = .ok (.iinc 2 1, 3) := dk_132 2 1 (dk_at dksX1_ranked_1 7 rfl rfl)
theorem dX1_ranked_32 : decode cX1_ranked 32 = .ok (.goto (-16), 3) := dk_167 255 240 (dk_at dksX1_ranked_1 10 rfl rfl)
theorem dX1_ranked_35 : decode cX1_ranked 35 = .ok (.aload_n 0, 1) := dk_42 (dk_at dksX1_ranked_1 13 rfl rfl)
theorem dX1_ranked_36 : decode cX1_ranked 36 = .ok (.iload_n 2, 1) := dk_28 (dk_at dksX1_ranked_1 14 rfl rfl)
theorem dX1_ranked_37 : decode cX1_ranked 37 = .ok (.invokevirtual 47, 3) := dk_182 0 47 (dk_at dksX1_ranked_1 15 rfl rfl)
theorem dX1_ranked_40 : decode cX1_ranked 40 = .ok (.ireturn, 1) := dk_172 (dk_at dksX1_ranked_1 18 rfl rfl)
abbrev cX1_out : ByteArray := prog_1_method_35_code
def yX1_out : MethodName := ⟨RX1, "out", "(I)I"⟩
def dkwX1_out_1 : List UInt8 := [167, 0, 4, 3, 182, 0, 47, 167, 0, 8, 42, 4, 182, 0, 43, 172]
abbrev dktX1_out_1 : List UInt8 := dkwX1_out_1 ++ []
def dkwX1_out_0 : List UInt8 := [42, 27, 182, 0, 131, 153, 0, 27, 42, 42, 180, 0, 91, 27, 3, 182, 0, 218, 153, 0, 7, 4]
abbrev dktX1_out_0 : List UInt8 := dkwX1_out_0 ++ dktX1_out_1
theorem dksX1_out_0 : cX1_out.data.toList.drop 0 = dktX1_out_0 := by decide +kernel
theorem dksX1_out_1 : cX1_out.data.toList.drop 22 = dktX1_out_1 := dk_seg dksX1_out_0 22 rfl rfl
theorem dX1_out_0 : decode cX1_out 0 = .ok (.aload_n 0, 1) := dk_42 (dk_at dksX1_out_0 0 rfl rfl)
theorem dX1_out_1 : decode cX1_out 1 = .ok (.iload_n 1, 1) := dk_27 (dk_at dksX1_out_0 1 rfl rfl)
theorem dX1_out_2 : decode cX1_out 2 = .ok (.invokevirtual 131, 3) := dk_182 0 131 (dk_at dksX1_out_0 2 rfl rfl)
theorem dX1_out_5 : decode cX1_out 5 = .ok (.ifCond .eq 27, 3) := dk_153 0 27 (dk_at dksX1_out_0 5 rfl rfl)
theorem dX1_out_8 : decode cX1_out 8 = .ok (.aload_n 0, 1) := dk_42 (dk_at dksX1_out_0 8 rfl rfl)
theorem dX1_out_9 : decode cX1_out 9 = .ok (.aload_n 0, 1) := dk_42 (dk_at dksX1_out_0 9 rfl rfl)
theorem dX1_out_10 : decode cX1_out 10 = .ok (.getfield 91, 3) := dk_180 0 91 (dk_at dksX1_out_0 10 rfl rfl)
theorem dX1_out_13 : decode cX1_out 13 = .ok (.iload_n 1, 1) := dk_27 (dk_at dksX1_out_0 13 rfl rfl)
theorem dX1_out_14 : decode cX1_out 14 = .ok (.iconst 0, 1) := dk_3 (dk_at dksX1_out_0 14 rfl rfl)
theorem dX1_out_15 : decode cX1_out 15 = .ok (.invokevirtual 218, 3) := dk_182 0 218 (dk_at dksX1_out_0 15 rfl rfl)
theorem dX1_out_18 : decode cX1_out 18 = .ok (.ifCond .eq 7, 3) := dk_153 0 7 (dk_at dksX1_out_0 18 rfl rfl)
theorem dX1_out_21 : decode cX1_out 21 = .ok (.iconst 1, 1) := dk_4 (dk_at dksX1_out_0 21 rfl rfl)
theorem dX1_out_22 : decode cX1_out 22 = .ok (.goto 4, 3) := dk_167 0 4 (dk_at dksX1_out_1 0 rfl rfl)
theorem dX1_out_25 : decode cX1_out 25 = .ok (.iconst 0, 1) := dk_3 (dk_at dksX1_out_1 3 rfl rfl)
theorem dX1_out_26 : decode cX1_out 26 = .ok (.invokevirtual 47, 3) := dk_182 0 47 (dk_at dksX1_out_1 4 rfl rfl)
theorem dX1_out_29 : decode cX1_out 29 = .ok (.goto 8, 3) := dk_167 0 8 (dk_at dksX1_out_1 7 rfl rfl)
theorem dX1_out_32 : decode cX1_out 32 = .ok (.aload_n 0, 1) := dk_42 (dk_at dksX1_out_1 10 rfl rfl)
theorem dX1_out_33 : decode cX1_out 33 = .ok (.iconst 1, 1) := dk_4 (dk_at dksX1_out_1 11 rfl rfl)
theorem dX1_out_34 : decode cX1_out 34 = .ok (.invokevirtual 43, 3) := dk_182 0 43 (dk_at dksX1_out_1 12 rfl rfl)
theorem dX1_out_37 : decode cX1_out 37 = .ok (.ireturn, 1) := dk_172 (dk_at dksX1_out_1 15 rfl rfl)
abbrev cX1_prize : ByteArray := prog_1_method_36_code
def yX1_prize : MethodName := ⟨RX1, "prize", "(I)I"⟩
def dkwX1_prize_1 : List UInt8 := [42, 4, 182, 0, 43, 172]
abbrev dktX1_prize_1 : List UInt8 := dkwX1_prize_1 ++ []
def dkwX1_prize_0 : List UInt8 := [42, 27, 182, 0, 131, 153, 0, 19, 42, 42, 180, 0, 91, 27, 3, 182, 0, 221, 182, 0, 47, 167, 0, 8]
abbrev dktX1_prize_0 : List UInt8 := dkwX1_prize_0 ++ dktX1_prize_1
theorem dksX1_prize_0 : cX1_prize.data.toList.drop 0 = dktX1_prize_0 := by decide +kernel
theorem dksX1_prize_1 : cX1_prize.data.toList.drop 24 = dktX1_prize_1 := dk_seg dksX1_prize_0 24 rfl rfl
theorem dX1_prize_0 : decode cX1_prize 0 = .ok (.aload_n 0, 1) := dk_42 (dk_at dksX1_prize_0 0 rfl rfl)
theorem dX1_prize_1 : decode cX1_prize 1 = .ok (.iload_n 1, 1) := dk_27 (dk_at dksX1_prize_0 1 rfl rfl)
theorem dX1_prize_2 : decode cX1_prize 2 = .ok (.invokevirtual 131, 3) := dk_182 0 131 (dk_at dksX1_prize_0 2 rfl rfl)
theorem dX1_prize_5 : decode cX1_prize 5 = .ok (.ifCond .eq 19, 3) := dk_153 0 19 (dk_at dksX1_prize_0 5 rfl rfl)
theorem dX1_prize_8 : decode cX1_prize 8 = .ok (.aload_n 0, 1) := dk_42 (dk_at dksX1_prize_0 8 rfl rfl)
theorem dX1_prize_9 : decode cX1_prize 9 = .ok (.aload_n 0, 1) := dk_42 (dk_at dksX1_prize_0 9 rfl rfl)
theorem dX1_prize_10 : decode cX1_prize 10 = .ok (.getfield 91, 3) := dk_180 0 91 (dk_at dksX1_prize_0 10 rfl rfl)
theorem dX1_prize_13 : decode cX1_prize 13 = .ok (.iload_n 1, 1) := dk_27 (dk_at dksX1_prize_0 13 rfl rfl)
theorem dX1_prize_14 : decode cX1_prize 14 = .ok (.iconst 0, 1) := dk_3 (dk_at dksX1_prize_0 14 rfl rfl)
theorem dX1_prize_15 : decode cX1_prize 15 = .ok (.invokevirtual 221, 3) := dk_182 0 221 (dk_at dksX1_prize_0 15 rfl rfl)
theorem dX1_prize_18 : decode cX1_prize 18 = .ok (.invokevirtual 47, 3) := dk_182 0 47 (dk_at dksX1_prize_0 18 rfl rfl)
theorem dX1_prize_21 : decode cX1_prize 21 = .ok (.goto 8, 3) := dk_167 0 8 (dk_at dksX1_prize_0 21 rfl rfl)
theorem dX1_prize_24 : decode cX1_prize 24 = .ok (.aload_n 0, 1) := dk_42 (dk_at dksX1_prize_1 0 rfl rfl)
theorem dX1_prize_25 : decode cX1_prize 25 = .ok (.iconst 1, 1) := dk_4 (dk_at dksX1_prize_1 1 rfl rfl)
theorem dX1_prize_26 : decode cX1_prize 26 = .ok (.invokevirtual 43, 3) := dk_182 0 43 (dk_at dksX1_prize_1 2 rfl rfl)
theorem dX1_prize_29 : decode cX1_prize 29 = .ok (.ireturn, 1) := dk_172 (dk_at dksX1_prize_1 5 rfl rfl)
abbrev cX1_ahead : ByteArray := prog_1_method_38_code
def yX1_ahead : MethodName := ⟨RX1, "ahead", "(II)I"⟩
def dkwX1_ahead_2 : List UInt8 := [132, 3, 1, 167, 255, 226, 42, 16, 254, 182, 0, 47, 172]
abbrev dktX1_ahead_2 : List UInt8 := dkwX1_ahead_2 ++ []
def dkwX1_ahead_1 : List UInt8 := [162, 0, 28, 42, 180, 0, 91, 27, 28, 29, 184, 0, 227, 153, 0, 9, 42, 29, 182, 0, 47, 172]
abbrev dktX1_ahead_1 : List UInt8 := dkwX1_ahead_1 ++ dktX1_ahead_2
def dkwX1_ahead_0 : List UInt8 := [42, 27, 28, 182, 0, 224, 154, 0, 9, 42, 4, 182, 0, 43, 172, 3, 62, 29, 42, 182, 0, 129]
abbrev dktX1_ahead_0 : List UInt8 := dkwX1_ahead_0 ++ dktX1_ahead_1
theorem dksX1_ahead_0 : cX1_ahead.data.toList.drop 0 = dktX1_ahead_0 := by decide +kernel
theorem dksX1_ahead_1 : cX1_ahead.data.toList.drop 22 = dktX1_ahead_1 := dk_seg dksX1_ahead_0 22 rfl rfl
theorem dksX1_ahead_2 : cX1_ahead.data.toList.drop 44 = dktX1_ahead_2 := dk_seg dksX1_ahead_1 22 rfl rfl
theorem dX1_ahead_0 : decode cX1_ahead 0 = .ok (.aload_n 0, 1) := dk_42 (dk_at dksX1_ahead_0 0 rfl rfl)
theorem dX1_ahead_1 : decode cX1_ahead 1 = .ok (.iload_n 1, 1) := dk_27 (dk_at dksX1_ahead_0 1 rfl rfl)
theorem dX1_ahead_2 : decode cX1_ahead 2 = .ok (.iload_n 2, 1) := dk_28 (dk_at dksX1_ahead_0 2 rfl rfl)
theorem dX1_ahead_3 : decode cX1_ahead 3 = .ok (.invokevirtual 224, 3) := dk_182 0 224 (dk_at dksX1_ahead_0 3 rfl rfl)
theorem dX1_ahead_6 : decode cX1_ahead 6 = .ok (.ifCond .ne 9, 3) := dk_154 0 9 (dk_at dksX1_ahead_0 6 rfl rfl)
theorem dX1_ahead_9 : decode cX1_ahead 9 = .ok (.aload_n 0, 1) := dk_42 (dk_at dksX1_ahead_0 9 rfl rfl)
theorem dX1_ahead_10 : decode cX1_ahead 10 = .ok (.iconst 1, 1) := dk_4 (dk_at dksX1_ahead_0 10 rfl rfl)
theorem dX1_ahead_11 : decode cX1_ahead 11 = .ok (.invokevirtual 43, 3) := dk_182 0 43 (dk_at dksX1_ahead_0 11 rfl rfl)
theorem dX1_ahead_14 : decode cX1_ahead 14 = .ok (.ireturn, 1) := dk_172 (dk_at dksX1_ahead_0 14 rfl rfl)
theorem dX1_ahead_15 : decode cX1_ahead 15 = .ok (.iconst 0, 1) := dk_3 (dk_at dksX1_ahead_0 15 rfl rfl)
theorem dX1_ahead_16 : decode cX1_ahead 16 = .ok (.istore_n 3, 1) := dk_62 (dk_at dksX1_ahead_0 16 rfl rfl)
theorem dX1_ahead_17 : decode cX1_ahead 17 = .ok (.iload_n 3, 1) := dk_29 (dk_at dksX1_ahead_0 17 rfl rfl)
theorem dX1_ahead_18 : decode cX1_ahead 18 = .ok (.aload_n 0, 1) := dk_42 (dk_at dksX1_ahead_0 18 rfl rfl)
theorem dX1_ahead_19 : decode cX1_ahead 19 = .ok (.invokevirtual 129, 3) := dk_182 0 129 (dk_at dksX1_ahead_0 19 rfl rfl)
theorem dX1_ahead_22 : decode cX1_ahead 22 = .ok (.if_icmp .ge 28, 3) := dk_162 0 28 (dk_at dksX1_ahead_1 0 rfl rfl)
theorem dX1_ahead_25 : decode cX1_ahead 25 = .ok (.aload_n 0, 1) := dk_42 (dk_at dksX1_ahead_1 3 rfl rfl)
theorem dX1_ahead_26 : decode cX1_ahead 26 = .ok (.getfield 91, 3) := dk_180 0 91 (dk_at dksX1_ahead_1 4 rfl rfl)
theorem dX1_ahead_29 : decode cX1_ahead 29 = .ok (.iload_n 1, 1) := dk_27 (dk_at dksX1_ahead_1 7 rfl rfl)
theorem dX1_ahead_30 : decode cX1_ahead 30 = .ok (.iload_n 2, 1) := dk_28 (dk_at dksX1_ahead_1 8 rfl rfl)
theorem dX1_ahead_31 : decode cX1_ahead 31 = .ok (.iload_n 3, 1) := dk_29 (dk_at dksX1_ahead_1 9 rfl rfl)
theorem dX1_ahead_32 : decode cX1_ahead 32 = .ok (.invokestatic 227, 3) := dk_184 0 227 (dk_at dksX1_ahead_1 10 rfl rfl)
theorem dX1_ahead_35 : decode cX1_ahead 35 = .ok (.ifCond .eq 9, 3) := dk_153 0 9 (dk_at dksX1_ahead_1 13 rfl rfl)
theorem dX1_ahead_38 : decode cX1_ahead 38 = .ok (.aload_n 0, 1) := dk_42 (dk_at dksX1_ahead_1 16 rfl rfl)
theorem dX1_ahead_39 : decode cX1_ahead 39 = .ok (.iload_n 3, 1) := dk_29 (dk_at dksX1_ahead_1 17 rfl rfl)
theorem dX1_ahead_40 : decode cX1_ahead 40 = .ok (.invokevirtual 47, 3) := dk_182 0 47 (dk_at dksX1_ahead_1 18 rfl rfl)
theorem dX1_ahead_43 : decode cX1_ahead 43 = .ok (.ireturn, 1) := dk_172 (dk_at dksX1_ahead_1 21 rfl rfl)
theorem dX1_ahead_44 : decode cX1_ahead 44 = .ok (.iinc 3 1, 3) := dk_132 3 1 (dk_at dksX1_ahead_2 0 rfl rfl)
theorem dX1_ahead_47 : decode cX1_ahead 47 = .ok (.goto (-30), 3) := dk_167 255 226 (dk_at dksX1_ahead_2 3 rfl rfl)
theorem dX1_ahead_50 : decode cX1_ahead 50 = .ok (.aload_n 0, 1) := dk_42 (dk_at dksX1_ahead_2 6 rfl rfl)
theorem dX1_ahead_51 : decode cX1_ahead 51 = .ok (.bipush (-2), 2) := dk_16 254 (dk_at dksX1_ahead_2 7 rfl rfl)
theorem dX1_ahead_53 : decode cX1_ahead 53 = .ok (.invokevirtual 47, 3) := dk_182 0 47 (dk_at dksX1_ahead_2 9 rfl rfl)
theorem dX1_ahead_56 : decode cX1_ahead 56 = .ok (.ireturn, 1) := dk_172 (dk_at dksX1_ahead_2 12 rfl rfl)
abbrev cX1_areTwo : ByteArray := prog_1_method_23_code
def yX1_areTwo : MethodName := ⟨RX1, "areTwo", "(II)Z"⟩
def dkwX1_areTwo_1 : List UInt8 := [167, 0, 4, 3, 172]
abbrev dktX1_areTwo_1 : List UInt8 := dkwX1_areTwo_1 ++ []
def dkwX1_areTwo_0 : List UInt8 := [42, 27, 182, 0, 131, 153, 0, 20, 42, 28, 182, 0, 131, 153, 0, 12, 27, 28, 159, 0, 7, 4]
abbrev dktX1_areTwo_0 : List UInt8 := dkwX1_areTwo_0 ++ dktX1_areTwo_1
theorem dksX1_areTwo_0 : cX1_areTwo.data.toList.drop 0 = dktX1_areTwo_0 := by decide +kernel
theorem dksX1_areTwo_1 : cX1_areTwo.data.toList.drop 22 = dktX1_areTwo_1 := dk_seg dksX1_areTwo_0 22 rfl rfl
theorem dX1_areTwo_0 : decode cX1_areTwo 0 = .ok (.aload_n 0, 1) := dk_42 (dk_at dksX1_areTwo_0 0 rfl rfl)
theorem dX1_areTwo_1 : decode cX1_areTwo 1 = .ok (.iload_n 1, 1) := dk_27 (dk_at dksX1_areTwo_0 1 rfl rfl)
theorem dX1_areTwo_2 : decode cX1_areTwo 2 = .ok (.invokevirtual 131, 3) := dk_182 0 131 (dk_at dksX1_areTwo_0 2 rfl rfl)
theorem dX1_areTwo_5 : decode cX1_areTwo 5 = .ok (.ifCond .eq 20, 3) := dk_153 0 20 (dk_at dksX1_areTwo_0 5 rfl rfl)
theorem dX1_areTwo_8 : decode cX1_areTwo 8 = .ok (.aload_n 0, 1) := dk_42 (dk_at dksX1_areTwo_0 8 rfl rfl)
theorem dX1_areTwo_9 : decode cX1_areTwo 9 = .ok (.iload_n 2, 1) := dk_28 (dk_at dksX1_areTwo_0 9 rfl rfl)
theorem dX1_areTwo_10 : decode cX1_areTwo 10 = .ok (.invokevirtual 131, 3) := dk_182 0 131 (dk_at dksX1_areTwo_0 10 rfl rfl)
theorem dX1_areTwo_13 : decode cX1_areTwo 13 = .ok (.ifCond .eq 12, 3) := dk_153 0 12 (dk_at dksX1_areTwo_0 13 rfl rfl)
theorem dX1_areTwo_16 : decode cX1_areTwo 16 = .ok (.iload_n 1, 1) := dk_27 (dk_at dksX1_areTwo_0 16 rfl rfl)
theorem dX1_areTwo_17 : decode cX1_areTwo 17 = .ok (.iload_n 2, 1) := dk_28 (dk_at dksX1_areTwo_0 17 rfl rfl)
theorem dX1_areTwo_18 : decode cX1_areTwo 18 = .ok (.if_icmp .eq 7, 3) := dk_159 0 7 (dk_at dksX1_areTwo_0 18 rfl rfl)
theorem dX1_areTwo_21 : decode cX1_areTwo 21 = .ok (.iconst 1, 1) := dk_4 (dk_at dksX1_areTwo_0 21 rfl rfl)
theorem dX1_areTwo_22 : decode cX1_areTwo 22 = .ok (.goto 4, 3) := dk_167 0 4 (dk_at dksX1_areTwo_1 0 rfl rfl)
theorem dX1_areTwo_25 : decode cX1_areTwo 25 = .ok (.iconst 0, 1) := dk_3 (dk_at dksX1_areTwo_1 3 rfl rfl)
theorem dX1_areTwo_26 : decode cX1_areTwo 26 = .ok (.ireturn, 1) := dk_172 (dk_at dksX1_areTwo_1 4 rfl rfl)
abbrev cX1_isAhead : ByteArray := prog_1_method_37_code
def yX1_isAhead : MethodName := ⟨RX1, "isAhead", "(LRoofRegatta$River;III)Z"⟩
def dkwX1_isAhead_0 : List UInt8 := [42, 27, 29, 3, 182, 0, 206, 42, 28, 29, 3, 182, 0, 206, 162, 0, 7, 4, 167, 0, 4, 3, 172]
abbrev dktX1_isAhead_0 : List UInt8 := dkwX1_isAhead_0 ++ []
theorem dksX1_isAhead_0 : cX1_isAhead.data.toList.drop 0 = dktX1_isAhead_0 := by decide +kernel
theorem dX1_isAhead_0 : decode cX1_isAhead 0 = .ok (.aload_n 0, 1) := dk_42 (dk_at dksX1_isAhead_0 0 rfl rfl)
theorem dX1_isAhead_1 : decode cX1_isAhead 1 = .ok (.iload_n 1, 1) := dk_27 (dk_at dksX1_isAhead_0 1 rfl rfl)
theorem dX1_isAhead_2 : decode cX1_isAhead 2 = .ok (.iload_n 3, 1) := dk_29 (dk_at dksX1_isAhead_0 2 rfl rfl)
theorem dX1_isAhead_3 : decode cX1_isAhead 3 = .ok (.iconst 0, 1) := dk_3 (dk_at dksX1_isAhead_0 3 rfl rfl)
theorem dX1_isAhead_4 : decode cX1_isAhead 4 = .ok (.invokevirtual 206, 3) := dk_182 0 206 (dk_at dksX1_isAhead_0 4 rfl rfl)
theorem dX1_isAhead_7 : decode cX1_isAhead 7 = .ok (.aload_n 0, 1) := dk_42 (dk_at dksX1_isAhead_0 7 rfl rfl)
theorem dX1_isAhead_8 : decode cX1_isAhead 8 = .ok (.iload_n 2, 1) := dk_28 (dk_at dksX1_isAhead_0 8 rfl rfl)
theorem dX1_isAhead_9 : decode cX1_isAhead 9 = .ok (.iload_n 3, 1) := dk_29 (dk_at dksX1_isAhead_0 9 rfl rfl)
theorem dX1_isAhead_10 : decode cX1_isAhead 10 = .ok (.iconst 0, 1) := dk_3 (dk_at dksX1_isAhead_0 10 rfl rfl)
theorem dX1_isAhead_11 : decode cX1_isAhead 11 = .ok (.invokevirtual 206, 3) := dk_182 0 206 (dk_at dksX1_isAhead_0 11 rfl rfl)
theorem dX1_isAhead_14 : decode cX1_isAhead 14 = .ok (.if_icmp .ge 7, 3) := dk_162 0 7 (dk_at dksX1_isAhead_0 14 rfl rfl)
theorem dX1_isAhead_17 : decode cX1_isAhead 17 = .ok (.iconst 1, 1) := dk_4 (dk_at dksX1_isAhead_0 17 rfl rfl)
theorem dX1_isAhead_18 : decode cX1_isAhead 18 = .ok (.goto 4, 3) := dk_167 0 4 (dk_at dksX1_isAhead_0 18 rfl rfl)
theorem dX1_isAhead_21 : decode cX1_isAhead 21 = .ok (.iconst 0, 1) := dk_3 (dk_at dksX1_isAhead_0 21 rfl rfl)
theorem dX1_isAhead_22 : decode cX1_isAhead 22 = .ok (.ireturn, 1) := dk_172 (dk_at dksX1_isAhead_0 22 rfl rfl)
abbrev cX1_passes : ByteArray := prog_1_method_39_code
def yX1_passes : MethodName := ⟨RX1, "passes", "()I"⟩
def dkwX1_passes_4 : List UInt8 := [132, 3, 1, 167, 255, 189, 132, 2, 1, 167, 255, 173, 42, 27, 182, 0, 47, 172]
abbrev dktX1_passes_4 : List UInt8 := dkwX1_passes_4 ++ []
def dkwX1_passes_3 : List UInt8 := [21, 4, 29, 28, 184, 0, 227, 153, 0, 7, 4, 167, 0, 4, 3, 96, 60, 132, 4, 1, 167, 255, 206]
abbrev dktX1_passes_3 : List UInt8 := dkwX1_passes_3 ++ dktX1_passes_4
def dkwX1_passes_2 : List UInt8 := [162, 0, 47, 27, 42, 180, 0, 91, 29, 21, 4, 28, 4, 100, 184, 0, 227, 153, 0, 21, 42, 180, 0, 91]
abbrev dktX1_passes_2 : List UInt8 := dkwX1_passes_2 ++ dktX1_passes_3
def dkwX1_passes_1 : List UInt8 := [162, 0, 81, 3, 62, 29, 42, 182, 0, 108, 162, 0, 65, 3, 54, 4, 21, 4, 42, 182, 0, 108]
abbrev dktX1_passes_1 : List UInt8 := dkwX1_passes_1 ++ dktX1_passes_2
def dkwX1_passes_0 : List UInt8 := [42, 180, 0, 82, 199, 0, 9, 42, 4, 182, 0, 43, 172, 3, 60, 4, 61, 28, 42, 182, 0, 129]
abbrev dktX1_passes_0 : List UInt8 := dkwX1_passes_0 ++ dktX1_passes_1
theorem dksX1_passes_0 : cX1_passes.data.toList.drop 0 = dktX1_passes_0 := by decide +kernel
theorem dksX1_passes_1 : cX1_passes.data.toList.drop 22 = dktX1_passes_1 := dk_seg dksX1_passes_0 22 rfl rfl
theorem dksX1_passes_2 : cX1_passes.data.toList.drop 44 = dktX1_passes_2 := dk_seg dksX1_passes_1 22 rfl rfl
theorem dksX1_passes_3 : cX1_passes.data.toList.drop 68 = dktX1_passes_3 := dk_seg dksX1_passes_2 24 rfl rfl
theorem dksX1_passes_4 : cX1_passes.data.toList.drop 91 = dktX1_passes_4 := dk_seg dksX1_passes_3 23 rfl rfl
theorem dX1_passes_0 : decode cX1_passes 0 = .ok (.aload_n 0, 1) := dk_42 (dk_at dksX1_passes_0 0 rfl rfl)
theorem dX1_passes_1 : decode cX1_passes 1 = .ok (.getfield 82, 3) := dk_180 0 82 (dk_at dksX1_passes_0 1 rfl rfl)
theorem dX1_passes_4 : decode cX1_passes 4 = .ok (.ifnonnull 9, 3) := dk_199 0 9 (dk_at dksX1_passes_0 4 rfl rfl)
theorem dX1_passes_7 : decode cX1_passes 7 = .ok (.aload_n 0, 1) := dk_42 (dk_at dksX1_passes_0 7 rfl rfl)
theorem dX1_passes_8 : decode cX1_passes 8 = .ok (.iconst 1, 1) := dk_4 (dk_at dksX1_passes_0 8 rfl rfl)
theorem dX1_passes_9 : decode cX1_passes 9 = .ok (.invokevirtual 43, 3) := dk_182 0 43 (dk_at dksX1_passes_0 9 rfl rfl)
theorem dX1_passes_12 : decode cX1_passes 12 = .ok (.ireturn, 1) := dk_172 (dk_at dksX1_passes_0 12 rfl rfl)
theorem dX1_passes_13 : decode cX1_passes 13 = .ok (.iconst 0, 1) := dk_3 (dk_at dksX1_passes_0 13 rfl rfl)
theorem dX1_passes_14 : decode cX1_passes 14 = .ok (.istore_n 1, 1) := dk_60 (dk_at dksX1_passes_0 14 rfl rfl)
theorem dX1_passes_15 : decode cX1_passes 15 = .ok (.iconst 1, 1) := dk_4 (dk_at dksX1_passes_0 15 rfl rfl)
theorem dX1_passes_16 : decode cX1_passes 16 = .ok (.istore_n 2, 1) := dk_61 (dk_at dksX1_passes_0 16 rfl rfl)
theorem dX1_passes_17 : decode cX1_passes 17 = .ok (.iload_n 2, 1) := dk_28 (dk_at dksX1_passes_0 17 rfl rfl)
theorem dX1_passes_18 : decode cX1_passes 18 = .ok (.aload_n 0, 1) := dk_42 (dk_at dksX1_passes_0 18 rfl rfl)
theorem dX1_passes_19 : decode cX1_passes 19 = .ok (.invokevirtual 129, 3) := dk_182 0 129 (dk_at dksX1_passes_0 19 rfl rfl)
theorem dX1_passes_22 : decode cX1_passes 22 = .ok (.if_icmp .ge 81, 3) := dk_162 0 81 (dk_at dksX1_passes_1 0 rfl rfl)
theorem dX1_passes_25 : decode cX1_passes 25 = .ok (.iconst 0, 1) := dk_3 (dk_at dksX1_passes_1 3 rfl rfl)
theorem dX1_passes_26 : decode cX1_passes 26 = .ok (.istore_n 3, 1) := dk_62 (dk_at dksX1_passes_1 4 rfl rfl)
theorem dX1_passes_27 : decode cX1_passes 27 = .ok (.iload_n 3, 1) := dk_29 (dk_at dksX1_passes_1 5 rfl rfl)
theorem dX1_passes_28 : decode cX1_passes 28 = .ok (.aload_n 0, 1) := dk_42 (dk_at dksX1_passes_1 6 rfl rfl)
theorem dX1_passes_29 : decode cX1_passes 29 = .ok (.invokevirtual 108, 3) := dk_182 0 108 (dk_at dksX1_passes_1 7 rfl rfl)
theorem dX1_passes_32 : decode cX1_passes 32 = .ok (.if_icmp .ge 65, 3) := dk_162 0 65 (dk_at dksX1_passes_1 10 rfl rfl)
theorem dX1_passes_35 : decode cX1_passes 35 = .ok (.iconst 0, 1) := dk_3 (dk_at dksX1_passes_1 13 rfl rfl)
theorem dX1_passes_36 : decode cX1_passes 36 = .ok (.istore 4, 2) := dk_54 4 (dk_at dksX1_passes_1 14 rfl rfl)
theorem dX1_passes_38 : decode cX1_passes 38 = .ok (.iload 4, 2) := dk_21 4 (dk_at dksX1_passes_1 16 rfl rfl)
theorem dX1_passes_40 : decode cX1_passes 40 = .ok (.aload_n 0, 1) := dk_42 (dk_at dksX1_passes_1 18 rfl rfl)
theorem dX1_passes_41 : decode cX1_passes 41 = .ok (.invokevirtual 108, 3) := dk_182 0 108 (dk_at dksX1_passes_1 19 rfl rfl)
theorem dX1_passes_44 : decode cX1_passes 44 = .ok (.if_icmp .ge 47, 3) := dk_162 0 47 (dk_at dksX1_passes_2 0 rfl rfl)
theorem dX1_passes_47 : decode cX1_passes 47 = .ok (.iload_n 1, 1) := dk_27 (dk_at dksX1_passes_2 3 rfl rfl)
theorem dX1_passes_48 : decode cX1_passes 48 = .ok (.aload_n 0, 1) := dk_42 (dk_at dksX1_passes_2 4 rfl rfl)
theorem dX1_passes_49 : decode cX1_passes 49 = .ok (.getfield 91, 3) := dk_180 0 91 (dk_at dksX1_passes_2 5 rfl rfl)
theorem dX1_passes_52 : decode cX1_passes 52 = .ok (.iload_n 3, 1) := dk_29 (dk_at dksX1_passes_2 8 rfl rfl)
theorem dX1_passes_53 : decode cX1_passes 53 = .ok (.iload 4, 2) := dk_21 4 (dk_at dksX1_passes_2 9 rfl rfl)
theorem dX1_passes_55 : decode cX1_passes 55 = .ok (.iload_n 2, 1) := dk_28 (dk_at dksX1_passes_2 11 rfl rfl)
theorem dX1_passes_56 : decode cX1_passes 56 = .ok (.iconst 1, 1) := dk_4 (dk_at dksX1_passes_2 12 rfl rfl)
theorem dX1_passes_57 : decode cX1_passes 57 = .ok (.isub, 1) := dk_100 (dk_at dksX1_passes_2 13 rfl rfl)
theorem dX1_passes_58 : decode cX1_passes 58 = .ok (.invokestatic 227, 3) := dk_184 0 227 (dk_at dksX1_passes_2 14 rfl rfl)
theorem dX1_passes_61 : decode cX1_passes 61 = .ok (.ifCond .eq 21, 3) := dk_153 0 21 (dk_at dksX1_passes_2 17 rfl rfl)
theorem dX1_passes_64 : decode cX1_passes 64 = .ok (.aload_n 0, 1) := dk_42 (dk_at dksX1_passes_2 20 rfl rfl)
theorem dX1_passes_65 : decode cX1_passes 65 = .ok (.getfield 91, 3) := dk_180 0 91 (dk_at dksX1_passes_2 21 rfl rfl)
theorem dX1_passes_68 : decode cX1_passes 68 = .ok (.iload 4, 2) := dk_21 4 (dk_at dksX1_passes_3 0 rfl rfl)
theorem dX1_passes_70 : decode cX1_passes 70 = .ok (.iload_n 3, 1) := dk_29 (dk_at dksX1_passes_3 2 rfl rfl)
theorem dX1_passes_71 : decode cX1_passes 71 = .ok (.iload_n 2, 1) := dk_28 (dk_at dksX1_passes_3 3 rfl rfl)
theorem dX1_passes_72 : decode cX1_passes 72 = .ok (.invokestatic 227, 3) := dk_184 0 227 (dk_at dksX1_passes_3 4 rfl rfl)
theorem dX1_passes_75 : decode cX1_passes 75 = .ok (.ifCond .eq 7, 3) := dk_153 0 7 (dk_at dksX1_passes_3 7 rfl rfl)
theorem dX1_passes_78 : decode cX1_passes 78 = .ok (.iconst 1, 1) := dk_4 (dk_at dksX1_passes_3 10 rfl rfl)
theorem dX1_passes_79 : decode cX1_passes 79 = .ok (.goto 4, 3) := dk_167 0 4 (dk_at dksX1_passes_3 11 rfl rfl)
theorem dX1_passes_82 : decode cX1_passes 82 = .ok (.iconst 0, 1) := dk_3 (dk_at dksX1_passes_3 14 rfl rfl)
theorem dX1_passes_83 : decode cX1_passes 83 = .ok (.iadd, 1) := dk_96 (dk_at dksX1_passes_3 15 rfl rfl)
theorem dX1_passes_84 : decode cX1_passes 84 = .ok (.istore_n 1, 1) := dk_60 (dk_at dksX1_passes_3 16 rfl rfl)
theorem dX1_passes_85 : decode cX1_passes 85 = .ok (.iinc 4 1, 3) := dk_132 4 1 (dk_at dksX1_passes_3 17 rfl rfl)
theorem dX1_passes_88 : decode cX1_passes 88 = .ok (.goto (-50), 3) := dk_167 255 206 (dk_at dksX1_passes_3 20 rfl rfl)
theorem dX1_passes_91 : decode cX1_passes 91 = .ok (.iinc 3 1, 3) := dk_132 3 1 (dk_at dksX1_passes_4 0 rfl rfl)
theorem dX1_passes_94 : decode cX1_passes 94 = .ok (.goto (-67), 3) := dk_167 255 189 (dk_at dksX1_passes_4 3 rfl rfl)
theorem dX1_passes_97 : decode cX1_passes 97 = .ok (.iinc 2 1, 3) := dk_132 2 1 (dk_at dksX1_passes_4 6 rfl rfl)
theorem dX1_passes_100 : decode cX1_passes 100 = .ok (.goto (-83), 3) := dk_167 255 173 (dk_at dksX1_passes_4 9 rfl rfl)
theorem dX1_passes_103 : decode cX1_passes 103 = .ok (.aload_n 0, 1) := dk_42 (dk_at dksX1_passes_4 12 rfl rfl)
theorem dX1_passes_104 : decode cX1_passes 104 = .ok (.iload_n 1, 1) := dk_27 (dk_at dksX1_passes_4 13 rfl rfl)
theorem dX1_passes_105 : decode cX1_passes 105 = .ok (.invokevirtual 47, 3) := dk_182 0 47 (dk_at dksX1_passes_4 14 rfl rfl)
theorem dX1_passes_108 : decode cX1_passes 108 = .ok (.ireturn, 1) := dk_172 (dk_at dksX1_passes_4 17 rfl rfl)
abbrev cX1_fastest : ByteArray := prog_1_method_40_code
def yX1_fastest : MethodName := ⟨RX1, "fastest", "(I)I"⟩
def dkwX1_fastest_2 : List UInt8 := [162, 0, 5, 29, 61, 132, 3, 1, 167, 255, 220, 42, 28, 182, 0, 47, 172]
abbrev dktX1_fastest_2 : List UInt8 := dkwX1_fastest_2 ++ []
def dkwX1_fastest_1 : List UInt8 := [162, 0, 34, 42, 180, 0, 91, 29, 27, 3, 182, 0, 202, 42, 180, 0, 91, 28, 27, 3, 182, 0, 202]
abbrev dktX1_fastest_1 : List UInt8 := dkwX1_fastest_1 ++ dktX1_fastest_2
def dkwX1_fastest_0 : List UInt8 := [42, 27, 182, 0, 191, 154, 0, 9, 42, 4, 182, 0, 43, 172, 3, 61, 4, 62, 29, 42, 182, 0, 108]
abbrev dktX1_fastest_0 : List UInt8 := dkwX1_fastest_0 ++ dktX1_fastest_1
theorem dksX1_fastest_0 : cX1_fastest.data.toList.drop 0 = dktX1_fastest_0 := by decide +kernel
theorem dksX1_fastest_1 : cX1_fastest.data.toList.drop 23 = dktX1_fastest_1 := dk_seg dksX1_fastest_0 23 rfl rfl
theorem dksX1_fastest_2 : cX1_fastest.data.toList.drop 46 = dktX1_fastest_2 := dk_seg dksX1_fastest_1 23 rfl rfl
theorem dX1_fastest_0 : decode cX1_fastest 0 = .ok (.aload_n 0, 1) := dk_42 (dk_at dksX1_fastest_0 0 rfl rfl)
theorem dX1_fastest_1 : decode cX1_fastest 1 = .ok (.iload_n 1, 1) := dk_27 (dk_at dksX1_fastest_0 1 rfl rfl)
theorem dX1_fastest_2 : decode cX1_fastest 2 = .ok (.invokevirtual 191, 3) := dk_182 0 191 (dk_at dksX1_fastest_0 2 rfl rfl)
theorem dX1_fastest_5 : decode cX1_fastest 5 = .ok (.ifCond .ne 9, 3) := dk_154 0 9 (dk_at dksX1_fastest_0 5 rfl rfl)
theorem dX1_fastest_8 : decode cX1_fastest 8 = .ok (.aload_n 0, 1) := dk_42 (dk_at dksX1_fastest_0 8 rfl rfl)
theorem dX1_fastest_9 : decode cX1_fastest 9 = .ok (.iconst 1, 1) := dk_4 (dk_at dksX1_fastest_0 9 rfl rfl)
theorem dX1_fastest_10 : decode cX1_fastest 10 = .ok (.invokevirtual 43, 3) := dk_182 0 43 (dk_at dksX1_fastest_0 10 rfl rfl)
theorem dX1_fastest_13 : decode cX1_fastest 13 = .ok (.ireturn, 1) := dk_172 (dk_at dksX1_fastest_0 13 rfl rfl)
theorem dX1_fastest_14 : decode cX1_fastest 14 = .ok (.iconst 0, 1) := dk_3 (dk_at dksX1_fastest_0 14 rfl rfl)
theorem dX1_fastest_15 : decode cX1_fastest 15 = .ok (.istore_n 2, 1) := dk_61 (dk_at dksX1_fastest_0 15 rfl rfl)
theorem dX1_fastest_16 : decode cX1_fastest 16 = .ok (.iconst 1, 1) := dk_4 (dk_at dksX1_fastest_0 16 rfl rfl)
theorem dX1_fastest_17 : decode cX1_fastest 17 = .ok (.istore_n 3, 1) := dk_62 (dk_at dksX1_fastest_0 17 rfl rfl)
theorem dX1_fastest_18 : decode cX1_fastest 18 = .ok (.iload_n 3, 1) := dk_29 (dk_at dksX1_fastest_0 18 rfl rfl)
theorem dX1_fastest_19 : decode cX1_fastest 19 = .ok (.aload_n 0, 1) := dk_42 (dk_at dksX1_fastest_0 19 rfl rfl)
theorem dX1_fastest_20 : decode cX1_fastest 20 = .ok (.invokevirtual 108, 3) := dk_182 0 108 (dk_at dksX1_fastest_0 20 rfl rfl)
theorem dX1_fastest_23 : decode cX1_fastest 23 = .ok (.if_icmp .ge 34, 3) := dk_162 0 34 (dk_at dksX1_fastest_1 0 rfl rfl)
theorem dX1_fastest_26 : decode cX1_fastest 26 = .ok (.aload_n 0, 1) := dk_42 (dk_at dksX1_fastest_1 3 rfl rfl)
theorem dX1_fastest_27 : decode cX1_fastest 27 = .ok (.getfield 91, 3) := dk_180 0 91 (dk_at dksX1_fastest_1 4 rfl rfl)
theorem dX1_fastest_30 : decode cX1_fastest 30 = .ok (.iload_n 3, 1) := dk_29 (dk_at dksX1_fastest_1 7 rfl rfl)
theorem dX1_fastest_31 : decode cX1_fastest 31 = .ok (.iload_n 1, 1) := dk_27 (dk_at dksX1_fastest_1 8 rfl rfl)
theorem dX1_fastest_32 : decode cX1_fastest 32 = .ok (.iconst 0, 1) := dk_3 (dk_at dksX1_fastest_1 9 rfl rfl)
theorem dX1_fastest_33 : decode cX1_fastest 33 = .ok (.invokevirtual 202, 3) := dk_182 0 202 (dk_at dksX1_fastest_1 10 rfl rfl)
theorem dX1_fastest_36 : decode cX1_fastest 36 = .ok (.aload_n 0, 1) := dk_42 (dk_at dksX1_fastest_1 13 rfl rfl)
theorem dX1_fastest_37 : decode cX1_fastest 37 = .ok (.getfield 91, 3) := dk_180 0 91 (dk_at dksX1_fastest_1 14 rfl rfl)
theorem dX1_fastest_40 : decode cX1_fastest 40 = .ok (.iload_n 2, 1) := dk_28 (dk_at dksX1_fastest_1 17 rfl rfl)
theorem dX1_fastest_41 : decode cX1_fastest 41 = .ok (.iload_n 1, 1) := dk_27 (dk_at dksX1_fastest_1 18 rfl rfl)
theorem dX1_fastest_42 : decode cX1_fastest 42 = .ok (.iconst 0, 1) := dk_3 (dk_at dksX1_fastest_1 19 rfl rfl)
theorem dX1_fastest_43 : decode cX1_fastest 43 = .ok (.invokevirtual 202, 3) := dk_182 0 202 (dk_at dksX1_fastest_1 20 rfl rfl)
theorem dX1_fastest_46 : decode cX1_fastest 46 = .ok (.if_icmp .ge 5, 3) := dk_162 0 5 (dk_at dksX1_fastest_2 0 rfl rfl)
theorem dX1_fastest_49 : decode cX1_fastest 49 = .ok (.iload_n 3, 1) := dk_29 (dk_at dksX1_fastest_2 3 rfl rfl)
theorem dX1_fastest_50 : decode cX1_fastest 50 = .ok (.istore_n 2, 1) := dk_61 (dk_at dksX1_fastest_2 4 rfl rfl)
theorem dX1_fastest_51 : decode cX1_fastest 51 = .ok (.iinc 3 1, 3) := dk_132 3 1 (dk_at dksX1_fastest_2 5 rfl rfl)
theorem dX1_fastest_54 : decode cX1_fastest 54 = .ok (.goto (-36), 3) := dk_167 255 220 (dk_at dksX1_fastest_2 8 rfl rfl)
theorem dX1_fastest_57 : decode cX1_fastest 57 = .ok (.aload_n 0, 1) := dk_42 (dk_at dksX1_fastest_2 11 rfl rfl)
theorem dX1_fastest_58 : decode cX1_fastest 58 = .ok (.iload_n 2, 1) := dk_28 (dk_at dksX1_fastest_2 12 rfl rfl)
theorem dX1_fastest_59 : decode cX1_fastest 59 = .ok (.invokevirtual 47, 3) := dk_182 0 47 (dk_at dksX1_fastest_2 13 rfl rfl)
theorem dX1_fastest_62 : decode cX1_fastest 62 = .ok (.ireturn, 1) := dk_172 (dk_at dksX1_fastest_2 16 rfl rfl)
abbrev cX1_leader : ByteArray := prog_1_method_41_code
def yX1_leader : MethodName := ⟨RX1, "leader", "(I)I"⟩
def dkwX1_leader_2 : List UInt8 := [42, 28, 182, 0, 47, 172]
abbrev dktX1_leader_2 : List UInt8 := dkwX1_leader_2 ++ []
def dkwX1_leader_1 : List UInt8 := [162, 0, 24, 42, 180, 0, 91, 29, 28, 27, 184, 0, 227, 153, 0, 5, 29, 61, 132, 3, 1, 167, 255, 230]
abbrev dktX1_leader_1 : List UInt8 := dkwX1_leader_1 ++ dktX1_leader_2
def dkwX1_leader_0 : List UInt8 := [42, 27, 182, 0, 191, 154, 0, 9, 42, 4, 182, 0, 43, 172, 3, 61, 4, 62, 29, 42, 182, 0, 108]
abbrev dktX1_leader_0 : List UInt8 := dkwX1_leader_0 ++ dktX1_leader_1
theorem dksX1_leader_0 : cX1_leader.data.toList.drop 0 = dktX1_leader_0 := by decide +kernel
theorem dksX1_leader_1 : cX1_leader.data.toList.drop 23 = dktX1_leader_1 := dk_seg dksX1_leader_0 23 rfl rfl
theorem dksX1_leader_2 : cX1_leader.data.toList.drop 47 = dktX1_leader_2 := dk_seg dksX1_leader_1 24 rfl rfl
theorem dX1_leader_0 : decode cX1_leader 0 = .ok (.aload_n 0, 1) := dk_42 (dk_at dksX1_leader_0 0 rfl rfl)
theorem dX1_leader_1 : decode cX1_leader 1 = .ok (.iload_n 1, 1) := dk_27 (dk_at dksX1_leader_0 1 rfl rfl)
theorem dX1_leader_2 : decode cX1_leader 2 = .ok (.invokevirtual 191, 3) := dk_182 0 191 (dk_at dksX1_leader_0 2 rfl rfl)
theorem dX1_leader_5 : decode cX1_leader 5 = .ok (.ifCond .ne 9, 3) := dk_154 0 9 (dk_at dksX1_leader_0 5 rfl rfl)
theorem dX1_leader_8 : decode cX1_leader 8 = .ok (.aload_n 0, 1) := dk_42 (dk_at dksX1_leader_0 8 rfl rfl)
theorem dX1_leader_9 : decode cX1_leader 9 = .ok (.iconst 1, 1) := dk_4 (dk_at dksX1_leader_0 9 rfl rfl)
theorem dX1_leader_10 : decode cX1_leader 10 = .ok (.invokevirtual 43, 3) := dk_182 0 43 (dk_at dksX1_leader_0 10 rfl rfl)
theorem dX1_leader_13 : decode cX1_leader 13 = .ok (.ireturn, 1) := dk_172 (dk_at dksX1_leader_0 13 rfl rfl)
theorem dX1_leader_14 : decode cX1_leader 14 = .ok (.iconst 0, 1) := dk_3 (dk_at dksX1_leader_0 14 rfl rfl)
theorem dX1_leader_15 : decode cX1_leader 15 = .ok (.istore_n 2, 1) := dk_61 (dk_at dksX1_leader_0 15 rfl rfl)
theorem dX1_leader_16 : decode cX1_leader 16 = .ok (.iconst 1, 1) := dk_4 (dk_at dksX1_leader_0 16 rfl rfl)
theorem dX1_leader_17 : decode cX1_leader 17 = .ok (.istore_n 3, 1) := dk_62 (dk_at dksX1_leader_0 17 rfl rfl)
theorem dX1_leader_18 : decode cX1_leader 18 = .ok (.iload_n 3, 1) := dk_29 (dk_at dksX1_leader_0 18 rfl rfl)
theorem dX1_leader_19 : decode cX1_leader 19 = .ok (.aload_n 0, 1) := dk_42 (dk_at dksX1_leader_0 19 rfl rfl)
theorem dX1_leader_20 : decode cX1_leader 20 = .ok (.invokevirtual 108, 3) := dk_182 0 108 (dk_at dksX1_leader_0 20 rfl rfl)
theorem dX1_leader_23 : decode cX1_leader 23 = .ok (.if_icmp .ge 24, 3) := dk_162 0 24 (dk_at dksX1_leader_1 0 rfl rfl)
theorem dX1_leader_26 : decode cX1_leader 26 = .ok (.aload_n 0, 1) := dk_42 (dk_at dksX1_leader_1 3 rfl rfl)
theorem dX1_leader_27 : decode cX1_leader 27 = .ok (.getfield 91, 3) := dk_180 0 91 (dk_at dksX1_leader_1 4 rfl rfl)
theorem dX1_leader_30 : decode cX1_leader 30 = .ok (.iload_n 3, 1) := dk_29 (dk_at dksX1_leader_1 7 rfl rfl)
theorem dX1_leader_31 : decode cX1_leader 31 = .ok (.iload_n 2, 1) := dk_28 (dk_at dksX1_leader_1 8 rfl rfl)
theorem dX1_leader_32 : decode cX1_leader 32 = .ok (.iload_n 1, 1) := dk_27 (dk_at dksX1_leader_1 9 rfl rfl)
theorem dX1_leader_33 : decode cX1_leader 33 = .ok (.invokestatic 227, 3) := dk_184 0 227 (dk_at dksX1_leader_1 10 rfl rfl)
theorem dX1_leader_36 : decode cX1_leader 36 = .ok (.ifCond .eq 5, 3) := dk_153 0 5 (dk_at dksX1_leader_1 13 rfl rfl)
theorem dX1_leader_39 : decode cX1_leader 39 = .ok (.iload_n 3, 1) := dk_29 (dk_at dksX1_leader_1 16 rfl rfl)
theorem dX1_leader_40 : decode cX1_leader 40 = .ok (.istore_n 2, 1) := dk_61 (dk_at dksX1_leader_1 17 rfl rfl)
theorem dX1_leader_41 : decode cX1_leader 41 = .ok (.iinc 3 1, 3) := dk_132 3 1 (dk_at dksX1_leader_1 18 rfl rfl)
theorem dX1_leader_44 : decode cX1_leader 44 = .ok (.goto (-26), 3) := dk_167 255 230 (dk_at dksX1_leader_1 21 rfl rfl)
theorem dX1_leader_47 : decode cX1_leader 47 = .ok (.aload_n 0, 1) := dk_42 (dk_at dksX1_leader_2 0 rfl rfl)
theorem dX1_leader_48 : decode cX1_leader 48 = .ok (.iload_n 2, 1) := dk_28 (dk_at dksX1_leader_2 1 rfl rfl)
theorem dX1_leader_49 : decode cX1_leader 49 = .ok (.invokevirtual 47, 3) := dk_182 0 47 (dk_at dksX1_leader_2 2 rfl rfl)
theorem dX1_leader_52 : decode cX1_leader 52 = .ok (.ireturn, 1) := dk_172 (dk_at dksX1_leader_2 5 rfl rfl)
abbrev cX1_full : ByteArray := prog_1_method_42_code
def yX1_full : MethodName := ⟨RX1, "full", "()I"⟩
def dkwX1_full_2 : List UInt8 := [132, 2, 1, 167, 255, 224, 42, 27, 182, 0, 47, 172]
abbrev dktX1_full_2 : List UInt8 := dkwX1_full_2 ++ []
def dkwX1_full_1 : List UInt8 := [162, 0, 30, 27, 42, 180, 0, 91, 28, 182, 0, 231, 153, 0, 9, 4, 28, 120, 167, 0, 4, 3, 128, 60]
abbrev dktX1_full_1 : List UInt8 := dkwX1_full_1 ++ dktX1_full_2
def dkwX1_full_0 : List UInt8 := [42, 180, 0, 82, 199, 0, 9, 42, 4, 182, 0, 43, 172, 3, 60, 3, 61, 28, 42, 182, 0, 108]
abbrev dktX1_full_0 : List UInt8 := dkwX1_full_0 ++ dktX1_full_1
theorem dksX1_full_0 : cX1_full.data.toList.drop 0 = dktX1_full_0 := by decide +kernel
theorem dksX1_full_1 : cX1_full.data.toList.drop 22 = dktX1_full_1 := dk_seg dksX1_full_0 22 rfl rfl
theorem dksX1_full_2 : cX1_full.data.toList.drop 46 = dktX1_full_2 := dk_seg dksX1_full_1 24 rfl rfl
theorem dX1_full_0 : decode cX1_full 0 = .ok (.aload_n 0, 1) := dk_42 (dk_at dksX1_full_0 0 rfl rfl)
theorem dX1_full_1 : decode cX1_full 1 = .ok (.getfield 82, 3) := dk_180 0 82 (dk_at dksX1_full_0 1 rfl rfl)
theorem dX1_full_4 : decode cX1_full 4 = .ok (.ifnonnull 9, 3) := dk_199 0 9 (dk_at dksX1_full_0 4 rfl rfl)
theorem dX1_full_7 : decode cX1_full 7 = .ok (.aload_n 0, 1) := dk_42 (dk_at dksX1_full_0 7 rfl rfl)
theorem dX1_full_8 : decode cX1_full 8 = .ok (.iconst 1, 1) := dk_4 (dk_at dksX1_full_0 8 rfl rfl)
theorem dX1_full_9 : decode cX1_full 9 = .ok (.invokevirtual 43, 3) := dk_182 0 43 (dk_at dksX1_full_0 9 rfl rfl)
theorem dX1_full_12 : decode cX1_full 12 = .ok (.ireturn, 1) := dk_172 (dk_at dksX1_full_0 12 rfl rfl)
theorem dX1_full_13 : decode cX1_full 13 = .ok (.iconst 0, 1) := dk_3 (dk_at dksX1_full_0 13 rfl rfl)
theorem dX1_full_14 : decode cX1_full 14 = .ok (.istore_n 1, 1) := dk_60 (dk_at dksX1_full_0 14 rfl rfl)
theorem dX1_full_15 : decode cX1_full 15 = .ok (.iconst 0, 1) := dk_3 (dk_at dksX1_full_0 15 rfl rfl)
theorem dX1_full_16 : decode cX1_full 16 = .ok (.istore_n 2, 1) := dk_61 (dk_at dksX1_full_0 16 rfl rfl)
theorem dX1_full_17 : decode cX1_full 17 = .ok (.iload_n 2, 1) := dk_28 (dk_at dksX1_full_0 17 rfl rfl)
theorem dX1_full_18 : decode cX1_full 18 = .ok (.aload_n 0, 1) := dk_42 (dk_at dksX1_full_0 18 rfl rfl)
theorem dX1_full_19 : decode cX1_full 19 = .ok (.invokevirtual 108, 3) := dk_182 0 108 (dk_at dksX1_full_0 19 rfl rfl)
theorem dX1_full_22 : decode cX1_full 22 = .ok (.if_icmp .ge 30, 3) := dk_162 0 30 (dk_at dksX1_full_1 0 rfl rfl)
theorem dX1_full_25 : decode cX1_full 25 = .ok (.iload_n 1, 1) := dk_27 (dk_at dksX1_full_1 3 rfl rfl)
theorem dX1_full_26 : decode cX1_full 26 = .ok (.aload_n 0, 1) := dk_42 (dk_at dksX1_full_1 4 rfl rfl)
theorem dX1_full_27 : decode cX1_full 27 = .ok (.getfield 91, 3) := dk_180 0 91 (dk_at dksX1_full_1 5 rfl rfl)
theorem dX1_full_30 : decode cX1_full 30 = .ok (.iload_n 2, 1) := dk_28 (dk_at dksX1_full_1 8 rfl rfl)
theorem dX1_full_31 : decode cX1_full 31 = .ok (.invokevirtual 231, 3) := dk_182 0 231 (dk_at dksX1_full_1 9 rfl rfl)
theorem dX1_full_34 : decode cX1_full 34 = .ok (.ifCond .eq 9, 3) := dk_153 0 9 (dk_at dksX1_full_1 12 rfl rfl)
theorem dX1_full_37 : decode cX1_full 37 = .ok (.iconst 1, 1) := dk_4 (dk_at dksX1_full_1 15 rfl rfl)
theorem dX1_full_38 : decode cX1_full 38 = .ok (.iload_n 2, 1) := dk_28 (dk_at dksX1_full_1 16 rfl rfl)
theorem dX1_full_39 : decode cX1_full 39 = .ok (.ishl, 1) := dk_120 (dk_at dksX1_full_1 17 rfl rfl)
theorem dX1_full_40 : decode cX1_full 40 = .ok (.goto 4, 3) := dk_167 0 4 (dk_at dksX1_full_1 18 rfl rfl)
theorem dX1_full_43 : decode cX1_full 43 = .ok (.iconst 0, 1) := dk_3 (dk_at dksX1_full_1 21 rfl rfl)
theorem dX1_full_44 : decode cX1_full 44 = .ok (.ior, 1) := dk_128 (dk_at dksX1_full_1 22 rfl rfl)
theorem dX1_full_45 : decode cX1_full 45 = .ok (.istore_n 1, 1) := dk_60 (dk_at dksX1_full_1 23 rfl rfl)
theorem dX1_full_46 : decode cX1_full 46 = .ok (.iinc 2 1, 3) := dk_132 2 1 (dk_at dksX1_full_2 0 rfl rfl)
theorem dX1_full_49 : decode cX1_full 49 = .ok (.goto (-32), 3) := dk_167 255 224 (dk_at dksX1_full_2 3 rfl rfl)
theorem dX1_full_52 : decode cX1_full 52 = .ok (.aload_n 0, 1) := dk_42 (dk_at dksX1_full_2 6 rfl rfl)
theorem dX1_full_53 : decode cX1_full 53 = .ok (.iload_n 1, 1) := dk_27 (dk_at dksX1_full_2 7 rfl rfl)
theorem dX1_full_54 : decode cX1_full 54 = .ok (.invokevirtual 47, 3) := dk_182 0 47 (dk_at dksX1_full_2 8 rfl rfl)
theorem dX1_full_57 : decode cX1_full 57 = .ok (.ireturn, 1) := dk_172 (dk_at dksX1_full_2 11 rfl rfl)
abbrev cX1_storey : ByteArray := prog_1_method_43_code
def yX1_storey : MethodName := ⟨RX1, "storey", "(I)I"⟩
def dkwX1_storey_1 : List UInt8 := [180, 0, 234, 167, 0, 4, 3, 182, 0, 47, 167, 0, 8, 42, 4, 182, 0, 43, 172]
abbrev dktX1_storey_1 : List UInt8 := dkwX1_storey_1 ++ []
def dkwX1_storey_0 : List UInt8 := [42, 27, 182, 0, 131, 153, 0, 32, 42, 42, 180, 0, 82, 27, 182, 0, 212, 158, 0, 13, 42, 180, 0, 82]
abbrev dktX1_storey_0 : List UInt8 := dkwX1_storey_0 ++ dktX1_storey_1
theorem dksX1_storey_0 : cX1_storey.data.toList.drop 0 = dktX1_storey_0 := by decide +kernel
theorem dksX1_storey_1 : cX1_storey.data.toList.drop 24 = dktX1_storey_1 := dk_seg dksX1_storey_0 24 rfl rfl
theorem dX1_storey_0 : decode cX1_storey 0 = .ok (.aload_n 0, 1) := dk_42 (dk_at dksX1_storey_0 0 rfl rfl)
theorem dX1_storey_1 : decode cX1_storey 1 = .ok (.iload_n 1, 1) := dk_27 (dk_at dksX1_storey_0 1 rfl rfl)
theorem dX1_storey_2 : decode cX1_storey 2 = .ok (.invokevirtual 131, 3) := dk_182 0 131 (dk_at dksX1_storey_0 2 rfl rfl)
theorem dX1_storey_5 : decode cX1_storey 5 = .ok (.ifCond .eq 32, 3) := dk_153 0 32 (dk_at dksX1_storey_0 5 rfl rfl)
theorem dX1_storey_8 : decode cX1_storey 8 = .ok (.aload_n 0, 1) := dk_42 (dk_at dksX1_storey_0 8 rfl rfl)
theorem dX1_storey_9 : decode cX1_storey 9 = .ok (.aload_n 0, 1) := dk_42 (dk_at dksX1_storey_0 9 rfl rfl)
theorem dX1_storey_10 : decode cX1_storey 10 = .ok (.getfield 82, 3) := dk_180 0 82 (dk_at dksX1_storey_0 10 rfl rfl)
theorem dX1_storey_13 : decode cX1_storey 13 = .ok (.iload_n 1, 1) := dk_27 (dk_at dksX1_storey_0 13 rfl rfl)
theorem dX1_storey_14 : decode cX1_storey 14 = .ok (.invokevirtual 212, 3) := dk_182 0 212 (dk_at dksX1_storey_0 14 rfl rfl)
theorem dX1_storey_17 : decode cX1_storey 17 = .ok (.ifCond .le 13, 3) := dk_158 0 13 (dk_at dksX1_storey_0 17 rfl rfl)
theorem dX1_storey_20 : decode cX1_storey 20 = .ok (.aload_n 0, 1) := dk_42 (dk_at dksX1_storey_0 20 rfl rfl)
theorem dX1_storey_21 : decode cX1_storey 21 = .ok (.getfield 82, 3) := dk_180 0 82 (dk_at dksX1_storey_0 21 rfl rfl)
theorem dX1_storey_24 : decode cX1_storey 24 = .ok (.getfield 234, 3) := dk_180 0 234 (dk_at dksX1_storey_1 0 rfl rfl)
theorem dX1_storey_27 : decode cX1_storey 27 = .ok (.goto 4, 3) := dk_167 0 4 (dk_at dksX1_storey_1 3 rfl rfl)
theorem dX1_storey_30 : decode cX1_storey 30 = .ok (.iconst 0, 1) := dk_3 (dk_at dksX1_storey_1 6 rfl rfl)
theorem dX1_storey_31 : decode cX1_storey 31 = .ok (.invokevirtual 47, 3) := dk_182 0 47 (dk_at dksX1_storey_1 7 rfl rfl)
theorem dX1_storey_34 : decode cX1_storey 34 = .ok (.goto 8, 3) := dk_167 0 8 (dk_at dksX1_storey_1 10 rfl rfl)
theorem dX1_storey_37 : decode cX1_storey 37 = .ok (.aload_n 0, 1) := dk_42 (dk_at dksX1_storey_1 13 rfl rfl)
theorem dX1_storey_38 : decode cX1_storey 38 = .ok (.iconst 1, 1) := dk_4 (dk_at dksX1_storey_1 14 rfl rfl)
theorem dX1_storey_39 : decode cX1_storey 39 = .ok (.invokevirtual 43, 3) := dk_182 0 43 (dk_at dksX1_storey_1 15 rfl rfl)
theorem dX1_storey_42 : decode cX1_storey 42 = .ok (.ireturn, 1) := dk_172 (dk_at dksX1_storey_1 18 rfl rfl)
abbrev cX1_together : ByteArray := prog_1_method_44_code
def yX1_together : MethodName := ⟨RX1, "together", "()I"⟩
def dkwX1_together_1 : List UInt8 := [182, 0, 47, 172]
abbrev dktX1_together_1 : List UInt8 := dkwX1_together_1 ++ []
def dkwX1_together_0 : List UInt8 := [42, 180, 0, 82, 199, 0, 11, 42, 4, 182, 0, 43, 167, 0, 14, 42, 42, 180, 0, 91, 182, 0, 237]
abbrev dktX1_together_0 : List UInt8 := dkwX1_together_0 ++ dktX1_together_1
theorem dksX1_together_0 : cX1_together.data.toList.drop 0 = dktX1_together_0 := by decide +kernel
theorem dksX1_together_1 : cX1_together.data.toList.drop 23 = dktX1_together_1 := dk_seg dksX1_together_0 23 rfl rfl
theorem dX1_together_0 : decode cX1_together 0 = .ok (.aload_n 0, 1) := dk_42 (dk_at dksX1_together_0 0 rfl rfl)
theorem dX1_together_1 : decode cX1_together 1 = .ok (.getfield 82, 3) := dk_180 0 82 (dk_at dksX1_together_0 1 rfl rfl)
theorem dX1_together_4 : decode cX1_together 4 = .ok (.ifnonnull 11, 3) := dk_199 0 11 (dk_at dksX1_together_0 4 rfl rfl)
theorem dX1_together_7 : decode cX1_together 7 = .ok (.aload_n 0, 1) := dk_42 (dk_at dksX1_together_0 7 rfl rfl)
theorem dX1_together_8 : decode cX1_together 8 = .ok (.iconst 1, 1) := dk_4 (dk_at dksX1_together_0 8 rfl rfl)
theorem dX1_together_9 : decode cX1_together 9 = .ok (.invokevirtual 43, 3) := dk_182 0 43 (dk_at dksX1_together_0 9 rfl rfl)
theorem dX1_together_12 : decode cX1_together 12 = .ok (.goto 14, 3) := dk_167 0 14 (dk_at dksX1_together_0 12 rfl rfl)
theorem dX1_together_15 : decode cX1_together 15 = .ok (.aload_n 0, 1) := dk_42 (dk_at dksX1_together_0 15 rfl rfl)
theorem dX1_together_16 : decode cX1_together 16 = .ok (.aload_n 0, 1) := dk_42 (dk_at dksX1_together_0 16 rfl rfl)
theorem dX1_together_17 : decode cX1_together 17 = .ok (.getfield 91, 3) := dk_180 0 91 (dk_at dksX1_together_0 17 rfl rfl)
theorem dX1_together_20 : decode cX1_together 20 = .ok (.invokevirtual 237, 3) := dk_182 0 237 (dk_at dksX1_together_0 20 rfl rfl)
theorem dX1_together_23 : decode cX1_together 23 = .ok (.invokevirtual 47, 3) := dk_182 0 47 (dk_at dksX1_together_1 0 rfl rfl)
theorem dX1_together_26 : decode cX1_together 26 = .ok (.ireturn, 1) := dk_172 (dk_at dksX1_together_1 3 rfl rfl)
abbrev cX1_bestRank : ByteArray := prog_1_method_49_code
def yX1_bestRank : MethodName := ⟨RX1, "bestRank", "(I)I"⟩
def dkwX1_bestRank_1 : List UInt8 := [182, 0, 47, 172]
abbrev dktX1_bestRank_1 : List UInt8 := dkwX1_bestRank_1 ++ []
def dkwX1_bestRank_0 : List UInt8 := [42, 27, 182, 0, 131, 154, 0, 9, 42, 4, 182, 0, 43, 172, 42, 27, 182, 1, 12, 42, 42, 180, 0, 247]
abbrev dktX1_bestRank_0 : List UInt8 := dkwX1_bestRank_0 ++ dktX1_bestRank_1
theorem dksX1_bestRank_0 : cX1_bestRank.data.toList.drop 0 = dktX1_bestRank_0 := by decide +kernel
theorem dksX1_bestRank_1 : cX1_bestRank.data.toList.drop 24 = dktX1_bestRank_1 := dk_seg dksX1_bestRank_0 24 rfl rfl
theorem dX1_bestRank_0 : decode cX1_bestRank 0 = .ok (.aload_n 0, 1) := dk_42 (dk_at dksX1_bestRank_0 0 rfl rfl)
theorem dX1_bestRank_1 : decode cX1_bestRank 1 = .ok (.iload_n 1, 1) := dk_27 (dk_at dksX1_bestRank_0 1 rfl rfl)
theorem dX1_bestRank_2 : decode cX1_bestRank 2 = .ok (.invokevirtual 131, 3) := dk_182 0 131 (dk_at dksX1_bestRank_0 2 rfl rfl)
theorem dX1_bestRank_5 : decode cX1_bestRank 5 = .ok (.ifCond .ne 9, 3) := dk_154 0 9 (dk_at dksX1_bestRank_0 5 rfl rfl)
theorem dX1_bestRank_8 : decode cX1_bestRank 8 = .ok (.aload_n 0, 1) := dk_42 (dk_at dksX1_bestRank_0 8 rfl rfl)
theorem dX1_bestRank_9 : decode cX1_bestRank 9 = .ok (.iconst 1, 1) := dk_4 (dk_at dksX1_bestRank_0 9 rfl rfl)
theorem dX1_bestRank_10 : decode cX1_bestRank 10 = .ok (.invokevirtual 43, 3) := dk_182 0 43 (dk_at dksX1_bestRank_0 10 rfl rfl)
theorem dX1_bestRank_13 : decode cX1_bestRank 13 = .ok (.ireturn, 1) := dk_172 (dk_at dksX1_bestRank_0 13 rfl rfl)
theorem dX1_bestRank_14 : decode cX1_bestRank 14 = .ok (.aload_n 0, 1) := dk_42 (dk_at dksX1_bestRank_0 14 rfl rfl)
theorem dX1_bestRank_15 : decode cX1_bestRank 15 = .ok (.iload_n 1, 1) := dk_27 (dk_at dksX1_bestRank_0 15 rfl rfl)
theorem dX1_bestRank_16 : decode cX1_bestRank 16 = .ok (.invokevirtual 268, 3) := dk_182 1 12 (dk_at dksX1_bestRank_0 16 rfl rfl)
theorem dX1_bestRank_19 : decode cX1_bestRank 19 = .ok (.aload_n 0, 1) := dk_42 (dk_at dksX1_bestRank_0 19 rfl rfl)
theorem dX1_bestRank_20 : decode cX1_bestRank 20 = .ok (.aload_n 0, 1) := dk_42 (dk_at dksX1_bestRank_0 20 rfl rfl)
theorem dX1_bestRank_21 : decode cX1_bestRank 21 = .ok (.getfield 247, 3) := dk_180 0 247 (dk_at dksX1_bestRank_0 21 rfl rfl)
theorem dX1_bestRank_24 : decode cX1_bestRank 24 = .ok (.invokevirtual 47, 3) := dk_182 0 47 (dk_at dksX1_bestRank_1 0 rfl rfl)
theorem dX1_bestRank_27 : decode cX1_bestRank 27 = .ok (.ireturn, 1) := dk_172 (dk_at dksX1_bestRank_1 3 rfl rfl)
abbrev cX1_bests : ByteArray := prog_1_method_48_code
def yX1_bests : MethodName := ⟨RX1, "bests", "(I)V"⟩
def dkwX1_bests_5 : List UInt8 := [8, 184, 1, 6, 132, 2, 1, 167, 255, 148, 177]
abbrev dktX1_bests_5 : List UInt8 := dkwX1_bests_5 ++ []
def dkwX1_bests_4 : List UInt8 := [181, 0, 247, 42, 42, 182, 1, 3, 181, 0, 250, 42, 180, 0, 102, 180, 0, 185, 3, 42, 180, 0, 27, 3]
abbrev dktX1_bests_4 : List UInt8 := dkwX1_bests_4 ++ dktX1_bests_5
def dkwX1_bests_3 : List UInt8 := [180, 0, 247, 160, 0, 17, 42, 182, 1, 3, 42, 180, 0, 250, 161, 0, 6, 167, 0, 33, 42, 29]
abbrev dktX1_bests_3 : List UInt8 := dkwX1_bests_3 ++ dktX1_bests_4
def dkwX1_bests_2 : List UInt8 := [167, 0, 12, 42, 180, 0, 102, 27, 3, 182, 0, 215, 62, 29, 42, 180, 0, 247, 163, 0, 55, 29, 42]
abbrev dktX1_bests_2 : List UInt8 := dkwX1_bests_2 ++ dktX1_bests_3
def dkwX1_bests_1 : List UInt8 := [182, 1, 0, 154, 0, 6, 167, 0, 89, 27, 2, 160, 0, 14, 42, 180, 0, 102, 182, 0, 237, 116]
abbrev dktX1_bests_1 : List UInt8 := dkwX1_bests_1 ++ dktX1_bests_2
def dkwX1_bests_0 : List UInt8 := [42, 18, 246, 181, 0, 247, 42, 18, 246, 181, 0, 250, 3, 61, 28, 42, 182, 0, 253, 162, 0, 106, 42, 28]
abbrev dktX1_bests_0 : List UInt8 := dkwX1_bests_0 ++ dktX1_bests_1
theorem dksX1_bests_0 : cX1_bests.data.toList.drop 0 = dktX1_bests_0 := by decide +kernel
theorem dksX1_bests_1 : cX1_bests.data.toList.drop 24 = dktX1_bests_1 := dk_seg dksX1_bests_0 24 rfl rfl
theorem dksX1_bests_2 : cX1_bests.data.toList.drop 46 = dktX1_bests_2 := dk_seg dksX1_bests_1 22 rfl rfl
theorem dksX1_bests_3 : cX1_bests.data.toList.drop 69 = dktX1_bests_3 := dk_seg dksX1_bests_2 23 rfl rfl
theorem dksX1_bests_4 : cX1_bests.data.toList.drop 91 = dktX1_bests_4 := dk_seg dksX1_bests_3 22 rfl rfl
theorem dksX1_bests_5 : cX1_bests.data.toList.drop 115 = dktX1_bests_5 := dk_seg dksX1_bests_4 24 rfl rfl
theorem dX1_bests_0 : decode cX1_bests 0 = .ok (.aload_n 0, 1) := dk_42 (dk_at dksX1_bests_0 0 rfl rfl)
theorem dX1_bests_1 : decode cX1_bests 1 = .ok (.ldc 246, 2) := dk_18 246 (dk_at dksX1_bests_0 1 rfl rfl)
theorem dX1_bests_3 : decode cX1_bests 3 = .ok (.putfield 247, 3) := dk_181 0 247 (dk_at dksX1_bests_0 3 rfl rfl)
theorem dX1_bests_6 : decode cX1_bests 6 = .ok (.aload_n 0, 1) := dk_42 (dk_at dksX1_bests_0 6 rfl rfl)
theorem dX1_bests_7 : decode cX1_bests 7 = .ok (.ldc 246, 2) := dk_18 246 (dk_at dksX1_bests_0 7 rfl rfl)
theorem dX1_bests_9 : decode cX1_bests 9 = .ok (.putfield 250, 3) := dk_181 0 250 (dk_at dksX1_bests_0 9 rfl rfl)
theorem dX1_bests_12 : decode cX1_bests 12 = .ok (.iconst 0, 1) := dk_3 (dk_at dksX1_bests_0 12 rfl rfl)
theorem dX1_bests_13 : decode cX1_bests 13 = .ok (.istore_n 2, 1) := dk_61 (dk_at dksX1_bests_0 13 rfl rfl)
theorem dX1_bests_14 : decode cX1_bests 14 = .ok (.iload_n 2, 1) := dk_28 (dk_at dksX1_bests_0 14 rfl rfl)
theorem dX1_bests_15 : decode cX1_bests 15 = .ok (.aload_n 0, 1) := dk_42 (dk_at dksX1_bests_0 15 rfl rfl)
theorem dX1_bests_16 : decode cX1_bests 16 = .ok (.invokevirtual 253, 3) := dk_182 0 253 (dk_at dksX1_bests_0 16 rfl rfl)
theorem dX1_bests_19 : decode cX1_bests 19 = .ok (.if_icmp .ge 106, 3) := dk_162 0 106 (dk_at dksX1_bests_0 19 rfl rfl)
theorem dX1_bests_22 : decode cX1_bests 22 = .ok (.aload_n 0, 1) := dk_42 (dk_at dksX1_bests_0 22 rfl rfl)
theorem dX1_bests_23 : decode cX1_bests 23 = .ok (.iload_n 2, 1) := dk_28 (dk_at dksX1_bests_0 23 rfl rfl)
theorem dX1_bests_24 : decode cX1_bests 24 = .ok (.invokevirtual 256, 3) := dk_182 1 0 (dk_at dksX1_bests_1 0 rfl rfl)
theorem dX1_bests_27 : decode cX1_bests 27 = .ok (.ifCond .ne 6, 3) := dk_154 0 6 (dk_at dksX1_bests_1 3 rfl rfl)
theorem dX1_bests_30 : decode cX1_bests 30 = .ok (.goto 89, 3) := dk_167 0 89 (dk_at dksX1_bests_1 6 rfl rfl)
theorem dX1_bests_33 : decode cX1_bests 33 = .ok (.iload_n 1, 1) := dk_27 (dk_at dksX1_bests_1 9 rfl rfl)
theorem dX1_bests_34 : decode cX1_bests 34 = .ok (.iconst (-1), 1) := dk_2 (dk_at dksX1_bests_1 10 rfl rfl)
theorem dX1_bests_35 : decode cX1_bests 35 = .ok (.if_icmp .ne 14, 3) := dk_160 0 14 (dk_at dksX1_bests_1 11 rfl rfl)
theorem dX1_bests_38 : decode cX1_bests 38 = .ok (.aload_n 0, 1) := dk_42 (dk_at dksX1_bests_1 14 rfl rfl)
theorem dX1_bests_39 : decode cX1_bests 39 = .ok (.getfield 102, 3) := dk_180 0 102 (dk_at dksX1_bests_1 15 rfl rfl)
theorem dX1_bests_42 : decode cX1_bests 42 = .ok (.invokevirtual 237, 3) := dk_182 0 237 (dk_at dksX1_bests_1 18 rfl rfl)
theorem dX1_bests_45 : decode cX1_bests 45 = .ok (.ineg, 1) := dk_116 (dk_at dksX1_bests_1 21 rfl rfl)
theorem dX1_bests_46 : decode cX1_bests 46 = .ok (.goto 12, 3) := dk_167 0 12 (dk_at dksX1_bests_2 0 rfl rfl)
theorem dX1_bests_49 : decode cX1_bests 49 = .ok (.aload_n 0, 1) := dk_42 (dk_at dksX1_bests_2 3 rfl rfl)
theorem dX1_bests_50 : decode cX1_bests 50 = .ok (.getfield 102, 3) := dk_180 0 102 (dk_at dksX1_bests_2 4 rfl rfl)
theorem dX1_bests_53 : decode cX1_bests 53 = .ok (.iload_n 1, 1) := dk_27 (dk_at dksX1_bests_2 7 rfl rfl)
theorem dX1_bests_54 : decode cX1_bests 54 = .ok (.iconst 0, 1) := dk_3 (dk_at dksX1_bests_2 8 rfl rfl)
theorem dX1_bests_55 : decode cX1_bests 55 = .ok (.invokevirtual 215, 3) := dk_182 0 215 (dk_at dksX1_bests_2 9 rfl rfl)
theorem dX1_bests_58 : decode cX1_bests 58 = .ok (.istore_n 3, 1) := dk_62 (dk_at dksX1_bests_2 12 rfl rfl)
theorem dX1_bests_59 : decode cX1_bests 59 = .ok (.iload_n 3, 1) := dk_29 (dk_at dksX1_bests_2 13 rfl rfl)
theorem dX1_bests_60 : decode cX1_bests 60 = .ok (.aload_n 0, 1) := dk_42 (dk_at dksX1_bests_2 14 rfl rfl)
theorem dX1_bests_61 : decode cX1_bests 61 = .ok (.getfield 247, 3) := dk_180 0 247 (dk_at dksX1_bests_2 15 rfl rfl)
theorem dX1_bests_64 : decode cX1_bests 64 = .ok (.if_icmp .gt 55, 3) := dk_163 0 55 (dk_at dksX1_bests_2 18 rfl rfl)
theorem dX1_bests_67 : decode cX1_bests 67 = .ok (.iload_n 3, 1) := dk_29 (dk_at dksX1_bests_2 21 rfl rfl)
theorem dX1_bests_68 : decode cX1_bests 68 = .ok (.aload_n 0, 1) := dk_42 (dk_at dksX1_bests_2 22 rfl rfl)
theorem dX1_bests_69 : decode cX1_bests 69 = .ok (.getfield 247, 3) := dk_180 0 247 (dk_at dksX1_bests_3 0 rfl rfl)
theorem dX1_bests_72 : decode cX1_bests 72 = .ok (.if_icmp .ne 17, 3) := dk_160 0 17 (dk_at dksX1_bests_3 3 rfl rfl)
theorem dX1_bests_75 : decode cX1_bests 75 = .ok (.aload_n 0, 1) := dk_42 (dk_at dksX1_bests_3 6 rfl rfl)
theorem dX1_bests_76 : decode cX1_bests 76 = .ok (.invokevirtual 259, 3) := dk_182 1 3 (dk_at dksX1_bests_3 7 rfl rfl)
theorem dX1_bests_79 : decode cX1_bests 79 = .ok (.aload_n 0, 1) := dk_42 (dk_at dksX1_bests_3 10 rfl rfl)
theorem dX1_bests_80 : decode cX1_bests 80 = .ok (.getfield 250, 3) := dk_180 0 250 (dk_at dksX1_bests_3 11 rfl rfl)
theorem dX1_bests_83 : decode cX1_bests 83 = .ok (.if_icmp .lt 6, 3) := dk_161 0 6 (dk_at dksX1_bests_3 14 rfl rfl)
theorem dX1_bests_86 : decode cX1_bests 86 = .ok (.goto 33, 3) := dk_167 0 33 (dk_at dksX1_bests_3 17 rfl rfl)
theorem dX1_bests_89 : decode cX1_bests 89 = .ok (.aload_n 0, 1) := dk_42 (dk_at dksX1_bests_3 20 rfl rfl)
theorem dX1_bests_90 : decode cX1_bests 90 = .ok (.iload_n 3, 1) := dk_29 (dk_at dksX1_bests_3 21 rfl rfl)
theorem dX1_bests_91 : decode cX1_bests 91 = .ok (.putfield 247, 3) := dk_181 0 247 (dk_at dksX1_bests_4 0 rfl rfl)
theorem dX1_bests_94 : decode cX1_bests 94 = .ok (.aload_n 0, 1) := dk_42 (dk_at dksX1_bests_4 3 rfl rfl)
theorem dX1_bests_95 : decode cX1_bests 95 = .ok (.aload_n 0, 1) := dk_42 (dk_at dksX1_bests_4 4 rfl rfl)
theorem dX1_bests_96 : decode cX1_bests 96 = .ok (.invokevirtual 259, 3) := dk_182 1 3 (dk_at dksX1_bests_4 5 rfl rfl)
theorem dX1_bests_99 : decode cX1_bests 99 = .ok (.putfield 250, 3) := dk_181 0 250 (dk_at dksX1_bests_4 8 rfl rfl)
theorem dX1_bests_102 : decode cX1_bests 102 = .ok (.aload_n 0, 1) := dk_42 (dk_at dksX1_bests_4 11 rfl rfl)
theorem dX1_bests_103 : decode cX1_bests 103 = .ok (.getfield 102, 3) := dk_180 0 102 (dk_at dksX1_bests_4 12 rfl rfl)
theorem dX1_bests_106 : decode cX1_bests 106 = .ok (.getfield 185, 3) := dk_180 0 185 (dk_at dksX1_bests_4 15 rfl rfl)
theorem dX1_bests_109 : decode cX1_bests 109 = .ok (.iconst 0, 1) := dk_3 (dk_at dksX1_bests_4 18 rfl rfl)
theorem dX1_bests_110 : decode cX1_bests 110 = .ok (.aload_n 0, 1) := dk_42 (dk_at dksX1_bests_4 19 rfl rfl)
theorem dX1_bests_111 : decode cX1_bests 111 = .ok (.getfield 27, 3) := dk_180 0 27 (dk_at dksX1_bests_4 20 rfl rfl)
theorem dX1_bests_114 : decode cX1_bests 114 = .ok (.iconst 0, 1) := dk_3 (dk_at dksX1_bests_4 23 rfl rfl)
theorem dX1_bests_115 : decode cX1_bests 115 = .ok (.iconst 5, 1) := dk_8 (dk_at dksX1_bests_5 0 rfl rfl)
theorem dX1_bests_116 : decode cX1_bests 116 = .ok (.invokestatic 262, 3) := dk_184 1 6 (dk_at dksX1_bests_5 1 rfl rfl)
theorem dX1_bests_119 : decode cX1_bests 119 = .ok (.iinc 2 1, 3) := dk_132 2 1 (dk_at dksX1_bests_5 4 rfl rfl)
theorem dX1_bests_122 : decode cX1_bests 122 = .ok (.goto (-108), 3) := dk_167 255 148 (dk_at dksX1_bests_5 7 rfl rfl)
theorem dX1_bests_125 : decode cX1_bests 125 = .ok (.return_, 1) := dk_177 (dk_at dksX1_bests_5 10 rfl rfl)
abbrev cX1_loads : ByteArray := prog_1_method_45_code
def yX1_loads : MethodName := ⟨RX1, "loads", "()I"⟩
def dkwX1_loads_1 : List UInt8 := [167, 255, 236, 27, 172]
abbrev dktX1_loads_1 : List UInt8 := dkwX1_loads_1 ++ []
def dkwX1_loads_0 : List UInt8 := [4, 60, 3, 61, 28, 42, 182, 0, 126, 162, 0, 18, 27, 42, 182, 0, 108, 4, 96, 104, 60, 132, 2, 1]
abbrev dktX1_loads_0 : List UInt8 := dkwX1_loads_0 ++ dktX1_loads_1
theorem dksX1_loads_0 : cX1_loads.data.toList.drop 0 = dktX1_loads_0 := by decide +kernel
theorem dksX1_loads_1 : cX1_loads.data.toList.drop 24 = dktX1_loads_1 := dk_seg dksX1_loads_0 24 rfl rfl
theorem dX1_loads_0 : decode cX1_loads 0 = .ok (.iconst 1, 1) := dk_4 (dk_at dksX1_loads_0 0 rfl rfl)
theorem dX1_loads_1 : decode cX1_loads 1 = .ok (.istore_n 1, 1) := dk_60 (dk_at dksX1_loads_0 1 rfl rfl)
theorem dX1_loads_2 : decode cX1_loads 2 = .ok (.iconst 0, 1) := dk_3 (dk_at dksX1_loads_0 2 rfl rfl)
theorem dX1_loads_3 : decode cX1_loads 3 = .ok (.istore_n 2, 1) := dk_61 (dk_at dksX1_loads_0 3 rfl rfl)
theorem dX1_loads_4 : decode cX1_loads 4 = .ok (.iload_n 2, 1) := dk_28 (dk_at dksX1_loads_0 4 rfl rfl)
theorem dX1_loads_5 : decode cX1_loads 5 = .ok (.aload_n 0, 1) := dk_42 (dk_at dksX1_loads_0 5 rfl rfl)
theorem dX1_loads_6 : decode cX1_loads 6 = .ok (.invokevirtual 126, 3) := dk_182 0 126 (dk_at dksX1_loads_0 6 rfl rfl)
theorem dX1_loads_9 : decode cX1_loads 9 = .ok (.if_icmp .ge 18, 3) := dk_162 0 18 (dk_at dksX1_loads_0 9 rfl rfl)
theorem dX1_loads_12 : decode cX1_loads 12 = .ok (.iload_n 1, 1) := dk_27 (dk_at dksX1_loads_0 12 rfl rfl)
theorem dX1_loads_13 : decode cX1_loads 13 = .ok (.aload_n 0, 1) := dk_42 (dk_at dksX1_loads_0 13 rfl rfl)
theorem dX1_loads_14 : decode cX1_loads 14 = .ok (.invokevirtual 108, 3) := dk_182 0 108 (dk_at dksX1_loads_0 14 rfl rfl)
theorem dX1_loads_17 : decode cX1_loads 17 = .ok (.iconst 1, 1) := dk_4 (dk_at dksX1_loads_0 17 rfl rfl)
theorem dX1_loads_18 : decode cX1_loads 18 = .ok (.iadd, 1) := dk_96 (dk_at dksX1_loads_0 18 rfl rfl)
theorem dX1_loads_19 : decode cX1_loads 19 = .ok (.imul, 1) := dk_104 (dk_at dksX1_loads_0 19 rfl rfl)
theorem dX1_loads_20 : decode cX1_loads 20 = .ok (.istore_n 1, 1) := dk_60 (dk_at dksX1_loads_0 20 rfl rfl)
theorem dX1_loads_21 : decode cX1_loads 21 = .ok (.iinc 2 1, 3) := dk_132 2 1 (dk_at dksX1_loads_0 21 rfl rfl)
theorem dX1_loads_24 : decode cX1_loads 24 = .ok (.goto (-20), 3) := dk_167 255 236 (dk_at dksX1_loads_1 0 rfl rfl)
theorem dX1_loads_27 : decode cX1_loads 27 = .ok (.iload_n 1, 1) := dk_27 (dk_at dksX1_loads_1 3 rfl rfl)
theorem dX1_loads_28 : decode cX1_loads 28 = .ok (.ireturn, 1) := dk_172 (dk_at dksX1_loads_1 4 rfl rfl)
abbrev cX1_lays : ByteArray := prog_1_method_46_code
def yX1_lays : MethodName := ⟨RX1, "lays", "(I)Z"⟩
def dkwX1_lays_4 : List UInt8 := [29, 182, 0, 139, 192, 0, 143, 180, 0, 151, 164, 0, 5, 3, 172, 132, 3, 1, 167, 255, 212, 4, 172]
abbrev dktX1_lays_4 : List UInt8 := dkwX1_lays_4 ++ []
def dkwX1_lays_3 : List UInt8 := [182, 0, 108, 162, 0, 42, 42, 180, 0, 102, 29, 182, 0, 164, 184, 0, 243, 42, 180, 0, 82, 180, 0, 112]
abbrev dktX1_lays_3 : List UInt8 := dkwX1_lays_3 ++ dktX1_lays_4
def dkwX1_lays_2 : List UInt8 := [4, 100, 79, 28, 42, 182, 0, 108, 4, 96, 108, 61, 132, 3, 255, 167, 255, 207, 3, 62, 29, 42]
abbrev dktX1_lays_2 : List UInt8 := dkwX1_lays_2 ++ dktX1_lays_3
def dkwX1_lays_1 : List UInt8 := [96, 112, 54, 4, 42, 180, 0, 102, 180, 0, 185, 29, 21, 4, 154, 0, 8, 16, 254, 167, 0, 7, 21, 4]
abbrev dktX1_lays_1 : List UInt8 := dkwX1_lays_1 ++ dktX1_lays_2
def dkwX1_lays_0 : List UInt8 := [42, 182, 0, 240, 87, 27, 61, 42, 182, 0, 126, 4, 100, 62, 29, 155, 0, 51, 28, 42, 182, 0, 108, 4]
abbrev dktX1_lays_0 : List UInt8 := dkwX1_lays_0 ++ dktX1_lays_1
theorem dksX1_lays_0 : cX1_lays.data.toList.drop 0 = dktX1_lays_0 := by decide +kernel
theorem dksX1_lays_1 : cX1_lays.data.toList.drop 24 = dktX1_lays_1 := dk_seg dksX1_lays_0 24 rfl rfl
theorem dksX1_lays_2 : cX1_lays.data.toList.drop 48 = dktX1_lays_2 := dk_seg dksX1_lays_1 24 rfl rfl
theorem dksX1_lays_3 : cX1_lays.data.toList.drop 70 = dktX1_lays_3 := dk_seg dksX1_lays_2 22 rfl rfl
theorem dksX1_lays_4 : cX1_lays.data.toList.drop 94 = dktX1_lays_4 := dk_seg dksX1_lays_3 24 rfl rfl
theorem dX1_lays_0 : decode cX1_lays 0 = .ok (.aload_n 0, 1) := dk_42 (dk_at dksX1_lays_0 0 rfl rfl)
theorem dX1_lays_1 : decode cX1_lays 1 = .ok (.invokevirtual 240, 3) := dk_182 0 240 (dk_at dksX1_lays_0 1 rfl rfl)
theorem dX1_lays_4 : decode cX1_lays 4 = .ok (.pop, 1) := dk_87 (dk_at dksX1_lays_0 4 rfl rfl)
theorem dX1_lays_5 : decode cX1_lays 5 = .ok (.iload_n 1, 1) := dk_27 (dk_at dksX1_lays_0 5 rfl rfl)
theorem dX1_lays_6 : decode cX1_lays 6 = .ok (.istore_n 2, 1) := dk_61 (dk_at dksX1_lays_0 6 rfl rfl)
theorem dX1_lays_7 : decode cX1_lays 7 = .ok (.aload_n 0, 1) := dk_42 (dk_at dksX1_lays_0 7 rfl rfl)
theorem dX1_lays_8 : decode cX1_lays 8 = .ok (.invokevirtual 126, 3) := dk_182 0 126 (dk_at dksX1_lays_0 8 rfl rfl)
theorem dX1_lays_11 : decode cX1_lays 11 = .ok (.iconst 1, 1) := dk_4 (dk_at dksX1_lays_0 11 rfl rfl)
theorem dX1_lays_12 : decode cX1_lays 12 = .ok (.isub, 1) := dk_100 (dk_at dksX1_lays_0 12 rfl rfl)
theorem dX1_lays_13 : decode cX1_lays 13 = .ok (.istore_n 3, 1) := dk_62 (dk_at dksX1_lays_0 13 rfl rfl)
theorem dX1_lays_14 : decode cX1_lays 14 = .ok (.iload_n 3, 1) := dk_29 (dk_at dksX1_lays_0 14 rfl rfl)
theorem dX1_lays_15 : decode cX1_lays 15 = .ok (.ifCond .lt 51, 3) := dk_155 0 51 (dk_at dksX1_lays_0 15 rfl rfl)
theorem dX1_lays_18 : decode cX1_lays 18 = .ok (.iload_n 2, 1) := dk_28 (dk_at dksX1_lays_0 18 rfl rfl)
theorem dX1_lays_19 : decode cX1_lays 19 = .ok (.aload_n 0, 1) := dk_42 (dk_at dksX1_lays_0 19 rfl rfl)
theorem dX1_lays_20 : decode cX1_lays 20 = .ok (.invokevirtual 108, 3) := dk_182 0 108 (dk_at dksX1_lays_0 20 rfl rfl)
theorem dX1_lays_23 : decode cX1_lays 23 = .ok (.iconst 1, 1) := dk_4 (dk_at dksX1_lays_0 23 rfl rfl)
theorem dX1_lays_24 : decode cX1_lays 24 = .ok (.iadd, 1) := dk_96 (dk_at dksX1_lays_1 0 rfl rfl)
theorem dX1_lays_25 : decode cX1_lays 25 = .ok (.irem, 1) := dk_112 (dk_at dksX1_lays_1 1 rfl rfl)
theorem dX1_lays_26 : decode cX1_lays 26 = .ok (.istore 4, 2) := dk_54 4 (dk_at dksX1_lays_1 2 rfl rfl)
theorem dX1_lays_28 : decode cX1_lays 28 = .ok (.aload_n 0, 1) := dk_42 (dk_at dksX1_lays_1 4 rfl rfl)
theorem dX1_lays_29 : decode cX1_lays 29 = .ok (.getfield 102, 3) := dk_180 0 102 (dk_at dksX1_lays_1 5 rfl rfl)
theorem dX1_lays_32 : decode cX1_lays 32 = .ok (.getfield 185, 3) := dk_180 0 185 (dk_at dksX1_lays_1 8 rfl rfl)
theorem dX1_lays_35 : decode cX1_lays 35 = .ok (.iload_n 3, 1) := dk_29 (dk_at dksX1_lays_1 11 rfl rfl)
theorem dX1_lays_36 : decode cX1_lays 36 = .ok (.iload 4, 2) := dk_21 4 (dk_at dksX1_lays_1 12 rfl rfl)
theorem dX1_lays_38 : decode cX1_lays 38 = .ok (.ifCond .ne 8, 3) := dk_154 0 8 (dk_at dksX1_lays_1 14 rfl rfl)
theorem dX1_lays_41 : decode cX1_lays 41 = .ok (.bipush (-2), 2) := dk_16 254 (dk_at dksX1_lays_1 17 rfl rfl)
theorem dX1_lays_43 : decode cX1_lays 43 = .ok (.goto 7, 3) := dk_167 0 7 (dk_at dksX1_lays_1 19 rfl rfl)
theorem dX1_lays_46 : decode cX1_lays 46 = .ok (.iload 4, 2) := dk_21 4 (dk_at dksX1_lays_1 22 rfl rfl)
theorem dX1_lays_48 : decode cX1_lays 48 = .ok (.iconst 1, 1) := dk_4 (dk_at dksX1_lays_2 0 rfl rfl)
theorem dX1_lays_49 : decode cX1_lays 49 = .ok (.isub, 1) := dk_100 (dk_at dksX1_lays_2 1 rfl rfl)
theorem dX1_lays_50 : decode cX1_lays 50 = .ok (.iastore, 1) := dk_79 (dk_at dksX1_lays_2 2 rfl rfl)
theorem dX1_lays_51 : decode cX1_lays 51 = .ok (.iload_n 2, 1) := dk_28 (dk_at dksX1_lays_2 3 rfl rfl)
theorem dX1_lays_52 : decode cX1_lays 52 = .ok (.aload_n 0, 1) := dk_42 (dk_at dksX1_lays_2 4 rfl rfl)
theorem dX1_lays_53 : decode cX1_lays 53 = .ok (.invokevirtual 108, 3) := dk_182 0 108 (dk_at dksX1_lays_2 5 rfl rfl)
theorem dX1_lays_56 : decode cX1_lays 56 = .ok (.iconst 1, 1) := dk_4 (dk_at dksX1_lays_2 8 rfl rfl)
theorem dX1_lays_57 : decode cX1_lays 57 = .ok (.iadd, 1) := dk_96 (dk_at dksX1_lays_2 9 rfl rfl)
theorem dX1_lays_58 : decode cX1_lays 58 = .ok (.idiv, 1) := dk_108 (dk_at dksX1_lays_2 10 rfl rfl)
theorem dX1_lays_59 : decode cX1_lays 59 = .ok (.istore_n 2, 1) := dk_61 (dk_at dksX1_lays_2 11 rfl rfl)
theorem dX1_lays_60 : decode cX1_lays 60 = .ok (.iinc 3 (-1), 3) := dk_132 3 255 (dk_at dksX1_lays_2 12 rfl rfl)
theorem dX1_lays_63 : decode cX1_lays 63 = .ok (.goto (-49), 3) := dk_167 255 207 (dk_at dksX1_lays_2 15 rfl rfl)
theorem dX1_lays_66 : decode cX1_lays 66 = .ok (.iconst 0, 1) := dk_3 (dk_at dksX1_lays_2 18 rfl rfl)
theorem dX1_lays_67 : decode cX1_lays 67 = .ok (.istore_n 3, 1) := dk_62 (dk_at dksX1_lays_2 19 rfl rfl)
theorem dX1_lays_68 : decode cX1_lays 68 = .ok (.iload_n 3, 1) := dk_29 (dk_at dksX1_lays_2 20 rfl rfl)
theorem dX1_lays_69 : decode cX1_lays 69 = .ok (.aload_n 0, 1) := dk_42 (dk_at dksX1_lays_2 21 rfl rfl)
theorem dX1_lays_70 : decode cX1_lays 70 = .ok (.invokevirtual 108, 3) := dk_182 0 108 (dk_at dksX1_lays_3 0 rfl rfl)
theorem dX1_lays_73 : decode cX1_lays 73 = .ok (.if_icmp .ge 42, 3) := dk_162 0 42 (dk_at dksX1_lays_3 3 rfl rfl)
theorem dX1_lays_76 : decode cX1_lays 76 = .ok (.aload_n 0, 1) := dk_42 (dk_at dksX1_lays_3 6 rfl rfl)
theorem dX1_lays_77 : decode cX1_lays 77 = .ok (.getfield 102, 3) := dk_180 0 102 (dk_at dksX1_lays_3 7 rfl rfl)
theorem dX1_lays_80 : decode cX1_lays 80 = .ok (.iload_n 3, 1) := dk_29 (dk_at dksX1_lays_3 10 rfl rfl)
theorem dX1_lays_81 : decode cX1_lays 81 = .ok (.invokevirtual 164, 3) := dk_182 0 164 (dk_at dksX1_lays_3 11 rfl rfl)
theorem dX1_lays_84 : decode cX1_lays 84 = .ok (.invokestatic 243, 3) := dk_184 0 243 (dk_at dksX1_lays_3 14 rfl rfl)
theorem dX1_lays_87 : decode cX1_lays 87 = .ok (.aload_n 0, 1) := dk_42 (dk_at dksX1_lays_3 17 rfl rfl)
theorem dX1_lays_88 : decode cX1_lays 88 = .ok (.getfield 82, 3) := dk_180 0 82 (dk_at dksX1_lays_3 18 rfl rfl)
theorem dX1_lays_91 : decode cX1_lays 91 = .ok (.getfield 112, 3) := dk_180 0 112 (dk_at dksX1_lays_3 21 rfl rfl)
theorem dX1_lays_94 : decode cX1_lays 94 = .ok (.iload_n 3, 1) := dk_29 (dk_at dksX1_lays_4 0 rfl rfl)
theorem dX1_lays_95 : decode cX1_lays 95 = .ok (.invokevirtual 139, 3) := dk_182 0 139 (dk_at dksX1_lays_4 1 rfl rfl)
theorem dX1_lays_98 : decode cX1_lays 98 = .ok (.checkcast 143, 3) := dk_192 0 143 (dk_at dksX1_lays_4 4 rfl rfl)
theorem dX1_lays_101 : decode cX1_lays 101 = .ok (.getfield 151, 3) := dk_180 0 151 (dk_at dksX1_lays_4 7 rfl rfl)
theorem dX1_lays_104 : decode cX1_lays 104 = .ok (.if_icmp .le 5, 3) := dk_164 0 5 (dk_at dksX1_lays_4 10 rfl rfl)
theorem dX1_lays_107 : decode cX1_lays 107 = .ok (.iconst 0, 1) := dk_3 (dk_at dksX1_lays_4 13 rfl rfl)
theorem dX1_lays_108 : decode cX1_lays 108 = .ok (.ireturn, 1) := dk_172 (dk_at dksX1_lays_4 14 rfl rfl)
theorem dX1_lays_109 : decode cX1_lays 109 = .ok (.iinc 3 1, 3) := dk_132 3 1 (dk_at dksX1_lays_4 15 rfl rfl)
theorem dX1_lays_112 : decode cX1_lays 112 = .ok (.goto (-44), 3) := dk_167 255 212 (dk_at dksX1_lays_4 18 rfl rfl)
theorem dX1_lays_115 : decode cX1_lays 115 = .ok (.iconst 1, 1) := dk_4 (dk_at dksX1_lays_4 21 rfl rfl)
theorem dX1_lays_116 : decode cX1_lays 116 = .ok (.ireturn, 1) := dk_172 (dk_at dksX1_lays_4 22 rfl rfl)
abbrev cX1_tries : ByteArray := prog_1_method_25_code
def yX1_tries : MethodName := ⟨RX1, "tries", "()LRoofRegatta$River;"⟩
def dkwX1_tries_0 : List UInt8 := [42, 180, 0, 102, 42, 180, 0, 91, 182, 0, 135, 42, 180, 0, 102, 176]
abbrev dktX1_tries_0 : List UInt8 := dkwX1_tries_0 ++ []
theorem dksX1_tries_0 : cX1_tries.data.toList.drop 0 = dktX1_tries_0 := by decide +kernel
theorem dX1_tries_0 : decode cX1_tries 0 = .ok (.aload_n 0, 1) := dk_42 (dk_at dksX1_tries_0 0 rfl rfl)
theorem dX1_tries_1 : decode cX1_tries 1 = .ok (.getfield 102, 3) := dk_180 0 102 (dk_at dksX1_tries_0 1 rfl rfl)
theorem dX1_tries_4 : decode cX1_tries 4 = .ok (.aload_n 0, 1) := dk_42 (dk_at dksX1_tries_0 4 rfl rfl)
theorem dX1_tries_5 : decode cX1_tries 5 = .ok (.getfield 91, 3) := dk_180 0 91 (dk_at dksX1_tries_0 5 rfl rfl)
theorem dX1_tries_8 : decode cX1_tries 8 = .ok (.invokevirtual 135, 3) := dk_182 0 135 (dk_at dksX1_tries_0 8 rfl rfl)
theorem dX1_tries_11 : decode cX1_tries 11 = .ok (.aload_n 0, 1) := dk_42 (dk_at dksX1_tries_0 11 rfl rfl)
theorem dX1_tries_12 : decode cX1_tries 12 = .ok (.getfield 102, 3) := dk_180 0 102 (dk_at dksX1_tries_0 12 rfl rfl)
theorem dX1_tries_15 : decode cX1_tries 15 = .ok (.areturn, 1) := dk_176 (dk_at dksX1_tries_0 15 rfl rfl)
abbrev cX1_moves : ByteArray := prog_1_method_47_code
def yX1_moves : MethodName := ⟨RX1, "moves", "()I"⟩
def dkwX1_moves_2 : List UInt8 := [27, 172]
abbrev dktX1_moves_2 : List UInt8 := dkwX1_moves_2 ++ []
def dkwX1_moves_1 : List UInt8 := [180, 0, 91, 180, 0, 185, 28, 46, 159, 0, 7, 4, 167, 0, 4, 3, 96, 60, 132, 2, 1, 167, 255, 216]
abbrev dktX1_moves_1 : List UInt8 := dkwX1_moves_1 ++ dktX1_moves_2
def dkwX1_moves_0 : List UInt8 := [3, 60, 3, 61, 28, 42, 182, 0, 126, 162, 0, 38, 27, 42, 180, 0, 102, 180, 0, 185, 28, 46, 42]
abbrev dktX1_moves_0 : List UInt8 := dkwX1_moves_0 ++ dktX1_moves_1
theorem dksX1_moves_0 : cX1_moves.data.toList.drop 0 = dktX1_moves_0 := by decide +kernel
theorem dksX1_moves_1 : cX1_moves.data.toList.drop 23 = dktX1_moves_1 := dk_seg dksX1_moves_0 23 rfl rfl
theorem dksX1_moves_2 : cX1_moves.data.toList.drop 47 = dktX1_moves_2 := dk_seg dksX1_moves_1 24 rfl rfl
theorem dX1_moves_0 : decode cX1_moves 0 = .ok (.iconst 0, 1) := dk_3 (dk_at dksX1_moves_0 0 rfl rfl)
theorem dX1_moves_1 : decode cX1_moves 1 = .ok (.istore_n 1, 1) := dk_60 (dk_at dksX1_moves_0 1 rfl rfl)
theorem dX1_moves_2 : decode cX1_moves 2 = .ok (.iconst 0, 1) := dk_3 (dk_at dksX1_moves_0 2 rfl rfl)
theorem dX1_moves_3 : decode cX1_moves 3 = .ok (.istore_n 2, 1) := dk_61 (dk_at dksX1_moves_0 3 rfl rfl)
theorem dX1_moves_4 : decode cX1_moves 4 = .ok (.iload_n 2, 1) := dk_28 (dk_at dksX1_moves_0 4 rfl rfl)
theorem dX1_moves_5 : decode cX1_moves 5 = .ok (.aload_n 0, 1) := dk_42 (dk_at dksX1_moves_0 5 rfl rfl)
theorem dX1_moves_6 : decode cX1_moves 6 = .ok (.invokevirtual 126, 3) := dk_182 0 126 (dk_at dksX1_moves_0 6 rfl rfl)
theorem dX1_moves_9 : decode cX1_moves 9 = .ok (.if_icmp .ge 38, 3) := dk_162 0 38 (dk_at dksX1_moves_0 9 rfl rfl)
theorem dX1_moves_12 : decode cX1_moves 12 = .ok (.iload_n 1, 1) := dk_27 (dk_at dksX1_moves_0 12 rfl rfl)
theorem dX1_moves_13 : decode cX1_moves 13 = .ok (.aload_n 0, 1) := dk_42 (dk_at dksX1_moves_0 13 rfl rfl)
theorem dX1_moves_14 : decode cX1_moves 14 = .ok (.getfield 102, 3) := dk_180 0 102 (dk_at dksX1_moves_0 14 rfl rfl)
theorem dX1_moves_17 : decode cX1_moves 17 = .ok (.getfield 185, 3) := dk_180 0 185 (dk_at dksX1_moves_0 17 rfl rfl)
theorem dX1_moves_20 : decode cX1_moves 20 = .ok (.iload_n 2, 1) := dk_28 (dk_at dksX1_moves_0 20 rfl rfl)
theorem dX1_moves_21 : decode cX1_moves 21 = .ok (.iaload, 1) := dk_46 (dk_at dksX1_moves_0 21 rfl rfl)
theorem dX1_moves_22 : decode cX1_moves 22 = .ok (.aload_n 0, 1) := dk_42 (dk_at dksX1_moves_0 22 rfl rfl)
theorem dX1_moves_23 : decode cX1_moves 23 = .ok (.getfield 91, 3) := dk_180 0 91 (dk_at dksX1_moves_1 0 rfl rfl)
theorem dX1_moves_26 : decode cX1_moves 26 = .ok (.getfield 185, 3) := dk_180 0 185 (dk_at dksX1_moves_1 3 rfl rfl)
theorem dX1_moves_29 : decode cX1_moves 29 = .ok (.iload_n 2, 1) := dk_28 (dk_at dksX1_moves_1 6 rfl rfl)
theorem dX1_moves_30 : decode cX1_moves 30 = .ok (.iaload, 1) := dk_46 (dk_at dksX1_moves_1 7 rfl rfl)
theorem dX1_moves_31 : decode cX1_moves 31 = .ok (.if_icmp .eq 7, 3) := dk_159 0 7 (dk_at dksX1_moves_1 8 rfl rfl)
theorem dX1_moves_34 : decode cX1_moves 34 = .ok (.iconst 1, 1) := dk_4 (dk_at dksX1_moves_1 11 rfl rfl)
theorem dX1_moves_35 : decode cX1_moves 35 = .ok (.goto 4, 3) := dk_167 0 4 (dk_at dksX1_moves_1 12 rfl rfl)
theorem dX1_moves_38 : decode cX1_moves 38 = .ok (.iconst 0, 1) := dk_3 (dk_at dksX1_moves_1 15 rfl rfl)
theorem dX1_moves_39 : decode cX1_moves 39 = .ok (.iadd, 1) := dk_96 (dk_at dksX1_moves_1 16 rfl rfl)
theorem dX1_moves_40 : decode cX1_moves 40 = .ok (.istore_n 1, 1) := dk_60 (dk_at dksX1_moves_1 17 rfl rfl)
theorem dX1_moves_41 : decode cX1_moves 41 = .ok (.iinc 2 1, 3) := dk_132 2 1 (dk_at dksX1_moves_1 18 rfl rfl)
theorem dX1_moves_44 : decode cX1_moves 44 = .ok (.goto (-40), 3) := dk_167 255 216 (dk_at dksX1_moves_1 21 rfl rfl)
theorem dX1_moves_47 : decode cX1_moves 47 = .ok (.iload_n 1, 1) := dk_27 (dk_at dksX1_moves_2 0 rfl rfl)
theorem dX1_moves_48 : decode cX1_moves 48 = .ok (.ireturn, 1) := dk_172 (dk_at dksX1_moves_2 1 rfl rfl)
abbrev cX1_loadOf : ByteArray := prog_1_method_50_code
def yX1_loadOf : MethodName := ⟨RX1, "loadOf", "(II)I"⟩
def dkwX1_loadOf_1 : List UInt8 := [182, 1, 12, 42, 42, 180, 0, 27, 28, 46, 182, 0, 47, 172]
abbrev dktX1_loadOf_1 : List UInt8 := dkwX1_loadOf_1 ++ []
def dkwX1_loadOf_0 : List UInt8 := [42, 27, 182, 0, 131, 153, 0, 11, 42, 28, 182, 0, 174, 154, 0, 9, 42, 4, 182, 0, 43, 172, 42, 27]
abbrev dktX1_loadOf_0 : List UInt8 := dkwX1_loadOf_0 ++ dktX1_loadOf_1
theorem dksX1_loadOf_0 : cX1_loadOf.data.toList.drop 0 = dktX1_loadOf_0 := by decide +kernel
theorem dksX1_loadOf_1 : cX1_loadOf.data.toList.drop 24 = dktX1_loadOf_1 := dk_seg dksX1_loadOf_0 24 rfl rfl
theorem dX1_loadOf_0 : decode cX1_loadOf 0 = .ok (.aload_n 0, 1) := dk_42 (dk_at dksX1_loadOf_0 0 rfl rfl)
theorem dX1_loadOf_1 : decode cX1_loadOf 1 = .ok (.iload_n 1, 1) := dk_27 (dk_at dksX1_loadOf_0 1 rfl rfl)
theorem dX1_loadOf_2 : decode cX1_loadOf 2 = .ok (.invokevirtual 131, 3) := dk_182 0 131 (dk_at dksX1_loadOf_0 2 rfl rfl)
theorem dX1_loadOf_5 : decode cX1_loadOf 5 = .ok (.ifCond .eq 11, 3) := dk_153 0 11 (dk_at dksX1_loadOf_0 5 rfl rfl)
theorem dX1_loadOf_8 : decode cX1_loadOf 8 = .ok (.aload_n 0, 1) := dk_42 (dk_at dksX1_loadOf_0 8 rfl rfl)
theorem dX1_loadOf_9 : decode cX1_loadOf 9 = .ok (.iload_n 2, 1) := dk_28 (dk_at dksX1_loadOf_0 9 rfl rfl)
theorem dX1_loadOf_10 : decode cX1_loadOf 10 = .ok (.invokevirtual 174, 3) := dk_182 0 174 (dk_at dksX1_loadOf_0 10 rfl rfl)
theorem dX1_loadOf_13 : decode cX1_loadOf 13 = .ok (.ifCond .ne 9, 3) := dk_154 0 9 (dk_at dksX1_loadOf_0 13 rfl rfl)
theorem dX1_loadOf_16 : decode cX1_loadOf 16 = .ok (.aload_n 0, 1) := dk_42 (dk_at dksX1_loadOf_0 16 rfl rfl)
theorem dX1_loadOf_17 : decode cX1_loadOf 17 = .ok (.iconst 1, 1) := dk_4 (dk_at dksX1_loadOf_0 17 rfl rfl)
theorem dX1_loadOf_18 : decode cX1_loadOf 18 = .ok (.invokevirtual 43, 3) := dk_182 0 43 (dk_at dksX1_loadOf_0 18 rfl rfl)
theorem dX1_loadOf_21 : decode cX1_loadOf 21 = .ok (.ireturn, 1) := dk_172 (dk_at dksX1_loadOf_0 21 rfl rfl)
theorem dX1_loadOf_22 : decode cX1_loadOf 22 = .ok (.aload_n 0, 1) := dk_42 (dk_at dksX1_loadOf_0 22 rfl rfl)
theorem dX1_loadOf_23 : decode cX1_loadOf 23 = .ok (.iload_n 1, 1) := dk_27 (dk_at dksX1_loadOf_0 23 rfl rfl)
theorem dX1_loadOf_24 : decode cX1_loadOf 24 = .ok (.invokevirtual 268, 3) := dk_182 1 12 (dk_at dksX1_loadOf_1 0 rfl rfl)
theorem dX1_loadOf_27 : decode cX1_loadOf 27 = .ok (.aload_n 0, 1) := dk_42 (dk_at dksX1_loadOf_1 3 rfl rfl)
theorem dX1_loadOf_28 : decode cX1_loadOf 28 = .ok (.aload_n 0, 1) := dk_42 (dk_at dksX1_loadOf_1 4 rfl rfl)
theorem dX1_loadOf_29 : decode cX1_loadOf 29 = .ok (.getfield 27, 3) := dk_180 0 27 (dk_at dksX1_loadOf_1 5 rfl rfl)
theorem dX1_loadOf_32 : decode cX1_loadOf 32 = .ok (.iload_n 2, 1) := dk_28 (dk_at dksX1_loadOf_1 8 rfl rfl)
theorem dX1_loadOf_33 : decode cX1_loadOf 33 = .ok (.iaload, 1) := dk_46 (dk_at dksX1_loadOf_1 9 rfl rfl)
theorem dX1_loadOf_34 : decode cX1_loadOf 34 = .ok (.invokevirtual 47, 3) := dk_182 0 47 (dk_at dksX1_loadOf_1 10 rfl rfl)
theorem dX1_loadOf_37 : decode cX1_loadOf 37 = .ok (.ireturn, 1) := dk_172 (dk_at dksX1_loadOf_1 13 rfl rfl)
abbrev cX1_loadMoves : ByteArray := prog_1_method_51_code
def yX1_loadMoves : MethodName := ⟨RX1, "loadMoves", "(I)I"⟩
def dkwX1_loadMoves_1 : List UInt8 := [182, 0, 47, 172]
abbrev dktX1_loadMoves_1 : List UInt8 := dkwX1_loadMoves_1 ++ []
def dkwX1_loadMoves_0 : List UInt8 := [42, 27, 182, 0, 131, 154, 0, 9, 42, 4, 182, 0, 43, 172, 42, 27, 182, 1, 12, 42, 42, 180, 0, 250]
abbrev dktX1_loadMoves_0 : List UInt8 := dkwX1_loadMoves_0 ++ dktX1_loadMoves_1
theorem dksX1_loadMoves_0 : cX1_loadMoves.data.toList.drop 0 = dktX1_loadMoves_0 := by decide +kernel
theorem dksX1_loadMoves_1 : cX1_loadMoves.data.toList.drop 24 = dktX1_loadMoves_1 := dk_seg dksX1_loadMoves_0 24 rfl rfl
theorem dX1_loadMoves_0 : decode cX1_loadMoves 0 = .ok (.aload_n 0, 1) := dk_42 (dk_at dksX1_loadMoves_0 0 rfl rfl)
theorem dX1_loadMoves_1 : decode cX1_loadMoves 1 = .ok (.iload_n 1, 1) := dk_27 (dk_at dksX1_loadMoves_0 1 rfl rfl)
theorem dX1_loadMoves_2 : decode cX1_loadMoves 2 = .ok (.invokevirtual 131, 3) := dk_182 0 131 (dk_at dksX1_loadMoves_0 2 rfl rfl)
theorem dX1_loadMoves_5 : decode cX1_loadMoves 5 = .ok (.ifCond .ne 9, 3) := dk_154 0 9 (dk_at dksX1_loadMoves_0 5 rfl rfl)
theorem dX1_loadMoves_8 : decode cX1_loadMoves 8 = .ok (.aload_n 0, 1) := dk_42 (dk_at dksX1_loadMoves_0 8 rfl rfl)
theorem dX1_loadMoves_9 : decode cX1_loadMoves 9 = .ok (.iconst 1, 1) := dk_4 (dk_at dksX1_loadMoves_0 9 rfl rfl)
theorem dX1_loadMoves_10 : decode cX1_loadMoves 10 = .ok (.invokevirtual 43, 3) := dk_182 0 43 (dk_at dksX1_loadMoves_0 10 rfl rfl)
theorem dX1_loadMoves_13 : decode cX1_loadMoves 13 = .ok (.ireturn, 1) := dk_172 (dk_at dksX1_loadMoves_0 13 rfl rfl)
theorem dX1_loadMoves_14 : decode cX1_loadMoves 14 = .ok (.aload_n 0, 1) := dk_42 (dk_at dksX1_loadMoves_0 14 rfl rfl)
theorem dX1_loadMoves_15 : decode cX1_loadMoves 15 = .ok (.iload_n 1, 1) := dk_27 (dk_at dksX1_loadMoves_0 15 rfl rfl)
theorem dX1_loadMoves_16 : decode cX1_loadMoves 16 = .ok (.invokevirtual 268, 3) := dk_182 1 12 (dk_at dksX1_loadMoves_0 16 rfl rfl)
theorem dX1_loadMoves_19 : decode cX1_loadMoves 19 = .ok (.aload_n 0, 1) := dk_42 (dk_at dksX1_loadMoves_0 19 rfl rfl)
theorem dX1_loadMoves_20 : decode cX1_loadMoves 20 = .ok (.aload_n 0, 1) := dk_42 (dk_at dksX1_loadMoves_0 20 rfl rfl)
theorem dX1_loadMoves_21 : decode cX1_loadMoves 21 = .ok (.getfield 250, 3) := dk_180 0 250 (dk_at dksX1_loadMoves_0 21 rfl rfl)
theorem dX1_loadMoves_24 : decode cX1_loadMoves 24 = .ok (.invokevirtual 47, 3) := dk_182 0 47 (dk_at dksX1_loadMoves_1 0 rfl rfl)
theorem dX1_loadMoves_27 : decode cX1_loadMoves 27 = .ok (.ireturn, 1) := dk_172 (dk_at dksX1_loadMoves_1 3 rfl rfl)
abbrev cX1_friendly : ByteArray := prog_1_method_52_code
def yX1_friendly : MethodName := ⟨RX1, "friendly", "()I"⟩
def dkwX1_friendly_1 : List UInt8 := [182, 0, 47, 172]
abbrev dktX1_friendly_1 : List UInt8 := dkwX1_friendly_1 ++ []
def dkwX1_friendly_0 : List UInt8 := [42, 180, 0, 82, 199, 0, 9, 42, 4, 182, 0, 43, 172, 42, 2, 182, 1, 12, 42, 42, 180, 0, 247, 116]
abbrev dktX1_friendly_0 : List UInt8 := dkwX1_friendly_0 ++ dktX1_friendly_1
theorem dksX1_friendly_0 : cX1_friendly.data.toList.drop 0 = dktX1_friendly_0 := by decide +kernel
theorem dksX1_friendly_1 : cX1_friendly.data.toList.drop 24 = dktX1_friendly_1 := dk_seg dksX1_friendly_0 24 rfl rfl
theorem dX1_friendly_0 : decode cX1_friendly 0 = .ok (.aload_n 0, 1) := dk_42 (dk_at dksX1_friendly_0 0 rfl rfl)
theorem dX1_friendly_1 : decode cX1_friendly 1 = .ok (.getfield 82, 3) := dk_180 0 82 (dk_at dksX1_friendly_0 1 rfl rfl)
theorem dX1_friendly_4 : decode cX1_friendly 4 = .ok (.ifnonnull 9, 3) := dk_199 0 9 (dk_at dksX1_friendly_0 4 rfl rfl)
theorem dX1_friendly_7 : decode cX1_friendly 7 = .ok (.aload_n 0, 1) := dk_42 (dk_at dksX1_friendly_0 7 rfl rfl)
theorem dX1_friendly_8 : decode cX1_friendly 8 = .ok (.iconst 1, 1) := dk_4 (dk_at dksX1_friendly_0 8 rfl rfl)
theorem dX1_friendly_9 : decode cX1_friendly 9 = .ok (.invokevirtual 43, 3) := dk_182 0 43 (dk_at dksX1_friendly_0 9 rfl rfl)
theorem dX1_friendly_12 : decode cX1_friendly 12 = .ok (.ireturn, 1) := dk_172 (dk_at dksX1_friendly_0 12 rfl rfl)
theorem dX1_friendly_13 : decode cX1_friendly 13 = .ok (.aload_n 0, 1) := dk_42 (dk_at dksX1_friendly_0 13 rfl rfl)
theorem dX1_friendly_14 : decode cX1_friendly 14 = .ok (.iconst (-1), 1) := dk_2 (dk_at dksX1_friendly_0 14 rfl rfl)
theorem dX1_friendly_15 : decode cX1_friendly 15 = .ok (.invokevirtual 268, 3) := dk_182 1 12 (dk_at dksX1_friendly_0 15 rfl rfl)
theorem dX1_friendly_18 : decode cX1_friendly 18 = .ok (.aload_n 0, 1) := dk_42 (dk_at dksX1_friendly_0 18 rfl rfl)
theorem dX1_friendly_19 : decode cX1_friendly 19 = .ok (.aload_n 0, 1) := dk_42 (dk_at dksX1_friendly_0 19 rfl rfl)
theorem dX1_friendly_20 : decode cX1_friendly 20 = .ok (.getfield 247, 3) := dk_180 0 247 (dk_at dksX1_friendly_0 20 rfl rfl)
theorem dX1_friendly_23 : decode cX1_friendly 23 = .ok (.ineg, 1) := dk_116 (dk_at dksX1_friendly_0 23 rfl rfl)
theorem dX1_friendly_24 : decode cX1_friendly 24 = .ok (.invokevirtual 47, 3) := dk_182 0 47 (dk_at dksX1_friendly_1 0 rfl rfl)
theorem dX1_friendly_27 : decode cX1_friendly 27 = .ok (.ireturn, 1) := dk_172 (dk_at dksX1_friendly_1 3 rfl rfl)
abbrev cX1_friendlyOf : ByteArray := prog_1_method_53_code
def yX1_friendlyOf : MethodName := ⟨RX1, "friendlyOf", "(I)I"⟩
def dkwX1_friendlyOf_1 : List UInt8 := [27, 46, 182, 0, 47, 172]
abbrev dktX1_friendlyOf_1 : List UInt8 := dkwX1_friendlyOf_1 ++ []
def dkwX1_friendlyOf_0 : List UInt8 := [42, 27, 182, 0, 174, 154, 0, 9, 42, 4, 182, 0, 43, 172, 42, 2, 182, 1, 12, 42, 42, 180, 0, 27]
abbrev dktX1_friendlyOf_0 : List UInt8 := dkwX1_friendlyOf_0 ++ dktX1_friendlyOf_1
theorem dksX1_friendlyOf_0 : cX1_friendlyOf.data.toList.drop 0 = dktX1_friendlyOf_0 := by decide +kernel
theorem dksX1_friendlyOf_1 : cX1_friendlyOf.data.toList.drop 24 = dktX1_friendlyOf_1 := dk_seg dksX1_friendlyOf_0 24 rfl rfl
theorem dX1_friendlyOf_0 : decode cX1_friendlyOf 0 = .ok (.aload_n 0, 1) := dk_42 (dk_at dksX1_friendlyOf_0 0 rfl rfl)
theorem dX1_friendlyOf_1 : decode cX1_friendlyOf 1 = .ok (.iload_n 1, 1) := dk_27 (dk_at dksX1_friendlyOf_0 1 rfl rfl)
theorem dX1_friendlyOf_2 : decode cX1_friendlyOf 2 = .ok (.invokevirtual 174, 3) := dk_182 0 174 (dk_at dksX1_friendlyOf_0 2 rfl rfl)
theorem dX1_friendlyOf_5 : decode cX1_friendlyOf 5 = .ok (.ifCond .ne 9, 3) := dk_154 0 9 (dk_at dksX1_friendlyOf_0 5 rfl rfl)
theorem dX1_friendlyOf_8 : decode cX1_friendlyOf 8 = .ok (.aload_n 0, 1) := dk_42 (dk_at dksX1_friendlyOf_0 8 rfl rfl)
theorem dX1_friendlyOf_9 : decode cX1_friendlyOf 9 = .ok (.iconst 1, 1) := dk_4 (dk_at dksX1_friendlyOf_0 9 rfl rfl)
theorem dX1_friendlyOf_10 : decode cX1_friendlyOf 10 = .ok (.invokevirtual 43, 3) := dk_182 0 43 (dk_at dksX1_friendlyOf_0 10 rfl rfl)
theorem dX1_friendlyOf_13 : decode cX1_friendlyOf 13 = .ok (.ireturn, 1) := dk_172 (dk_at dksX1_friendlyOf_0 13 rfl rfl)
theorem dX1_friendlyOf_14 : decode cX1_friendlyOf 14 = .ok (.aload_n 0, 1) := dk_42 (dk_at dksX1_friendlyOf_0 14 rfl rfl)
theorem dX1_friendlyOf_15 : decode cX1_friendlyOf 15 = .ok (.iconst (-1), 1) := dk_2 (dk_at dksX1_friendlyOf_0 15 rfl rfl)
theorem dX1_friendlyOf_16 : decode cX1_friendlyOf 16 = .ok (.invokevirtual 268, 3) := dk_182 1 12 (dk_at dksX1_friendlyOf_0 16 rfl rfl)
theorem dX1_friendlyOf_19 : decode cX1_friendlyOf 19 = .ok (.aload_n 0, 1) := dk_42 (dk_at dksX1_friendlyOf_0 19 rfl rfl)
theorem dX1_friendlyOf_20 : decode cX1_friendlyOf 20 = .ok (.aload_n 0, 1) := dk_42 (dk_at dksX1_friendlyOf_0 20 rfl rfl)
theorem dX1_friendlyOf_21 : decode cX1_friendlyOf 21 = .ok (.getfield 27, 3) := dk_180 0 27 (dk_at dksX1_friendlyOf_0 21 rfl rfl)
theorem dX1_friendlyOf_24 : decode cX1_friendlyOf 24 = .ok (.iload_n 1, 1) := dk_27 (dk_at dksX1_friendlyOf_1 0 rfl rfl)
theorem dX1_friendlyOf_25 : decode cX1_friendlyOf 25 = .ok (.iaload, 1) := dk_46 (dk_at dksX1_friendlyOf_1 1 rfl rfl)
theorem dX1_friendlyOf_26 : decode cX1_friendlyOf 26 = .ok (.invokevirtual 47, 3) := dk_182 0 47 (dk_at dksX1_friendlyOf_1 2 rfl rfl)
theorem dX1_friendlyOf_29 : decode cX1_friendlyOf 29 = .ok (.ireturn, 1) := dk_172 (dk_at dksX1_friendlyOf_1 5 rfl rfl)
abbrev cX1_leastTotal : ByteArray := prog_1_method_56_code
def yX1_leastTotal : MethodName := ⟨RX1, "leastTotal", "(I)I"⟩
def dkwX1_leastTotal_2 : List UInt8 := [184, 1, 22, 61, 132, 3, 1, 167, 255, 223, 42, 28, 182, 0, 47, 172]
abbrev dktX1_leastTotal_2 : List UInt8 := dkwX1_leastTotal_2 ++ []
def dkwX1_leastTotal_1 : List UInt8 := [182, 0, 126, 120, 162, 0, 29, 42, 27, 29, 182, 1, 16, 153, 0, 14, 28, 42, 27, 29, 182, 1, 19]
abbrev dktX1_leastTotal_1 : List UInt8 := dkwX1_leastTotal_1 ++ dktX1_leastTotal_2
def dkwX1_leastTotal_0 : List UInt8 := [42, 27, 182, 0, 131, 154, 0, 9, 42, 4, 182, 0, 43, 172, 18, 246, 61, 3, 62, 29, 4, 42]
abbrev dktX1_leastTotal_0 : List UInt8 := dkwX1_leastTotal_0 ++ dktX1_leastTotal_1
theorem dksX1_leastTotal_0 : cX1_leastTotal.data.toList.drop 0 = dktX1_leastTotal_0 := by decide +kernel
theorem dksX1_leastTotal_1 : cX1_leastTotal.data.toList.drop 22 = dktX1_leastTotal_1 := dk_seg dksX1_leastTotal_0 22 rfl rfl
theorem dksX1_leastTotal_2 : cX1_leastTotal.data.toList.drop 45 = dktX1_leastTotal_2 := dk_seg dksX1_leastTotal_1 23 rfl rfl
theorem dX1_leastTotal_0 : decode cX1_leastTotal 0 = .ok (.aload_n 0, 1) := dk_42 (dk_at dksX1_leastTotal_0 0 rfl rfl)
theorem dX1_leastTotal_1 : decode cX1_leastTotal 1 = .ok (.iload_n 1, 1) := dk_27 (dk_at dksX1_leastTotal_0 1 rfl rfl)
theorem dX1_leastTotal_2 : decode cX1_leastTotal 2 = .ok (.invokevirtual 131, 3) := dk_182 0 131 (dk_at dksX1_leastTotal_0 2 rfl rfl)
theorem dX1_leastTotal_5 : decode cX1_leastTotal 5 = .ok (.ifCond .ne 9, 3) := dk_154 0 9 (dk_at dksX1_leastTotal_0 5 rfl rfl)
theorem dX1_leastTotal_8 : decode cX1_leastTotal 8 = .ok (.aload_n 0, 1) := dk_42 (dk_at dksX1_leastTotal_0 8 rfl rfl)
theorem dX1_leastTotal_9 : decode cX1_leastTotal 9 = .ok (.iconst 1, 1) := dk_4 (dk_at dksX1_leastTotal_0 9 rfl rfl)
theorem dX1_leastTotal_10 : decode cX1_leastTotal 10 = .ok (.invokevirtual 43, 3) := dk_182 0 43 (dk_at dksX1_leastTotal_0 10 rfl rfl)
theorem dX1_leastTotal_13 : decode cX1_leastTotal 13 = .ok (.ireturn, 1) := dk_172 (dk_at dksX1_leastTotal_0 13 rfl rfl)
theorem dX1_leastTotal_14 : decode cX1_leastTotal 14 = .ok (.ldc 246, 2) := dk_18 246 (dk_at dksX1_leastTotal_0 14 rfl rfl)
theorem dX1_leastTotal_16 : decode cX1_leastTotal 16 = .ok (.istore_n 2, 1) := dk_61 (dk_at dksX1_leastTotal_0 16 rfl rfl)
theorem dX1_leastTotal_17 : decode cX1_leastTotal 17 = .ok (.iconst 0, 1) := dk_3 (dk_at dksX1_leastTotal_0 17 rfl rfl)
theorem dX1_leastTotal_18 : decode cX1_leastTotal 18 = .ok (.istore_n 3, 1) := dk_62 (dk_at dksX1_leastTotal_0 18 rfl rfl)
theorem dX1_leastTotal_19 : decode cX1_leastTotal 19 = .ok (.iload_n 3, 1) := dk_29 (dk_at dksX1_leastTotal_0 19 rfl rfl)
theorem dX1_leastTotal_20 : decode cX1_leastTotal 20 = .ok (.iconst 1, 1) := dk_4 (dk_at dksX1_leastTotal_0 20 rfl rfl)
theorem dX1_leastTotal_21 : decode cX1_leastTotal 21 = .ok (.aload_n 0, 1) := dk_42 (dk_at dksX1_leastTotal_0 21 rfl rfl)
theorem dX1_leastTotal_22 : decode cX1_leastTotal 22 = .ok (.invokevirtual 126, 3) := dk_182 0 126 (dk_at dksX1_leastTotal_1 0 rfl rfl)
theorem dX1_leastTotal_25 : decode cX1_leastTotal 25 = .ok (.ishl, 1) := dk_120 (dk_at dksX1_leastTotal_1 3 rfl rfl)
theorem dX1_leastTotal_26 : decode cX1_leastTotal 26 = .ok (.if_icmp .ge 29, 3) := dk_162 0 29 (dk_at dksX1_leastTotal_1 4 rfl rfl)
theorem dX1_leastTotal_29 : decode cX1_leastTotal 29 = .ok (.aload_n 0, 1) := dk_42 (dk_at dksX1_leastTotal_1 7 rfl rfl)
theorem dX1_leastTotal_30 : decode cX1_leastTotal 30 = .ok (.iload_n 1, 1) := dk_27 (dk_at dksX1_leastTotal_1 8 rfl rfl)
theorem dX1_leastTotal_31 : decode cX1_leastTotal 31 = .ok (.iload_n 3, 1) := dk_29 (dk_at dksX1_leastTotal_1 9 rfl rfl)
theorem dX1_leastTotal_32 : decode cX1_leastTotal 32 = .ok (.invokevirtual 272, 3) := dk_182 1 16 (dk_at dksX1_leastTotal_1 10 rfl rfl)
theorem dX1_leastTotal_35 : decode cX1_leastTotal 35 = .ok (.ifCond .eq 14, 3) := dk_153 0 14 (dk_at dksX1_leastTotal_1 13 rfl rfl)
theorem dX1_leastTotal_38 : decode cX1_leastTotal 38 = .ok (.iload_n 2, 1) := dk_28 (dk_at dksX1_leastTotal_1 16 rfl rfl)
theorem dX1_leastTotal_39 : decode cX1_leastTotal 39 = .ok (.aload_n 0, 1) := dk_42 (dk_at dksX1_leastTotal_1 17 rfl rfl)
theorem dX1_leastTotal_40 : decode cX1_leastTotal 40 = .ok (.iload_n 1, 1) := dk_27 (dk_at dksX1_leastTotal_1 18 rfl rfl)
theorem dX1_leastTotal_41 : decode cX1_leastTotal 41 = .ok (.iload_n 3, 1) := dk_29 (dk_at dksX1_leastTotal_1 19 rfl rfl)
theorem dX1_leastTotal_42 : decode cX1_leastTotal 42 = .ok (.invokevirtual 275, 3) := dk_182 1 19 (dk_at dksX1_leastTotal_1 20 rfl rfl)
theorem dX1_leastTotal_45 : decode cX1_leastTotal 45 = .ok (.invokestatic 278, 3) := dk_184 1 22 (dk_at dksX1_leastTotal_2 0 rfl rfl)
theorem dX1_leastTotal_48 : decode cX1_leastTotal 48 = .ok (.istore_n 2, 1) := dk_61 (dk_at dksX1_leastTotal_2 3 rfl rfl)
theorem dX1_leastTotal_49 : decode cX1_leastTotal 49 = .ok (.iinc 3 1, 3) := dk_132 3 1 (dk_at dksX1_leastTotal_2 4 rfl rfl)
theorem dX1_leastTotal_52 : decode cX1_leastTotal 52 = .ok (.goto (-33), 3) := dk_167 255 223 (dk_at dksX1_leastTotal_2 7 rfl rfl)
theorem dX1_leastTotal_55 : decode cX1_leastTotal 55 = .ok (.aload_n 0, 1) := dk_42 (dk_at dksX1_leastTotal_2 10 rfl rfl)
theorem dX1_leastTotal_56 : decode cX1_leastTotal 56 = .ok (.iload_n 2, 1) := dk_28 (dk_at dksX1_leastTotal_2 11 rfl rfl)
theorem dX1_leastTotal_57 : decode cX1_leastTotal 57 = .ok (.invokevirtual 47, 3) := dk_182 0 47 (dk_at dksX1_leastTotal_2 12 rfl rfl)
theorem dX1_leastTotal_60 : decode cX1_leastTotal 60 = .ok (.ireturn, 1) := dk_172 (dk_at dksX1_leastTotal_2 15 rfl rfl)
abbrev cX1_canHold : ByteArray := prog_1_method_55_code
def yX1_canHold : MethodName := ⟨RX1, "canHold", "(II)Z"⟩
def dkwX1_canHold_1 : List UInt8 := [4, 167, 0, 4, 3, 172]
abbrev dktX1_canHold_1 : List UInt8 := dkwX1_canHold_1 ++ []
def dkwX1_canHold_0 : List UInt8 := [28, 184, 0, 243, 42, 180, 0, 82, 180, 0, 112, 27, 182, 0, 139, 192, 0, 143, 180, 0, 151, 163, 0, 7]
abbrev dktX1_canHold_0 : List UInt8 := dkwX1_canHold_0 ++ dktX1_canHold_1
theorem dksX1_canHold_0 : cX1_canHold.data.toList.drop 0 = dktX1_canHold_0 := by decide +kernel
theorem dksX1_canHold_1 : cX1_canHold.data.toList.drop 24 = dktX1_canHold_1 := dk_seg dksX1_canHold_0 24 rfl rfl
theorem dX1_canHold_0 : decode cX1_canHold 0 = .ok (.iload_n 2, 1) := dk_28 (dk_at dksX1_canHold_0 0 rfl rfl)
theorem dX1_canHold_1 : decode cX1_canHold 1 = .ok (.invokestatic 243, 3) := dk_184 0 243 (dk_at dksX1_canHold_0 1 rfl rfl)
theorem dX1_canHold_4 : decode cX1_canHold 4 = .ok (.aload_n 0, 1) := dk_42 (dk_at dksX1_canHold_0 4 rfl rfl)
theorem dX1_canHold_5 : decode cX1_canHold 5 = .ok (.getfield 82, 3) := dk_180 0 82 (dk_at dksX1_canHold_0 5 rfl rfl)
theorem dX1_canHold_8 : decode cX1_canHold 8 = .ok (.getfield 112, 3) := dk_180 0 112 (dk_at dksX1_canHold_0 8 rfl rfl)
theorem dX1_canHold_11 : decode cX1_canHold 11 = .ok (.iload_n 1, 1) := dk_27 (dk_at dksX1_canHold_0 11 rfl rfl)
theorem dX1_canHold_12 : decode cX1_canHold 12 = .ok (.invokevirtual 139, 3) := dk_182 0 139 (dk_at dksX1_canHold_0 12 rfl rfl)
theorem dX1_canHold_15 : decode cX1_canHold 15 = .ok (.checkcast 143, 3) := dk_192 0 143 (dk_at dksX1_canHold_0 15 rfl rfl)
theorem dX1_canHold_18 : decode cX1_canHold 18 = .ok (.getfield 151, 3) := dk_180 0 151 (dk_at dksX1_canHold_0 18 rfl rfl)
theorem dX1_canHold_21 : decode cX1_canHold 21 = .ok (.if_icmp .gt 7, 3) := dk_163 0 7 (dk_at dksX1_canHold_0 21 rfl rfl)
theorem dX1_canHold_24 : decode cX1_canHold 24 = .ok (.iconst 1, 1) := dk_4 (dk_at dksX1_canHold_1 0 rfl rfl)
theorem dX1_canHold_25 : decode cX1_canHold 25 = .ok (.goto 4, 3) := dk_167 0 4 (dk_at dksX1_canHold_1 1 rfl rfl)
theorem dX1_canHold_28 : decode cX1_canHold 28 = .ok (.iconst 0, 1) := dk_3 (dk_at dksX1_canHold_1 4 rfl rfl)
theorem dX1_canHold_29 : decode cX1_canHold 29 = .ok (.ireturn, 1) := dk_172 (dk_at dksX1_canHold_1 5 rfl rfl)
abbrev cX1_totalWith : ByteArray := prog_1_method_54_code
def yX1_totalWith : MethodName := ⟨RX1, "totalWith", "(II)I"⟩
def dkwX1_totalWith_2 : List UInt8 := [27, 3, 182, 0, 209, 172]
abbrev dktX1_totalWith_2 : List UInt8 := dkwX1_totalWith_2 ++ []
def dkwX1_totalWith_1 : List UInt8 := [29, 184, 0, 170, 153, 0, 7, 27, 167, 0, 5, 16, 254, 79, 132, 3, 1, 167, 255, 222, 42, 180, 0, 102]
abbrev dktX1_totalWith_1 : List UInt8 := dkwX1_totalWith_1 ++ dktX1_totalWith_2
def dkwX1_totalWith_0 : List UInt8 := [42, 182, 0, 240, 87, 3, 62, 29, 42, 182, 0, 126, 162, 0, 32, 42, 180, 0, 102, 180, 0, 185, 29, 28]
abbrev dktX1_totalWith_0 : List UInt8 := dkwX1_totalWith_0 ++ dktX1_totalWith_1
theorem dksX1_totalWith_0 : cX1_totalWith.data.toList.drop 0 = dktX1_totalWith_0 := by decide +kernel
theorem dksX1_totalWith_1 : cX1_totalWith.data.toList.drop 24 = dktX1_totalWith_1 := dk_seg dksX1_totalWith_0 24 rfl rfl
theorem dksX1_totalWith_2 : cX1_totalWith.data.toList.drop 48 = dktX1_totalWith_2 := dk_seg dksX1_totalWith_1 24 rfl rfl
theorem dX1_totalWith_0 : decode cX1_totalWith 0 = .ok (.aload_n 0, 1) := dk_42 (dk_at dksX1_totalWith_0 0 rfl rfl)
theorem dX1_totalWith_1 : decode cX1_totalWith 1 = .ok (.invokevirtual 240, 3) := dk_182 0 240 (dk_at dksX1_totalWith_0 1 rfl rfl)
theorem dX1_totalWith_4 : decode cX1_totalWith 4 = .ok (.pop, 1) := dk_87 (dk_at dksX1_totalWith_0 4 rfl rfl)
theorem dX1_totalWith_5 : decode cX1_totalWith 5 = .ok (.iconst 0, 1) := dk_3 (dk_at dksX1_totalWith_0 5 rfl rfl)
theorem dX1_totalWith_6 : decode cX1_totalWith 6 = .ok (.istore_n 3, 1) := dk_62 (dk_at dksX1_totalWith_0 6 rfl rfl)
theorem dX1_totalWith_7 : decode cX1_totalWith 7 = .ok (.iload_n 3, 1) := dk_29 (dk_at dksX1_totalWith_0 7 rfl rfl)
theorem dX1_totalWith_8 : decode cX1_totalWith 8 = .ok (.aload_n 0, 1) := dk_42 (dk_at dksX1_totalWith_0 8 rfl rfl)
theorem dX1_totalWith_9 : decode cX1_totalWith 9 = .ok (.invokevirtual 126, 3) := dk_182 0 126 (dk_at dksX1_totalWith_0 9 rfl rfl)
theorem dX1_totalWith_12 : decode cX1_totalWith 12 = .ok (.if_icmp .ge 32, 3) := dk_162 0 32 (dk_at dksX1_totalWith_0 12 rfl rfl)
theorem dX1_totalWith_15 : decode cX1_totalWith 15 = .ok (.aload_n 0, 1) := dk_42 (dk_at dksX1_totalWith_0 15 rfl rfl)
theorem dX1_totalWith_16 : decode cX1_totalWith 16 = .ok (.getfield 102, 3) := dk_180 0 102 (dk_at dksX1_totalWith_0 16 rfl rfl)
theorem dX1_totalWith_19 : decode cX1_totalWith 19 = .ok (.getfield 185, 3) := dk_180 0 185 (dk_at dksX1_totalWith_0 19 rfl rfl)
theorem dX1_totalWith_22 : decode cX1_totalWith 22 = .ok (.iload_n 3, 1) := dk_29 (dk_at dksX1_totalWith_0 22 rfl rfl)
theorem dX1_totalWith_23 : decode cX1_totalWith 23 = .ok (.iload_n 2, 1) := dk_28 (dk_at dksX1_totalWith_0 23 rfl rfl)
theorem dX1_totalWith_24 : decode cX1_totalWith 24 = .ok (.iload_n 3, 1) := dk_29 (dk_at dksX1_totalWith_1 0 rfl rfl)
theorem dX1_totalWith_25 : decode cX1_totalWith 25 = .ok (.invokestatic 170, 3) := dk_184 0 170 (dk_at dksX1_totalWith_1 1 rfl rfl)
theorem dX1_totalWith_28 : decode cX1_totalWith 28 = .ok (.ifCond .eq 7, 3) := dk_153 0 7 (dk_at dksX1_totalWith_1 4 rfl rfl)
theorem dX1_totalWith_31 : decode cX1_totalWith 31 = .ok (.iload_n 1, 1) := dk_27 (dk_at dksX1_totalWith_1 7 rfl rfl)
theorem dX1_totalWith_32 : decode cX1_totalWith 32 = .ok (.goto 5, 3) := dk_167 0 5 (dk_at dksX1_totalWith_1 8 rfl rfl)
theorem dX1_totalWith_35 : decode cX1_totalWith 35 = .ok (.bipush (-2), 2) := dk_16 254 (dk_at dksX1_totalWith_1 11 rfl rfl)
theorem dX1_totalWith_37 : decode cX1_totalWith 37 = .ok (.iastore, 1) := dk_79 (dk_at dksX1_totalWith_1 13 rfl rfl)
theorem dX1_totalWith_38 : decode cX1_totalWith 38 = .ok (.iinc 3 1, 3) := dk_132 3 1 (dk_at dksX1_totalWith_1 14 rfl rfl)
theorem dX1_totalWith_41 : decode cX1_totalWith 41 = .ok (.goto (-34), 3) := dk_167 255 222 (dk_at dksX1_totalWith_1 17 rfl rfl)
theorem dX1_totalWith_44 : decode cX1_totalWith 44 = .ok (.aload_n 0, 1) := dk_42 (dk_at dksX1_totalWith_1 20 rfl rfl)
theorem dX1_totalWith_45 : decode cX1_totalWith 45 = .ok (.getfield 102, 3) := dk_180 0 102 (dk_at dksX1_totalWith_1 21 rfl rfl)
theorem dX1_totalWith_48 : decode cX1_totalWith 48 = .ok (.iload_n 1, 1) := dk_27 (dk_at dksX1_totalWith_2 0 rfl rfl)
theorem dX1_totalWith_49 : decode cX1_totalWith 49 = .ok (.iconst 0, 1) := dk_3 (dk_at dksX1_totalWith_2 1 rfl rfl)
theorem dX1_totalWith_50 : decode cX1_totalWith 50 = .ok (.invokevirtual 209, 3) := dk_182 0 209 (dk_at dksX1_totalWith_2 2 rfl rfl)
theorem dX1_totalWith_53 : decode cX1_totalWith 53 = .ok (.ireturn, 1) := dk_172 (dk_at dksX1_totalWith_2 5 rfl rfl)
abbrev cX1_leastFor : ByteArray := prog_1_method_57_code
def yX1_leastFor : MethodName := ⟨RX1, "leastFor", "(II)I"⟩
def dkwX1_leastFor_4 : List UInt8 := [42, 21, 4, 182, 0, 47, 172]
abbrev dktX1_leastFor_4 : List UInt8 := dkwX1_leastFor_4 ++ []
def dkwX1_leastFor_3 : List UInt8 := [162, 0, 18, 42, 27, 21, 5, 182, 1, 19, 28, 163, 0, 7, 21, 5, 54, 4, 132, 5, 1, 167, 255, 197]
abbrev dktX1_leastFor_3 : List UInt8 := dkwX1_leastFor_3 ++ dktX1_leastFor_4
def dkwX1_leastFor_2 : List UInt8 := [182, 1, 16, 153, 0, 38, 21, 4, 16, 254, 159, 0, 16, 21, 5, 184, 0, 243, 21, 4, 184, 0, 243]
abbrev dktX1_leastFor_2 : List UInt8 := dkwX1_leastFor_2 ++ dktX1_leastFor_3
def dkwX1_leastFor_1 : List UInt8 := [172, 16, 254, 54, 4, 3, 54, 5, 21, 5, 4, 42, 182, 0, 126, 120, 162, 0, 54, 42, 27, 21, 5]
abbrev dktX1_leastFor_1 : List UInt8 := dkwX1_leastFor_1 ++ dktX1_leastFor_2
def dkwX1_leastFor_0 : List UInt8 := [42, 42, 27, 182, 0, 131, 28, 3, 17, 117, 48, 182, 1, 27, 62, 29, 158, 0, 9, 42, 29, 182, 0, 43]
abbrev dktX1_leastFor_0 : List UInt8 := dkwX1_leastFor_0 ++ dktX1_leastFor_1
theorem dksX1_leastFor_0 : cX1_leastFor.data.toList.drop 0 = dktX1_leastFor_0 := by decide +kernel
theorem dksX1_leastFor_1 : cX1_leastFor.data.toList.drop 24 = dktX1_leastFor_1 := dk_seg dksX1_leastFor_0 24 rfl rfl
theorem dksX1_leastFor_2 : cX1_leastFor.data.toList.drop 47 = dktX1_leastFor_2 := dk_seg dksX1_leastFor_1 23 rfl rfl
theorem dksX1_leastFor_3 : cX1_leastFor.data.toList.drop 70 = dktX1_leastFor_3 := dk_seg dksX1_leastFor_2 23 rfl rfl
theorem dksX1_leastFor_4 : cX1_leastFor.data.toList.drop 94 = dktX1_leastFor_4 := dk_seg dksX1_leastFor_3 24 rfl rfl
theorem dX1_leastFor_0 : decode cX1_leastFor 0 = .ok (.aload_n 0, 1) := dk_42 (dk_at dksX1_leastFor_0 0 rfl rfl)
theorem dX1_leastFor_1 : decode cX1_leastFor 1 = .ok (.aload_n 0, 1) := dk_42 (dk_at dksX1_leastFor_0 1 rfl rfl)
theorem dX1_leastFor_2 : decode cX1_leastFor 2 = .ok (.iload_n 1, 1) := dk_27 (dk_at dksX1_leastFor_0 2 rfl rfl)
theorem dX1_leastFor_3 : decode cX1_leastFor 3 = .ok (.invokevirtual 131, 3) := dk_182 0 131 (dk_at dksX1_leastFor_0 3 rfl rfl)
theorem dX1_leastFor_6 : decode cX1_leastFor 6 = .ok (.iload_n 2, 1) := dk_28 (dk_at dksX1_leastFor_0 6 rfl rfl)
theorem dX1_leastFor_7 : decode cX1_leastFor 7 = .ok (.iconst 0, 1) := dk_3 (dk_at dksX1_leastFor_0 7 rfl rfl)
theorem dX1_leastFor_8 : decode cX1_leastFor 8 = .ok (.sipush 30000, 3) := dk_17 117 48 (dk_at dksX1_leastFor_0 8 rfl rfl)
theorem dX1_leastFor_11 : decode cX1_leastFor 11 = .ok (.invokevirtual 283, 3) := dk_182 1 27 (dk_at dksX1_leastFor_0 11 rfl rfl)
theorem dX1_leastFor_14 : decode cX1_leastFor 14 = .ok (.istore_n 3, 1) := dk_62 (dk_at dksX1_leastFor_0 14 rfl rfl)
theorem dX1_leastFor_15 : decode cX1_leastFor 15 = .ok (.iload_n 3, 1) := dk_29 (dk_at dksX1_leastFor_0 15 rfl rfl)
theorem dX1_leastFor_16 : decode cX1_leastFor 16 = .ok (.ifCond .le 9, 3) := dk_158 0 9 (dk_at dksX1_leastFor_0 16 rfl rfl)
theorem dX1_leastFor_19 : decode cX1_leastFor 19 = .ok (.aload_n 0, 1) := dk_42 (dk_at dksX1_leastFor_0 19 rfl rfl)
theorem dX1_leastFor_20 : decode cX1_leastFor 20 = .ok (.iload_n 3, 1) := dk_29 (dk_at dksX1_leastFor_0 20 rfl rfl)
theorem dX1_leastFor_21 : decode cX1_leastFor 21 = .ok (.invokevirtual 43, 3) := dk_182 0 43 (dk_at dksX1_leastFor_0 21 rfl rfl)
theorem dX1_leastFor_24 : decode cX1_leastFor 24 = .ok (.ireturn, 1) := dk_172 (dk_at dksX1_leastFor_1 0 rfl rfl)
theorem dX1_leastFor_25 : decode cX1_leastFor 25 = .ok (.bipush (-2), 2) := dk_16 254 (dk_at dksX1_leastFor_1 1 rfl rfl)
theorem dX1_leastFor_27 : decode cX1_leastFor 27 = .ok (.istore 4, 2) := dk_54 4 (dk_at dksX1_leastFor_1 3 rfl rfl)
theorem dX1_leastFor_29 : decode cX1_leastFor 29 = .ok (.iconst 0, 1) := dk_3 (dk_at dksX1_leastFor_1 5 rfl rfl)
theorem dX1_leastFor_30 : decode cX1_leastFor 30 = .ok (.istore 5, 2) := dk_54 5 (dk_at dksX1_leastFor_1 6 rfl rfl)
theorem dX1_leastFor_32 : decode cX1_leastFor 32 = .ok (.iload 5, 2) := dk_21 5 (dk_at dksX1_leastFor_1 8 rfl rfl)
theorem dX1_leastFor_34 : decode cX1_leastFor 34 = .ok (.iconst 1, 1) := dk_4 (dk_at dksX1_leastFor_1 10 rfl rfl)
theorem dX1_leastFor_35 : decode cX1_leastFor 35 = .ok (.aload_n 0, 1) := dk_42 (dk_at dksX1_leastFor_1 11 rfl rfl)
theorem dX1_leastFor_36 : decode cX1_leastFor 36 = .ok (.invokevirtual 126, 3) := dk_182 0 126 (dk_at dksX1_leastFor_1 12 rfl rfl)
theorem dX1_leastFor_39 : decode cX1_leastFor 39 = .ok (.ishl, 1) := dk_120 (dk_at dksX1_leastFor_1 15 rfl rfl)
theorem dX1_leastFor_40 : decode cX1_leastFor 40 = .ok (.if_icmp .ge 54, 3) := dk_162 0 54 (dk_at dksX1_leastFor_1 16 rfl rfl)
theorem dX1_leastFor_43 : decode cX1_leastFor 43 = .ok (.aload_n 0, 1) := dk_42 (dk_at dksX1_leastFor_1 19 rfl rfl)
theorem dX1_leastFor_44 : decode cX1_leastFor 44 = .ok (.iload_n 1, 1) := dk_27 (dk_at dksX1_leastFor_1 20 rfl rfl)
theorem dX1_leastFor_45 : decode cX1_leastFor 45 = .ok (.iload 5, 2) := dk_21 5 (dk_at dksX1_leastFor_1 21 rfl rfl)
theorem dX1_leastFor_47 : decode cX1_leastFor 47 = .ok (.invokevirtual 272, 3) := dk_182 1 16 (dk_at dksX1_leastFor_2 0 rfl rfl)
theorem dX1_leastFor_50 : decode cX1_leastFor 50 = .ok (.ifCond .eq 38, 3) := dk_153 0 38 (dk_at dksX1_leastFor_2 3 rfl rfl)
theorem dX1_leastFor_53 : decode cX1_leastFor 53 = .ok (.iload 4, 2) := dk_21 4 (dk_at dksX1_leastFor_2 6 rfl rfl)
theorem dX1_leastFor_55 : decode cX1_leastFor 55 = .ok (.bipush (-2), 2) := dk_16 254 (dk_at dksX1_leastFor_2 8 rfl rfl)
theorem dX1_leastFor_57 : decode cX1_leastFor 57 = .ok (.if_icmp .eq 16, 3) := dk_159 0 16 (dk_at dksX1_leastFor_2 10 rfl rfl)
theorem dX1_leastFor_60 : decode cX1_leastFor 60 = .ok (.iload 5, 2) := dk_21 5 (dk_at dksX1_leastFor_2 13 rfl rfl)
theorem dX1_leastFor_62 : decode cX1_leastFor 62 = .ok (.invokestatic 243, 3) := dk_184 0 243 (dk_at dksX1_leastFor_2 15 rfl rfl)
theorem dX1_leastFor_65 : decode cX1_leastFor 65 = .ok (.iload 4, 2) := dk_21 4 (dk_at dksX1_leastFor_2 18 rfl rfl)
theorem dX1_leastFor_67 : decode cX1_leastFor 67 = .ok (.invokestatic 243, 3) := dk_184 0 243 (dk_at dksX1_leastFor_2 20 rfl rfl)
theorem dX1_leastFor_70 : decode cX1_leastFor 70 = .ok (.if_icmp .ge 18, 3) := dk_162 0 18 (dk_at dksX1_leastFor_3 0 rfl rfl)
theorem dX1_leastFor_73 : decode cX1_leastFor 73 = .ok (.aload_n 0, 1) := dk_42 (dk_at dksX1_leastFor_3 3 rfl rfl)
theorem dX1_leastFor_74 : decode cX1_leastFor 74 = .ok (.iload_n 1, 1) := dk_27 (dk_at dksX1_leastFor_3 4 rfl rfl)
theorem dX1_leastFor_75 : decode cX1_leastFor 75 = .ok (.iload 5, 2) := dk_21 5 (dk_at dksX1_leastFor_3 5 rfl rfl)
theorem dX1_leastFor_77 : decode cX1_leastFor 77 = .ok (.invokevirtual 275, 3) := dk_182 1 19 (dk_at dksX1_leastFor_3 7 rfl rfl)
theorem dX1_leastFor_80 : decode cX1_leastFor 80 = .ok (.iload_n 2, 1) := dk_28 (dk_at dksX1_leastFor_3 10 rfl rfl)
theorem dX1_leastFor_81 : decode cX1_leastFor 81 = .ok (.if_icmp .gt 7, 3) := dk_163 0 7 (dk_at dksX1_leastFor_3 11 rfl rfl)
theorem dX1_leastFor_84 : decode cX1_leastFor 84 = .ok (.iload 5, 2) := dk_21 5 (dk_at dksX1_leastFor_3 14 rfl rfl)
theorem dX1_leastFor_86 : decode cX1_leastFor 86 = .ok (.istore 4, 2) := dk_54 4 (dk_at dksX1_leastFor_3 16 rfl rfl)
theorem dX1_leastFor_88 : decode cX1_leastFor 88 = .ok (.iinc 5 1, 3) := dk_132 5 1 (dk_at dksX1_leastFor_3 18 rfl rfl)
theorem dX1_leastFor_91 : decode cX1_leastFor 91 = .ok (.goto (-59), 3) := dk_167 255 197 (dk_at dksX1_leastFor_3 21 rfl rfl)
theorem dX1_leastFor_94 : decode cX1_leastFor 94 = .ok (.aload_n 0, 1) := dk_42 (dk_at dksX1_leastFor_4 0 rfl rfl)
theorem dX1_leastFor_95 : decode cX1_leastFor 95 = .ok (.iload 4, 2) := dk_21 4 (dk_at dksX1_leastFor_4 1 rfl rfl)
theorem dX1_leastFor_97 : decode cX1_leastFor 97 = .ok (.invokevirtual 47, 3) := dk_182 0 47 (dk_at dksX1_leastFor_4 3 rfl rfl)
theorem dX1_leastFor_100 : decode cX1_leastFor 100 = .ok (.ireturn, 1) := dk_172 (dk_at dksX1_leastFor_4 6 rfl rfl)
abbrev cX1_why : ByteArray := prog_1_method_24_code
def yX1_why : MethodName := ⟨RX1, "why", "(ZIII)I"⟩
def dkwX1_why_0 : List UInt8 := [27, 154, 0, 7, 4, 167, 0, 18, 28, 29, 21, 4, 184, 0, 57, 153, 0, 7, 3, 167, 0, 4, 5, 172]
abbrev dktX1_why_0 : List UInt8 := dkwX1_why_0 ++ []
theorem dksX1_why_0 : cX1_why.data.toList.drop 0 = dktX1_why_0 := by decide +kernel
theorem dX1_why_0 : decode cX1_why 0 = .ok (.iload_n 1, 1) := dk_27 (dk_at dksX1_why_0 0 rfl rfl)
theorem dX1_why_1 : decode cX1_why 1 = .ok (.ifCond .ne 7, 3) := dk_154 0 7 (dk_at dksX1_why_0 1 rfl rfl)
theorem dX1_why_4 : decode cX1_why 4 = .ok (.iconst 1, 1) := dk_4 (dk_at dksX1_why_0 4 rfl rfl)
theorem dX1_why_5 : decode cX1_why 5 = .ok (.goto 18, 3) := dk_167 0 18 (dk_at dksX1_why_0 5 rfl rfl)
theorem dX1_why_8 : decode cX1_why 8 = .ok (.iload_n 2, 1) := dk_28 (dk_at dksX1_why_0 8 rfl rfl)
theorem dX1_why_9 : decode cX1_why 9 = .ok (.iload_n 3, 1) := dk_29 (dk_at dksX1_why_0 9 rfl rfl)
theorem dX1_why_10 : decode cX1_why 10 = .ok (.iload 4, 2) := dk_21 4 (dk_at dksX1_why_0 10 rfl rfl)
theorem dX1_why_12 : decode cX1_why 12 = .ok (.invokestatic 57, 3) := dk_184 0 57 (dk_at dksX1_why_0 12 rfl rfl)
theorem dX1_why_15 : decode cX1_why 15 = .ok (.ifCond .eq 7, 3) := dk_153 0 7 (dk_at dksX1_why_0 15 rfl rfl)
theorem dX1_why_18 : decode cX1_why 18 = .ok (.iconst 0, 1) := dk_3 (dk_at dksX1_why_0 18 rfl rfl)
theorem dX1_why_19 : decode cX1_why 19 = .ok (.goto 4, 3) := dk_167 0 4 (dk_at dksX1_why_0 19 rfl rfl)
theorem dX1_why_22 : decode cX1_why 22 = .ok (.iconst 2, 1) := dk_5 (dk_at dksX1_why_0 22 rfl rfl)
theorem dX1_why_23 : decode cX1_why 23 = .ok (.ireturn, 1) := dk_172 (dk_at dksX1_why_0 23 rfl rfl)
abbrev cX1_toMove : ByteArray := prog_1_method_58_code
def yX1_toMove : MethodName := ⟨RX1, "toMove", "(I)I"⟩
def dkwX1_toMove_5 : List UInt8 := [167, 0, 9, 21, 6, 62, 21, 4, 61, 132, 4, 1, 167, 255, 157, 42, 28, 182, 0, 47, 172]
abbrev dktX1_toMove_5 : List UInt8 := dkwX1_toMove_5 ++ []
def dkwX1_toMove_4 : List UInt8 := [16, 254, 167, 0, 4, 27, 79, 42, 180, 0, 102, 27, 3, 182, 0, 209, 54, 6, 21, 6, 29, 161, 0, 6]
abbrev dktX1_toMove_4 : List UInt8 := dkwX1_toMove_4 ++ dktX1_toMove_5
def dkwX1_toMove_3 : List UInt8 := [182, 0, 231, 153, 0, 6, 167, 0, 50, 42, 182, 0, 240, 180, 0, 185, 21, 4, 21, 5, 153, 0, 8]
abbrev dktX1_toMove_3 : List UInt8 := dkwX1_toMove_3 ++ dktX1_toMove_4
def dkwX1_toMove_2 : List UInt8 := [21, 4, 46, 27, 160, 0, 7, 4, 167, 0, 4, 3, 54, 5, 21, 5, 154, 0, 17, 42, 180, 0, 91, 27]
abbrev dktX1_toMove_2 : List UInt8 := dkwX1_toMove_2 ++ dktX1_toMove_3
def dkwX1_toMove_1 : List UInt8 := [182, 0, 209, 62, 3, 54, 4, 21, 4, 42, 182, 0, 126, 162, 0, 96, 42, 180, 0, 91, 180, 0, 185]
abbrev dktX1_toMove_1 : List UInt8 := dkwX1_toMove_1 ++ dktX1_toMove_2
def dkwX1_toMove_0 : List UInt8 := [42, 27, 182, 0, 131, 154, 0, 9, 42, 4, 182, 0, 43, 172, 16, 254, 61, 42, 180, 0, 91, 27, 3]
abbrev dktX1_toMove_0 : List UInt8 := dkwX1_toMove_0 ++ dktX1_toMove_1
theorem dksX1_toMove_0 : cX1_toMove.data.toList.drop 0 = dktX1_toMove_0 := by decide +kernel
theorem dksX1_toMove_1 : cX1_toMove.data.toList.drop 23 = dktX1_toMove_1 := dk_seg dksX1_toMove_0 23 rfl rfl
theorem dksX1_toMove_2 : cX1_toMove.data.toList.drop 46 = dktX1_toMove_2 := dk_seg dksX1_toMove_1 23 rfl rfl
theorem dksX1_toMove_3 : cX1_toMove.data.toList.drop 70 = dktX1_toMove_3 := dk_seg dksX1_toMove_2 24 rfl rfl
theorem dksX1_toMove_4 : cX1_toMove.data.toList.drop 93 = dktX1_toMove_4 := dk_seg dksX1_toMove_3 23 rfl rfl
theorem dksX1_toMove_5 : cX1_toMove.data.toList.drop 117 = dktX1_toMove_5 := dk_seg dksX1_toMove_4 24 rfl rfl
theorem dX1_toMove_0 : decode cX1_toMove 0 = .ok (.aload_n 0, 1) := dk_42 (dk_at dksX1_toMove_0 0 rfl rfl)
theorem dX1_toMove_1 : decode cX1_toMove 1 = .ok (.iload_n 1, 1) := dk_27 (dk_at dksX1_toMove_0 1 rfl rfl)
theorem dX1_toMove_2 : decode cX1_toMove 2 = .ok (.invokevirtual 131, 3) := dk_182 0 131 (dk_at dksX1_toMove_0 2 rfl rfl)
theorem dX1_toMove_5 : decode cX1_toMove 5 = .ok (.ifCond .ne 9, 3) := dk_154 0 9 (dk_at dksX1_toMove_0 5 rfl rfl)
theorem dX1_toMove_8 : decode cX1_toMove 8 = .ok (.aload_n 0, 1) := dk_42 (dk_at dksX1_toMove_0 8 rfl rfl)
theorem dX1_toMove_9 : decode cX1_toMove 9 = .ok (.iconst 1, 1) := dk_4 (dk_at dksX1_toMove_0 9 rfl rfl)
theorem dX1_toMove_10 : decode cX1_toMove 10 = .ok (.invokevirtual 43, 3) := dk_182 0 43 (dk_at dksX1_toMove_0 10 rfl rfl)
theorem dX1_toMove_13 : decode cX1_toMove 13 = .ok (.ireturn, 1) := dk_172 (dk_at dksX1_toMove_0 13 rfl rfl)
theorem dX1_toMove_14 : decode cX1_toMove 14 = .ok (.bipush (-2), 2) := dk_16 254 (dk_at dksX1_toMove_0 14 rfl rfl)
theorem dX1_toMove_16 : decode cX1_toMove 16 = .ok (.istore_n 2, 1) := dk_61 (dk_at dksX1_toMove_0 16 rfl rfl)
theorem dX1_toMove_17 : decode cX1_toMove 17 = .ok (.aload_n 0, 1) := dk_42 (dk_at dksX1_toMove_0 17 rfl rfl)
theorem dX1_toMove_18 : decode cX1_toMove 18 = .ok (.getfield 91, 3) := dk_180 0 91 (dk_at dksX1_toMove_0 18 rfl rfl)
theorem dX1_toMove_21 : decode cX1_toMove 21 = .ok (.iload_n 1, 1) := dk_27 (dk_at dksX1_toMove_0 21 rfl rfl)
theorem dX1_toMove_22 : decode cX1_toMove 22 = .ok (.iconst 0, 1) := dk_3 (dk_at dksX1_toMove_0 22 rfl rfl)
theorem dX1_toMove_23 : decode cX1_toMove 23 = .ok (.invokevirtual 209, 3) := dk_182 0 209 (dk_at dksX1_toMove_1 0 rfl rfl)
theorem dX1_toMove_26 : decode cX1_toMove 26 = .ok (.istore_n 3, 1) := dk_62 (dk_at dksX1_toMove_1 3 rfl rfl)
theorem dX1_toMove_27 : decode cX1_toMove 27 = .ok (.iconst 0, 1) := dk_3 (dk_at dksX1_toMove_1 4 rfl rfl)
theorem dX1_toMove_28 : decode cX1_toMove 28 = .ok (.istore 4, 2) := dk_54 4 (dk_at dksX1_toMove_1 5 rfl rfl)
theorem dX1_toMove_30 : decode cX1_toMove 30 = .ok (.iload 4, 2) := dk_21 4 (dk_at dksX1_toMove_1 7 rfl rfl)
theorem dX1_toMove_32 : decode cX1_toMove 32 = .ok (.aload_n 0, 1) := dk_42 (dk_at dksX1_toMove_1 9 rfl rfl)
theorem dX1_toMove_33 : decode cX1_toMove 33 = .ok (.invokevirtual 126, 3) := dk_182 0 126 (dk_at dksX1_toMove_1 10 rfl rfl)
theorem dX1_toMove_36 : decode cX1_toMove 36 = .ok (.if_icmp .ge 96, 3) := dk_162 0 96 (dk_at dksX1_toMove_1 13 rfl rfl)
theorem dX1_toMove_39 : decode cX1_toMove 39 = .ok (.aload_n 0, 1) := dk_42 (dk_at dksX1_toMove_1 16 rfl rfl)
theorem dX1_toMove_40 : decode cX1_toMove 40 = .ok (.getfield 91, 3) := dk_180 0 91 (dk_at dksX1_toMove_1 17 rfl rfl)
theorem dX1_toMove_43 : decode cX1_toMove 43 = .ok (.getfield 185, 3) := dk_180 0 185 (dk_at dksX1_toMove_1 20 rfl rfl)
theorem dX1_toMove_46 : decode cX1_toMove 46 = .ok (.iload 4, 2) := dk_21 4 (dk_at dksX1_toMove_2 0 rfl rfl)
theorem dX1_toMove_48 : decode cX1_toMove 48 = .ok (.iaload, 1) := dk_46 (dk_at dksX1_toMove_2 2 rfl rfl)
theorem dX1_toMove_49 : decode cX1_toMove 49 = .ok (.iload_n 1, 1) := dk_27 (dk_at dksX1_toMove_2 3 rfl rfl)
theorem dX1_toMove_50 : decode cX1_toMove 50 = .ok (.if_icmp .ne 7, 3) := dk_160 0 7 (dk_at dksX1_toMove_2 4 rfl rfl)
theorem dX1_toMove_53 : decode cX1_toMove 53 = .ok (.iconst 1, 1) := dk_4 (dk_at dksX1_toMove_2 7 rfl rfl)
theorem dX1_toMove_54 : decode cX1_toMove 54 = .ok (.goto 4, 3) := dk_167 0 4 (dk_at dksX1_toMove_2 8 rfl rfl)
theorem dX1_toMove_57 : decode cX1_toMove 57 = .ok (.iconst 0, 1) := dk_3 (dk_at dksX1_toMove_2 11 rfl rfl)
theorem dX1_toMove_58 : decode cX1_toMove 58 = .ok (.istore 5, 2) := dk_54 5 (dk_at dksX1_toMove_2 12 rfl rfl)
theorem dX1_toMove_60 : decode cX1_toMove 60 = .ok (.iload 5, 2) := dk_21 5 (dk_at dksX1_toMove_2 14 rfl rfl)
theorem dX1_toMove_62 : decode cX1_toMove 62 = .ok (.ifCond .ne 17, 3) := dk_154 0 17 (dk_at dksX1_toMove_2 16 rfl rfl)
theorem dX1_toMove_65 : decode cX1_toMove 65 = .ok (.aload_n 0, 1) := dk_42 (dk_at dksX1_toMove_2 19 rfl rfl)
theorem dX1_toMove_66 : decode cX1_toMove 66 = .ok (.getfield 91, 3) := dk_180 0 91 (dk_at dksX1_toMove_2 20 rfl rfl)
theorem dX1_toMove_69 : decode cX1_toMove 69 = .ok (.iload_n 1, 1) := dk_27 (dk_at dksX1_toMove_2 23 rfl rfl)
theorem dX1_toMove_70 : decode cX1_toMove 70 = .ok (.invokevirtual 231, 3) := dk_182 0 231 (dk_at dksX1_toMove_3 0 rfl rfl)
theorem dX1_toMove_73 : decode cX1_toMove 73 = .ok (.ifCond .eq 6, 3) := dk_153 0 6 (dk_at dksX1_toMove_3 3 rfl rfl)
theorem dX1_toMove_76 : decode cX1_toMove 76 = .ok (.goto 50, 3) := dk_167 0 50 (dk_at dksX1_toMove_3 6 rfl rfl)
theorem dX1_toMove_79 : decode cX1_toMove 79 = .ok (.aload_n 0, 1) := dk_42 (dk_at dksX1_toMove_3 9 rfl rfl)
theorem dX1_toMove_80 : decode cX1_toMove 80 = .ok (.invokevirtual 240, 3) := dk_182 0 240 (dk_at dksX1_toMove_3 10 rfl rfl)
theorem dX1_toMove_83 : decode cX1_toMove 83 = .ok (.getfield 185, 3) := dk_180 0 185 (dk_at dksX1_toMove_3 13 rfl rfl)
theorem dX1_toMove_86 : decode cX1_toMove 86 = .ok (.iload 4, 2) := dk_21 4 (dk_at dksX1_toMove_3 16 rfl rfl)
theorem dX1_toMove_88 : decode cX1_toMove 88 = .ok (.iload 5, 2) := dk_21 5 (dk_at dksX1_toMove_3 18 rfl rfl)
theorem dX1_toMove_90 : decode cX1_toMove 90 = .ok (.ifCond .eq 8, 3) := dk_153 0 8 (dk_at dksX1_toMove_3 20 rfl rfl)
theorem dX1_toMove_93 : decode cX1_toMove 93 = .ok (.bipush (-2), 2) := dk_16 254 (dk_at dksX1_toMove_4 0 rfl rfl)
theorem dX1_toMove_95 : decode cX1_toMove 95 = .ok (.goto 4, 3) := dk_167 0 4 (dk_at dksX1_toMove_4 2 rfl rfl)
theorem dX1_toMove_98 : decode cX1_toMove 98 = .ok (.iload_n 1, 1) := dk_27 (dk_at dksX1_toMove_4 5 rfl rfl)
theorem dX1_toMove_99 : decode cX1_toMove 99 = .ok (.iastore, 1) := dk_79 (dk_at dksX1_toMove_4 6 rfl rfl)
theorem dX1_toMove_100 : decode cX1_toMove 100 = .ok (.aload_n 0, 1) := dk_42 (dk_at dksX1_toMove_4 7 rfl rfl)
theorem dX1_toMove_101 : decode cX1_toMove 101 = .ok (.getfield 102, 3) := dk_180 0 102 (dk_at dksX1_toMove_4 8 rfl rfl)
theorem dX1_toMove_104 : decode cX1_toMove 104 = .ok (.iload_n 1, 1) := dk_27 (dk_at dksX1_toMove_4 11 rfl rfl)
theorem dX1_toMove_105 : decode cX1_toMove 105 = .ok (.iconst 0, 1) := dk_3 (dk_at dksX1_toMove_4 12 rfl rfl)
theorem dX1_toMove_106 : decode cX1_toMove 106 = .ok (.invokevirtual 209, 3) := dk_182 0 209 (dk_at dksX1_toMove_4 13 rfl rfl)
theorem dX1_toMove_109 : decode cX1_toMove 109 = .ok (.istore 6, 2) := dk_54 6 (dk_at dksX1_toMove_4 16 rfl rfl)
theorem dX1_toMove_111 : decode cX1_toMove 111 = .ok (.iload 6, 2) := dk_21 6 (dk_at dksX1_toMove_4 18 rfl rfl)
theorem dX1_toMove_113 : decode cX1_toMove 113 = .ok (.iload_n 3, 1) := dk_29 (dk_at dksX1_toMove_4 20 rfl rfl)
theorem dX1_toMove_114 : decode cX1_toMove 114 = .ok (.if_icmp .lt 6, 3) := dk_161 0 6 (dk_at dksX1_toMove_4 21 rfl rfl)
theorem dX1_toMove_117 : decode cX1_toMove 117 = .ok (.goto 9, 3) := dk_167 0 9 (dk_at dksX1_toMove_5 0 rfl rfl)
theorem dX1_toMove_120 : decode cX1_toMove 120 = .ok (.iload 6, 2) := dk_21 6 (dk_at dksX1_toMove_5 3 rfl rfl)
theorem dX1_toMove_122 : decode cX1_toMove 122 = .ok (.istore_n 3, 1) := dk_62 (dk_at dksX1_toMove_5 5 rfl rfl)
theorem dX1_toMove_123 : decode cX1_toMove 123 = .ok (.iload 4, 2) := dk_21 4 (dk_at dksX1_toMove_5 6 rfl rfl)
theorem dX1_toMove_125 : decode cX1_toMove 125 = .ok (.istore_n 2, 1) := dk_61 (dk_at dksX1_toMove_5 8 rfl rfl)
theorem dX1_toMove_126 : decode cX1_toMove 126 = .ok (.iinc 4 1, 3) := dk_132 4 1 (dk_at dksX1_toMove_5 9 rfl rfl)
theorem dX1_toMove_129 : decode cX1_toMove 129 = .ok (.goto (-99), 3) := dk_167 255 157 (dk_at dksX1_toMove_5 12 rfl rfl)
theorem dX1_toMove_132 : decode cX1_toMove 132 = .ok (.aload_n 0, 1) := dk_42 (dk_at dksX1_toMove_5 15 rfl rfl)
theorem dX1_toMove_133 : decode cX1_toMove 133 = .ok (.iload_n 2, 1) := dk_28 (dk_at dksX1_toMove_5 16 rfl rfl)
theorem dX1_toMove_134 : decode cX1_toMove 134 = .ok (.invokevirtual 47, 3) := dk_182 0 47 (dk_at dksX1_toMove_5 17 rfl rfl)
theorem dX1_toMove_137 : decode cX1_toMove 137 = .ok (.ireturn, 1) := dk_172 (dk_at dksX1_toMove_5 20 rfl rfl)
abbrev cX1_waterFor : ByteArray := prog_1_method_59_code
def yX1_waterFor : MethodName := ⟨RX1, "waterFor", "(II)I"⟩
def dkwX1_waterFor_3 : List UInt8 := [16, 254, 182, 0, 47, 172]
abbrev dktX1_waterFor_3 : List UInt8 := dkwX1_waterFor_3 ++ []
def dkwX1_waterFor_2 : List UInt8 := [27, 3, 182, 0, 209, 28, 163, 0, 10, 42, 21, 4, 182, 0, 47, 172, 132, 4, 1, 167, 255, 217, 42]
abbrev dktX1_waterFor_2 : List UInt8 := dkwX1_waterFor_2 ++ dktX1_waterFor_3
def dkwX1_waterFor_1 : List UInt8 := [172, 4, 54, 4, 21, 4, 16, 20, 163, 0, 38, 42, 182, 0, 240, 21, 4, 181, 1, 31, 42, 180, 0, 102]
abbrev dktX1_waterFor_1 : List UInt8 := dkwX1_waterFor_1 ++ dktX1_waterFor_2
def dkwX1_waterFor_0 : List UInt8 := [42, 42, 27, 182, 0, 131, 28, 3, 17, 117, 48, 182, 1, 27, 62, 29, 158, 0, 9, 42, 29, 182, 0, 43]
abbrev dktX1_waterFor_0 : List UInt8 := dkwX1_waterFor_0 ++ dktX1_waterFor_1
theorem dksX1_waterFor_0 : cX1_waterFor.data.toList.drop 0 = dktX1_waterFor_0 := by decide +kernel
theorem dksX1_waterFor_1 : cX1_waterFor.data.toList.drop 24 = dktX1_waterFor_1 := dk_seg dksX1_waterFor_0 24 rfl rfl
theorem dksX1_waterFor_2 : cX1_waterFor.data.toList.drop 48 = dktX1_waterFor_2 := dk_seg dksX1_waterFor_1 24 rfl rfl
theorem dksX1_waterFor_3 : cX1_waterFor.data.toList.drop 71 = dktX1_waterFor_3 := dk_seg dksX1_waterFor_2 23 rfl rfl
theorem dX1_waterFor_0 : decode cX1_waterFor 0 = .ok (.aload_n 0, 1) := dk_42 (dk_at dksX1_waterFor_0 0 rfl rfl)
theorem dX1_waterFor_1 : decode cX1_waterFor 1 = .ok (.aload_n 0, 1) := dk_42 (dk_at dksX1_waterFor_0 1 rfl rfl)
theorem dX1_waterFor_2 : decode cX1_waterFor 2 = .ok (.iload_n 1, 1) := dk_27 (dk_at dksX1_waterFor_0 2 rfl rfl)
theorem dX1_waterFor_3 : decode cX1_waterFor 3 = .ok (.invokevirtual 131, 3) := dk_182 0 131 (dk_at dksX1_waterFor_0 3 rfl rfl)
theorem dX1_waterFor_6 : decode cX1_waterFor 6 = .ok (.iload_n 2, 1) := dk_28 (dk_at dksX1_waterFor_0 6 rfl rfl)
theorem dX1_waterFor_7 : decode cX1_waterFor 7 = .ok (.iconst 0, 1) := dk_3 (dk_at dksX1_waterFor_0 7 rfl rfl)
theorem dX1_waterFor_8 : decode cX1_waterFor 8 = .ok (.sipush 30000, 3) := dk_17 117 48 (dk_at dksX1_waterFor_0 8 rfl rfl)
theorem dX1_waterFor_11 : decode cX1_waterFor 11 = .ok (.invokevirtual 283, 3) := dk_182 1 27 (dk_at dksX1_waterFor_0 11 rfl rfl)
theorem dX1_waterFor_14 : decode cX1_waterFor 14 = .ok (.istore_n 3, 1) := dk_62 (dk_at dksX1_waterFor_0 14 rfl rfl)
theorem dX1_waterFor_15 : decode cX1_waterFor 15 = .ok (.iload_n 3, 1) := dk_29 (dk_at dksX1_waterFor_0 15 rfl rfl)
theorem dX1_waterFor_16 : decode cX1_waterFor 16 = .ok (.ifCond .le 9, 3) := dk_158 0 9 (dk_at dksX1_waterFor_0 16 rfl rfl)
theorem dX1_waterFor_19 : decode cX1_waterFor 19 = .ok (.aload_n 0, 1) := dk_42 (dk_at dksX1_waterFor_0 19 rfl rfl)
theorem dX1_waterFor_20 : decode cX1_waterFor 20 = .ok (.iload_n 3, 1) := dk_29 (dk_at dksX1_waterFor_0 20 rfl rfl)
theorem dX1_waterFor_21 : decode cX1_waterFor 21 = .ok (.invokevirtual 43, 3) := dk_182 0 43 (dk_at dksX1_waterFor_0 21 rfl rfl)
theorem dX1_waterFor_24 : decode cX1_waterFor 24 = .ok (.ireturn, 1) := dk_172 (dk_at dksX1_waterFor_1 0 rfl rfl)
theorem dX1_waterFor_25 : decode cX1_waterFor 25 = .ok (.iconst 1, 1) := dk_4 (dk_at dksX1_waterFor_1 1 rfl rfl)
theorem dX1_waterFor_26 : decode cX1_waterFor 26 = .ok (.istore 4, 2) := dk_54 4 (dk_at dksX1_waterFor_1 2 rfl rfl)
theorem dX1_waterFor_28 : decode cX1_waterFor 28 = .ok (.iload 4, 2) := dk_21 4 (dk_at dksX1_waterFor_1 4 rfl rfl)
theorem dX1_waterFor_30 : decode cX1_waterFor 30 = .ok (.bipush 20, 2) := dk_16 20 (dk_at dksX1_waterFor_1 6 rfl rfl)
theorem dX1_waterFor_32 : decode cX1_waterFor 32 = .ok (.if_icmp .gt 38, 3) := dk_163 0 38 (dk_at dksX1_waterFor_1 8 rfl rfl)
theorem dX1_waterFor_35 : decode cX1_waterFor 35 = .ok (.aload_n 0, 1) := dk_42 (dk_at dksX1_waterFor_1 11 rfl rfl)
theorem dX1_waterFor_36 : decode cX1_waterFor 36 = .ok (.invokevirtual 240, 3) := dk_182 0 240 (dk_at dksX1_waterFor_1 12 rfl rfl)
theorem dX1_waterFor_39 : decode cX1_waterFor 39 = .ok (.iload 4, 2) := dk_21 4 (dk_at dksX1_waterFor_1 15 rfl rfl)
theorem dX1_waterFor_41 : decode cX1_waterFor 41 = .ok (.putfield 287, 3) := dk_181 1 31 (dk_at dksX1_waterFor_1 17 rfl rfl)
theorem dX1_waterFor_44 : decode cX1_waterFor 44 = .ok (.aload_n 0, 1) := dk_42 (dk_at dksX1_waterFor_1 20 rfl rfl)
theorem dX1_waterFor_45 : decode cX1_waterFor 45 = .ok (.getfield 102, 3) := dk_180 0 102 (dk_at dksX1_waterFor_1 21 rfl rfl)
theorem dX1_waterFor_48 : decode cX1_waterFor 48 = .ok (.iload_n 1, 1) := dk_27 (dk_at dksX1_waterFor_2 0 rfl rfl)
theorem dX1_waterFor_49 : decode cX1_waterFor 49 = .ok (.iconst 0, 1) := dk_3 (dk_at dksX1_waterFor_2 1 rfl rfl)
theorem dX1_waterFor_50 : decode cX1_waterFor 50 = .ok (.invokevirtual 209, 3) := dk_182 0 209 (dk_at dksX1_waterFor_2 2 rfl rfl)
theorem dX1_waterFor_53 : decode cX1_waterFor 53 = .ok (.iload_n 2, 1) := dk_28 (dk_at dksX1_waterFor_2 5 rfl rfl)
theorem dX1_waterFor_54 : decode cX1_waterFor 54 = .ok (.if_icmp .gt 10, 3) := dk_163 0 10 (dk_at dksX1_waterFor_2 6 rfl rfl)
theorem dX1_waterFor_57 : decode cX1_waterFor 57 = .ok (.aload_n 0, 1) := dk_42 (dk_at dksX1_waterFor_2 9 rfl rfl)
theorem dX1_waterFor_58 : decode cX1_waterFor 58 = .ok (.iload 4, 2) := dk_21 4 (dk_at dksX1_waterFor_2 10 rfl rfl)
theorem dX1_waterFor_60 : decode cX1_waterFor 60 = .ok (.invokevirtual 47, 3) := dk_182 0 47 (dk_at dksX1_waterFor_2 12 rfl rfl)
theorem dX1_waterFor_63 : decode cX1_waterFor 63 = .ok (.ireturn, 1) := dk_172 (dk_at dksX1_waterFor_2 15 rfl rfl)
theorem dX1_waterFor_64 : decode cX1_waterFor 64 = .ok (.iinc 4 1, 3) := dk_132 4 1 (dk_at dksX1_waterFor_2 16 rfl rfl)
theorem dX1_waterFor_67 : decode cX1_waterFor 67 = .ok (.goto (-39), 3) := dk_167 255 217 (dk_at dksX1_waterFor_2 19 rfl rfl)
theorem dX1_waterFor_70 : decode cX1_waterFor 70 = .ok (.aload_n 0, 1) := dk_42 (dk_at dksX1_waterFor_2 22 rfl rfl)
theorem dX1_waterFor_71 : decode cX1_waterFor 71 = .ok (.bipush (-2), 2) := dk_16 254 (dk_at dksX1_waterFor_3 0 rfl rfl)
theorem dX1_waterFor_73 : decode cX1_waterFor 73 = .ok (.invokevirtual 47, 3) := dk_182 0 47 (dk_at dksX1_waterFor_3 2 rfl rfl)
theorem dX1_waterFor_76 : decode cX1_waterFor 76 = .ok (.ireturn, 1) := dk_172 (dk_at dksX1_waterFor_3 5 rfl rfl)
abbrev cX1_bestSwap : ByteArray := prog_1_method_60_code
def yX1_bestSwap : MethodName := ⟨RX1, "bestSwap", "(I)I"⟩
def dkwX1_bestSwap_6 : List UInt8 := [182, 0, 47, 172]
abbrev dktX1_bestSwap_6 : List UInt8 := dkwX1_bestSwap_6 ++ []
def dkwX1_bestSwap_5 : List UInt8 := [16, 10, 21, 4, 104, 21, 5, 96, 61, 132, 5, 1, 167, 255, 172, 132, 4, 1, 167, 255, 151, 42, 28]
abbrev dktX1_bestSwap_5 : List UInt8 := dkwX1_bestSwap_5 ++ dktX1_bestSwap_6
def dkwX1_bestSwap_4 : List UInt8 := [42, 180, 0, 102, 27, 3, 182, 0, 209, 54, 6, 21, 6, 29, 161, 0, 6, 167, 0, 15, 21, 6, 62]
abbrev dktX1_bestSwap_4 : List UInt8 := dkwX1_bestSwap_4 ++ dktX1_bestSwap_5
def dkwX1_bestSwap_3 : List UInt8 := [21, 5, 46, 79, 42, 180, 0, 102, 180, 0, 185, 21, 5, 42, 180, 0, 91, 180, 0, 185, 21, 4, 46, 79]
abbrev dktX1_bestSwap_3 : List UInt8 := dkwX1_bestSwap_3 ++ dktX1_bestSwap_4
def dkwX1_bestSwap_2 : List UInt8 := [42, 182, 0, 126, 162, 0, 81, 42, 182, 0, 240, 180, 0, 185, 21, 4, 42, 180, 0, 91, 180, 0, 185]
abbrev dktX1_bestSwap_2 : List UInt8 := dkwX1_bestSwap_2 ++ dktX1_bestSwap_3
def dkwX1_bestSwap_1 : List UInt8 := [182, 0, 209, 62, 3, 54, 4, 21, 4, 42, 182, 0, 126, 162, 0, 102, 21, 4, 4, 96, 54, 5, 21, 5]
abbrev dktX1_bestSwap_1 : List UInt8 := dkwX1_bestSwap_1 ++ dktX1_bestSwap_2
def dkwX1_bestSwap_0 : List UInt8 := [42, 27, 182, 0, 131, 154, 0, 9, 42, 4, 182, 0, 43, 172, 16, 254, 61, 42, 180, 0, 91, 27, 3]
abbrev dktX1_bestSwap_0 : List UInt8 := dkwX1_bestSwap_0 ++ dktX1_bestSwap_1
theorem dksX1_bestSwap_0 : cX1_bestSwap.data.toList.drop 0 = dktX1_bestSwap_0 := by decide +kernel
theorem dksX1_bestSwap_1 : cX1_bestSwap.data.toList.drop 23 = dktX1_bestSwap_1 := dk_seg dksX1_bestSwap_0 23 rfl rfl
theorem dksX1_bestSwap_2 : cX1_bestSwap.data.toList.drop 47 = dktX1_bestSwap_2 := dk_seg dksX1_bestSwap_1 24 rfl rfl
theorem dksX1_bestSwap_3 : cX1_bestSwap.data.toList.drop 70 = dktX1_bestSwap_3 := dk_seg dksX1_bestSwap_2 23 rfl rfl
theorem dksX1_bestSwap_4 : cX1_bestSwap.data.toList.drop 94 = dktX1_bestSwap_4 := dk_seg dksX1_bestSwap_3 24 rfl rfl
theorem dksX1_bestSwap_5 : cX1_bestSwap.data.toList.drop 117 = dktX1_bestSwap_5 := dk_seg dksX1_bestSwap_4 23 rfl rfl
theorem dksX1_bestSwap_6 : cX1_bestSwap.data.toList.drop 140 = dktX1_bestSwap_6 := dk_seg dksX1_bestSwap_5 23 rfl rfl
theorem dX1_bestSwap_0 : decode cX1_bestSwap 0 = .ok (.aload_n 0, 1) := dk_42 (dk_at dksX1_bestSwap_0 0 rfl rfl)
theorem dX1_bestSwap_1 : decode cX1_bestSwap 1 = .ok (.iload_n 1, 1) := dk_27 (dk_at dksX1_bestSwap_0 1 rfl rfl)
theorem dX1_bestSwap_2 : decode cX1_bestSwap 2 = .ok (.invokevirtual 131, 3) := dk_182 0 131 (dk_at dksX1_bestSwap_0 2 rfl rfl)
theorem dX1_bestSwap_5 : decode cX1_bestSwap 5 = .ok (.ifCond .ne 9, 3) := dk_154 0 9 (dk_at dksX1_bestSwap_0 5 rfl rfl)
theorem dX1_bestSwap_8 : decode cX1_bestSwap 8 = .ok (.aload_n 0, 1) := dk_42 (dk_at dksX1_bestSwap_0 8 rfl rfl)
theorem dX1_bestSwap_9 : decode cX1_bestSwap 9 = .ok (.iconst 1, 1) := dk_4 (dk_at dksX1_bestSwap_0 9 rfl rfl)
theorem dX1_bestSwap_10 : decode cX1_bestSwap 10 = .ok (.invokevirtual 43, 3) := dk_182 0 43 (dk_at dksX1_bestSwap_0 10 rfl rfl)
theorem dX1_bestSwap_13 : decode cX1_bestSwap 13 = .ok (.ireturn, 1) := dk_172 (dk_at dksX1_bestSwap_0 13 rfl rfl)
theorem dX1_bestSwap_14 : decode cX1_bestSwap 14 = .ok (.bipush (-2), 2) := dk_16 254 (dk_at dksX1_bestSwap_0 14 rfl rfl)
theorem dX1_bestSwap_16 : decode cX1_bestSwap 16 = .ok (.istore_n 2, 1) := dk_61 (dk_at dksX1_bestSwap_0 16 rfl rfl)
theorem dX1_bestSwap_17 : decode cX1_bestSwap 17 = .ok (.aload_n 0, 1) := dk_42 (dk_at dksX1_bestSwap_0 17 rfl rfl)
theorem dX1_bestSwap_18 : decode cX1_bestSwap 18 = .ok (.getfield 91, 3) := dk_180 0 91 (dk_at dksX1_bestSwap_0 18 rfl rfl)
theorem dX1_bestSwap_21 : decode cX1_bestSwap 21 = .ok (.iload_n 1, 1) := dk_27 (dk_at dksX1_bestSwap_0 21 rfl rfl)
theorem dX1_bestSwap_22 : decode cX1_bestSwap 22 = .ok (.iconst 0, 1) := dk_3 (dk_at dksX1_bestSwap_0 22 rfl rfl)
theorem dX1_bestSwap_23 : decode cX1_bestSwap 23 = .ok (.invokevirtual 209, 3) := dk_182 0 209 (dk_at dksX1_bestSwap_1 0 rfl rfl)
theorem dX1_bestSwap_26 : decode cX1_bestSwap 26 = .ok (.istore_n 3, 1) := dk_62 (dk_at dksX1_bestSwap_1 3 rfl rfl)
theorem dX1_bestSwap_27 : decode cX1_bestSwap 27 = .ok (.iconst 0, 1) := dk_3 (dk_at dksX1_bestSwap_1 4 rfl rfl)
theorem dX1_bestSwap_28 : decode cX1_bestSwap 28 = .ok (.istore 4, 2) := dk_54 4 (dk_at dksX1_bestSwap_1 5 rfl rfl)
theorem dX1_bestSwap_30 : decode cX1_bestSwap 30 = .ok (.iload 4, 2) := dk_21 4 (dk_at dksX1_bestSwap_1 7 rfl rfl)
theorem dX1_bestSwap_32 : decode cX1_bestSwap 32 = .ok (.aload_n 0, 1) := dk_42 (dk_at dksX1_bestSwap_1 9 rfl rfl)
theorem dX1_bestSwap_33 : decode cX1_bestSwap 33 = .ok (.invokevirtual 126, 3) := dk_182 0 126 (dk_at dksX1_bestSwap_1 10 rfl rfl)
theorem dX1_bestSwap_36 : decode cX1_bestSwap 36 = .ok (.if_icmp .ge 102, 3) := dk_162 0 102 (dk_at dksX1_bestSwap_1 13 rfl rfl)
theorem dX1_bestSwap_39 : decode cX1_bestSwap 39 = .ok (.iload 4, 2) := dk_21 4 (dk_at dksX1_bestSwap_1 16 rfl rfl)
theorem dX1_bestSwap_41 : decode cX1_bestSwap 41 = .ok (.iconst 1, 1) := dk_4 (dk_at dksX1_bestSwap_1 18 rfl rfl)
theorem dX1_bestSwap_42 : decode cX1_bestSwap 42 = .ok (.iadd, 1) := dk_96 (dk_at dksX1_bestSwap_1 19 rfl rfl)
theorem dX1_bestSwap_43 : decode cX1_bestSwap 43 = .ok (.istore 5, 2) := dk_54 5 (dk_at dksX1_bestSwap_1 20 rfl rfl)
theorem dX1_bestSwap_45 : decode cX1_bestSwap 45 = .ok (.iload 5, 2) := dk_21 5 (dk_at dksX1_bestSwap_1 22 rfl rfl)
theorem dX1_bestSwap_47 : decode cX1_bestSwap 47 = .ok (.aload_n 0, 1) := dk_42 (dk_at dksX1_bestSwap_2 0 rfl rfl)
theorem dX1_bestSwap_48 : decode cX1_bestSwap 48 = .ok (.invokevirtual 126, 3) := dk_182 0 126 (dk_at dksX1_bestSwap_2 1 rfl rfl)
theorem dX1_bestSwap_51 : decode cX1_bestSwap 51 = .ok (.if_icmp .ge 81, 3) := dk_162 0 81 (dk_at dksX1_bestSwap_2 4 rfl rfl)
theorem dX1_bestSwap_54 : decode cX1_bestSwap 54 = .ok (.aload_n 0, 1) := dk_42 (dk_at dksX1_bestSwap_2 7 rfl rfl)
theorem dX1_bestSwap_55 : decode cX1_bestSwap 55 = .ok (.invokevirtual 240, 3) := dk_182 0 240 (dk_at dksX1_bestSwap_2 8 rfl rfl)
theorem dX1_bestSwap_58 : decode cX1_bestSwap 58 = .ok (.getfield 185, 3) := dk_180 0 185 (dk_at dksX1_bestSwap_2 11 rfl rfl)
theorem dX1_bestSwap_61 : decode cX1_bestSwap 61 = .ok (.iload 4, 2) := dk_21 4 (dk_at dksX1_bestSwap_2 14 rfl rfl)
theorem dX1_bestSwap_63 : decode cX1_bestSwap 63 = .ok (.aload_n 0, 1) := dk_42 (dk_at dksX1_bestSwap_2 16 rfl rfl)
theorem dX1_bestSwap_64 : decode cX1_bestSwap 64 = .ok (.getfield 91, 3) := dk_180 0 91 (dk_at dksX1_bestSwap_2 17 rfl rfl)
theorem dX1_bestSwap_67 : decode cX1_bestSwap 67 = .ok (.getfield 185, 3) := dk_180 0 185 (dk_at dksX1_bestSwap_2 20 rfl rfl)
theorem dX1_bestSwap_70 : decode cX1_bestSwap 70 = .ok (.iload 5, 2) := dk_21 5 (dk_at dksX1_bestSwap_3 0 rfl rfl)
theorem dX1_bestSwap_72 : decode cX1_bestSwap 72 = .ok (.iaload, 1) := dk_46 (dk_at dksX1_bestSwap_3 2 rfl rfl)
theorem dX1_bestSwap_73 : decode cX1_bestSwap 73 = .ok (.iastore, 1) := dk_79 (dk_at dksX1_bestSwap_3 3 rfl rfl)
theorem dX1_bestSwap_74 : decode cX1_bestSwap 74 = .ok (.aload_n 0, 1) := dk_42 (dk_at dksX1_bestSwap_3 4 rfl rfl)
theorem dX1_bestSwap_75 : decode cX1_bestSwap 75 = .ok (.getfield 102, 3) := dk_180 0 102 (dk_at dksX1_bestSwap_3 5 rfl rfl)
theorem dX1_bestSwap_78 : decode cX1_bestSwap 78 = .ok (.getfield 185, 3) := dk_180 0 185 (dk_at dksX1_bestSwap_3 8 rfl rfl)
theorem dX1_bestSwap_81 : decode cX1_bestSwap 81 = .ok (.iload 5, 2) := dk_21 5 (dk_at dksX1_bestSwap_3 11 rfl rfl)
theorem dX1_bestSwap_83 : decode cX1_bestSwap 83 = .ok (.aload_n 0, 1) := dk_42 (dk_at dksX1_bestSwap_3 13 rfl rfl)
theorem dX1_bestSwap_84 : decode cX1_bestSwap 84 = .ok (.getfield 91, 3) := dk_180 0 91 (dk_at dksX1_bestSwap_3 14 rfl rfl)
theorem dX1_bestSwap_87 : decode cX1_bestSwap 87 = .ok (.getfield 185, 3) := dk_180 0 185 (dk_at dksX1_bestSwap_3 17 rfl rfl)
theorem dX1_bestSwap_90 : decode cX1_bestSwap 90 = .ok (.iload 4, 2) := dk_21 4 (dk_at dksX1_bestSwap_3 20 rfl rfl)
theorem dX1_bestSwap_92 : decode cX1_bestSwap 92 = .ok (.iaload, 1) := dk_46 (dk_at dksX1_bestSwap_3 22 rfl rfl)
theorem dX1_bestSwap_93 : decode cX1_bestSwap 93 = .ok (.iastore, 1) := dk_79 (dk_at dksX1_bestSwap_3 23 rfl rfl)
theorem dX1_bestSwap_94 : decode cX1_bestSwap 94 = .ok (.aload_n 0, 1) := dk_42 (dk_at dksX1_bestSwap_4 0 rfl rfl)
theorem dX1_bestSwap_95 : decode cX1_bestSwap 95 = .ok (.getfield 102, 3) := dk_180 0 102 (dk_at dksX1_bestSwap_4 1 rfl rfl)
theorem dX1_bestSwap_98 : decode cX1_bestSwap 98 = .ok (.iload_n 1, 1) := dk_27 (dk_at dksX1_bestSwap_4 4 rfl rfl)
theorem dX1_bestSwap_99 : decode cX1_bestSwap 99 = .ok (.iconst 0, 1) := dk_3 (dk_at dksX1_bestSwap_4 5 rfl rfl)
theorem dX1_bestSwap_100 : decode cX1_bestSwap 100 = .ok (.invokevirtual 209, 3) := dk_182 0 209 (dk_at dksX1_bestSwap_4 6 rfl rfl)
theorem dX1_bestSwap_103 : decode cX1_bestSwap 103 = .ok (.istore 6, 2) := dk_54 6 (dk_at dksX1_bestSwap_4 9 rfl rfl)
theorem dX1_bestSwap_105 : decode cX1_bestSwap 105 = .ok (.iload 6, 2) := dk_21 6 (dk_at dksX1_bestSwap_4 11 rfl rfl)
theorem dX1_bestSwap_107 : decode cX1_bestSwap 107 = .ok (.iload_n 3, 1) := dk_29 (dk_at dksX1_bestSwap_4 13 rfl rfl)
theorem dX1_bestSwap_108 : decode cX1_bestSwap 108 = .ok (.if_icmp .lt 6, 3) := dk_161 0 6 (dk_at dksX1_bestSwap_4 14 rfl rfl)
theorem dX1_bestSwap_111 : decode cX1_bestSwap 111 = .ok (.goto 15, 3) := dk_167 0 15 (dk_at dksX1_bestSwap_4 17 rfl rfl)
theorem dX1_bestSwap_114 : decode cX1_bestSwap 114 = .ok (.iload 6, 2) := dk_21 6 (dk_at dksX1_bestSwap_4 20 rfl rfl)
theorem dX1_bestSwap_116 : decode cX1_bestSwap 116 = .ok (.istore_n 3, 1) := dk_62 (dk_at dksX1_bestSwap_4 22 rfl rfl)
theorem dX1_bestSwap_117 : decode cX1_bestSwap 117 = .ok (.bipush 10, 2) := dk_16 10 (dk_at dksX1_bestSwap_5 0 rfl rfl)
theorem dX1_bestSwap_119 : decode cX1_bestSwap 119 = .ok (.iload 4, 2) := dk_21 4 (dk_at dksX1_bestSwap_5 2 rfl rfl)
theorem dX1_bestSwap_121 : decode cX1_bestSwap 121 = .ok (.imul, 1) := dk_104 (dk_at dksX1_bestSwap_5 4 rfl rfl)
theorem dX1_bestSwap_122 : decode cX1_bestSwap 122 = .ok (.iload 5, 2) := dk_21 5 (dk_at dksX1_bestSwap_5 5 rfl rfl)
theorem dX1_bestSwap_124 : decode cX1_bestSwap 124 = .ok (.iadd, 1) := dk_96 (dk_at dksX1_bestSwap_5 7 rfl rfl)
theorem dX1_bestSwap_125 : decode cX1_bestSwap 125 = .ok (.istore_n 2, 1) := dk_61 (dk_at dksX1_bestSwap_5 8 rfl rfl)
theorem dX1_bestSwap_126 : decode cX1_bestSwap 126 = .ok (.iinc 5 1, 3) := dk_132 5 1 (dk_at dksX1_bestSwap_5 9 rfl rfl)
theorem dX1_bestSwap_129 : decode cX1_bestSwap 129 = .ok (.goto (-84), 3) := dk_167 255 172 (dk_at dksX1_bestSwap_5 12 rfl rfl)
theorem dX1_bestSwap_132 : decode cX1_bestSwap 132 = .ok (.iinc 4 1, 3) := dk_132 4 1 (dk_at dksX1_bestSwap_5 15 rfl rfl)
theorem dX1_bestSwap_135 : decode cX1_bestSwap 135 = .ok (.goto (-105), 3) := dk_167 255 151 (dk_at dksX1_bestSwap_5 18 rfl rfl)
theorem dX1_bestSwap_138 : decode cX1_bestSwap 138 = .ok (.aload_n 0, 1) := dk_42 (dk_at dksX1_bestSwap_5 21 rfl rfl)
theorem dX1_bestSwap_139 : decode cX1_bestSwap 139 = .ok (.iload_n 2, 1) := dk_28 (dk_at dksX1_bestSwap_5 22 rfl rfl)
theorem dX1_bestSwap_140 : decode cX1_bestSwap 140 = .ok (.invokevirtual 47, 3) := dk_182 0 47 (dk_at dksX1_bestSwap_6 0 rfl rfl)
theorem dX1_bestSwap_143 : decode cX1_bestSwap 143 = .ok (.ireturn, 1) := dk_172 (dk_at dksX1_bestSwap_6 3 rfl rfl)
abbrev cX1_bestLane : ByteArray := prog_1_method_61_code
def yX1_bestLane : MethodName := ⟨RX1, "bestLane", "(I)I"⟩
def dkwX1_bestLane_2 : List UInt8 := [180, 0, 102, 27, 3, 182, 0, 209, 28, 162, 0, 7, 4, 167, 0, 4, 3, 182, 0, 47, 172]
abbrev dktX1_bestLane_2 : List UInt8 := dkwX1_bestLane_2 ++ []
def dkwX1_bestLane_1 : List UInt8 := [42, 180, 0, 102, 27, 3, 182, 0, 209, 61, 42, 180, 0, 102, 180, 0, 154, 27, 4, 79, 42, 42]
abbrev dktX1_bestLane_1 : List UInt8 := dkwX1_bestLane_1 ++ dktX1_bestLane_2
def dkwX1_bestLane_0 : List UInt8 := [42, 27, 182, 0, 131, 154, 0, 9, 42, 4, 182, 0, 43, 172, 42, 182, 0, 240, 180, 0, 154, 27, 3, 79]
abbrev dktX1_bestLane_0 : List UInt8 := dkwX1_bestLane_0 ++ dktX1_bestLane_1
theorem dksX1_bestLane_0 : cX1_bestLane.data.toList.drop 0 = dktX1_bestLane_0 := by decide +kernel
theorem dksX1_bestLane_1 : cX1_bestLane.data.toList.drop 24 = dktX1_bestLane_1 := dk_seg dksX1_bestLane_0 24 rfl rfl
theorem dksX1_bestLane_2 : cX1_bestLane.data.toList.drop 46 = dktX1_bestLane_2 := dk_seg dksX1_bestLane_1 22 rfl rfl
theorem dX1_bestLane_0 : decode cX1_bestLane 0 = .ok (.aload_n 0, 1) := dk_42 (dk_at dksX1_bestLane_0 0 rfl rfl)
theorem dX1_bestLane_1 : decode cX1_bestLane 1 = .ok (.iload_n 1, 1) := dk_27 (dk_at dksX1_bestLane_0 1 rfl rfl)
theorem dX1_bestLane_2 : decode cX1_bestLane 2 = .ok (.invokevirtual 131, 3) := dk_182 0 131 (dk_at dksX1_bestLane_0 2 rfl rfl)
theorem dX1_bestLane_5 : decode cX1_bestLane 5 = .ok (.ifCond .ne 9, 3) := dk_154 0 9 (dk_at dksX1_bestLane_0 5 rfl rfl)
theorem dX1_bestLane_8 : decode cX1_bestLane 8 = .ok (.aload_n 0, 1) := dk_42 (dk_at dksX1_bestLane_0 8 rfl rfl)
theorem dX1_bestLane_9 : decode cX1_bestLane 9 = .ok (.iconst 1, 1) := dk_4 (dk_at dksX1_bestLane_0 9 rfl rfl)
theorem dX1_bestLane_10 : decode cX1_bestLane 10 = .ok (.invokevirtual 43, 3) := dk_182 0 43 (dk_at dksX1_bestLane_0 10 rfl rfl)
theorem dX1_bestLane_13 : decode cX1_bestLane 13 = .ok (.ireturn, 1) := dk_172 (dk_at dksX1_bestLane_0 13 rfl rfl)
theorem dX1_bestLane_14 : decode cX1_bestLane 14 = .ok (.aload_n 0, 1) := dk_42 (dk_at dksX1_bestLane_0 14 rfl rfl)
theorem dX1_bestLane_15 : decode cX1_bestLane 15 = .ok (.invokevirtual 240, 3) := dk_182 0 240 (dk_at dksX1_bestLane_0 15 rfl rfl)
theorem dX1_bestLane_18 : decode cX1_bestLane 18 = .ok (.getfield 154, 3) := dk_180 0 154 (dk_at dksX1_bestLane_0 18 rfl rfl)
theorem dX1_bestLane_21 : decode cX1_bestLane 21 = .ok (.iload_n 1, 1) := dk_27 (dk_at dksX1_bestLane_0 21 rfl rfl)
theorem dX1_bestLane_22 : decode cX1_bestLane 22 = .ok (.iconst 0, 1) := dk_3 (dk_at dksX1_bestLane_0 22 rfl rfl)
theorem dX1_bestLane_23 : decode cX1_bestLane 23 = .ok (.iastore, 1) := dk_79 (dk_at dksX1_bestLane_0 23 rfl rfl)
theorem dX1_bestLane_24 : decode cX1_bestLane 24 = .ok (.aload_n 0, 1) := dk_42 (dk_at dksX1_bestLane_1 0 rfl rfl)
theorem dX1_bestLane_25 : decode cX1_bestLane 25 = .ok (.getfield 102, 3) := dk_180 0 102 (dk_at dksX1_bestLane_1 1 rfl rfl)
theorem dX1_bestLane_28 : decode cX1_bestLane 28 = .ok (.iload_n 1, 1) := dk_27 (dk_at dksX1_bestLane_1 4 rfl rfl)
theorem dX1_bestLane_29 : decode cX1_bestLane 29 = .ok (.iconst 0, 1) := dk_3 (dk_at dksX1_bestLane_1 5 rfl rfl)
theorem dX1_bestLane_30 : decode cX1_bestLane 30 = .ok (.invokevirtual 209, 3) := dk_182 0 209 (dk_at dksX1_bestLane_1 6 rfl rfl)
theorem dX1_bestLane_33 : decode cX1_bestLane 33 = .ok (.istore_n 2, 1) := dk_61 (dk_at dksX1_bestLane_1 9 rfl rfl)
theorem dX1_bestLane_34 : decode cX1_bestLane 34 = .ok (.aload_n 0, 1) := dk_42 (dk_at dksX1_bestLane_1 10 rfl rfl)
theorem dX1_bestLane_35 : decode cX1_bestLane 35 = .ok (.getfield 102, 3) := dk_180 0 102 (dk_at dksX1_bestLane_1 11 rfl rfl)
theorem dX1_bestLane_38 : decode cX1_bestLane 38 = .ok (.getfield 154, 3) := dk_180 0 154 (dk_at dksX1_bestLane_1 14 rfl rfl)
theorem dX1_bestLane_41 : decode cX1_bestLane 41 = .ok (.iload_n 1, 1) := dk_27 (dk_at dksX1_bestLane_1 17 rfl rfl)
theorem dX1_bestLane_42 : decode cX1_bestLane 42 = .ok (.iconst 1, 1) := dk_4 (dk_at dksX1_bestLane_1 18 rfl rfl)
theorem dX1_bestLane_43 : decode cX1_bestLane 43 = .ok (.iastore, 1) := dk_79 (dk_at dksX1_bestLane_1 19 rfl rfl)
theorem dX1_bestLane_44 : decode cX1_bestLane 44 = .ok (.aload_n 0, 1) := dk_42 (dk_at dksX1_bestLane_1 20 rfl rfl)
theorem dX1_bestLane_45 : decode cX1_bestLane 45 = .ok (.aload_n 0, 1) := dk_42 (dk_at dksX1_bestLane_1 21 rfl rfl)
theorem dX1_bestLane_46 : decode cX1_bestLane 46 = .ok (.getfield 102, 3) := dk_180 0 102 (dk_at dksX1_bestLane_2 0 rfl rfl)
theorem dX1_bestLane_49 : decode cX1_bestLane 49 = .ok (.iload_n 1, 1) := dk_27 (dk_at dksX1_bestLane_2 3 rfl rfl)
theorem dX1_bestLane_50 : decode cX1_bestLane 50 = .ok (.iconst 0, 1) := dk_3 (dk_at dksX1_bestLane_2 4 rfl rfl)
theorem dX1_bestLane_51 : decode cX1_bestLane 51 = .ok (.invokevirtual 209, 3) := dk_182 0 209 (dk_at dksX1_bestLane_2 5 rfl rfl)
theorem dX1_bestLane_54 : decode cX1_bestLane 54 = .ok (.iload_n 2, 1) := dk_28 (dk_at dksX1_bestLane_2 8 rfl rfl)
theorem dX1_bestLane_55 : decode cX1_bestLane 55 = .ok (.if_icmp .ge 7, 3) := dk_162 0 7 (dk_at dksX1_bestLane_2 9 rfl rfl)
theorem dX1_bestLane_58 : decode cX1_bestLane 58 = .ok (.iconst 1, 1) := dk_4 (dk_at dksX1_bestLane_2 12 rfl rfl)
theorem dX1_bestLane_59 : decode cX1_bestLane 59 = .ok (.goto 4, 3) := dk_167 0 4 (dk_at dksX1_bestLane_2 13 rfl rfl)
theorem dX1_bestLane_62 : decode cX1_bestLane 62 = .ok (.iconst 0, 1) := dk_3 (dk_at dksX1_bestLane_2 16 rfl rfl)
theorem dX1_bestLane_63 : decode cX1_bestLane 63 = .ok (.invokevirtual 47, 3) := dk_182 0 47 (dk_at dksX1_bestLane_2 17 rfl rfl)
theorem dX1_bestLane_66 : decode cX1_bestLane 66 = .ok (.ireturn, 1) := dk_172 (dk_at dksX1_bestLane_2 20 rfl rfl)
abbrev cX1_fires : ByteArray := prog_1_method_64_code
def yX1_fires : MethodName := ⟨RX1, "fires", "()I"⟩
def dkwX1_fires_1 : List UInt8 := [182, 0, 47, 172]
abbrev dktX1_fires_1 : List UInt8 := dkwX1_fires_1 ++ []
def dkwX1_fires_0 : List UInt8 := [42, 180, 0, 82, 199, 0, 9, 42, 4, 182, 0, 43, 172, 42, 2, 182, 1, 60, 87, 42, 42, 180, 1, 48]
abbrev dktX1_fires_0 : List UInt8 := dkwX1_fires_0 ++ dktX1_fires_1
theorem dksX1_fires_0 : cX1_fires.data.toList.drop 0 = dktX1_fires_0 := by decide +kernel
theorem dksX1_fires_1 : cX1_fires.data.toList.drop 24 = dktX1_fires_1 := dk_seg dksX1_fires_0 24 rfl rfl
theorem dX1_fires_0 : decode cX1_fires 0 = .ok (.aload_n 0, 1) := dk_42 (dk_at dksX1_fires_0 0 rfl rfl)
theorem dX1_fires_1 : decode cX1_fires 1 = .ok (.getfield 82, 3) := dk_180 0 82 (dk_at dksX1_fires_0 1 rfl rfl)
theorem dX1_fires_4 : decode cX1_fires 4 = .ok (.ifnonnull 9, 3) := dk_199 0 9 (dk_at dksX1_fires_0 4 rfl rfl)
theorem dX1_fires_7 : decode cX1_fires 7 = .ok (.aload_n 0, 1) := dk_42 (dk_at dksX1_fires_0 7 rfl rfl)
theorem dX1_fires_8 : decode cX1_fires 8 = .ok (.iconst 1, 1) := dk_4 (dk_at dksX1_fires_0 8 rfl rfl)
theorem dX1_fires_9 : decode cX1_fires 9 = .ok (.invokevirtual 43, 3) := dk_182 0 43 (dk_at dksX1_fires_0 9 rfl rfl)
theorem dX1_fires_12 : decode cX1_fires 12 = .ok (.ireturn, 1) := dk_172 (dk_at dksX1_fires_0 12 rfl rfl)
theorem dX1_fires_13 : decode cX1_fires 13 = .ok (.aload_n 0, 1) := dk_42 (dk_at dksX1_fires_0 13 rfl rfl)
theorem dX1_fires_14 : decode cX1_fires 14 = .ok (.iconst (-1), 1) := dk_2 (dk_at dksX1_fires_0 14 rfl rfl)
theorem dX1_fires_15 : decode cX1_fires 15 = .ok (.invokevirtual 316, 3) := dk_182 1 60 (dk_at dksX1_fires_0 15 rfl rfl)
theorem dX1_fires_18 : decode cX1_fires 18 = .ok (.pop, 1) := dk_87 (dk_at dksX1_fires_0 18 rfl rfl)
theorem dX1_fires_19 : decode cX1_fires 19 = .ok (.aload_n 0, 1) := dk_42 (dk_at dksX1_fires_0 19 rfl rfl)
theorem dX1_fires_20 : decode cX1_fires 20 = .ok (.aload_n 0, 1) := dk_42 (dk_at dksX1_fires_0 20 rfl rfl)
theorem dX1_fires_21 : decode cX1_fires 21 = .ok (.getfield 304, 3) := dk_180 1 48 (dk_at dksX1_fires_0 21 rfl rfl)
theorem dX1_fires_24 : decode cX1_fires 24 = .ok (.invokevirtual 47, 3) := dk_182 0 47 (dk_at dksX1_fires_1 0 rfl rfl)
theorem dX1_fires_27 : decode cX1_fires 27 = .ok (.ireturn, 1) := dk_172 (dk_at dksX1_fires_1 3 rfl rfl)
abbrev cX1_fitting : ByteArray := prog_1_method_63_code
def yX1_fitting : MethodName := ⟨RX1, "fitting", "(I)I"⟩
def dkwX1_fitting_7 : List UInt8 := [181, 1, 54, 28, 172]
abbrev dktX1_fitting_7 : List UInt8 := dkwX1_fitting_7 ++ []
def dkwX1_fitting_6 : List UInt8 := [3, 96, 79, 132, 4, 1, 167, 255, 220, 132, 3, 1, 167, 255, 148, 42, 180, 1, 48, 154, 0, 8, 42, 3]
abbrev dktX1_fitting_6 : List UInt8 := dkwX1_fitting_6 ++ dktX1_fitting_7
def dkwX1_fitting_5 : List UInt8 := [162, 0, 33, 42, 180, 0, 31, 21, 4, 92, 46, 29, 21, 4, 184, 0, 170, 153, 0, 7, 4, 167, 0, 4]
abbrev dktX1_fitting_5 : List UInt8 := dkwX1_fitting_5 ++ dktX1_fitting_6
def dkwX1_fitting_4 : List UInt8 := [29, 128, 181, 1, 51, 42, 89, 180, 1, 54, 29, 126, 181, 1, 54, 3, 54, 4, 21, 4, 42, 182, 0, 108]
abbrev dktX1_fitting_4 : List UInt8 := dkwX1_fitting_4 ++ dktX1_fitting_5
def dkwX1_fitting_3 : List UInt8 := [180, 1, 48, 27, 160, 0, 5, 29, 61, 42, 89, 180, 1, 48, 4, 96, 181, 1, 48, 42, 89, 180, 1, 51]
abbrev dktX1_fitting_3 : List UInt8 := dkwX1_fitting_3 ++ dktX1_fitting_4
def dkwX1_fitting_2 : List UInt8 := [4, 42, 182, 0, 108, 120, 162, 0, 104, 42, 29, 182, 1, 57, 16, 254, 159, 0, 6, 167, 0, 85, 42]
abbrev dktX1_fitting_2 : List UInt8 := dkwX1_fitting_2 ++ dktX1_fitting_3
def dkwX1_fitting_1 : List UInt8 := [61, 3, 62, 29, 7, 162, 0, 16, 42, 180, 0, 31, 29, 3, 79, 132, 3, 1, 167, 255, 241, 3, 62, 29]
abbrev dktX1_fitting_1 : List UInt8 := dkwX1_fitting_1 ++ dktX1_fitting_2
def dkwX1_fitting_0 : List UInt8 := [42, 3, 181, 1, 48, 42, 3, 181, 1, 51, 42, 4, 42, 182, 0, 108, 120, 4, 100, 181, 1, 54, 16, 254]
abbrev dktX1_fitting_0 : List UInt8 := dkwX1_fitting_0 ++ dktX1_fitting_1
theorem dksX1_fitting_0 : cX1_fitting.data.toList.drop 0 = dktX1_fitting_0 := by decide +kernel
theorem dksX1_fitting_1 : cX1_fitting.data.toList.drop 24 = dktX1_fitting_1 := dk_seg dksX1_fitting_0 24 rfl rfl
theorem dksX1_fitting_2 : cX1_fitting.data.toList.drop 48 = dktX1_fitting_2 := dk_seg dksX1_fitting_1 24 rfl rfl
theorem dksX1_fitting_3 : cX1_fitting.data.toList.drop 71 = dktX1_fitting_3 := dk_seg dksX1_fitting_2 23 rfl rfl
theorem dksX1_fitting_4 : cX1_fitting.data.toList.drop 95 = dktX1_fitting_4 := dk_seg dksX1_fitting_3 24 rfl rfl
theorem dksX1_fitting_5 : cX1_fitting.data.toList.drop 119 = dktX1_fitting_5 := dk_seg dksX1_fitting_4 24 rfl rfl
theorem dksX1_fitting_6 : cX1_fitting.data.toList.drop 143 = dktX1_fitting_6 := dk_seg dksX1_fitting_5 24 rfl rfl
theorem dksX1_fitting_7 : cX1_fitting.data.toList.drop 167 = dktX1_fitting_7 := dk_seg dksX1_fitting_6 24 rfl rfl
theorem dX1_fitting_0 : decode cX1_fitting 0 = .ok (.aload_n 0, 1) := dk_42 (dk_at dksX1_fitting_0 0 rfl rfl)
theorem dX1_fitting_1 : decode cX1_fitting 1 = .ok (.iconst 0, 1) := dk_3 (dk_at dksX1_fitting_0 1 rfl rfl)
theorem dX1_fitting_2 : decode cX1_fitting 2 = .ok (.putfield 304, 3) := dk_181 1 48 (dk_at dksX1_fitting_0 2 rfl rfl)
theorem dX1_fitting_5 : decode cX1_fitting 5 = .ok (.aload_n 0, 1) := dk_42 (dk_at dksX1_fitting_0 5 rfl rfl)
theorem dX1_fitting_6 : decode cX1_fitting 6 = .ok (.iconst 0, 1) := dk_3 (dk_at dksX1_fitting_0 6 rfl rfl)
theorem dX1_fitting_7 : decode cX1_fitting 7 = .ok (.putfield 307, 3) := dk_181 1 51 (dk_at dksX1_fitting_0 7 rfl rfl)
theorem dX1_fitting_10 : decode cX1_fitting 10 = .ok (.aload_n 0, 1) := dk_42 (dk_at dksX1_fitting_0 10 rfl rfl)
theorem dX1_fitting_11 : decode cX1_fitting 11 = .ok (.iconst 1, 1) := dk_4 (dk_at dksX1_fitting_0 11 rfl rfl)
theorem dX1_fitting_12 : decode cX1_fitting 12 = .ok (.aload_n 0, 1) := dk_42 (dk_at dksX1_fitting_0 12 rfl rfl)
theorem dX1_fitting_13 : decode cX1_fitting 13 = .ok (.invokevirtual 108, 3) := dk_182 0 108 (dk_at dksX1_fitting_0 13 rfl rfl)
theorem dX1_fitting_16 : decode cX1_fitting 16 = .ok (.ishl, 1) := dk_120 (dk_at dksX1_fitting_0 16 rfl rfl)
theorem dX1_fitting_17 : decode cX1_fitting 17 = .ok (.iconst 1, 1) := dk_4 (dk_at dksX1_fitting_0 17 rfl rfl)
theorem dX1_fitting_18 : decode cX1_fitting 18 = .ok (.isub, 1) := dk_100 (dk_at dksX1_fitting_0 18 rfl rfl)
theorem dX1_fitting_19 : decode cX1_fitting 19 = .ok (.putfield 310, 3) := dk_181 1 54 (dk_at dksX1_fitting_0 19 rfl rfl)
theorem dX1_fitting_22 : decode cX1_fitting 22 = .ok (.bipush (-2), 2) := dk_16 254 (dk_at dksX1_fitting_0 22 rfl rfl)
theorem dX1_fitting_24 : decode cX1_fitting 24 = .ok (.istore_n 2, 1) := dk_61 (dk_at dksX1_fitting_1 0 rfl rfl)
theorem dX1_fitting_25 : decode cX1_fitting 25 = .ok (.iconst 0, 1) := dk_3 (dk_at dksX1_fitting_1 1 rfl rfl)
theorem dX1_fitting_26 : decode cX1_fitting 26 = .ok (.istore_n 3, 1) := dk_62 (dk_at dksX1_fitting_1 2 rfl rfl)
theorem dX1_fitting_27 : decode cX1_fitting 27 = .ok (.iload_n 3, 1) := dk_29 (dk_at dksX1_fitting_1 3 rfl rfl)
theorem dX1_fitting_28 : decode cX1_fitting 28 = .ok (.iconst 4, 1) := dk_7 (dk_at dksX1_fitting_1 4 rfl rfl)
theorem dX1_fitting_29 : decode cX1_fitting 29 = .ok (.if_icmp .ge 16, 3) := dk_162 0 16 (dk_at dksX1_fitting_1 5 rfl rfl)
theorem dX1_fitting_32 : decode cX1_fitting 32 = .ok (.aload_n 0, 1) := dk_42 (dk_at dksX1_fitting_1 8 rfl rfl)
theorem dX1_fitting_33 : decode cX1_fitting 33 = .ok (.getfield 31, 3) := dk_180 0 31 (dk_at dksX1_fitting_1 9 rfl rfl)
theorem dX1_fitting_36 : decode cX1_fitting 36 = .ok (.iload_n 3, 1) := dk_29 (dk_at dksX1_fitting_1 12 rfl rfl)
theorem dX1_fitting_37 : decode cX1_fitting 37 = .ok (.iconst 0, 1) := dk_3 (dk_at dksX1_fitting_1 13 rfl rfl)
theorem dX1_fitting_38 : decode cX1_fitting 38 = .ok (.iastore, 1) := dk_79 (dk_at dksX1_fitting_1 14 rfl rfl)
theorem dX1_fitting_39 : decode cX1_fitting 39 = .ok (.iinc 3 1, 3) := dk_132 3 1 (dk_at dksX1_fitting_1 15 rfl rfl)
theorem dX1_fitting_42 : decode cX1_fitting 42 = .ok (.goto (-15), 3) := dk_167 255 241 (dk_at dksX1_fitting_1 18 rfl rfl)
theorem dX1_fitting_45 : decode cX1_fitting 45 = .ok (.iconst 0, 1) := dk_3 (dk_at dksX1_fitting_1 21 rfl rfl)
theorem dX1_fitting_46 : decode cX1_fitting 46 = .ok (.istore_n 3, 1) := dk_62 (dk_at dksX1_fitting_1 22 rfl rfl)
theorem dX1_fitting_47 : decode cX1_fitting 47 = .ok (.iload_n 3, 1) := dk_29 (dk_at dksX1_fitting_1 23 rfl rfl)
theorem dX1_fitting_48 : decode cX1_fitting 48 = .ok (.iconst 1, 1) := dk_4 (dk_at dksX1_fitting_2 0 rfl rfl)
theorem dX1_fitting_49 : decode cX1_fitting 49 = .ok (.aload_n 0, 1) := dk_42 (dk_at dksX1_fitting_2 1 rfl rfl)
theorem dX1_fitting_50 : decode cX1_fitting 50 = .ok (.invokevirtual 108, 3) := dk_182 0 108 (dk_at dksX1_fitting_2 2 rfl rfl)
theorem dX1_fitting_53 : decode cX1_fitting 53 = .ok (.ishl, 1) := dk_120 (dk_at dksX1_fitting_2 5 rfl rfl)
theorem dX1_fitting_54 : decode cX1_fitting 54 = .ok (.if_icmp .ge 104, 3) := dk_162 0 104 (dk_at dksX1_fitting_2 6 rfl rfl)
theorem dX1_fitting_57 : decode cX1_fitting 57 = .ok (.aload_n 0, 1) := dk_42 (dk_at dksX1_fitting_2 9 rfl rfl)
theorem dX1_fitting_58 : decode cX1_fitting 58 = .ok (.iload_n 3, 1) := dk_29 (dk_at dksX1_fitting_2 10 rfl rfl)
theorem dX1_fitting_59 : decode cX1_fitting 59 = .ok (.invokevirtual 313, 3) := dk_182 1 57 (dk_at dksX1_fitting_2 11 rfl rfl)
theorem dX1_fitting_62 : decode cX1_fitting 62 = .ok (.bipush (-2), 2) := dk_16 254 (dk_at dksX1_fitting_2 14 rfl rfl)
theorem dX1_fitting_64 : decode cX1_fitting 64 = .ok (.if_icmp .eq 6, 3) := dk_159 0 6 (dk_at dksX1_fitting_2 16 rfl rfl)
theorem dX1_fitting_67 : decode cX1_fitting 67 = .ok (.goto 85, 3) := dk_167 0 85 (dk_at dksX1_fitting_2 19 rfl rfl)
theorem dX1_fitting_70 : decode cX1_fitting 70 = .ok (.aload_n 0, 1) := dk_42 (dk_at dksX1_fitting_2 22 rfl rfl)
theorem dX1_fitting_71 : decode cX1_fitting 71 = .ok (.getfield 304, 3) := dk_180 1 48 (dk_at dksX1_fitting_3 0 rfl rfl)
theorem dX1_fitting_74 : decode cX1_fitting 74 = .ok (.iload_n 1, 1) := dk_27 (dk_at dksX1_fitting_3 3 rfl rfl)
theorem dX1_fitting_75 : decode cX1_fitting 75 = .ok (.if_icmp .ne 5, 3) := dk_160 0 5 (dk_at dksX1_fitting_3 4 rfl rfl)
theorem dX1_fitting_78 : decode cX1_fitting 78 = .ok (.iload_n 3, 1) := dk_29 (dk_at dksX1_fitting_3 7 rfl rfl)
theorem dX1_fitting_79 : decode cX1_fitting 79 = .ok (.istore_n 2, 1) := dk_61 (dk_at dksX1_fitting_3 8 rfl rfl)
theorem dX1_fitting_80 : decode cX1_fitting 80 = .ok (.aload_n 0, 1) := dk_42 (dk_at dksX1_fitting_3 9 rfl rfl)
theorem dX1_fitting_81 : decode cX1_fitting 81 = .ok (.dup, 1) := dk_89 (dk_at dksX1_fitting_3 10 rfl rfl)
theorem dX1_fitting_82 : decode cX1_fitting 82 = .ok (.getfield 304, 3) := dk_180 1 48 (dk_at dksX1_fitting_3 11 rfl rfl)
theorem dX1_fitting_85 : decode cX1_fitting 85 = .ok (.iconst 1, 1) := dk_4 (dk_at dksX1_fitting_3 14 rfl rfl)
theorem dX1_fitting_86 : decode cX1_fitting 86 = .ok (.iadd, 1) := dk_96 (dk_at dksX1_fitting_3 15 rfl rfl)
theorem dX1_fitting_87 : decode cX1_fitting 87 = .ok (.putfield 304, 3) := dk_181 1 48 (dk_at dksX1_fitting_3 16 rfl rfl)
theorem dX1_fitting_90 : decode cX1_fitting 90 = .ok (.aload_n 0, 1) := dk_42 (dk_at dksX1_fitting_3 19 rfl rfl)
theorem dX1_fitting_91 : decode cX1_fitting 91 = .ok (.dup, 1) := dk_89 (dk_at dksX1_fitting_3 20 rfl rfl)
theorem dX1_fitting_92 : decode cX1_fitting 92 = .ok (.getfield 307, 3) := dk_180 1 51 (dk_at dksX1_fitting_3 21 rfl rfl)
theorem dX1_fitting_95 : decode cX1_fitting 95 = .ok (.iload_n 3, 1) := dk_29 (dk_at dksX1_fitting_4 0 rfl rfl)
theorem dX1_fitting_96 : decode cX1_fitting 96 = .ok (.ior, 1) := dk_128 (dk_at dksX1_fitting_4 1 rfl rfl)
theorem dX1_fitting_97 : decode cX1_fitting 97 = .ok (.putfield 307, 3) := dk_181 1 51 (dk_at dksX1_fitting_4 2 rfl rfl)
theorem dX1_fitting_100 : decode cX1_fitting 100 = .ok (.aload_n 0, 1) := dk_42 (dk_at dksX1_fitting_4 5 rfl rfl)
theorem dX1_fitting_101 : decode cX1_fitting 101 = .ok (.dup, 1) := dk_89 (dk_at dksX1_fitting_4 6 rfl rfl)
theorem dX1_fitting_102 : decode cX1_fitting 102 = .ok (.getfield 310, 3) := dk_180 1 54 (dk_at dksX1_fitting_4 7 rfl rfl)
theorem dX1_fitting_105 : decode cX1_fitting 105 = .ok (.iload_n 3, 1) := dk_29 (dk_at dksX1_fitting_4 10 rfl rfl)
theorem dX1_fitting_106 : decode cX1_fitting 106 = .ok (.iand, 1) := dk_126 (dk_at dksX1_fitting_4 11 rfl rfl)
theorem dX1_fitting_107 : decode cX1_fitting 107 = .ok (.putfield 310, 3) := dk_181 1 54 (dk_at dksX1_fitting_4 12 rfl rfl)
theorem dX1_fitting_110 : decode cX1_fitting 110 = .ok (.iconst 0, 1) := dk_3 (dk_at dksX1_fitting_4 15 rfl rfl)
theorem dX1_fitting_111 : decode cX1_fitting 111 = .ok (.istore 4, 2) := dk_54 4 (dk_at dksX1_fitting_4 16 rfl rfl)
theorem dX1_fitting_113 : decode cX1_fitting 113 = .ok (.iload 4, 2) := dk_21 4 (dk_at dksX1_fitting_4 18 rfl rfl)
theorem dX1_fitting_115 : decode cX1_fitting 115 = .ok (.aload_n 0, 1) := dk_42 (dk_at dksX1_fitting_4 20 rfl rfl)
theorem dX1_fitting_116 : decode cX1_fitting 116 = .ok (.invokevirtual 108, 3) := dk_182 0 108 (dk_at dksX1_fitting_4 21 rfl rfl)
theorem dX1_fitting_119 : decode cX1_fitting 119 = .ok (.if_icmp .ge 33, 3) := dk_162 0 33 (dk_at dksX1_fitting_5 0 rfl rfl)
theorem dX1_fitting_122 : decode cX1_fitting 122 = .ok (.aload_n 0, 1) := dk_42 (dk_at dksX1_fitting_5 3 rfl rfl)
theorem dX1_fitting_123 : decode cX1_fitting 123 = .ok (.getfield 31, 3) := dk_180 0 31 (dk_at dksX1_fitting_5 4 rfl rfl)
theorem dX1_fitting_126 : decode cX1_fitting 126 = .ok (.iload 4, 2) := dk_21 4 (dk_at dksX1_fitting_5 7 rfl rfl)
theorem dX1_fitting_128 : decode cX1_fitting 128 = .ok (.dup2, 1) := dk_92 (dk_at dksX1_fitting_5 9 rfl rfl)
theorem dX1_fitting_129 : decode cX1_fitting 129 = .ok (.iaload, 1) := dk_46 (dk_at dksX1_fitting_5 10 rfl rfl)
theorem dX1_fitting_130 : decode cX1_fitting 130 = .ok (.iload_n 3, 1) := dk_29 (dk_at dksX1_fitting_5 11 rfl rfl)
theorem dX1_fitting_131 : decode cX1_fitting 131 = .ok (.iload 4, 2) := dk_21 4 (dk_at dksX1_fitting_5 12 rfl rfl)
theorem dX1_fitting_133 : decode cX1_fitting 133 = .ok (.invokestatic 170, 3) := dk_184 0 170 (dk_at dksX1_fitting_5 14 rfl rfl)
theorem dX1_fitting_136 : decode cX1_fitting 136 = .ok (.ifCond .eq 7, 3) := dk_153 0 7 (dk_at dksX1_fitting_5 17 rfl rfl)
theorem dX1_fitting_139 : decode cX1_fitting 139 = .ok (.iconst 1, 1) := dk_4 (dk_at dksX1_fitting_5 20 rfl rfl)
theorem dX1_fitting_140 : decode cX1_fitting 140 = .ok (.goto 4, 3) := dk_167 0 4 (dk_at dksX1_fitting_5 21 rfl rfl)
theorem dX1_fitting_143 : decode cX1_fitting 143 = .ok (.iconst 0, 1) := dk_3 (dk_at dksX1_fitting_6 0 rfl rfl)
theorem dX1_fitting_144 : decode cX1_fitting 144 = .ok (.iadd, 1) := dk_96 (dk_at dksX1_fitting_6 1 rfl rfl)
theorem dX1_fitting_145 : decode cX1_fitting 145 = .ok (.iastore, 1) := dk_79 (dk_at dksX1_fitting_6 2 rfl rfl)
theorem dX1_fitting_146 : decode cX1_fitting 146 = .ok (.iinc 4 1, 3) := dk_132 4 1 (dk_at dksX1_fitting_6 3 rfl rfl)
theorem dX1_fitting_149 : decode cX1_fitting 149 = .ok (.goto (-36), 3) := dk_167 255 220 (dk_at dksX1_fitting_6 6 rfl rfl)
theorem dX1_fitting_152 : decode cX1_fitting 152 = .ok (.iinc 3 1, 3) := dk_132 3 1 (dk_at dksX1_fitting_6 9 rfl rfl)
theorem dX1_fitting_155 : decode cX1_fitting 155 = .ok (.goto (-108), 3) := dk_167 255 148 (dk_at dksX1_fitting_6 12 rfl rfl)
theorem dX1_fitting_158 : decode cX1_fitting 158 = .ok (.aload_n 0, 1) := dk_42 (dk_at dksX1_fitting_6 15 rfl rfl)
theorem dX1_fitting_159 : decode cX1_fitting 159 = .ok (.getfield 304, 3) := dk_180 1 48 (dk_at dksX1_fitting_6 16 rfl rfl)
theorem dX1_fitting_162 : decode cX1_fitting 162 = .ok (.ifCond .ne 8, 3) := dk_154 0 8 (dk_at dksX1_fitting_6 19 rfl rfl)
theorem dX1_fitting_165 : decode cX1_fitting 165 = .ok (.aload_n 0, 1) := dk_42 (dk_at dksX1_fitting_6 22 rfl rfl)
theorem dX1_fitting_166 : decode cX1_fitting 166 = .ok (.iconst 0, 1) := dk_3 (dk_at dksX1_fitting_6 23 rfl rfl)
theorem dX1_fitting_167 : decode cX1_fitting 167 = .ok (.putfield 310, 3) := dk_181 1 54 (dk_at dksX1_fitting_7 0 rfl rfl)
theorem dX1_fitting_170 : decode cX1_fitting 170 = .ok (.iload_n 2, 1) := dk_28 (dk_at dksX1_fitting_7 3 rfl rfl)
theorem dX1_fitting_171 : decode cX1_fitting 171 = .ok (.ireturn, 1) := dk_172 (dk_at dksX1_fitting_7 4 rfl rfl)
abbrev cX1_wrong : ByteArray := prog_1_method_62_code
def yX1_wrong : MethodName := ⟨RX1, "wrong", "(I)I"⟩
def dkwX1_wrong_2 : List UInt8 := [180, 1, 42, 45, 180, 1, 45, 184, 0, 227, 154, 0, 5, 28, 172, 132, 2, 1, 167, 255, 200, 16, 254, 172]
abbrev dktX1_wrong_2 : List UInt8 := dkwX1_wrong_2 ++ []
def dkwX1_wrong_1 : List UInt8 := [42, 180, 0, 82, 180, 1, 34, 28, 182, 0, 139, 192, 1, 37, 78, 42, 180, 0, 102, 45, 180, 1, 39, 45]
abbrev dktX1_wrong_1 : List UInt8 := dkwX1_wrong_1 ++ dktX1_wrong_2
def dkwX1_wrong_0 : List UInt8 := [42, 182, 0, 240, 27, 181, 0, 167, 3, 61, 28, 42, 180, 0, 82, 180, 1, 34, 182, 0, 117, 162, 0, 48]
abbrev dktX1_wrong_0 : List UInt8 := dkwX1_wrong_0 ++ dktX1_wrong_1
theorem dksX1_wrong_0 : cX1_wrong.data.toList.drop 0 = dktX1_wrong_0 := by decide +kernel
theorem dksX1_wrong_1 : cX1_wrong.data.toList.drop 24 = dktX1_wrong_1 := dk_seg dksX1_wrong_0 24 rfl rfl
theorem dksX1_wrong_2 : cX1_wrong.data.toList.drop 48 = dktX1_wrong_2 := dk_seg dksX1_wrong_1 24 rfl rfl
theorem dX1_wrong_0 : decode cX1_wrong 0 = .ok (.aload_n 0, 1) := dk_42 (dk_at dksX1_wrong_0 0 rfl rfl)
theorem dX1_wrong_1 : decode cX1_wrong 1 = .ok (.invokevirtual 240, 3) := dk_182 0 240 (dk_at dksX1_wrong_0 1 rfl rfl)
theorem dX1_wrong_4 : decode cX1_wrong 4 = .ok (.iload_n 1, 1) := dk_27 (dk_at dksX1_wrong_0 4 rfl rfl)
theorem dX1_wrong_5 : decode cX1_wrong 5 = .ok (.putfield 167, 3) := dk_181 0 167 (dk_at dksX1_wrong_0 5 rfl rfl)
theorem dX1_wrong_8 : decode cX1_wrong 8 = .ok (.iconst 0, 1) := dk_3 (dk_at dksX1_wrong_0 8 rfl rfl)
theorem dX1_wrong_9 : decode cX1_wrong 9 = .ok (.istore_n 2, 1) := dk_61 (dk_at dksX1_wrong_0 9 rfl rfl)
theorem dX1_wrong_10 : decode cX1_wrong 10 = .ok (.iload_n 2, 1) := dk_28 (dk_at dksX1_wrong_0 10 rfl rfl)
theorem dX1_wrong_11 : decode cX1_wrong 11 = .ok (.aload_n 0, 1) := dk_42 (dk_at dksX1_wrong_0 11 rfl rfl)
theorem dX1_wrong_12 : decode cX1_wrong 12 = .ok (.getfield 82, 3) := dk_180 0 82 (dk_at dksX1_wrong_0 12 rfl rfl)
theorem dX1_wrong_15 : decode cX1_wrong 15 = .ok (.getfield 290, 3) := dk_180 1 34 (dk_at dksX1_wrong_0 15 rfl rfl)
theorem dX1_wrong_18 : decode cX1_wrong 18 = .ok (.invokevirtual 117, 3) := dk_182 0 117 (dk_at dksX1_wrong_0 18 rfl rfl)
theorem dX1_wrong_21 : decode cX1_wrong 21 = .ok (.if_icmp .ge 48, 3) := dk_162 0 48 (dk_at dksX1_wrong_0 21 rfl rfl)
theorem dX1_wrong_24 : decode cX1_wrong 24 = .ok (.aload_n 0, 1) := dk_42 (dk_at dksX1_wrong_1 0 rfl rfl)
theorem dX1_wrong_25 : decode cX1_wrong 25 = .ok (.getfield 82, 3) := dk_180 0 82 (dk_at dksX1_wrong_1 1 rfl rfl)
theorem dX1_wrong_28 : decode cX1_wrong 28 = .ok (.getfield 290, 3) := dk_180 1 34 (dk_at dksX1_wrong_1 4 rfl rfl)
theorem dX1_wrong_31 : decode cX1_wrong 31 = .ok (.iload_n 2, 1) := dk_28 (dk_at dksX1_wrong_1 7 rfl rfl)
theorem dX1_wrong_32 : decode cX1_wrong 32 = .ok (.invokevirtual 139, 3) := dk_182 0 139 (dk_at dksX1_wrong_1 8 rfl rfl)
theorem dX1_wrong_35 : decode cX1_wrong 35 = .ok (.checkcast 293, 3) := dk_192 1 37 (dk_at dksX1_wrong_1 11 rfl rfl)
theorem dX1_wrong_38 : decode cX1_wrong 38 = .ok (.astore_n 3, 1) := dk_78 (dk_at dksX1_wrong_1 14 rfl rfl)
theorem dX1_wrong_39 : decode cX1_wrong 39 = .ok (.aload_n 0, 1) := dk_42 (dk_at dksX1_wrong_1 15 rfl rfl)
theorem dX1_wrong_40 : decode cX1_wrong 40 = .ok (.getfield 102, 3) := dk_180 0 102 (dk_at dksX1_wrong_1 16 rfl rfl)
theorem dX1_wrong_43 : decode cX1_wrong 43 = .ok (.aload_n 3, 1) := dk_45 (dk_at dksX1_wrong_1 19 rfl rfl)
theorem dX1_wrong_44 : decode cX1_wrong 44 = .ok (.getfield 295, 3) := dk_180 1 39 (dk_at dksX1_wrong_1 20 rfl rfl)
theorem dX1_wrong_47 : decode cX1_wrong 47 = .ok (.aload_n 3, 1) := dk_45 (dk_at dksX1_wrong_1 23 rfl rfl)
theorem dX1_wrong_48 : decode cX1_wrong 48 = .ok (.getfield 298, 3) := dk_180 1 42 (dk_at dksX1_wrong_2 0 rfl rfl)
theorem dX1_wrong_51 : decode cX1_wrong 51 = .ok (.aload_n 3, 1) := dk_45 (dk_at dksX1_wrong_2 3 rfl rfl)
theorem dX1_wrong_52 : decode cX1_wrong 52 = .ok (.getfield 301, 3) := dk_180 1 45 (dk_at dksX1_wrong_2 4 rfl rfl)
theorem dX1_wrong_55 : decode cX1_wrong 55 = .ok (.invokestatic 227, 3) := dk_184 0 227 (dk_at dksX1_wrong_2 7 rfl rfl)
theorem dX1_wrong_58 : decode cX1_wrong 58 = .ok (.ifCond .ne 5, 3) := dk_154 0 5 (dk_at dksX1_wrong_2 10 rfl rfl)
theorem dX1_wrong_61 : decode cX1_wrong 61 = .ok (.iload_n 2, 1) := dk_28 (dk_at dksX1_wrong_2 13 rfl rfl)
theorem dX1_wrong_62 : decode cX1_wrong 62 = .ok (.ireturn, 1) := dk_172 (dk_at dksX1_wrong_2 14 rfl rfl)
theorem dX1_wrong_63 : decode cX1_wrong 63 = .ok (.iinc 2 1, 3) := dk_132 2 1 (dk_at dksX1_wrong_2 15 rfl rfl)
theorem dX1_wrong_66 : decode cX1_wrong 66 = .ok (.goto (-56), 3) := dk_167 255 200 (dk_at dksX1_wrong_2 18 rfl rfl)
theorem dX1_wrong_69 : decode cX1_wrong 69 = .ok (.bipush (-2), 2) := dk_16 254 (dk_at dksX1_wrong_2 21 rfl rfl)
theorem dX1_wrong_71 : decode cX1_wrong 71 = .ok (.ireturn, 1) := dk_172 (dk_at dksX1_wrong_2 23 rfl rfl)
abbrev cX1_fireAt : ByteArray := prog_1_method_65_code
def yX1_fireAt : MethodName := ⟨RX1, "fireAt", "(I)I"⟩
def dkwX1_fireAt_1 : List UInt8 := [16, 254, 160, 0, 11, 42, 4, 182, 0, 43, 167, 0, 8, 42, 28, 182, 0, 47, 172]
abbrev dktX1_fireAt_1 : List UInt8 := dkwX1_fireAt_1 ++ []
def dkwX1_fireAt_0 : List UInt8 := [42, 180, 0, 82, 198, 0, 7, 27, 156, 0, 9, 42, 4, 182, 0, 43, 172, 42, 27, 182, 1, 60, 61, 28]
abbrev dktX1_fireAt_0 : List UInt8 := dkwX1_fireAt_0 ++ dktX1_fireAt_1
theorem dksX1_fireAt_0 : cX1_fireAt.data.toList.drop 0 = dktX1_fireAt_0 := by decide +kernel
theorem dksX1_fireAt_1 : cX1_fireAt.data.toList.drop 24 = dktX1_fireAt_1 := dk_seg dksX1_fireAt_0 24 rfl rfl
theorem dX1_fireAt_0 : decode cX1_fireAt 0 = .ok (.aload_n 0, 1) := dk_42 (dk_at dksX1_fireAt_0 0 rfl rfl)
theorem dX1_fireAt_1 : decode cX1_fireAt 1 = .ok (.getfield 82, 3) := dk_180 0 82 (dk_at dksX1_fireAt_0 1 rfl rfl)
theorem dX1_fireAt_4 : decode cX1_fireAt 4 = .ok (.ifnull 7, 3) := dk_198 0 7 (dk_at dksX1_fireAt_0 4 rfl rfl)
theorem dX1_fireAt_7 : decode cX1_fireAt 7 = .ok (.iload_n 1, 1) := dk_27 (dk_at dksX1_fireAt_0 7 rfl rfl)
theorem dX1_fireAt_8 : decode cX1_fireAt 8 = .ok (.ifCond .ge 9, 3) := dk_156 0 9 (dk_at dksX1_fireAt_0 8 rfl rfl)
theorem dX1_fireAt_11 : decode cX1_fireAt 11 = .ok (.aload_n 0, 1) := dk_42 (dk_at dksX1_fireAt_0 11 rfl rfl)
theorem dX1_fireAt_12 : decode cX1_fireAt 12 = .ok (.iconst 1, 1) := dk_4 (dk_at dksX1_fireAt_0 12 rfl rfl)
theorem dX1_fireAt_13 : decode cX1_fireAt 13 = .ok (.invokevirtual 43, 3) := dk_182 0 43 (dk_at dksX1_fireAt_0 13 rfl rfl)
theorem dX1_fireAt_16 : decode cX1_fireAt 16 = .ok (.ireturn, 1) := dk_172 (dk_at dksX1_fireAt_0 16 rfl rfl)
theorem dX1_fireAt_17 : decode cX1_fireAt 17 = .ok (.aload_n 0, 1) := dk_42 (dk_at dksX1_fireAt_0 17 rfl rfl)
theorem dX1_fireAt_18 : decode cX1_fireAt 18 = .ok (.iload_n 1, 1) := dk_27 (dk_at dksX1_fireAt_0 18 rfl rfl)
theorem dX1_fireAt_19 : decode cX1_fireAt 19 = .ok (.invokevirtual 316, 3) := dk_182 1 60 (dk_at dksX1_fireAt_0 19 rfl rfl)
theorem dX1_fireAt_22 : decode cX1_fireAt 22 = .ok (.istore_n 2, 1) := dk_61 (dk_at dksX1_fireAt_0 22 rfl rfl)
theorem dX1_fireAt_23 : decode cX1_fireAt 23 = .ok (.iload_n 2, 1) := dk_28 (dk_at dksX1_fireAt_0 23 rfl rfl)
theorem dX1_fireAt_24 : decode cX1_fireAt 24 = .ok (.bipush (-2), 2) := dk_16 254 (dk_at dksX1_fireAt_1 0 rfl rfl)
theorem dX1_fireAt_26 : decode cX1_fireAt 26 = .ok (.if_icmp .ne 11, 3) := dk_160 0 11 (dk_at dksX1_fireAt_1 2 rfl rfl)
theorem dX1_fireAt_29 : decode cX1_fireAt 29 = .ok (.aload_n 0, 1) := dk_42 (dk_at dksX1_fireAt_1 5 rfl rfl)
theorem dX1_fireAt_30 : decode cX1_fireAt 30 = .ok (.iconst 1, 1) := dk_4 (dk_at dksX1_fireAt_1 6 rfl rfl)
theorem dX1_fireAt_31 : decode cX1_fireAt 31 = .ok (.invokevirtual 43, 3) := dk_182 0 43 (dk_at dksX1_fireAt_1 7 rfl rfl)
theorem dX1_fireAt_34 : decode cX1_fireAt 34 = .ok (.goto 8, 3) := dk_167 0 8 (dk_at dksX1_fireAt_1 10 rfl rfl)
theorem dX1_fireAt_37 : decode cX1_fireAt 37 = .ok (.aload_n 0, 1) := dk_42 (dk_at dksX1_fireAt_1 13 rfl rfl)
theorem dX1_fireAt_38 : decode cX1_fireAt 38 = .ok (.iload_n 2, 1) := dk_28 (dk_at dksX1_fireAt_1 14 rfl rfl)
theorem dX1_fireAt_39 : decode cX1_fireAt 39 = .ok (.invokevirtual 47, 3) := dk_182 0 47 (dk_at dksX1_fireAt_1 15 rfl rfl)
theorem dX1_fireAt_42 : decode cX1_fireAt 42 = .ok (.ireturn, 1) := dk_172 (dk_at dksX1_fireAt_1 18 rfl rfl)
abbrev cX1_could : ByteArray := prog_1_method_66_code
def yX1_could : MethodName := ⟨RX1, "could", "()I"⟩
def dkwX1_could_1 : List UInt8 := [182, 0, 47, 172]
abbrev dktX1_could_1 : List UInt8 := dkwX1_could_1 ++ []
def dkwX1_could_0 : List UInt8 := [42, 180, 0, 82, 199, 0, 9, 42, 4, 182, 0, 43, 172, 42, 2, 182, 1, 60, 87, 42, 42, 180, 1, 51]
abbrev dktX1_could_0 : List UInt8 := dkwX1_could_0 ++ dktX1_could_1
theorem dksX1_could_0 : cX1_could.data.toList.drop 0 = dktX1_could_0 := by decide +kernel
theorem dksX1_could_1 : cX1_could.data.toList.drop 24 = dktX1_could_1 := dk_seg dksX1_could_0 24 rfl rfl
theorem dX1_could_0 : decode cX1_could 0 = .ok (.aload_n 0, 1) := dk_42 (dk_at dksX1_could_0 0 rfl rfl)
theorem dX1_could_1 : decode cX1_could 1 = .ok (.getfield 82, 3) := dk_180 0 82 (dk_at dksX1_could_0 1 rfl rfl)
theorem dX1_could_4 : decode cX1_could 4 = .ok (.ifnonnull 9, 3) := dk_199 0 9 (dk_at dksX1_could_0 4 rfl rfl)
theorem dX1_could_7 : decode cX1_could 7 = .ok (.aload_n 0, 1) := dk_42 (dk_at dksX1_could_0 7 rfl rfl)
theorem dX1_could_8 : decode cX1_could 8 = .ok (.iconst 1, 1) := dk_4 (dk_at dksX1_could_0 8 rfl rfl)
theorem dX1_could_9 : decode cX1_could 9 = .ok (.invokevirtual 43, 3) := dk_182 0 43 (dk_at dksX1_could_0 9 rfl rfl)
theorem dX1_could_12 : decode cX1_could 12 = .ok (.ireturn, 1) := dk_172 (dk_at dksX1_could_0 12 rfl rfl)
theorem dX1_could_13 : decode cX1_could 13 = .ok (.aload_n 0, 1) := dk_42 (dk_at dksX1_could_0 13 rfl rfl)
theorem dX1_could_14 : decode cX1_could 14 = .ok (.iconst (-1), 1) := dk_2 (dk_at dksX1_could_0 14 rfl rfl)
theorem dX1_could_15 : decode cX1_could 15 = .ok (.invokevirtual 316, 3) := dk_182 1 60 (dk_at dksX1_could_0 15 rfl rfl)
theorem dX1_could_18 : decode cX1_could 18 = .ok (.pop, 1) := dk_87 (dk_at dksX1_could_0 18 rfl rfl)
theorem dX1_could_19 : decode cX1_could 19 = .ok (.aload_n 0, 1) := dk_42 (dk_at dksX1_could_0 19 rfl rfl)
theorem dX1_could_20 : decode cX1_could 20 = .ok (.aload_n 0, 1) := dk_42 (dk_at dksX1_could_0 20 rfl rfl)
theorem dX1_could_21 : decode cX1_could 21 = .ok (.getfield 307, 3) := dk_180 1 51 (dk_at dksX1_could_0 21 rfl rfl)
theorem dX1_could_24 : decode cX1_could 24 = .ok (.invokevirtual 47, 3) := dk_182 0 47 (dk_at dksX1_could_1 0 rfl rfl)
theorem dX1_could_27 : decode cX1_could 27 = .ok (.ireturn, 1) := dk_172 (dk_at dksX1_could_1 3 rfl rfl)
abbrev cX1_surely : ByteArray := prog_1_method_67_code
def yX1_surely : MethodName := ⟨RX1, "surely", "()I"⟩
def dkwX1_surely_1 : List UInt8 := [182, 0, 47, 172]
abbrev dktX1_surely_1 : List UInt8 := dkwX1_surely_1 ++ []
def dkwX1_surely_0 : List UInt8 := [42, 180, 0, 82, 199, 0, 9, 42, 4, 182, 0, 43, 172, 42, 2, 182, 1, 60, 87, 42, 42, 180, 1, 54]
abbrev dktX1_surely_0 : List UInt8 := dkwX1_surely_0 ++ dktX1_surely_1
theorem dksX1_surely_0 : cX1_surely.data.toList.drop 0 = dktX1_surely_0 := by decide +kernel
theorem dksX1_surely_1 : cX1_surely.data.toList.drop 24 = dktX1_surely_1 := dk_seg dksX1_surely_0 24 rfl rfl
theorem dX1_surely_0 : decode cX1_surely 0 = .ok (.aload_n 0, 1) := dk_42 (dk_at dksX1_surely_0 0 rfl rfl)
theorem dX1_surely_1 : decode cX1_surely 1 = .ok (.getfield 82, 3) := dk_180 0 82 (dk_at dksX1_surely_0 1 rfl rfl)
theorem dX1_surely_4 : decode cX1_surely 4 = .ok (.ifnonnull 9, 3) := dk_199 0 9 (dk_at dksX1_surely_0 4 rfl rfl)
theorem dX1_surely_7 : decode cX1_surely 7 = .ok (.aload_n 0, 1) := dk_42 (dk_at dksX1_surely_0 7 rfl rfl)
theorem dX1_surely_8 : decode cX1_surely 8 = .ok (.iconst 1, 1) := dk_4 (dk_at dksX1_surely_0 8 rfl rfl)
theorem dX1_surely_9 : decode cX1_surely 9 = .ok (.invokevirtual 43, 3) := dk_182 0 43 (dk_at dksX1_surely_0 9 rfl rfl)
theorem dX1_surely_12 : decode cX1_surely 12 = .ok (.ireturn, 1) := dk_172 (dk_at dksX1_surely_0 12 rfl rfl)
theorem dX1_surely_13 : decode cX1_surely 13 = .ok (.aload_n 0, 1) := dk_42 (dk_at dksX1_surely_0 13 rfl rfl)
theorem dX1_surely_14 : decode cX1_surely 14 = .ok (.iconst (-1), 1) := dk_2 (dk_at dksX1_surely_0 14 rfl rfl)
theorem dX1_surely_15 : decode cX1_surely 15 = .ok (.invokevirtual 316, 3) := dk_182 1 60 (dk_at dksX1_surely_0 15 rfl rfl)
theorem dX1_surely_18 : decode cX1_surely 18 = .ok (.pop, 1) := dk_87 (dk_at dksX1_surely_0 18 rfl rfl)
theorem dX1_surely_19 : decode cX1_surely 19 = .ok (.aload_n 0, 1) := dk_42 (dk_at dksX1_surely_0 19 rfl rfl)
theorem dX1_surely_20 : decode cX1_surely 20 = .ok (.aload_n 0, 1) := dk_42 (dk_at dksX1_surely_0 20 rfl rfl)
theorem dX1_surely_21 : decode cX1_surely 21 = .ok (.getfield 310, 3) := dk_180 1 54 (dk_at dksX1_surely_0 21 rfl rfl)
theorem dX1_surely_24 : decode cX1_surely 24 = .ok (.invokevirtual 47, 3) := dk_182 0 47 (dk_at dksX1_surely_1 0 rfl rfl)
theorem dX1_surely_27 : decode cX1_surely 27 = .ok (.ireturn, 1) := dk_172 (dk_at dksX1_surely_1 3 rfl rfl)
abbrev cX1_ask : ByteArray := prog_1_method_69_code
def yX1_ask : MethodName := ⟨RX1, "ask", "()I"⟩
def dkwX1_ask_0 : List UInt8 := [42, 180, 0, 82, 199, 0, 11, 42, 4, 182, 0, 43, 167, 0, 11, 42, 42, 182, 1, 69, 182, 0, 47, 172]
abbrev dktX1_ask_0 : List UInt8 := dkwX1_ask_0 ++ []
theorem dksX1_ask_0 : cX1_ask.data.toList.drop 0 = dktX1_ask_0 := by decide +kernel
theorem dX1_ask_0 : decode cX1_ask 0 = .ok (.aload_n 0, 1) := dk_42 (dk_at dksX1_ask_0 0 rfl rfl)
theorem dX1_ask_1 : decode cX1_ask 1 = .ok (.getfield 82, 3) := dk_180 0 82 (dk_at dksX1_ask_0 1 rfl rfl)
theorem dX1_ask_4 : decode cX1_ask 4 = .ok (.ifnonnull 11, 3) := dk_199 0 11 (dk_at dksX1_ask_0 4 rfl rfl)
theorem dX1_ask_7 : decode cX1_ask 7 = .ok (.aload_n 0, 1) := dk_42 (dk_at dksX1_ask_0 7 rfl rfl)
theorem dX1_ask_8 : decode cX1_ask 8 = .ok (.iconst 1, 1) := dk_4 (dk_at dksX1_ask_0 8 rfl rfl)
theorem dX1_ask_9 : decode cX1_ask 9 = .ok (.invokevirtual 43, 3) := dk_182 0 43 (dk_at dksX1_ask_0 9 rfl rfl)
theorem dX1_ask_12 : decode cX1_ask 12 = .ok (.goto 11, 3) := dk_167 0 11 (dk_at dksX1_ask_0 12 rfl rfl)
theorem dX1_ask_15 : decode cX1_ask 15 = .ok (.aload_n 0, 1) := dk_42 (dk_at dksX1_ask_0 15 rfl rfl)
theorem dX1_ask_16 : decode cX1_ask 16 = .ok (.aload_n 0, 1) := dk_42 (dk_at dksX1_ask_0 16 rfl rfl)
theorem dX1_ask_17 : decode cX1_ask 17 = .ok (.invokevirtual 325, 3) := dk_182 1 69 (dk_at dksX1_ask_0 17 rfl rfl)
theorem dX1_ask_20 : decode cX1_ask 20 = .ok (.invokevirtual 47, 3) := dk_182 0 47 (dk_at dksX1_ask_0 20 rfl rfl)
theorem dX1_ask_23 : decode cX1_ask 23 = .ok (.ireturn, 1) := dk_172 (dk_at dksX1_ask_0 23 rfl rfl)
abbrev cX1_asks : ByteArray := prog_1_method_68_code
def yX1_asks : MethodName := ⟨RX1, "asks", "()I"⟩
def dkwX1_asks_3 : List UInt8 := [28, 60, 42, 29, 181, 1, 63, 132, 2, 1, 167, 255, 193, 27, 172]
abbrev dktX1_asks_3 : List UInt8 := dkwX1_asks_3 ++ []
def dkwX1_asks_2 : List UInt8 := [28, 46, 100, 184, 1, 66, 62, 27, 16, 254, 159, 0, 14, 29, 42, 180, 1, 63, 161, 0, 6, 167, 0, 10]
abbrev dktX1_asks_2 : List UInt8 := dkwX1_asks_2 ++ dktX1_asks_3
def dkwX1_asks_1 : List UInt8 := [162, 0, 61, 42, 180, 1, 48, 158, 0, 54, 42, 180, 0, 31, 28, 46, 42, 180, 1, 48, 42, 180, 0, 31]
abbrev dktX1_asks_1 : List UInt8 := dkwX1_asks_1 ++ dktX1_asks_2
def dkwX1_asks_0 : List UInt8 := [42, 2, 182, 1, 60, 87, 16, 254, 60, 42, 16, 254, 181, 1, 63, 3, 61, 28, 42, 182, 0, 108]
abbrev dktX1_asks_0 : List UInt8 := dkwX1_asks_0 ++ dktX1_asks_1
theorem dksX1_asks_0 : cX1_asks.data.toList.drop 0 = dktX1_asks_0 := by decide +kernel
theorem dksX1_asks_1 : cX1_asks.data.toList.drop 22 = dktX1_asks_1 := dk_seg dksX1_asks_0 22 rfl rfl
theorem dksX1_asks_2 : cX1_asks.data.toList.drop 46 = dktX1_asks_2 := dk_seg dksX1_asks_1 24 rfl rfl
theorem dksX1_asks_3 : cX1_asks.data.toList.drop 70 = dktX1_asks_3 := dk_seg dksX1_asks_2 24 rfl rfl
theorem dX1_asks_0 : decode cX1_asks 0 = .ok (.aload_n 0, 1) := dk_42 (dk_at dksX1_asks_0 0 rfl rfl)
theorem dX1_asks_1 : decode cX1_asks 1 = .ok (.iconst (-1), 1) := dk_2 (dk_at dksX1_asks_0 1 rfl rfl)
theorem dX1_asks_2 : decode cX1_asks 2 = .ok (.invokevirtual 316, 3) := dk_182 1 60 (dk_at dksX1_asks_0 2 rfl rfl)
theorem dX1_asks_5 : decode cX1_asks 5 = .ok (.pop, 1) := dk_87 (dk_at dksX1_asks_0 5 rfl rfl)
theorem dX1_asks_6 : decode cX1_asks 6 = .ok (.bipush (-2), 2) := dk_16 254 (dk_at dksX1_asks_0 6 rfl rfl)
theorem dX1_asks_8 : decode cX1_asks 8 = .ok (.istore_n 1, 1) := dk_60 (dk_at dksX1_asks_0 8 rfl rfl)
theorem dX1_asks_9 : decode cX1_asks 9 = .ok (.aload_n 0, 1) := dk_42 (dk_at dksX1_asks_0 9 rfl rfl)
theorem dX1_asks_10 : decode cX1_asks 10 = .ok (.bipush (-2), 2) := dk_16 254 (dk_at dksX1_asks_0 10 rfl rfl)
theorem dX1_asks_12 : decode cX1_asks 12 = .ok (.putfield 319, 3) := dk_181 1 63 (dk_at dksX1_asks_0 12 rfl rfl)
theorem dX1_asks_15 : decode cX1_asks 15 = .ok (.iconst 0, 1) := dk_3 (dk_at dksX1_asks_0 15 rfl rfl)
theorem dX1_asks_16 : decode cX1_asks 16 = .ok (.istore_n 2, 1) := dk_61 (dk_at dksX1_asks_0 16 rfl rfl)
theorem dX1_asks_17 : decode cX1_asks 17 = .ok (.iload_n 2, 1) := dk_28 (dk_at dksX1_asks_0 17 rfl rfl)
theorem dX1_asks_18 : decode cX1_asks 18 = .ok (.aload_n 0, 1) := dk_42 (dk_at dksX1_asks_0 18 rfl rfl)
theorem dX1_asks_19 : decode cX1_asks 19 = .ok (.invokevirtual 108, 3) := dk_182 0 108 (dk_at dksX1_asks_0 19 rfl rfl)
theorem dX1_asks_22 : decode cX1_asks 22 = .ok (.if_icmp .ge 61, 3) := dk_162 0 61 (dk_at dksX1_asks_1 0 rfl rfl)
theorem dX1_asks_25 : decode cX1_asks 25 = .ok (.aload_n 0, 1) := dk_42 (dk_at dksX1_asks_1 3 rfl rfl)
theorem dX1_asks_26 : decode cX1_asks 26 = .ok (.getfield 304, 3) := dk_180 1 48 (dk_at dksX1_asks_1 4 rfl rfl)
theorem dX1_asks_29 : decode cX1_asks 29 = .ok (.ifCond .le 54, 3) := dk_158 0 54 (dk_at dksX1_asks_1 7 rfl rfl)
theorem dX1_asks_32 : decode cX1_asks 32 = .ok (.aload_n 0, 1) := dk_42 (dk_at dksX1_asks_1 10 rfl rfl)
theorem dX1_asks_33 : decode cX1_asks 33 = .ok (.getfield 31, 3) := dk_180 0 31 (dk_at dksX1_asks_1 11 rfl rfl)
theorem dX1_asks_36 : decode cX1_asks 36 = .ok (.iload_n 2, 1) := dk_28 (dk_at dksX1_asks_1 14 rfl rfl)
theorem dX1_asks_37 : decode cX1_asks 37 = .ok (.iaload, 1) := dk_46 (dk_at dksX1_asks_1 15 rfl rfl)
theorem dX1_asks_38 : decode cX1_asks 38 = .ok (.aload_n 0, 1) := dk_42 (dk_at dksX1_asks_1 16 rfl rfl)
theorem dX1_asks_39 : decode cX1_asks 39 = .ok (.getfield 304, 3) := dk_180 1 48 (dk_at dksX1_asks_1 17 rfl rfl)
theorem dX1_asks_42 : decode cX1_asks 42 = .ok (.aload_n 0, 1) := dk_42 (dk_at dksX1_asks_1 20 rfl rfl)
theorem dX1_asks_43 : decode cX1_asks 43 = .ok (.getfield 31, 3) := dk_180 0 31 (dk_at dksX1_asks_1 21 rfl rfl)
theorem dX1_asks_46 : decode cX1_asks 46 = .ok (.iload_n 2, 1) := dk_28 (dk_at dksX1_asks_2 0 rfl rfl)
theorem dX1_asks_47 : decode cX1_asks 47 = .ok (.iaload, 1) := dk_46 (dk_at dksX1_asks_2 1 rfl rfl)
theorem dX1_asks_48 : decode cX1_asks 48 = .ok (.isub, 1) := dk_100 (dk_at dksX1_asks_2 2 rfl rfl)
theorem dX1_asks_49 : decode cX1_asks 49 = .ok (.invokestatic 322, 3) := dk_184 1 66 (dk_at dksX1_asks_2 3 rfl rfl)
theorem dX1_asks_52 : decode cX1_asks 52 = .ok (.istore_n 3, 1) := dk_62 (dk_at dksX1_asks_2 6 rfl rfl)
theorem dX1_asks_53 : decode cX1_asks 53 = .ok (.iload_n 1, 1) := dk_27 (dk_at dksX1_asks_2 7 rfl rfl)
theorem dX1_asks_54 : decode cX1_asks 54 = .ok (.bipush (-2), 2) := dk_16 254 (dk_at dksX1_asks_2 8 rfl rfl)
theorem dX1_asks_56 : decode cX1_asks 56 = .ok (.if_icmp .eq 14, 3) := dk_159 0 14 (dk_at dksX1_asks_2 10 rfl rfl)
theorem dX1_asks_59 : decode cX1_asks 59 = .ok (.iload_n 3, 1) := dk_29 (dk_at dksX1_asks_2 13 rfl rfl)
theorem dX1_asks_60 : decode cX1_asks 60 = .ok (.aload_n 0, 1) := dk_42 (dk_at dksX1_asks_2 14 rfl rfl)
theorem dX1_asks_61 : decode cX1_asks 61 = .ok (.getfield 319, 3) := dk_180 1 63 (dk_at dksX1_asks_2 15 rfl rfl)
theorem dX1_asks_64 : decode cX1_asks 64 = .ok (.if_icmp .lt 6, 3) := dk_161 0 6 (dk_at dksX1_asks_2 18 rfl rfl)
theorem dX1_asks_67 : decode cX1_asks 67 = .ok (.goto 10, 3) := dk_167 0 10 (dk_at dksX1_asks_2 21 rfl rfl)
theorem dX1_asks_70 : decode cX1_asks 70 = .ok (.iload_n 2, 1) := dk_28 (dk_at dksX1_asks_3 0 rfl rfl)
theorem dX1_asks_71 : decode cX1_asks 71 = .ok (.istore_n 1, 1) := dk_60 (dk_at dksX1_asks_3 1 rfl rfl)
theorem dX1_asks_72 : decode cX1_asks 72 = .ok (.aload_n 0, 1) := dk_42 (dk_at dksX1_asks_3 2 rfl rfl)
theorem dX1_asks_73 : decode cX1_asks 73 = .ok (.iload_n 3, 1) := dk_29 (dk_at dksX1_asks_3 3 rfl rfl)
theorem dX1_asks_74 : decode cX1_asks 74 = .ok (.putfield 319, 3) := dk_181 1 63 (dk_at dksX1_asks_3 4 rfl rfl)
theorem dX1_asks_77 : decode cX1_asks 77 = .ok (.iinc 2 1, 3) := dk_132 2 1 (dk_at dksX1_asks_3 7 rfl rfl)
theorem dX1_asks_80 : decode cX1_asks 80 = .ok (.goto (-63), 3) := dk_167 255 193 (dk_at dksX1_asks_3 10 rfl rfl)
theorem dX1_asks_83 : decode cX1_asks 83 = .ok (.iload_n 1, 1) := dk_27 (dk_at dksX1_asks_3 13 rfl rfl)
theorem dX1_asks_84 : decode cX1_asks 84 = .ok (.ireturn, 1) := dk_172 (dk_at dksX1_asks_3 14 rfl rfl)
abbrev cX1_askLeaves : ByteArray := prog_1_method_70_code
def yX1_askLeaves : MethodName := ⟨RX1, "askLeaves", "()I"⟩
def dkwX1_askLeaves_1 : List UInt8 := [182, 0, 47, 172]
abbrev dktX1_askLeaves_1 : List UInt8 := dkwX1_askLeaves_1 ++ []
def dkwX1_askLeaves_0 : List UInt8 := [42, 180, 0, 82, 199, 0, 9, 42, 4, 182, 0, 43, 172, 42, 182, 1, 69, 87, 42, 42, 180, 1, 63]
abbrev dktX1_askLeaves_0 : List UInt8 := dkwX1_askLeaves_0 ++ dktX1_askLeaves_1
theorem dksX1_askLeaves_0 : cX1_askLeaves.data.toList.drop 0 = dktX1_askLeaves_0 := by decide +kernel
theorem dksX1_askLeaves_1 : cX1_askLeaves.data.toList.drop 23 = dktX1_askLeaves_1 := dk_seg dksX1_askLeaves_0 23 rfl rfl
theorem dX1_askLeaves_0 : decode cX1_askLeaves 0 = .ok (.aload_n 0, 1) := dk_42 (dk_at dksX1_askLeaves_0 0 rfl rfl)
theorem dX1_askLeaves_1 : decode cX1_askLeaves 1 = .ok (.getfield 82, 3) := dk_180 0 82 (dk_at dksX1_askLeaves_0 1 rfl rfl)
theorem dX1_askLeaves_4 : decode cX1_askLeaves 4 = .ok (.ifnonnull 9, 3) := dk_199 0 9 (dk_at dksX1_askLeaves_0 4 rfl rfl)
theorem dX1_askLeaves_7 : decode cX1_askLeaves 7 = .ok (.aload_n 0, 1) := dk_42 (dk_at dksX1_askLeaves_0 7 rfl rfl)
theorem dX1_askLeaves_8 : decode cX1_askLeaves 8 = .ok (.iconst 1, 1) := dk_4 (dk_at dksX1_askLeaves_0 8 rfl rfl)
theorem dX1_askLeaves_9 : decode cX1_askLeaves 9 = .ok (.invokevirtual 43, 3) := dk_182 0 43 (dk_at dksX1_askLeaves_0 9 rfl rfl)
theorem dX1_askLeaves_12 : decode cX1_askLeaves 12 = .ok (.ireturn, 1) := dk_172 (dk_at dksX1_askLeaves_0 12 rfl rfl)
theorem dX1_askLeaves_13 : decode cX1_askLeaves 13 = .ok (.aload_n 0, 1) := dk_42 (dk_at dksX1_askLeaves_0 13 rfl rfl)
theorem dX1_askLeaves_14 : decode cX1_askLeaves 14 = .ok (.invokevirtual 325, 3) := dk_182 1 69 (dk_at dksX1_askLeaves_0 14 rfl rfl)
theorem dX1_askLeaves_17 : decode cX1_askLeaves 17 = .ok (.pop, 1) := dk_87 (dk_at dksX1_askLeaves_0 17 rfl rfl)
theorem dX1_askLeaves_18 : decode cX1_askLeaves 18 = .ok (.aload_n 0, 1) := dk_42 (dk_at dksX1_askLeaves_0 18 rfl rfl)
theorem dX1_askLeaves_19 : decode cX1_askLeaves 19 = .ok (.aload_n 0, 1) := dk_42 (dk_at dksX1_askLeaves_0 19 rfl rfl)
theorem dX1_askLeaves_20 : decode cX1_askLeaves 20 = .ok (.getfield 319, 3) := dk_180 1 63 (dk_at dksX1_askLeaves_0 20 rfl rfl)
theorem dX1_askLeaves_23 : decode cX1_askLeaves 23 = .ok (.invokevirtual 47, 3) := dk_182 0 47 (dk_at dksX1_askLeaves_1 0 rfl rfl)
theorem dX1_askLeaves_26 : decode cX1_askLeaves 26 = .ok (.ireturn, 1) := dk_172 (dk_at dksX1_askLeaves_1 3 rfl rfl)
abbrev cX1_judge : ByteArray := prog_1_method_71_code
def yX1_judge : MethodName := ⟨RX1, "judge", "()I"⟩
def dkwX1_judge_1 : List UInt8 := [182, 1, 57, 182, 0, 47, 172]
abbrev dktX1_judge_1 : List UInt8 := dkwX1_judge_1 ++ []
def dkwX1_judge_0 : List UInt8 := [42, 180, 0, 82, 199, 0, 11, 42, 4, 182, 0, 43, 167, 0, 18, 42, 42, 42, 180, 0, 91, 180, 0, 167]
abbrev dktX1_judge_0 : List UInt8 := dkwX1_judge_0 ++ dktX1_judge_1
theorem dksX1_judge_0 : cX1_judge.data.toList.drop 0 = dktX1_judge_0 := by decide +kernel
theorem dksX1_judge_1 : cX1_judge.data.toList.drop 24 = dktX1_judge_1 := dk_seg dksX1_judge_0 24 rfl rfl
theorem dX1_judge_0 : decode cX1_judge 0 = .ok (.aload_n 0, 1) := dk_42 (dk_at dksX1_judge_0 0 rfl rfl)
theorem dX1_judge_1 : decode cX1_judge 1 = .ok (.getfield 82, 3) := dk_180 0 82 (dk_at dksX1_judge_0 1 rfl rfl)
theorem dX1_judge_4 : decode cX1_judge 4 = .ok (.ifnonnull 11, 3) := dk_199 0 11 (dk_at dksX1_judge_0 4 rfl rfl)
theorem dX1_judge_7 : decode cX1_judge 7 = .ok (.aload_n 0, 1) := dk_42 (dk_at dksX1_judge_0 7 rfl rfl)
theorem dX1_judge_8 : decode cX1_judge 8 = .ok (.iconst 1, 1) := dk_4 (dk_at dksX1_judge_0 8 rfl rfl)
theorem dX1_judge_9 : decode cX1_judge 9 = .ok (.invokevirtual 43, 3) := dk_182 0 43 (dk_at dksX1_judge_0 9 rfl rfl)
theorem dX1_judge_12 : decode cX1_judge 12 = .ok (.goto 18, 3) := dk_167 0 18 (dk_at dksX1_judge_0 12 rfl rfl)
theorem dX1_judge_15 : decode cX1_judge 15 = .ok (.aload_n 0, 1) := dk_42 (dk_at dksX1_judge_0 15 rfl rfl)
theorem dX1_judge_16 : decode cX1_judge 16 = .ok (.aload_n 0, 1) := dk_42 (dk_at dksX1_judge_0 16 rfl rfl)
theorem dX1_judge_17 : decode cX1_judge 17 = .ok (.aload_n 0, 1) := dk_42 (dk_at dksX1_judge_0 17 rfl rfl)
theorem dX1_judge_18 : decode cX1_judge 18 = .ok (.getfield 91, 3) := dk_180 0 91 (dk_at dksX1_judge_0 18 rfl rfl)
theorem dX1_judge_21 : decode cX1_judge 21 = .ok (.getfield 167, 3) := dk_180 0 167 (dk_at dksX1_judge_0 21 rfl rfl)
theorem dX1_judge_24 : decode cX1_judge 24 = .ok (.invokevirtual 313, 3) := dk_182 1 57 (dk_at dksX1_judge_1 0 rfl rfl)
theorem dX1_judge_27 : decode cX1_judge 27 = .ok (.invokevirtual 47, 3) := dk_182 0 47 (dk_at dksX1_judge_1 3 rfl rfl)
theorem dX1_judge_30 : decode cX1_judge 30 = .ok (.ireturn, 1) := dk_172 (dk_at dksX1_judge_1 6 rfl rfl)
abbrev cX1_odds : ByteArray := prog_1_method_74_code
def yX1_odds : MethodName := ⟨RX1, "odds", "(IIZ)J"⟩
def dkwX1_odds_3 : List UInt8 := [132, 6, 1, 167, 255, 213, 42, 22, 4, 42, 182, 1, 81, 29, 182, 1, 85, 173]
abbrev dktX1_odds_3 : List UInt8 := dkwX1_odds_3 ++ []
def dkwX1_odds_2 : List UInt8 := [21, 6, 182, 0, 215, 28, 160, 0, 12, 42, 21, 6, 182, 1, 77, 167, 0, 4, 9, 97, 55, 4]
abbrev dktX1_odds_2 : List UInt8 := dkwX1_odds_2 ++ dktX1_odds_3
def dkwX1_odds_1 : List UInt8 := [55, 4, 3, 54, 6, 21, 6, 4, 42, 182, 0, 129, 120, 162, 0, 38, 22, 4, 42, 180, 0, 91, 27]
abbrev dktX1_odds_1 : List UInt8 := dkwX1_odds_1 ++ dktX1_odds_2
def dkwX1_odds_0 : List UInt8 := [42, 27, 182, 0, 131, 153, 0, 11, 42, 28, 182, 0, 131, 154, 0, 10, 42, 4, 182, 0, 43, 133, 173, 9]
abbrev dktX1_odds_0 : List UInt8 := dkwX1_odds_0 ++ dktX1_odds_1
theorem dksX1_odds_0 : cX1_odds.data.toList.drop 0 = dktX1_odds_0 := by decide +kernel
theorem dksX1_odds_1 : cX1_odds.data.toList.drop 24 = dktX1_odds_1 := dk_seg dksX1_odds_0 24 rfl rfl
theorem dksX1_odds_2 : cX1_odds.data.toList.drop 47 = dktX1_odds_2 := dk_seg dksX1_odds_1 23 rfl rfl
theorem dksX1_odds_3 : cX1_odds.data.toList.drop 69 = dktX1_odds_3 := dk_seg dksX1_odds_2 22 rfl rfl
theorem dX1_odds_0 : decode cX1_odds 0 = .ok (.aload_n 0, 1) := dk_42 (dk_at dksX1_odds_0 0 rfl rfl)
theorem dX1_odds_1 : decode cX1_odds 1 = .ok (.iload_n 1, 1) := dk_27 (dk_at dksX1_odds_0 1 rfl rfl)
theorem dX1_odds_2 : decode cX1_odds 2 = .ok (.invokevirtual 131, 3) := dk_182 0 131 (dk_at dksX1_odds_0 2 rfl rfl)
theorem dX1_odds_5 : decode cX1_odds 5 = .ok (.ifCond .eq 11, 3) := dk_153 0 11 (dk_at dksX1_odds_0 5 rfl rfl)
theorem dX1_odds_8 : decode cX1_odds 8 = .ok (.aload_n 0, 1) := dk_42 (dk_at dksX1_odds_0 8 rfl rfl)
theorem dX1_odds_9 : decode cX1_odds 9 = .ok (.iload_n 2, 1) := dk_28 (dk_at dksX1_odds_0 9 rfl rfl)
theorem dX1_odds_10 : decode cX1_odds 10 = .ok (.invokevirtual 131, 3) := dk_182 0 131 (dk_at dksX1_odds_0 10 rfl rfl)
theorem dX1_odds_13 : decode cX1_odds 13 = .ok (.ifCond .ne 10, 3) := dk_154 0 10 (dk_at dksX1_odds_0 13 rfl rfl)
theorem dX1_odds_16 : decode cX1_odds 16 = .ok (.aload_n 0, 1) := dk_42 (dk_at dksX1_odds_0 16 rfl rfl)
theorem dX1_odds_17 : decode cX1_odds 17 = .ok (.iconst 1, 1) := dk_4 (dk_at dksX1_odds_0 17 rfl rfl)
theorem dX1_odds_18 : decode cX1_odds 18 = .ok (.invokevirtual 43, 3) := dk_182 0 43 (dk_at dksX1_odds_0 18 rfl rfl)
theorem dX1_odds_21 : decode cX1_odds 21 = .ok (.i2l, 1) := dk_133 (dk_at dksX1_odds_0 21 rfl rfl)
theorem dX1_odds_22 : decode cX1_odds 22 = .ok (.lreturn, 1) := dk_173 (dk_at dksX1_odds_0 22 rfl rfl)
theorem dX1_odds_23 : decode cX1_odds 23 = .ok (.lconst 0, 1) := dk_9 (dk_at dksX1_odds_0 23 rfl rfl)
theorem dX1_odds_24 : decode cX1_odds 24 = .ok (.lstore 4, 2) := dk_55 4 (dk_at dksX1_odds_1 0 rfl rfl)
theorem dX1_odds_26 : decode cX1_odds 26 = .ok (.iconst 0, 1) := dk_3 (dk_at dksX1_odds_1 2 rfl rfl)
theorem dX1_odds_27 : decode cX1_odds 27 = .ok (.istore 6, 2) := dk_54 6 (dk_at dksX1_odds_1 3 rfl rfl)
theorem dX1_odds_29 : decode cX1_odds 29 = .ok (.iload 6, 2) := dk_21 6 (dk_at dksX1_odds_1 5 rfl rfl)
theorem dX1_odds_31 : decode cX1_odds 31 = .ok (.iconst 1, 1) := dk_4 (dk_at dksX1_odds_1 7 rfl rfl)
theorem dX1_odds_32 : decode cX1_odds 32 = .ok (.aload_n 0, 1) := dk_42 (dk_at dksX1_odds_1 8 rfl rfl)
theorem dX1_odds_33 : decode cX1_odds 33 = .ok (.invokevirtual 129, 3) := dk_182 0 129 (dk_at dksX1_odds_1 9 rfl rfl)
theorem dX1_odds_36 : decode cX1_odds 36 = .ok (.ishl, 1) := dk_120 (dk_at dksX1_odds_1 12 rfl rfl)
theorem dX1_odds_37 : decode cX1_odds 37 = .ok (.if_icmp .ge 38, 3) := dk_162 0 38 (dk_at dksX1_odds_1 13 rfl rfl)
theorem dX1_odds_40 : decode cX1_odds 40 = .ok (.lload 4, 2) := dk_22 4 (dk_at dksX1_odds_1 16 rfl rfl)
theorem dX1_odds_42 : decode cX1_odds 42 = .ok (.aload_n 0, 1) := dk_42 (dk_at dksX1_odds_1 18 rfl rfl)
theorem dX1_odds_43 : decode cX1_odds 43 = .ok (.getfield 91, 3) := dk_180 0 91 (dk_at dksX1_odds_1 19 rfl rfl)
theorem dX1_odds_46 : decode cX1_odds 46 = .ok (.iload_n 1, 1) := dk_27 (dk_at dksX1_odds_1 22 rfl rfl)
theorem dX1_odds_47 : decode cX1_odds 47 = .ok (.iload 6, 2) := dk_21 6 (dk_at dksX1_odds_2 0 rfl rfl)
theorem dX1_odds_49 : decode cX1_odds 49 = .ok (.invokevirtual 215, 3) := dk_182 0 215 (dk_at dksX1_odds_2 2 rfl rfl)
theorem dX1_odds_52 : decode cX1_odds 52 = .ok (.iload_n 2, 1) := dk_28 (dk_at dksX1_odds_2 5 rfl rfl)
theorem dX1_odds_53 : decode cX1_odds 53 = .ok (.if_icmp .ne 12, 3) := dk_160 0 12 (dk_at dksX1_odds_2 6 rfl rfl)
theorem dX1_odds_56 : decode cX1_odds 56 = .ok (.aload_n 0, 1) := dk_42 (dk_at dksX1_odds_2 9 rfl rfl)
theorem dX1_odds_57 : decode cX1_odds 57 = .ok (.iload 6, 2) := dk_21 6 (dk_at dksX1_odds_2 10 rfl rfl)
theorem dX1_odds_59 : decode cX1_odds 59 = .ok (.invokevirtual 333, 3) := dk_182 1 77 (dk_at dksX1_odds_2 12 rfl rfl)
theorem dX1_odds_62 : decode cX1_odds 62 = .ok (.goto 4, 3) := dk_167 0 4 (dk_at dksX1_odds_2 15 rfl rfl)
theorem dX1_odds_65 : decode cX1_odds 65 = .ok (.lconst 0, 1) := dk_9 (dk_at dksX1_odds_2 18 rfl rfl)
theorem dX1_odds_66 : decode cX1_odds 66 = .ok (.ladd, 1) := dk_97 (dk_at dksX1_odds_2 19 rfl rfl)
theorem dX1_odds_67 : decode cX1_odds 67 = .ok (.lstore 4, 2) := dk_55 4 (dk_at dksX1_odds_2 20 rfl rfl)
theorem dX1_odds_69 : decode cX1_odds 69 = .ok (.iinc 6 1, 3) := dk_132 6 1 (dk_at dksX1_odds_3 0 rfl rfl)
theorem dX1_odds_72 : decode cX1_odds 72 = .ok (.goto (-43), 3) := dk_167 255 213 (dk_at dksX1_odds_3 3 rfl rfl)
theorem dX1_odds_75 : decode cX1_odds 75 = .ok (.aload_n 0, 1) := dk_42 (dk_at dksX1_odds_3 6 rfl rfl)
theorem dX1_odds_76 : decode cX1_odds 76 = .ok (.lload 4, 2) := dk_22 4 (dk_at dksX1_odds_3 7 rfl rfl)
theorem dX1_odds_78 : decode cX1_odds 78 = .ok (.aload_n 0, 1) := dk_42 (dk_at dksX1_odds_3 9 rfl rfl)
theorem dX1_odds_79 : decode cX1_odds 79 = .ok (.invokevirtual 337, 3) := dk_182 1 81 (dk_at dksX1_odds_3 10 rfl rfl)
theorem dX1_odds_82 : decode cX1_odds 82 = .ok (.iload_n 3, 1) := dk_29 (dk_at dksX1_odds_3 13 rfl rfl)
theorem dX1_odds_83 : decode cX1_odds 83 = .ok (.invokevirtual 341, 3) := dk_182 1 85 (dk_at dksX1_odds_3 14 rfl rfl)
theorem dX1_odds_86 : decode cX1_odds 86 = .ok (.lreturn, 1) := dk_173 (dk_at dksX1_odds_3 17 rfl rfl)
abbrev cX1_part : ByteArray := prog_1_method_73_code
def yX1_part : MethodName := ⟨RX1, "part", "(I)J"⟩
def dkwX1_part_2 : List UInt8 := [132, 4, 1, 167, 255, 210, 32, 173]
abbrev dktX1_part_2 : List UInt8 := dkwX1_part_2 ++ []
def dkwX1_part_1 : List UInt8 := [42, 180, 0, 82, 180, 1, 74, 133, 167, 0, 14, 16, 100, 42, 180, 0, 82, 180, 1, 74, 100, 133, 105, 65]
abbrev dktX1_part_1 : List UInt8 := dkwX1_part_1 ++ dktX1_part_2
def dkwX1_part_0 : List UInt8 := [10, 65, 3, 54, 4, 21, 4, 42, 182, 0, 129, 162, 0, 43, 32, 27, 21, 4, 184, 0, 170, 153, 0, 14]
abbrev dktX1_part_0 : List UInt8 := dkwX1_part_0 ++ dktX1_part_1
theorem dksX1_part_0 : cX1_part.data.toList.drop 0 = dktX1_part_0 := by decide +kernel
theorem dksX1_part_1 : cX1_part.data.toList.drop 24 = dktX1_part_1 := dk_seg dksX1_part_0 24 rfl rfl
theorem dksX1_part_2 : cX1_part.data.toList.drop 48 = dktX1_part_2 := dk_seg dksX1_part_1 24 rfl rfl
theorem dX1_part_0 : decode cX1_part 0 = .ok (.lconst 1, 1) := dk_10 (dk_at dksX1_part_0 0 rfl rfl)
theorem dX1_part_1 : decode cX1_part 1 = .ok (.lstore_n 2, 1) := dk_65 (dk_at dksX1_part_0 1 rfl rfl)
theorem dX1_part_2 : decode cX1_part 2 = .ok (.iconst 0, 1) := dk_3 (dk_at dksX1_part_0 2 rfl rfl)
theorem dX1_part_3 : decode cX1_part 3 = .ok (.istore 4, 2) := dk_54 4 (dk_at dksX1_part_0 3 rfl rfl)
theorem dX1_part_5 : decode cX1_part 5 = .ok (.iload 4, 2) := dk_21 4 (dk_at dksX1_part_0 5 rfl rfl)
theorem dX1_part_7 : decode cX1_part 7 = .ok (.aload_n 0, 1) := dk_42 (dk_at dksX1_part_0 7 rfl rfl)
theorem dX1_part_8 : decode cX1_part 8 = .ok (.invokevirtual 129, 3) := dk_182 0 129 (dk_at dksX1_part_0 8 rfl rfl)
theorem dX1_part_11 : decode cX1_part 11 = .ok (.if_icmp .ge 43, 3) := dk_162 0 43 (dk_at dksX1_part_0 11 rfl rfl)
theorem dX1_part_14 : decode cX1_part 14 = .ok (.lload_n 2, 1) := dk_32 (dk_at dksX1_part_0 14 rfl rfl)
theorem dX1_part_15 : decode cX1_part 15 = .ok (.iload_n 1, 1) := dk_27 (dk_at dksX1_part_0 15 rfl rfl)
theorem dX1_part_16 : decode cX1_part 16 = .ok (.iload 4, 2) := dk_21 4 (dk_at dksX1_part_0 16 rfl rfl)
theorem dX1_part_18 : decode cX1_part 18 = .ok (.invokestatic 170, 3) := dk_184 0 170 (dk_at dksX1_part_0 18 rfl rfl)
theorem dX1_part_21 : decode cX1_part 21 = .ok (.ifCond .eq 14, 3) := dk_153 0 14 (dk_at dksX1_part_0 21 rfl rfl)
theorem dX1_part_24 : decode cX1_part 24 = .ok (.aload_n 0, 1) := dk_42 (dk_at dksX1_part_1 0 rfl rfl)
theorem dX1_part_25 : decode cX1_part 25 = .ok (.getfield 82, 3) := dk_180 0 82 (dk_at dksX1_part_1 1 rfl rfl)
theorem dX1_part_28 : decode cX1_part 28 = .ok (.getfield 330, 3) := dk_180 1 74 (dk_at dksX1_part_1 4 rfl rfl)
theorem dX1_part_31 : decode cX1_part 31 = .ok (.i2l, 1) := dk_133 (dk_at dksX1_part_1 7 rfl rfl)
theorem dX1_part_32 : decode cX1_part 32 = .ok (.goto 14, 3) := dk_167 0 14 (dk_at dksX1_part_1 8 rfl rfl)
theorem dX1_part_35 : decode cX1_part 35 = .ok (.bipush 100, 2) := dk_16 100 (dk_at dksX1_part_1 11 rfl rfl)
theorem dX1_part_37 : decode cX1_part 37 = .ok (.aload_n 0, 1) := dk_42 (dk_at dksX1_part_1 13 rfl rfl)
theorem dX1_part_38 : decode cX1_part 38 = .ok (.getfield 82, 3) := dk_180 0 82 (dk_at dksX1_part_1 14 rfl rfl)
theorem dX1_part_41 : decode cX1_part 41 = .ok (.getfield 330, 3) := dk_180 1 74 (dk_at dksX1_part_1 17 rfl rfl)
theorem dX1_part_44 : decode cX1_part 44 = .ok (.isub, 1) := dk_100 (dk_at dksX1_part_1 20 rfl rfl)
theorem dX1_part_45 : decode cX1_part 45 = .ok (.i2l, 1) := dk_133 (dk_at dksX1_part_1 21 rfl rfl)
theorem dX1_part_46 : decode cX1_part 46 = .ok (.lmul, 1) := dk_105 (dk_at dksX1_part_1 22 rfl rfl)
theorem dX1_part_47 : decode cX1_part 47 = .ok (.lstore_n 2, 1) := dk_65 (dk_at dksX1_part_1 23 rfl rfl)
theorem dX1_part_48 : decode cX1_part 48 = .ok (.iinc 4 1, 3) := dk_132 4 1 (dk_at dksX1_part_2 0 rfl rfl)
theorem dX1_part_51 : decode cX1_part 51 = .ok (.goto (-46), 3) := dk_167 255 210 (dk_at dksX1_part_2 3 rfl rfl)
theorem dX1_part_54 : decode cX1_part 54 = .ok (.lload_n 2, 1) := dk_32 (dk_at dksX1_part_2 6 rfl rfl)
theorem dX1_part_55 : decode cX1_part 55 = .ok (.lreturn, 1) := dk_173 (dk_at dksX1_part_2 7 rfl rfl)
abbrev cX1_whole : ByteArray := prog_1_method_72_code
def yX1_whole : MethodName := ⟨RX1, "whole", "()J"⟩
def dkwX1_whole_1 : List UInt8 := [31, 173]
abbrev dktX1_whole_1 : List UInt8 := dkwX1_whole_1 ++ []
def dkwX1_whole_0 : List UInt8 := [10, 64, 3, 62, 29, 42, 182, 0, 129, 162, 0, 15, 31, 20, 1, 72, 105, 64, 132, 3, 1, 167, 255, 239]
abbrev dktX1_whole_0 : List UInt8 := dkwX1_whole_0 ++ dktX1_whole_1
theorem dksX1_whole_0 : cX1_whole.data.toList.drop 0 = dktX1_whole_0 := by decide +kernel
theorem dksX1_whole_1 : cX1_whole.data.toList.drop 24 = dktX1_whole_1 := dk_seg dksX1_whole_0 24 rfl rfl
theorem dX1_whole_0 : decode cX1_whole 0 = .ok (.lconst 1, 1) := dk_10 (dk_at dksX1_whole_0 0 rfl rfl)
theorem dX1_whole_1 : decode cX1_whole 1 = .ok (.lstore_n 1, 1) := dk_64 (dk_at dksX1_whole_0 1 rfl rfl)
theorem dX1_whole_2 : decode cX1_whole 2 = .ok (.iconst 0, 1) := dk_3 (dk_at dksX1_whole_0 2 rfl rfl)
theorem dX1_whole_3 : decode cX1_whole 3 = .ok (.istore_n 3, 1) := dk_62 (dk_at dksX1_whole_0 3 rfl rfl)
theorem dX1_whole_4 : decode cX1_whole 4 = .ok (.iload_n 3, 1) := dk_29 (dk_at dksX1_whole_0 4 rfl rfl)
theorem dX1_whole_5 : decode cX1_whole 5 = .ok (.aload_n 0, 1) := dk_42 (dk_at dksX1_whole_0 5 rfl rfl)
theorem dX1_whole_6 : decode cX1_whole 6 = .ok (.invokevirtual 129, 3) := dk_182 0 129 (dk_at dksX1_whole_0 6 rfl rfl)
theorem dX1_whole_9 : decode cX1_whole 9 = .ok (.if_icmp .ge 15, 3) := dk_162 0 15 (dk_at dksX1_whole_0 9 rfl rfl)
theorem dX1_whole_12 : decode cX1_whole 12 = .ok (.lload_n 1, 1) := dk_31 (dk_at dksX1_whole_0 12 rfl rfl)
theorem dX1_whole_13 : decode cX1_whole 13 = .ok (.ldc2_w 328, 3) := dk_20 1 72 (dk_at dksX1_whole_0 13 rfl rfl)
theorem dX1_whole_16 : decode cX1_whole 16 = .ok (.lmul, 1) := dk_105 (dk_at dksX1_whole_0 16 rfl rfl)
theorem dX1_whole_17 : decode cX1_whole 17 = .ok (.lstore_n 1, 1) := dk_64 (dk_at dksX1_whole_0 17 rfl rfl)
theorem dX1_whole_18 : decode cX1_whole 18 = .ok (.iinc 3 1, 3) := dk_132 3 1 (dk_at dksX1_whole_0 18 rfl rfl)
theorem dX1_whole_21 : decode cX1_whole 21 = .ok (.goto (-17), 3) := dk_167 255 239 (dk_at dksX1_whole_0 21 rfl rfl)
theorem dX1_whole_24 : decode cX1_whole 24 = .ok (.lload_n 1, 1) := dk_31 (dk_at dksX1_whole_1 0 rfl rfl)
theorem dX1_whole_25 : decode cX1_whole 25 = .ok (.lreturn, 1) := dk_173 (dk_at dksX1_whole_1 1 rfl rfl)
abbrev cX1_fraction : ByteArray := prog_1_method_12_code
def yX1_fraction : MethodName := ⟨RX1, "fraction", "(JJZ)J"⟩
def dkwX1_fraction_0 : List UInt8 := [42, 3, 182, 0, 47, 87, 21, 5, 153, 0, 7, 33, 167, 0, 4, 31, 31, 33, 184, 0, 50, 109, 173]
abbrev dktX1_fraction_0 : List UInt8 := dkwX1_fraction_0 ++ []
theorem dksX1_fraction_0 : cX1_fraction.data.toList.drop 0 = dktX1_fraction_0 := by decide +kernel
theorem dX1_fraction_0 : decode cX1_fraction 0 = .ok (.aload_n 0, 1) := dk_42 (dk_at dksX1_fraction_0 0 rfl rfl)
theorem dX1_fraction_1 : decode cX1_fraction 1 = .ok (.iconst 0, 1) := dk_3 (dk_at dksX1_fraction_0 1 rfl rfl)
theorem dX1_fraction_2 : decode cX1_fraction 2 = .ok (.invokevirtual 47, 3) := dk_182 0 47 (dk_at dksX1_fraction_0 2 rfl rfl)
theorem dX1_fraction_5 : decode cX1_fraction 5 = .ok (.pop, 1) := dk_87 (dk_at dksX1_fraction_0 5 rfl rfl)
theorem dX1_fraction_6 : decode cX1_fraction 6 = .ok (.iload 5, 2) := dk_21 5 (dk_at dksX1_fraction_0 6 rfl rfl)
theorem dX1_fraction_8 : decode cX1_fraction 8 = .ok (.ifCond .eq 7, 3) := dk_153 0 7 (dk_at dksX1_fraction_0 8 rfl rfl)
theorem dX1_fraction_11 : decode cX1_fraction 11 = .ok (.lload_n 3, 1) := dk_33 (dk_at dksX1_fraction_0 11 rfl rfl)
theorem dX1_fraction_12 : decode cX1_fraction 12 = .ok (.goto 4, 3) := dk_167 0 4 (dk_at dksX1_fraction_0 12 rfl rfl)
theorem dX1_fraction_15 : decode cX1_fraction 15 = .ok (.lload_n 1, 1) := dk_31 (dk_at dksX1_fraction_0 15 rfl rfl)
theorem dX1_fraction_16 : decode cX1_fraction 16 = .ok (.lload_n 1, 1) := dk_31 (dk_at dksX1_fraction_0 16 rfl rfl)
theorem dX1_fraction_17 : decode cX1_fraction 17 = .ok (.lload_n 3, 1) := dk_33 (dk_at dksX1_fraction_0 17 rfl rfl)
theorem dX1_fraction_18 : decode cX1_fraction 18 = .ok (.invokestatic 50, 3) := dk_184 0 50 (dk_at dksX1_fraction_0 18 rfl rfl)
theorem dX1_fraction_21 : decode cX1_fraction 21 = .ok (.ldiv, 1) := dk_109 (dk_at dksX1_fraction_0 21 rfl rfl)
theorem dX1_fraction_22 : decode cX1_fraction 22 = .ok (.lreturn, 1) := dk_173 (dk_at dksX1_fraction_0 22 rfl rfl)
abbrev cX1_common : ByteArray := prog_1_method_5_code
def yX1_common : MethodName := ⟨RX1, "common", "(JJ)J"⟩
def dkwX1_common_1 : List UInt8 := [22, 8, 55, 6, 167, 255, 234, 22, 4, 173]
abbrev dktX1_common_1 : List UInt8 := dkwX1_common_1 ++ []
def dkwX1_common_0 : List UInt8 := [30, 55, 4, 32, 55, 6, 22, 6, 9, 148, 153, 0, 21, 22, 4, 22, 6, 113, 55, 8, 22, 6, 55, 4]
abbrev dktX1_common_0 : List UInt8 := dkwX1_common_0 ++ dktX1_common_1
theorem dksX1_common_0 : cX1_common.data.toList.drop 0 = dktX1_common_0 := by decide +kernel
theorem dksX1_common_1 : cX1_common.data.toList.drop 24 = dktX1_common_1 := dk_seg dksX1_common_0 24 rfl rfl
theorem dX1_common_0 : decode cX1_common 0 = .ok (.lload_n 0, 1) := dk_30 (dk_at dksX1_common_0 0 rfl rfl)
theorem dX1_common_1 : decode cX1_common 1 = .ok (.lstore 4, 2) := dk_55 4 (dk_at dksX1_common_0 1 rfl rfl)
theorem dX1_common_3 : decode cX1_common 3 = .ok (.lload_n 2, 1) := dk_32 (dk_at dksX1_common_0 3 rfl rfl)
theorem dX1_common_4 : decode cX1_common 4 = .ok (.lstore 6, 2) := dk_55 6 (dk_at dksX1_common_0 4 rfl rfl)
theorem dX1_common_6 : decode cX1_common 6 = .ok (.lload 6, 2) := dk_22 6 (dk_at dksX1_common_0 6 rfl rfl)
theorem dX1_common_8 : decode cX1_common 8 = .ok (.lconst 0, 1) := dk_9 (dk_at dksX1_common_0 8 rfl rfl)
theorem dX1_common_9 : decode cX1_common 9 = .ok (.lcmp, 1) := dk_148 (dk_at dksX1_common_0 9 rfl rfl)
theorem dX1_common_10 : decode cX1_common 10 = .ok (.ifCond .eq 21, 3) := dk_153 0 21 (dk_at dksX1_common_0 10 rfl rfl)
theorem dX1_common_13 : decode cX1_common 13 = .ok (.lload 4, 2) := dk_22 4 (dk_at dksX1_common_0 13 rfl rfl)
theorem dX1_common_15 : decode cX1_common 15 = .ok (.lload 6, 2) := dk_22 6 (dk_at dksX1_common_0 15 rfl rfl)
theorem dX1_common_17 : decode cX1_common 17 = .ok (.lrem, 1) := dk_113 (dk_at dksX1_common_0 17 rfl rfl)
theorem dX1_common_18 : decode cX1_common 18 = .ok (.lstore 8, 2) := dk_55 8 (dk_at dksX1_common_0 18 rfl rfl)
theorem dX1_common_20 : decode cX1_common 20 = .ok (.lload 6, 2) := dk_22 6 (dk_at dksX1_common_0 20 rfl rfl)
theorem dX1_common_22 : decode cX1_common 22 = .ok (.lstore 4, 2) := dk_55 4 (dk_at dksX1_common_0 22 rfl rfl)
theorem dX1_common_24 : decode cX1_common 24 = .ok (.lload 8, 2) := dk_22 8 (dk_at dksX1_common_1 0 rfl rfl)
theorem dX1_common_26 : decode cX1_common 26 = .ok (.lstore 6, 2) := dk_55 6 (dk_at dksX1_common_1 2 rfl rfl)
theorem dX1_common_28 : decode cX1_common 28 = .ok (.goto (-22), 3) := dk_167 255 234 (dk_at dksX1_common_1 4 rfl rfl)
theorem dX1_common_31 : decode cX1_common 31 = .ok (.lload 4, 2) := dk_22 4 (dk_at dksX1_common_1 7 rfl rfl)
theorem dX1_common_33 : decode cX1_common 33 = .ok (.lreturn, 1) := dk_173 (dk_at dksX1_common_1 9 rfl rfl)
abbrev cX1_mean : ByteArray := prog_1_method_75_code
def yX1_mean : MethodName := ⟨RX1, "mean", "(IZ)J"⟩
def dkwX1_mean_2 : List UInt8 := [133, 105, 97, 66, 132, 5, 1, 167, 255, 221, 42, 33, 42, 182, 1, 81, 28, 182, 1, 85, 173]
abbrev dktX1_mean_2 : List UInt8 := dkwX1_mean_2 ++ []
def dkwX1_mean_1 : List UInt8 := [182, 0, 129, 120, 162, 0, 30, 33, 42, 21, 5, 182, 1, 77, 42, 180, 0, 91, 27, 21, 5, 182, 0, 209]
abbrev dktX1_mean_1 : List UInt8 := dkwX1_mean_1 ++ dktX1_mean_2
def dkwX1_mean_0 : List UInt8 := [42, 27, 182, 0, 131, 154, 0, 10, 42, 4, 182, 0, 43, 133, 173, 9, 66, 3, 54, 5, 21, 5, 4, 42]
abbrev dktX1_mean_0 : List UInt8 := dkwX1_mean_0 ++ dktX1_mean_1
theorem dksX1_mean_0 : cX1_mean.data.toList.drop 0 = dktX1_mean_0 := by decide +kernel
theorem dksX1_mean_1 : cX1_mean.data.toList.drop 24 = dktX1_mean_1 := dk_seg dksX1_mean_0 24 rfl rfl
theorem dksX1_mean_2 : cX1_mean.data.toList.drop 48 = dktX1_mean_2 := dk_seg dksX1_mean_1 24 rfl rfl
theorem dX1_mean_0 : decode cX1_mean 0 = .ok (.aload_n 0, 1) := dk_42 (dk_at dksX1_mean_0 0 rfl rfl)
theorem dX1_mean_1 : decode cX1_mean 1 = .ok (.iload_n 1, 1) := dk_27 (dk_at dksX1_mean_0 1 rfl rfl)
theorem dX1_mean_2 : decode cX1_mean 2 = .ok (.invokevirtual 131, 3) := dk_182 0 131 (dk_at dksX1_mean_0 2 rfl rfl)
theorem dX1_mean_5 : decode cX1_mean 5 = .ok (.ifCond .ne 10, 3) := dk_154 0 10 (dk_at dksX1_mean_0 5 rfl rfl)
theorem dX1_mean_8 : decode cX1_mean 8 = .ok (.aload_n 0, 1) := dk_42 (dk_at dksX1_mean_0 8 rfl rfl)
theorem dX1_mean_9 : decode cX1_mean 9 = .ok (.iconst 1, 1) := dk_4 (dk_at dksX1_mean_0 9 rfl rfl)
theorem dX1_mean_10 : decode cX1_mean 10 = .ok (.invokevirtual 43, 3) := dk_182 0 43 (dk_at dksX1_mean_0 10 rfl rfl)
theorem dX1_mean_13 : decode cX1_mean 13 = .ok (.i2l, 1) := dk_133 (dk_at dksX1_mean_0 13 rfl rfl)
theorem dX1_mean_14 : decode cX1_mean 14 = .ok (.lreturn, 1) := dk_173 (dk_at dksX1_mean_0 14 rfl rfl)
theorem dX1_mean_15 : decode cX1_mean 15 = .ok (.lconst 0, 1) := dk_9 (dk_at dksX1_mean_0 15 rfl rfl)
theorem dX1_mean_16 : decode cX1_mean 16 = .ok (.lstore_n 3, 1) := dk_66 (dk_at dksX1_mean_0 16 rfl rfl)
theorem dX1_mean_17 : decode cX1_mean 17 = .ok (.iconst 0, 1) := dk_3 (dk_at dksX1_mean_0 17 rfl rfl)
theorem dX1_mean_18 : decode cX1_mean 18 = .ok (.istore 5, 2) := dk_54 5 (dk_at dksX1_mean_0 18 rfl rfl)
theorem dX1_mean_20 : decode cX1_mean 20 = .ok (.iload 5, 2) := dk_21 5 (dk_at dksX1_mean_0 20 rfl rfl)
theorem dX1_mean_22 : decode cX1_mean 22 = .ok (.iconst 1, 1) := dk_4 (dk_at dksX1_mean_0 22 rfl rfl)
theorem dX1_mean_23 : decode cX1_mean 23 = .ok (.aload_n 0, 1) := dk_42 (dk_at dksX1_mean_0 23 rfl rfl)
theorem dX1_mean_24 : decode cX1_mean 24 = .ok (.invokevirtual 129, 3) := dk_182 0 129 (dk_at dksX1_mean_1 0 rfl rfl)
theorem dX1_mean_27 : decode cX1_mean 27 = .ok (.ishl, 1) := dk_120 (dk_at dksX1_mean_1 3 rfl rfl)
theorem dX1_mean_28 : decode cX1_mean 28 = .ok (.if_icmp .ge 30, 3) := dk_162 0 30 (dk_at dksX1_mean_1 4 rfl rfl)
theorem dX1_mean_31 : decode cX1_mean 31 = .ok (.lload_n 3, 1) := dk_33 (dk_at dksX1_mean_1 7 rfl rfl)
theorem dX1_mean_32 : decode cX1_mean 32 = .ok (.aload_n 0, 1) := dk_42 (dk_at dksX1_mean_1 8 rfl rfl)
theorem dX1_mean_33 : decode cX1_mean 33 = .ok (.iload 5, 2) := dk_21 5 (dk_at dksX1_mean_1 9 rfl rfl)
theorem dX1_mean_35 : decode cX1_mean 35 = .ok (.invokevirtual 333, 3) := dk_182 1 77 (dk_at dksX1_mean_1 11 rfl rfl)
theorem dX1_mean_38 : decode cX1_mean 38 = .ok (.aload_n 0, 1) := dk_42 (dk_at dksX1_mean_1 14 rfl rfl)
theorem dX1_mean_39 : decode cX1_mean 39 = .ok (.getfield 91, 3) := dk_180 0 91 (dk_at dksX1_mean_1 15 rfl rfl)
theorem dX1_mean_42 : decode cX1_mean 42 = .ok (.iload_n 1, 1) := dk_27 (dk_at dksX1_mean_1 18 rfl rfl)
theorem dX1_mean_43 : decode cX1_mean 43 = .ok (.iload 5, 2) := dk_21 5 (dk_at dksX1_mean_1 19 rfl rfl)
theorem dX1_mean_45 : decode cX1_mean 45 = .ok (.invokevirtual 209, 3) := dk_182 0 209 (dk_at dksX1_mean_1 21 rfl rfl)
theorem dX1_mean_48 : decode cX1_mean 48 = .ok (.i2l, 1) := dk_133 (dk_at dksX1_mean_2 0 rfl rfl)
theorem dX1_mean_49 : decode cX1_mean 49 = .ok (.lmul, 1) := dk_105 (dk_at dksX1_mean_2 1 rfl rfl)
theorem dX1_mean_50 : decode cX1_mean 50 = .ok (.ladd, 1) := dk_97 (dk_at dksX1_mean_2 2 rfl rfl)
theorem dX1_mean_51 : decode cX1_mean 51 = .ok (.lstore_n 3, 1) := dk_66 (dk_at dksX1_mean_2 3 rfl rfl)
theorem dX1_mean_52 : decode cX1_mean 52 = .ok (.iinc 5 1, 3) := dk_132 5 1 (dk_at dksX1_mean_2 4 rfl rfl)
theorem dX1_mean_55 : decode cX1_mean 55 = .ok (.goto (-35), 3) := dk_167 255 221 (dk_at dksX1_mean_2 7 rfl rfl)
theorem dX1_mean_58 : decode cX1_mean 58 = .ok (.aload_n 0, 1) := dk_42 (dk_at dksX1_mean_2 10 rfl rfl)
theorem dX1_mean_59 : decode cX1_mean 59 = .ok (.lload_n 3, 1) := dk_33 (dk_at dksX1_mean_2 11 rfl rfl)
theorem dX1_mean_60 : decode cX1_mean 60 = .ok (.aload_n 0, 1) := dk_42 (dk_at dksX1_mean_2 12 rfl rfl)
theorem dX1_mean_61 : decode cX1_mean 61 = .ok (.invokevirtual 337, 3) := dk_182 1 81 (dk_at dksX1_mean_2 13 rfl rfl)
theorem dX1_mean_64 : decode cX1_mean 64 = .ok (.iload_n 2, 1) := dk_28 (dk_at dksX1_mean_2 16 rfl rfl)
theorem dX1_mean_65 : decode cX1_mean 65 = .ok (.invokevirtual 341, 3) := dk_182 1 85 (dk_at dksX1_mean_2 17 rfl rfl)
theorem dX1_mean_68 : decode cX1_mean 68 = .ok (.lreturn, 1) := dk_173 (dk_at dksX1_mean_2 20 rfl rfl)
abbrev cX1_hopes : ByteArray := prog_1_method_76_code
def yX1_hopes : MethodName := ⟨RX1, "hopes", "(IZ)J"⟩
def dkwX1_hopes_2 : List UInt8 := [133, 105, 97, 66, 132, 5, 1, 167, 255, 221, 42, 33, 42, 182, 1, 81, 28, 182, 1, 85, 173]
abbrev dktX1_hopes_2 : List UInt8 := dkwX1_hopes_2 ++ []
def dkwX1_hopes_1 : List UInt8 := [182, 0, 129, 120, 162, 0, 30, 33, 42, 21, 5, 182, 1, 77, 42, 180, 0, 91, 27, 21, 5, 182, 0, 221]
abbrev dktX1_hopes_1 : List UInt8 := dkwX1_hopes_1 ++ dktX1_hopes_2
def dkwX1_hopes_0 : List UInt8 := [42, 27, 182, 0, 131, 154, 0, 10, 42, 4, 182, 0, 43, 133, 173, 9, 66, 3, 54, 5, 21, 5, 4, 42]
abbrev dktX1_hopes_0 : List UInt8 := dkwX1_hopes_0 ++ dktX1_hopes_1
theorem dksX1_hopes_0 : cX1_hopes.data.toList.drop 0 = dktX1_hopes_0 := by decide +kernel
theorem dksX1_hopes_1 : cX1_hopes.data.toList.drop 24 = dktX1_hopes_1 := dk_seg dksX1_hopes_0 24 rfl rfl
theorem dksX1_hopes_2 : cX1_hopes.data.toList.drop 48 = dktX1_hopes_2 := dk_seg dksX1_hopes_1 24 rfl rfl
theorem dX1_hopes_0 : decode cX1_hopes 0 = .ok (.aload_n 0, 1) := dk_42 (dk_at dksX1_hopes_0 0 rfl rfl)
theorem dX1_hopes_1 : decode cX1_hopes 1 = .ok (.iload_n 1, 1) := dk_27 (dk_at dksX1_hopes_0 1 rfl rfl)
theorem dX1_hopes_2 : decode cX1_hopes 2 = .ok (.invokevirtual 131, 3) := dk_182 0 131 (dk_at dksX1_hopes_0 2 rfl rfl)
theorem dX1_hopes_5 : decode cX1_hopes 5 = .ok (.ifCond .ne 10, 3) := dk_154 0 10 (dk_at dksX1_hopes_0 5 rfl rfl)
theorem dX1_hopes_8 : decode cX1_hopes 8 = .ok (.aload_n 0, 1) := dk_42 (dk_at dksX1_hopes_0 8 rfl rfl)
theorem dX1_hopes_9 : decode cX1_hopes 9 = .ok (.iconst 1, 1) := dk_4 (dk_at dksX1_hopes_0 9 rfl rfl)
theorem dX1_hopes_10 : decode cX1_hopes 10 = .ok (.invokevirtual 43, 3) := dk_182 0 43 (dk_at dksX1_hopes_0 10 rfl rfl)
theorem dX1_hopes_13 : decode cX1_hopes 13 = .ok (.i2l, 1) := dk_133 (dk_at dksX1_hopes_0 13 rfl rfl)
theorem dX1_hopes_14 : decode cX1_hopes 14 = .ok (.lreturn, 1) := dk_173 (dk_at dksX1_hopes_0 14 rfl rfl)
theorem dX1_hopes_15 : decode cX1_hopes 15 = .ok (.lconst 0, 1) := dk_9 (dk_at dksX1_hopes_0 15 rfl rfl)
theorem dX1_hopes_16 : decode cX1_hopes 16 = .ok (.lstore_n 3, 1) := dk_66 (dk_at dksX1_hopes_0 16 rfl rfl)
theorem dX1_hopes_17 : decode cX1_hopes 17 = .ok (.iconst 0, 1) := dk_3 (dk_at dksX1_hopes_0 17 rfl rfl)
theorem dX1_hopes_18 : decode cX1_hopes 18 = .ok (.istore 5, 2) := dk_54 5 (dk_at dksX1_hopes_0 18 rfl rfl)
theorem dX1_hopes_20 : decode cX1_hopes 20 = .ok (.iload 5, 2) := dk_21 5 (dk_at dksX1_hopes_0 20 rfl rfl)
theorem dX1_hopes_22 : decode cX1_hopes 22 = .ok (.iconst 1, 1) := dk_4 (dk_at dksX1_hopes_0 22 rfl rfl)
theorem dX1_hopes_23 : decode cX1_hopes 23 = .ok (.aload_n 0, 1) := dk_42 (dk_at dksX1_hopes_0 23 rfl rfl)
theorem dX1_hopes_24 : decode cX1_hopes 24 = .ok (.invokevirtual 129, 3) := dk_182 0 129 (dk_at dksX1_hopes_1 0 rfl rfl)
theorem dX1_hopes_27 : decode cX1_hopes 27 = .ok (.ishl, 1) := dk_120 (dk_at dksX1_hopes_1 3 rfl rfl)
theorem dX1_hopes_28 : decode cX1_hopes 28 = .ok (.if_icmp .ge 30, 3) := dk_162 0 30 (dk_at dksX1_hopes_1 4 rfl rfl)
theorem dX1_hopes_31 : decode cX1_hopes 31 = .ok (.lload_n 3, 1) := dk_33 (dk_at dksX1_hopes_1 7 rfl rfl)
theorem dX1_hopes_32 : decode cX1_hopes 32 = .ok (.aload_n 0, 1) := dk_42 (dk_at dksX1_hopes_1 8 rfl rfl)
theorem dX1_hopes_33 : decode cX1_hopes 33 = .ok (.iload 5, 2) := dk_21 5 (dk_at dksX1_hopes_1 9 rfl rfl)
theorem dX1_hopes_35 : decode cX1_hopes 35 = .ok (.invokevirtual 333, 3) := dk_182 1 77 (dk_at dksX1_hopes_1 11 rfl rfl)
theorem dX1_hopes_38 : decode cX1_hopes 38 = .ok (.aload_n 0, 1) := dk_42 (dk_at dksX1_hopes_1 14 rfl rfl)
theorem dX1_hopes_39 : decode cX1_hopes 39 = .ok (.getfield 91, 3) := dk_180 0 91 (dk_at dksX1_hopes_1 15 rfl rfl)
theorem dX1_hopes_42 : decode cX1_hopes 42 = .ok (.iload_n 1, 1) := dk_27 (dk_at dksX1_hopes_1 18 rfl rfl)
theorem dX1_hopes_43 : decode cX1_hopes 43 = .ok (.iload 5, 2) := dk_21 5 (dk_at dksX1_hopes_1 19 rfl rfl)
theorem dX1_hopes_45 : decode cX1_hopes 45 = .ok (.invokevirtual 221, 3) := dk_182 0 221 (dk_at dksX1_hopes_1 21 rfl rfl)
theorem dX1_hopes_48 : decode cX1_hopes 48 = .ok (.i2l, 1) := dk_133 (dk_at dksX1_hopes_2 0 rfl rfl)
theorem dX1_hopes_49 : decode cX1_hopes 49 = .ok (.lmul, 1) := dk_105 (dk_at dksX1_hopes_2 1 rfl rfl)
theorem dX1_hopes_50 : decode cX1_hopes 50 = .ok (.ladd, 1) := dk_97 (dk_at dksX1_hopes_2 2 rfl rfl)
theorem dX1_hopes_51 : decode cX1_hopes 51 = .ok (.lstore_n 3, 1) := dk_66 (dk_at dksX1_hopes_2 3 rfl rfl)
theorem dX1_hopes_52 : decode cX1_hopes 52 = .ok (.iinc 5 1, 3) := dk_132 5 1 (dk_at dksX1_hopes_2 4 rfl rfl)
theorem dX1_hopes_55 : decode cX1_hopes 55 = .ok (.goto (-35), 3) := dk_167 255 221 (dk_at dksX1_hopes_2 7 rfl rfl)
theorem dX1_hopes_58 : decode cX1_hopes 58 = .ok (.aload_n 0, 1) := dk_42 (dk_at dksX1_hopes_2 10 rfl rfl)
theorem dX1_hopes_59 : decode cX1_hopes 59 = .ok (.lload_n 3, 1) := dk_33 (dk_at dksX1_hopes_2 11 rfl rfl)
theorem dX1_hopes_60 : decode cX1_hopes 60 = .ok (.aload_n 0, 1) := dk_42 (dk_at dksX1_hopes_2 12 rfl rfl)
theorem dX1_hopes_61 : decode cX1_hopes 61 = .ok (.invokevirtual 337, 3) := dk_182 1 81 (dk_at dksX1_hopes_2 13 rfl rfl)
theorem dX1_hopes_64 : decode cX1_hopes 64 = .ok (.iload_n 2, 1) := dk_28 (dk_at dksX1_hopes_2 16 rfl rfl)
theorem dX1_hopes_65 : decode cX1_hopes 65 = .ok (.invokevirtual 341, 3) := dk_182 1 85 (dk_at dksX1_hopes_2 17 rfl rfl)
theorem dX1_hopes_68 : decode cX1_hopes 68 = .ok (.lreturn, 1) := dk_173 (dk_at dksX1_hopes_2 20 rfl rfl)
abbrev cX1_wins : ByteArray := prog_1_method_79_code
def yX1_wins : MethodName := ⟨RX1, "wins", "(III)I"⟩
def dkwX1_wins_3 : List UInt8 := [132, 6, 1, 167, 255, 222, 42, 21, 5, 182, 0, 47, 172]
abbrev dktX1_wins_3 : List UInt8 := dkwX1_wins_3 ++ []
def dkwX1_wins_2 : List UInt8 := [180, 0, 91, 27, 42, 182, 1, 99, 182, 0, 215, 154, 0, 7, 4, 167, 0, 4, 3, 96, 54, 5]
abbrev dktX1_wins_2 : List UInt8 := dkwX1_wins_2 ++ dktX1_wins_3
def dkwX1_wins_1 : List UInt8 := [182, 0, 43, 172, 42, 28, 181, 1, 89, 3, 54, 5, 3, 54, 6, 21, 6, 29, 162, 0, 34, 21, 5, 42]
abbrev dktX1_wins_1 : List UInt8 := dkwX1_wins_1 ++ dktX1_wins_2
def dkwX1_wins_0 : List UInt8 := [42, 42, 27, 182, 0, 131, 28, 29, 3, 182, 1, 96, 54, 4, 21, 4, 158, 0, 10, 42, 21, 4]
abbrev dktX1_wins_0 : List UInt8 := dkwX1_wins_0 ++ dktX1_wins_1
theorem dksX1_wins_0 : cX1_wins.data.toList.drop 0 = dktX1_wins_0 := by decide +kernel
theorem dksX1_wins_1 : cX1_wins.data.toList.drop 22 = dktX1_wins_1 := dk_seg dksX1_wins_0 22 rfl rfl
theorem dksX1_wins_2 : cX1_wins.data.toList.drop 46 = dktX1_wins_2 := dk_seg dksX1_wins_1 24 rfl rfl
theorem dksX1_wins_3 : cX1_wins.data.toList.drop 68 = dktX1_wins_3 := dk_seg dksX1_wins_2 22 rfl rfl
theorem dX1_wins_0 : decode cX1_wins 0 = .ok (.aload_n 0, 1) := dk_42 (dk_at dksX1_wins_0 0 rfl rfl)
theorem dX1_wins_1 : decode cX1_wins 1 = .ok (.aload_n 0, 1) := dk_42 (dk_at dksX1_wins_0 1 rfl rfl)
theorem dX1_wins_2 : decode cX1_wins 2 = .ok (.iload_n 1, 1) := dk_27 (dk_at dksX1_wins_0 2 rfl rfl)
theorem dX1_wins_3 : decode cX1_wins 3 = .ok (.invokevirtual 131, 3) := dk_182 0 131 (dk_at dksX1_wins_0 3 rfl rfl)
theorem dX1_wins_6 : decode cX1_wins 6 = .ok (.iload_n 2, 1) := dk_28 (dk_at dksX1_wins_0 6 rfl rfl)
theorem dX1_wins_7 : decode cX1_wins 7 = .ok (.iload_n 3, 1) := dk_29 (dk_at dksX1_wins_0 7 rfl rfl)
theorem dX1_wins_8 : decode cX1_wins 8 = .ok (.iconst 0, 1) := dk_3 (dk_at dksX1_wins_0 8 rfl rfl)
theorem dX1_wins_9 : decode cX1_wins 9 = .ok (.invokevirtual 352, 3) := dk_182 1 96 (dk_at dksX1_wins_0 9 rfl rfl)
theorem dX1_wins_12 : decode cX1_wins 12 = .ok (.istore 4, 2) := dk_54 4 (dk_at dksX1_wins_0 12 rfl rfl)
theorem dX1_wins_14 : decode cX1_wins 14 = .ok (.iload 4, 2) := dk_21 4 (dk_at dksX1_wins_0 14 rfl rfl)
theorem dX1_wins_16 : decode cX1_wins 16 = .ok (.ifCond .le 10, 3) := dk_158 0 10 (dk_at dksX1_wins_0 16 rfl rfl)
theorem dX1_wins_19 : decode cX1_wins 19 = .ok (.aload_n 0, 1) := dk_42 (dk_at dksX1_wins_0 19 rfl rfl)
theorem dX1_wins_20 : decode cX1_wins 20 = .ok (.iload 4, 2) := dk_21 4 (dk_at dksX1_wins_0 20 rfl rfl)
theorem dX1_wins_22 : decode cX1_wins 22 = .ok (.invokevirtual 43, 3) := dk_182 0 43 (dk_at dksX1_wins_1 0 rfl rfl)
theorem dX1_wins_25 : decode cX1_wins 25 = .ok (.ireturn, 1) := dk_172 (dk_at dksX1_wins_1 3 rfl rfl)
theorem dX1_wins_26 : decode cX1_wins 26 = .ok (.aload_n 0, 1) := dk_42 (dk_at dksX1_wins_1 4 rfl rfl)
theorem dX1_wins_27 : decode cX1_wins 27 = .ok (.iload_n 2, 1) := dk_28 (dk_at dksX1_wins_1 5 rfl rfl)
theorem dX1_wins_28 : decode cX1_wins 28 = .ok (.putfield 345, 3) := dk_181 1 89 (dk_at dksX1_wins_1 6 rfl rfl)
theorem dX1_wins_31 : decode cX1_wins 31 = .ok (.iconst 0, 1) := dk_3 (dk_at dksX1_wins_1 9 rfl rfl)
theorem dX1_wins_32 : decode cX1_wins 32 = .ok (.istore 5, 2) := dk_54 5 (dk_at dksX1_wins_1 10 rfl rfl)
theorem dX1_wins_34 : decode cX1_wins 34 = .ok (.iconst 0, 1) := dk_3 (dk_at dksX1_wins_1 12 rfl rfl)
theorem dX1_wins_35 : decode cX1_wins 35 = .ok (.istore 6, 2) := dk_54 6 (dk_at dksX1_wins_1 13 rfl rfl)
theorem dX1_wins_37 : decode cX1_wins 37 = .ok (.iload 6, 2) := dk_21 6 (dk_at dksX1_wins_1 15 rfl rfl)
theorem dX1_wins_39 : decode cX1_wins 39 = .ok (.iload_n 3, 1) := dk_29 (dk_at dksX1_wins_1 17 rfl rfl)
theorem dX1_wins_40 : decode cX1_wins 40 = .ok (.if_icmp .ge 34, 3) := dk_162 0 34 (dk_at dksX1_wins_1 18 rfl rfl)
theorem dX1_wins_43 : decode cX1_wins 43 = .ok (.iload 5, 2) := dk_21 5 (dk_at dksX1_wins_1 21 rfl rfl)
theorem dX1_wins_45 : decode cX1_wins 45 = .ok (.aload_n 0, 1) := dk_42 (dk_at dksX1_wins_1 23 rfl rfl)
theorem dX1_wins_46 : decode cX1_wins 46 = .ok (.getfield 91, 3) := dk_180 0 91 (dk_at dksX1_wins_2 0 rfl rfl)
theorem dX1_wins_49 : decode cX1_wins 49 = .ok (.iload_n 1, 1) := dk_27 (dk_at dksX1_wins_2 3 rfl rfl)
theorem dX1_wins_50 : decode cX1_wins 50 = .ok (.aload_n 0, 1) := dk_42 (dk_at dksX1_wins_2 4 rfl rfl)
theorem dX1_wins_51 : decode cX1_wins 51 = .ok (.invokevirtual 355, 3) := dk_182 1 99 (dk_at dksX1_wins_2 5 rfl rfl)
theorem dX1_wins_54 : decode cX1_wins 54 = .ok (.invokevirtual 215, 3) := dk_182 0 215 (dk_at dksX1_wins_2 8 rfl rfl)
theorem dX1_wins_57 : decode cX1_wins 57 = .ok (.ifCond .ne 7, 3) := dk_154 0 7 (dk_at dksX1_wins_2 11 rfl rfl)
theorem dX1_wins_60 : decode cX1_wins 60 = .ok (.iconst 1, 1) := dk_4 (dk_at dksX1_wins_2 14 rfl rfl)
theorem dX1_wins_61 : decode cX1_wins 61 = .ok (.goto 4, 3) := dk_167 0 4 (dk_at dksX1_wins_2 15 rfl rfl)
theorem dX1_wins_64 : decode cX1_wins 64 = .ok (.iconst 0, 1) := dk_3 (dk_at dksX1_wins_2 18 rfl rfl)
theorem dX1_wins_65 : decode cX1_wins 65 = .ok (.iadd, 1) := dk_96 (dk_at dksX1_wins_2 19 rfl rfl)
theorem dX1_wins_66 : decode cX1_wins 66 = .ok (.istore 5, 2) := dk_54 5 (dk_at dksX1_wins_2 20 rfl rfl)
theorem dX1_wins_68 : decode cX1_wins 68 = .ok (.iinc 6 1, 3) := dk_132 6 1 (dk_at dksX1_wins_3 0 rfl rfl)
theorem dX1_wins_71 : decode cX1_wins 71 = .ok (.goto (-34), 3) := dk_167 255 222 (dk_at dksX1_wins_3 3 rfl rfl)
theorem dX1_wins_74 : decode cX1_wins 74 = .ok (.aload_n 0, 1) := dk_42 (dk_at dksX1_wins_3 6 rfl rfl)
theorem dX1_wins_75 : decode cX1_wins 75 = .ok (.iload 5, 2) := dk_21 5 (dk_at dksX1_wins_3 7 rfl rfl)
theorem dX1_wins_77 : decode cX1_wins 77 = .ok (.invokevirtual 47, 3) := dk_182 0 47 (dk_at dksX1_wins_3 9 rfl rfl)
theorem dX1_wins_80 : decode cX1_wins 80 = .ok (.ireturn, 1) := dk_172 (dk_at dksX1_wins_3 12 rfl rfl)
abbrev cX1_whyRaces : ByteArray := prog_1_method_78_code
def yX1_whyRaces : MethodName := ⟨RX1, "whyRaces", "(ZIII)I"⟩
def dkwX1_whyRaces_1 : List UInt8 := [29, 21, 4, 16, 60, 182, 1, 27, 172]
abbrev dktX1_whyRaces_1 : List UInt8 := dkwX1_whyRaces_1 ++ []
def dkwX1_whyRaces_0 : List UInt8 := [42, 27, 28, 3, 19, 1, 95, 182, 1, 27, 54, 5, 21, 5, 158, 0, 8, 21, 5, 167, 0, 13, 42, 27]
abbrev dktX1_whyRaces_0 : List UInt8 := dkwX1_whyRaces_0 ++ dktX1_whyRaces_1
theorem dksX1_whyRaces_0 : cX1_whyRaces.data.toList.drop 0 = dktX1_whyRaces_0 := by decide +kernel
theorem dksX1_whyRaces_1 : cX1_whyRaces.data.toList.drop 24 = dktX1_whyRaces_1 := dk_seg dksX1_whyRaces_0 24 rfl rfl
theorem dX1_whyRaces_0 : decode cX1_whyRaces 0 = .ok (.aload_n 0, 1) := dk_42 (dk_at dksX1_whyRaces_0 0 rfl rfl)
theorem dX1_whyRaces_1 : decode cX1_whyRaces 1 = .ok (.iload_n 1, 1) := dk_27 (dk_at dksX1_whyRaces_0 1 rfl rfl)
theorem dX1_whyRaces_2 : decode cX1_whyRaces 2 = .ok (.iload_n 2, 1) := dk_28 (dk_at dksX1_whyRaces_0 2 rfl rfl)
theorem dX1_whyRaces_3 : decode cX1_whyRaces 3 = .ok (.iconst 0, 1) := dk_3 (dk_at dksX1_whyRaces_0 3 rfl rfl)
theorem dX1_whyRaces_4 : decode cX1_whyRaces 4 = .ok (.ldc_w 351, 3) := dk_19 1 95 (dk_at dksX1_whyRaces_0 4 rfl rfl)
theorem dX1_whyRaces_7 : decode cX1_whyRaces 7 = .ok (.invokevirtual 283, 3) := dk_182 1 27 (dk_at dksX1_whyRaces_0 7 rfl rfl)
theorem dX1_whyRaces_10 : decode cX1_whyRaces 10 = .ok (.istore 5, 2) := dk_54 5 (dk_at dksX1_whyRaces_0 10 rfl rfl)
theorem dX1_whyRaces_12 : decode cX1_whyRaces 12 = .ok (.iload 5, 2) := dk_21 5 (dk_at dksX1_whyRaces_0 12 rfl rfl)
theorem dX1_whyRaces_14 : decode cX1_whyRaces 14 = .ok (.ifCond .le 8, 3) := dk_158 0 8 (dk_at dksX1_whyRaces_0 14 rfl rfl)
theorem dX1_whyRaces_17 : decode cX1_whyRaces 17 = .ok (.iload 5, 2) := dk_21 5 (dk_at dksX1_whyRaces_0 17 rfl rfl)
theorem dX1_whyRaces_19 : decode cX1_whyRaces 19 = .ok (.goto 13, 3) := dk_167 0 13 (dk_at dksX1_whyRaces_0 19 rfl rfl)
theorem dX1_whyRaces_22 : decode cX1_whyRaces 22 = .ok (.aload_n 0, 1) := dk_42 (dk_at dksX1_whyRaces_0 22 rfl rfl)
theorem dX1_whyRaces_23 : decode cX1_whyRaces 23 = .ok (.iload_n 1, 1) := dk_27 (dk_at dksX1_whyRaces_0 23 rfl rfl)
theorem dX1_whyRaces_24 : decode cX1_whyRaces 24 = .ok (.iload_n 3, 1) := dk_29 (dk_at dksX1_whyRaces_1 0 rfl rfl)
theorem dX1_whyRaces_25 : decode cX1_whyRaces 25 = .ok (.iload 4, 2) := dk_21 4 (dk_at dksX1_whyRaces_1 1 rfl rfl)
theorem dX1_whyRaces_27 : decode cX1_whyRaces 27 = .ok (.bipush 60, 2) := dk_16 60 (dk_at dksX1_whyRaces_1 3 rfl rfl)
theorem dX1_whyRaces_29 : decode cX1_whyRaces 29 = .ok (.invokevirtual 283, 3) := dk_182 1 27 (dk_at dksX1_whyRaces_1 5 rfl rfl)
theorem dX1_whyRaces_32 : decode cX1_whyRaces 32 = .ok (.ireturn, 1) := dk_172 (dk_at dksX1_whyRaces_1 8 rfl rfl)
abbrev cX1_rains : ByteArray := prog_1_method_77_code
def yX1_rains : MethodName := ⟨RX1, "rains", "()I"⟩
def dkwX1_rains_2 : List UInt8 := [128, 60, 132, 2, 1, 167, 255, 207, 27, 172]
abbrev dktX1_rains_2 : List UInt8 := dkwX1_rains_2 ++ []
def dkwX1_rains_1 : List UInt8 := [42, 180, 1, 89, 16, 100, 112, 42, 180, 0, 82, 180, 1, 74, 162, 0, 9, 4, 28, 120, 167, 0, 4, 3]
abbrev dktX1_rains_1 : List UInt8 := dkwX1_rains_1 ++ dktX1_rains_2
def dkwX1_rains_0 : List UInt8 := [3, 60, 3, 61, 28, 42, 182, 0, 129, 162, 0, 47, 42, 42, 180, 1, 89, 184, 1, 92, 181, 1, 89, 27]
abbrev dktX1_rains_0 : List UInt8 := dkwX1_rains_0 ++ dktX1_rains_1
theorem dksX1_rains_0 : cX1_rains.data.toList.drop 0 = dktX1_rains_0 := by decide +kernel
theorem dksX1_rains_1 : cX1_rains.data.toList.drop 24 = dktX1_rains_1 := dk_seg dksX1_rains_0 24 rfl rfl
theorem dksX1_rains_2 : cX1_rains.data.toList.drop 48 = dktX1_rains_2 := dk_seg dksX1_rains_1 24 rfl rfl
theorem dX1_rains_0 : decode cX1_rains 0 = .ok (.iconst 0, 1) := dk_3 (dk_at dksX1_rains_0 0 rfl rfl)
theorem dX1_rains_1 : decode cX1_rains 1 = .ok (.istore_n 1, 1) := dk_60 (dk_at dksX1_rains_0 1 rfl rfl)
theorem dX1_rains_2 : decode cX1_rains 2 = .ok (.iconst 0, 1) := dk_3 (dk_at dksX1_rains_0 2 rfl rfl)
theorem dX1_rains_3 : decode cX1_rains 3 = .ok (.istore_n 2, 1) := dk_61 (dk_at dksX1_rains_0 3 rfl rfl)
theorem dX1_rains_4 : decode cX1_rains 4 = .ok (.iload_n 2, 1) := dk_28 (dk_at dksX1_rains_0 4 rfl rfl)
theorem dX1_rains_5 : decode cX1_rains 5 = .ok (.aload_n 0, 1) := dk_42 (dk_at dksX1_rains_0 5 rfl rfl)
theorem dX1_rains_6 : decode cX1_rains 6 = .ok (.invokevirtual 129, 3) := dk_182 0 129 (dk_at dksX1_rains_0 6 rfl rfl)
theorem dX1_rains_9 : decode cX1_rains 9 = .ok (.if_icmp .ge 47, 3) := dk_162 0 47 (dk_at dksX1_rains_0 9 rfl rfl)
theorem dX1_rains_12 : decode cX1_rains 12 = .ok (.aload_n 0, 1) := dk_42 (dk_at dksX1_rains_0 12 rfl rfl)
theorem dX1_rains_13 : decode cX1_rains 13 = .ok (.aload_n 0, 1) := dk_42 (dk_at dksX1_rains_0 13 rfl rfl)
theorem dX1_rains_14 : decode cX1_rains 14 = .ok (.getfield 345, 3) := dk_180 1 89 (dk_at dksX1_rains_0 14 rfl rfl)
theorem dX1_rains_17 : decode cX1_rains 17 = .ok (.invokestatic 348, 3) := dk_184 1 92 (dk_at dksX1_rains_0 17 rfl rfl)
theorem dX1_rains_20 : decode cX1_rains 20 = .ok (.putfield 345, 3) := dk_181 1 89 (dk_at dksX1_rains_0 20 rfl rfl)
theorem dX1_rains_23 : decode cX1_rains 23 = .ok (.iload_n 1, 1) := dk_27 (dk_at dksX1_rains_0 23 rfl rfl)
theorem dX1_rains_24 : decode cX1_rains 24 = .ok (.aload_n 0, 1) := dk_42 (dk_at dksX1_rains_1 0 rfl rfl)
theorem dX1_rains_25 : decode cX1_rains 25 = .ok (.getfield 345, 3) := dk_180 1 89 (dk_at dksX1_rains_1 1 rfl rfl)
theorem dX1_rains_28 : decode cX1_rains 28 = .ok (.bipush 100, 2) := dk_16 100 (dk_at dksX1_rains_1 4 rfl rfl)
theorem dX1_rains_30 : decode cX1_rains 30 = .ok (.irem, 1) := dk_112 (dk_at dksX1_rains_1 6 rfl rfl)
theorem dX1_rains_31 : decode cX1_rains 31 = .ok (.aload_n 0, 1) := dk_42 (dk_at dksX1_rains_1 7 rfl rfl)
theorem dX1_rains_32 : decode cX1_rains 32 = .ok (.getfield 82, 3) := dk_180 0 82 (dk_at dksX1_rains_1 8 rfl rfl)
theorem dX1_rains_35 : decode cX1_rains 35 = .ok (.getfield 330, 3) := dk_180 1 74 (dk_at dksX1_rains_1 11 rfl rfl)
theorem dX1_rains_38 : decode cX1_rains 38 = .ok (.if_icmp .ge 9, 3) := dk_162 0 9 (dk_at dksX1_rains_1 14 rfl rfl)
theorem dX1_rains_41 : decode cX1_rains 41 = .ok (.iconst 1, 1) := dk_4 (dk_at dksX1_rains_1 17 rfl rfl)
theorem dX1_rains_42 : decode cX1_rains 42 = .ok (.iload_n 2, 1) := dk_28 (dk_at dksX1_rains_1 18 rfl rfl)
theorem dX1_rains_43 : decode cX1_rains 43 = .ok (.ishl, 1) := dk_120 (dk_at dksX1_rains_1 19 rfl rfl)
theorem dX1_rains_44 : decode cX1_rains 44 = .ok (.goto 4, 3) := dk_167 0 4 (dk_at dksX1_rains_1 20 rfl rfl)
theorem dX1_rains_47 : decode cX1_rains 47 = .ok (.iconst 0, 1) := dk_3 (dk_at dksX1_rains_1 23 rfl rfl)
theorem dX1_rains_48 : decode cX1_rains 48 = .ok (.ior, 1) := dk_128 (dk_at dksX1_rains_2 0 rfl rfl)
theorem dX1_rains_49 : decode cX1_rains 49 = .ok (.istore_n 1, 1) := dk_60 (dk_at dksX1_rains_2 1 rfl rfl)
theorem dX1_rains_50 : decode cX1_rains 50 = .ok (.iinc 2 1, 3) := dk_132 2 1 (dk_at dksX1_rains_2 2 rfl rfl)
theorem dX1_rains_53 : decode cX1_rains 53 = .ok (.goto (-49), 3) := dk_167 255 207 (dk_at dksX1_rains_2 5 rfl rfl)
theorem dX1_rains_56 : decode cX1_rains 56 = .ok (.iload_n 1, 1) := dk_27 (dk_at dksX1_rains_2 8 rfl rfl)
theorem dX1_rains_57 : decode cX1_rains 57 = .ok (.ireturn, 1) := dk_172 (dk_at dksX1_rains_2 9 rfl rfl)
abbrev cX1_drawn : ByteArray := prog_1_method_6_code
def yX1_drawn : MethodName := ⟨RX1, "drawn", "(I)I"⟩
def dkwX1_drawn_0 : List UInt8 := [20, 0, 34, 26, 133, 105, 20, 0, 36, 97, 20, 0, 38, 113, 136, 172]
abbrev dktX1_drawn_0 : List UInt8 := dkwX1_drawn_0 ++ []
theorem dksX1_drawn_0 : cX1_drawn.data.toList.drop 0 = dktX1_drawn_0 := by decide +kernel
theorem dX1_drawn_0 : decode cX1_drawn 0 = .ok (.ldc2_w 34, 3) := dk_20 0 34 (dk_at dksX1_drawn_0 0 rfl rfl)
theorem dX1_drawn_3 : decode cX1_drawn 3 = .ok (.iload_n 0, 1) := dk_26 (dk_at dksX1_drawn_0 3 rfl rfl)
theorem dX1_drawn_4 : decode cX1_drawn 4 = .ok (.i2l, 1) := dk_133 (dk_at dksX1_drawn_0 4 rfl rfl)
theorem dX1_drawn_5 : decode cX1_drawn 5 = .ok (.lmul, 1) := dk_105 (dk_at dksX1_drawn_0 5 rfl rfl)
theorem dX1_drawn_6 : decode cX1_drawn 6 = .ok (.ldc2_w 36, 3) := dk_20 0 36 (dk_at dksX1_drawn_0 6 rfl rfl)
theorem dX1_drawn_9 : decode cX1_drawn 9 = .ok (.ladd, 1) := dk_97 (dk_at dksX1_drawn_0 9 rfl rfl)
theorem dX1_drawn_10 : decode cX1_drawn 10 = .ok (.ldc2_w 38, 3) := dk_20 0 38 (dk_at dksX1_drawn_0 10 rfl rfl)
theorem dX1_drawn_13 : decode cX1_drawn 13 = .ok (.lrem, 1) := dk_113 (dk_at dksX1_drawn_0 13 rfl rfl)
theorem dX1_drawn_14 : decode cX1_drawn 14 = .ok (.l2i, 1) := dk_136 (dk_at dksX1_drawn_0 14 rfl rfl)
theorem dX1_drawn_15 : decode cX1_drawn 15 = .ok (.ireturn, 1) := dk_172 (dk_at dksX1_drawn_0 15 rfl rfl)
abbrev cX1_record : ByteArray := prog_1_method_80_code
def yX1_record : MethodName := ⟨RX1, "record", "(II)I"⟩
def dkwX1_record_3 : List UInt8 := [182, 0, 209, 184, 1, 22, 54, 4, 132, 5, 1, 167, 255, 216, 42, 21, 4, 182, 0, 47, 172]
abbrev dktX1_record_3 : List UInt8 := dkwX1_record_3 ++ []
def dkwX1_record_2 : List UInt8 := [42, 182, 1, 99, 54, 6, 21, 4, 42, 180, 0, 91, 42, 180, 0, 91, 21, 6, 182, 1, 102, 21, 6]
abbrev dktX1_record_2 : List UInt8 := dkwX1_record_2 ++ dktX1_record_3
def dkwX1_record_1 : List UInt8 := [42, 29, 182, 0, 43, 172, 42, 27, 181, 1, 89, 18, 246, 54, 4, 3, 54, 5, 21, 5, 28, 162, 0, 40]
abbrev dktX1_record_1 : List UInt8 := dkwX1_record_1 ++ dktX1_record_2
def dkwX1_record_0 : List UInt8 := [42, 42, 180, 0, 82, 198, 0, 7, 4, 167, 0, 4, 3, 27, 28, 4, 182, 1, 96, 62, 29, 158, 0, 9]
abbrev dktX1_record_0 : List UInt8 := dkwX1_record_0 ++ dktX1_record_1
theorem dksX1_record_0 : cX1_record.data.toList.drop 0 = dktX1_record_0 := by decide +kernel
theorem dksX1_record_1 : cX1_record.data.toList.drop 24 = dktX1_record_1 := dk_seg dksX1_record_0 24 rfl rfl
theorem dksX1_record_2 : cX1_record.data.toList.drop 48 = dktX1_record_2 := dk_seg dksX1_record_1 24 rfl rfl
theorem dksX1_record_3 : cX1_record.data.toList.drop 71 = dktX1_record_3 := dk_seg dksX1_record_2 23 rfl rfl
theorem dX1_record_0 : decode cX1_record 0 = .ok (.aload_n 0, 1) := dk_42 (dk_at dksX1_record_0 0 rfl rfl)
theorem dX1_record_1 : decode cX1_record 1 = .ok (.aload_n 0, 1) := dk_42 (dk_at dksX1_record_0 1 rfl rfl)
theorem dX1_record_2 : decode cX1_record 2 = .ok (.getfield 82, 3) := dk_180 0 82 (dk_at dksX1_record_0 2 rfl rfl)
theorem dX1_record_5 : decode cX1_record 5 = .ok (.ifnull 7, 3) := dk_198 0 7 (dk_at dksX1_record_0 5 rfl rfl)
theorem dX1_record_8 : decode cX1_record 8 = .ok (.iconst 1, 1) := dk_4 (dk_at dksX1_record_0 8 rfl rfl)
theorem dX1_record_9 : decode cX1_record 9 = .ok (.goto 4, 3) := dk_167 0 4 (dk_at dksX1_record_0 9 rfl rfl)
theorem dX1_record_12 : decode cX1_record 12 = .ok (.iconst 0, 1) := dk_3 (dk_at dksX1_record_0 12 rfl rfl)
theorem dX1_record_13 : decode cX1_record 13 = .ok (.iload_n 1, 1) := dk_27 (dk_at dksX1_record_0 13 rfl rfl)
theorem dX1_record_14 : decode cX1_record 14 = .ok (.iload_n 2, 1) := dk_28 (dk_at dksX1_record_0 14 rfl rfl)
theorem dX1_record_15 : decode cX1_record 15 = .ok (.iconst 1, 1) := dk_4 (dk_at dksX1_record_0 15 rfl rfl)
theorem dX1_record_16 : decode cX1_record 16 = .ok (.invokevirtual 352, 3) := dk_182 1 96 (dk_at dksX1_record_0 16 rfl rfl)
theorem dX1_record_19 : decode cX1_record 19 = .ok (.istore_n 3, 1) := dk_62 (dk_at dksX1_record_0 19 rfl rfl)
theorem dX1_record_20 : decode cX1_record 20 = .ok (.iload_n 3, 1) := dk_29 (dk_at dksX1_record_0 20 rfl rfl)
theorem dX1_record_21 : decode cX1_record 21 = .ok (.ifCond .le 9, 3) := dk_158 0 9 (dk_at dksX1_record_0 21 rfl rfl)
theorem dX1_record_24 : decode cX1_record 24 = .ok (.aload_n 0, 1) := dk_42 (dk_at dksX1_record_1 0 rfl rfl)
theorem dX1_record_25 : decode cX1_record 25 = .ok (.iload_n 3, 1) := dk_29 (dk_at dksX1_record_1 1 rfl rfl)
theorem dX1_record_26 : decode cX1_record 26 = .ok (.invokevirtual 43, 3) := dk_182 0 43 (dk_at dksX1_record_1 2 rfl rfl)
theorem dX1_record_29 : decode cX1_record 29 = .ok (.ireturn, 1) := dk_172 (dk_at dksX1_record_1 5 rfl rfl)
theorem dX1_record_30 : decode cX1_record 30 = .ok (.aload_n 0, 1) := dk_42 (dk_at dksX1_record_1 6 rfl rfl)
theorem dX1_record_31 : decode cX1_record 31 = .ok (.iload_n 1, 1) := dk_27 (dk_at dksX1_record_1 7 rfl rfl)
theorem dX1_record_32 : decode cX1_record 32 = .ok (.putfield 345, 3) := dk_181 1 89 (dk_at dksX1_record_1 8 rfl rfl)
theorem dX1_record_35 : decode cX1_record 35 = .ok (.ldc 246, 2) := dk_18 246 (dk_at dksX1_record_1 11 rfl rfl)
theorem dX1_record_37 : decode cX1_record 37 = .ok (.istore 4, 2) := dk_54 4 (dk_at dksX1_record_1 13 rfl rfl)
theorem dX1_record_39 : decode cX1_record 39 = .ok (.iconst 0, 1) := dk_3 (dk_at dksX1_record_1 15 rfl rfl)
theorem dX1_record_40 : decode cX1_record 40 = .ok (.istore 5, 2) := dk_54 5 (dk_at dksX1_record_1 16 rfl rfl)
theorem dX1_record_42 : decode cX1_record 42 = .ok (.iload 5, 2) := dk_21 5 (dk_at dksX1_record_1 18 rfl rfl)
theorem dX1_record_44 : decode cX1_record 44 = .ok (.iload_n 2, 1) := dk_28 (dk_at dksX1_record_1 20 rfl rfl)
theorem dX1_record_45 : decode cX1_record 45 = .ok (.if_icmp .ge 40, 3) := dk_162 0 40 (dk_at dksX1_record_1 21 rfl rfl)
theorem dX1_record_48 : decode cX1_record 48 = .ok (.aload_n 0, 1) := dk_42 (dk_at dksX1_record_2 0 rfl rfl)
theorem dX1_record_49 : decode cX1_record 49 = .ok (.invokevirtual 355, 3) := dk_182 1 99 (dk_at dksX1_record_2 1 rfl rfl)
theorem dX1_record_52 : decode cX1_record 52 = .ok (.istore 6, 2) := dk_54 6 (dk_at dksX1_record_2 4 rfl rfl)
theorem dX1_record_54 : decode cX1_record 54 = .ok (.iload 4, 2) := dk_21 4 (dk_at dksX1_record_2 6 rfl rfl)
theorem dX1_record_56 : decode cX1_record 56 = .ok (.aload_n 0, 1) := dk_42 (dk_at dksX1_record_2 8 rfl rfl)
theorem dX1_record_57 : decode cX1_record 57 = .ok (.getfield 91, 3) := dk_180 0 91 (dk_at dksX1_record_2 9 rfl rfl)
theorem dX1_record_60 : decode cX1_record 60 = .ok (.aload_n 0, 1) := dk_42 (dk_at dksX1_record_2 12 rfl rfl)
theorem dX1_record_61 : decode cX1_record 61 = .ok (.getfield 91, 3) := dk_180 0 91 (dk_at dksX1_record_2 13 rfl rfl)
theorem dX1_record_64 : decode cX1_record 64 = .ok (.iload 6, 2) := dk_21 6 (dk_at dksX1_record_2 16 rfl rfl)
theorem dX1_record_66 : decode cX1_record 66 = .ok (.invokevirtual 358, 3) := dk_182 1 102 (dk_at dksX1_record_2 18 rfl rfl)
theorem dX1_record_69 : decode cX1_record 69 = .ok (.iload 6, 2) := dk_21 6 (dk_at dksX1_record_2 21 rfl rfl)
theorem dX1_record_71 : decode cX1_record 71 = .ok (.invokevirtual 209, 3) := dk_182 0 209 (dk_at dksX1_record_3 0 rfl rfl)
theorem dX1_record_74 : decode cX1_record 74 = .ok (.invokestatic 278, 3) := dk_184 1 22 (dk_at dksX1_record_3 3 rfl rfl)
theorem dX1_record_77 : decode cX1_record 77 = .ok (.istore 4, 2) := dk_54 4 (dk_at dksX1_record_3 6 rfl rfl)
theorem dX1_record_79 : decode cX1_record 79 = .ok (.iinc 5 1, 3) := dk_132 5 1 (dk_at dksX1_record_3 8 rfl rfl)
theorem dX1_record_82 : decode cX1_record 82 = .ok (.goto (-40), 3) := dk_167 255 216 (dk_at dksX1_record_3 11 rfl rfl)
theorem dX1_record_85 : decode cX1_record 85 = .ok (.aload_n 0, 1) := dk_42 (dk_at dksX1_record_3 14 rfl rfl)
theorem dX1_record_86 : decode cX1_record 86 = .ok (.iload 4, 2) := dk_21 4 (dk_at dksX1_record_3 15 rfl rfl)
theorem dX1_record_88 : decode cX1_record 88 = .ok (.invokevirtual 47, 3) := dk_182 0 47 (dk_at dksX1_record_3 17 rfl rfl)
theorem dX1_record_91 : decode cX1_record 91 = .ok (.ireturn, 1) := dk_172 (dk_at dksX1_record_3 20 rfl rfl)
abbrev cX1_weir : ByteArray := prog_1_method_83_code
def yX1_weir : MethodName := ⟨RX1, "weir", "(IZZZ)I"⟩
def dkwX1_weir_1 : List UInt8 := [21, 4, 153, 0, 12, 27, 29, 28, 184, 1, 111, 167, 0, 9, 27, 28, 29, 184, 1, 111, 182, 0, 47, 172]
abbrev dktX1_weir_1 : List UInt8 := dkwX1_weir_1 ++ []
def dkwX1_weir_0 : List UInt8 := [42, 27, 182, 1, 105, 54, 5, 21, 5, 158, 0, 14, 42, 21, 5, 16, 156, 182, 1, 108, 167, 0, 27, 42]
abbrev dktX1_weir_0 : List UInt8 := dkwX1_weir_0 ++ dktX1_weir_1
theorem dksX1_weir_0 : cX1_weir.data.toList.drop 0 = dktX1_weir_0 := by decide +kernel
theorem dksX1_weir_1 : cX1_weir.data.toList.drop 24 = dktX1_weir_1 := dk_seg dksX1_weir_0 24 rfl rfl
theorem dX1_weir_0 : decode cX1_weir 0 = .ok (.aload_n 0, 1) := dk_42 (dk_at dksX1_weir_0 0 rfl rfl)
theorem dX1_weir_1 : decode cX1_weir 1 = .ok (.iload_n 1, 1) := dk_27 (dk_at dksX1_weir_0 1 rfl rfl)
theorem dX1_weir_2 : decode cX1_weir 2 = .ok (.invokevirtual 361, 3) := dk_182 1 105 (dk_at dksX1_weir_0 2 rfl rfl)
theorem dX1_weir_5 : decode cX1_weir 5 = .ok (.istore 5, 2) := dk_54 5 (dk_at dksX1_weir_0 5 rfl rfl)
theorem dX1_weir_7 : decode cX1_weir 7 = .ok (.iload 5, 2) := dk_21 5 (dk_at dksX1_weir_0 7 rfl rfl)
theorem dX1_weir_9 : decode cX1_weir 9 = .ok (.ifCond .le 14, 3) := dk_158 0 14 (dk_at dksX1_weir_0 9 rfl rfl)
theorem dX1_weir_12 : decode cX1_weir 12 = .ok (.aload_n 0, 1) := dk_42 (dk_at dksX1_weir_0 12 rfl rfl)
theorem dX1_weir_13 : decode cX1_weir 13 = .ok (.iload 5, 2) := dk_21 5 (dk_at dksX1_weir_0 13 rfl rfl)
theorem dX1_weir_15 : decode cX1_weir 15 = .ok (.bipush (-100), 2) := dk_16 156 (dk_at dksX1_weir_0 15 rfl rfl)
theorem dX1_weir_17 : decode cX1_weir 17 = .ok (.invokevirtual 364, 3) := dk_182 1 108 (dk_at dksX1_weir_0 17 rfl rfl)
theorem dX1_weir_20 : decode cX1_weir 20 = .ok (.goto 27, 3) := dk_167 0 27 (dk_at dksX1_weir_0 20 rfl rfl)
theorem dX1_weir_23 : decode cX1_weir 23 = .ok (.aload_n 0, 1) := dk_42 (dk_at dksX1_weir_0 23 rfl rfl)
theorem dX1_weir_24 : decode cX1_weir 24 = .ok (.iload 4, 2) := dk_21 4 (dk_at dksX1_weir_1 0 rfl rfl)
theorem dX1_weir_26 : decode cX1_weir 26 = .ok (.ifCond .eq 12, 3) := dk_153 0 12 (dk_at dksX1_weir_1 2 rfl rfl)
theorem dX1_weir_29 : decode cX1_weir 29 = .ok (.iload_n 1, 1) := dk_27 (dk_at dksX1_weir_1 5 rfl rfl)
theorem dX1_weir_30 : decode cX1_weir 30 = .ok (.iload_n 3, 1) := dk_29 (dk_at dksX1_weir_1 6 rfl rfl)
theorem dX1_weir_31 : decode cX1_weir 31 = .ok (.iload_n 2, 1) := dk_28 (dk_at dksX1_weir_1 7 rfl rfl)
theorem dX1_weir_32 : decode cX1_weir 32 = .ok (.invokestatic 367, 3) := dk_184 1 111 (dk_at dksX1_weir_1 8 rfl rfl)
theorem dX1_weir_35 : decode cX1_weir 35 = .ok (.goto 9, 3) := dk_167 0 9 (dk_at dksX1_weir_1 11 rfl rfl)
theorem dX1_weir_38 : decode cX1_weir 38 = .ok (.iload_n 1, 1) := dk_27 (dk_at dksX1_weir_1 14 rfl rfl)
theorem dX1_weir_39 : decode cX1_weir 39 = .ok (.iload_n 2, 1) := dk_28 (dk_at dksX1_weir_1 15 rfl rfl)
theorem dX1_weir_40 : decode cX1_weir 40 = .ok (.iload_n 3, 1) := dk_29 (dk_at dksX1_weir_1 16 rfl rfl)
theorem dX1_weir_41 : decode cX1_weir 41 = .ok (.invokestatic 367, 3) := dk_184 1 111 (dk_at dksX1_weir_1 17 rfl rfl)
theorem dX1_weir_44 : decode cX1_weir 44 = .ok (.invokevirtual 47, 3) := dk_182 0 47 (dk_at dksX1_weir_1 20 rfl rfl)
theorem dX1_weir_47 : decode cX1_weir 47 = .ok (.ireturn, 1) := dk_172 (dk_at dksX1_weir_1 23 rfl rfl)
abbrev cX1_whySpite : ByteArray := prog_1_method_82_code
def yX1_whySpite : MethodName := ⟨RX1, "whySpite", "(I)I"⟩
def dkwX1_whySpite_0 : List UInt8 := [42, 42, 180, 0, 82, 198, 0, 7, 4, 167, 0, 4, 3, 27, 3, 16, 9, 182, 1, 27, 172]
abbrev dktX1_whySpite_0 : List UInt8 := dkwX1_whySpite_0 ++ []
theorem dksX1_whySpite_0 : cX1_whySpite.data.toList.drop 0 = dktX1_whySpite_0 := by decide +kernel
theorem dX1_whySpite_0 : decode cX1_whySpite 0 = .ok (.aload_n 0, 1) := dk_42 (dk_at dksX1_whySpite_0 0 rfl rfl)
theorem dX1_whySpite_1 : decode cX1_whySpite 1 = .ok (.aload_n 0, 1) := dk_42 (dk_at dksX1_whySpite_0 1 rfl rfl)
theorem dX1_whySpite_2 : decode cX1_whySpite 2 = .ok (.getfield 82, 3) := dk_180 0 82 (dk_at dksX1_whySpite_0 2 rfl rfl)
theorem dX1_whySpite_5 : decode cX1_whySpite 5 = .ok (.ifnull 7, 3) := dk_198 0 7 (dk_at dksX1_whySpite_0 5 rfl rfl)
theorem dX1_whySpite_8 : decode cX1_whySpite 8 = .ok (.iconst 1, 1) := dk_4 (dk_at dksX1_whySpite_0 8 rfl rfl)
theorem dX1_whySpite_9 : decode cX1_whySpite 9 = .ok (.goto 4, 3) := dk_167 0 4 (dk_at dksX1_whySpite_0 9 rfl rfl)
theorem dX1_whySpite_12 : decode cX1_whySpite 12 = .ok (.iconst 0, 1) := dk_3 (dk_at dksX1_whySpite_0 12 rfl rfl)
theorem dX1_whySpite_13 : decode cX1_whySpite 13 = .ok (.iload_n 1, 1) := dk_27 (dk_at dksX1_whySpite_0 13 rfl rfl)
theorem dX1_whySpite_14 : decode cX1_whySpite 14 = .ok (.iconst 0, 1) := dk_3 (dk_at dksX1_whySpite_0 14 rfl rfl)
theorem dX1_whySpite_15 : decode cX1_whySpite 15 = .ok (.bipush 9, 2) := dk_16 9 (dk_at dksX1_whySpite_0 15 rfl rfl)
theorem dX1_whySpite_17 : decode cX1_whySpite 17 = .ok (.invokevirtual 283, 3) := dk_182 1 27 (dk_at dksX1_whySpite_0 17 rfl rfl)
theorem dX1_whySpite_20 : decode cX1_whySpite 20 = .ok (.ireturn, 1) := dk_172 (dk_at dksX1_whySpite_0 20 rfl rfl)
abbrev cX1_refusedBy : ByteArray := prog_1_method_8_code
def yX1_refusedBy : MethodName := ⟨RX1, "refusedBy", "(II)I"⟩
def dkwX1_refusedBy_0 : List UInt8 := [42, 27, 182, 0, 43, 87, 28, 172]
abbrev dktX1_refusedBy_0 : List UInt8 := dkwX1_refusedBy_0 ++ []
theorem dksX1_refusedBy_0 : cX1_refusedBy.data.toList.drop 0 = dktX1_refusedBy_0 := by decide +kernel
theorem dX1_refusedBy_0 : decode cX1_refusedBy 0 = .ok (.aload_n 0, 1) := dk_42 (dk_at dksX1_refusedBy_0 0 rfl rfl)
theorem dX1_refusedBy_1 : decode cX1_refusedBy 1 = .ok (.iload_n 1, 1) := dk_27 (dk_at dksX1_refusedBy_0 1 rfl rfl)
theorem dX1_refusedBy_2 : decode cX1_refusedBy 2 = .ok (.invokevirtual 43, 3) := dk_182 0 43 (dk_at dksX1_refusedBy_0 2 rfl rfl)
theorem dX1_refusedBy_5 : decode cX1_refusedBy 5 = .ok (.pop, 1) := dk_87 (dk_at dksX1_refusedBy_0 5 rfl rfl)
theorem dX1_refusedBy_6 : decode cX1_refusedBy 6 = .ok (.iload_n 2, 1) := dk_28 (dk_at dksX1_refusedBy_0 6 rfl rfl)
theorem dX1_refusedBy_7 : decode cX1_refusedBy 7 = .ok (.ireturn, 1) := dk_172 (dk_at dksX1_refusedBy_0 7 rfl rfl)
abbrev cX1_gets : ByteArray := prog_1_method_81_code
def yX1_gets : MethodName := ⟨RX1, "gets", "(IZZ)I"⟩
def dkwX1_gets_1 : List UInt8 := [167, 0, 4, 6, 172]
abbrev dktX1_gets_1 : List UInt8 := dkwX1_gets_1 ++ []
def dkwX1_gets_0 : List UInt8 := [27, 153, 0, 16, 28, 153, 0, 8, 26, 116, 167, 0, 16, 8, 167, 0, 12, 28, 153, 0, 7, 4]
abbrev dktX1_gets_0 : List UInt8 := dkwX1_gets_0 ++ dktX1_gets_1
theorem dksX1_gets_0 : cX1_gets.data.toList.drop 0 = dktX1_gets_0 := by decide +kernel
theorem dksX1_gets_1 : cX1_gets.data.toList.drop 22 = dktX1_gets_1 := dk_seg dksX1_gets_0 22 rfl rfl
theorem dX1_gets_0 : decode cX1_gets 0 = .ok (.iload_n 1, 1) := dk_27 (dk_at dksX1_gets_0 0 rfl rfl)
theorem dX1_gets_1 : decode cX1_gets 1 = .ok (.ifCond .eq 16, 3) := dk_153 0 16 (dk_at dksX1_gets_0 1 rfl rfl)
theorem dX1_gets_4 : decode cX1_gets 4 = .ok (.iload_n 2, 1) := dk_28 (dk_at dksX1_gets_0 4 rfl rfl)
theorem dX1_gets_5 : decode cX1_gets 5 = .ok (.ifCond .eq 8, 3) := dk_153 0 8 (dk_at dksX1_gets_0 5 rfl rfl)
theorem dX1_gets_8 : decode cX1_gets 8 = .ok (.iload_n 0, 1) := dk_26 (dk_at dksX1_gets_0 8 rfl rfl)
theorem dX1_gets_9 : decode cX1_gets 9 = .ok (.ineg, 1) := dk_116 (dk_at dksX1_gets_0 9 rfl rfl)
theorem dX1_gets_10 : decode cX1_gets 10 = .ok (.goto 16, 3) := dk_167 0 16 (dk_at dksX1_gets_0 10 rfl rfl)
theorem dX1_gets_13 : decode cX1_gets 13 = .ok (.iconst 5, 1) := dk_8 (dk_at dksX1_gets_0 13 rfl rfl)
theorem dX1_gets_14 : decode cX1_gets 14 = .ok (.goto 12, 3) := dk_167 0 12 (dk_at dksX1_gets_0 14 rfl rfl)
theorem dX1_gets_17 : decode cX1_gets 17 = .ok (.iload_n 2, 1) := dk_28 (dk_at dksX1_gets_0 17 rfl rfl)
theorem dX1_gets_18 : decode cX1_gets 18 = .ok (.ifCond .eq 7, 3) := dk_153 0 7 (dk_at dksX1_gets_0 18 rfl rfl)
theorem dX1_gets_21 : decode cX1_gets 21 = .ok (.iconst 1, 1) := dk_4 (dk_at dksX1_gets_0 21 rfl rfl)
theorem dX1_gets_22 : decode cX1_gets 22 = .ok (.goto 4, 3) := dk_167 0 4 (dk_at dksX1_gets_1 0 rfl rfl)
theorem dX1_gets_25 : decode cX1_gets 25 = .ok (.iconst 3, 1) := dk_6 (dk_at dksX1_gets_1 3 rfl rfl)
theorem dX1_gets_26 : decode cX1_gets 26 = .ok (.ireturn, 1) := dk_172 (dk_at dksX1_gets_1 4 rfl rfl)
abbrev cX1_rests : ByteArray := prog_1_method_85_code
def yX1_rests : MethodName := ⟨RX1, "rests", "(I)I"⟩
def dkwX1_rests_2 : List UInt8 := [167, 255, 230, 42, 29, 182, 0, 47, 172]
abbrev dktX1_rests_2 : List UInt8 := dkwX1_rests_2 ++ []
def dkwX1_rests_1 : List UInt8 := [162, 0, 26, 29, 27, 21, 4, 184, 1, 115, 153, 0, 7, 4, 167, 0, 4, 3, 96, 62, 132, 4, 1]
abbrev dktX1_rests_1 : List UInt8 := dkwX1_rests_1 ++ dktX1_rests_2
def dkwX1_rests_0 : List UInt8 := [42, 27, 182, 1, 105, 61, 28, 158, 0, 9, 42, 28, 182, 0, 43, 172, 3, 62, 3, 54, 4, 21, 4, 7]
abbrev dktX1_rests_0 : List UInt8 := dkwX1_rests_0 ++ dktX1_rests_1
theorem dksX1_rests_0 : cX1_rests.data.toList.drop 0 = dktX1_rests_0 := by decide +kernel
theorem dksX1_rests_1 : cX1_rests.data.toList.drop 24 = dktX1_rests_1 := dk_seg dksX1_rests_0 24 rfl rfl
theorem dksX1_rests_2 : cX1_rests.data.toList.drop 47 = dktX1_rests_2 := dk_seg dksX1_rests_1 23 rfl rfl
theorem dX1_rests_0 : decode cX1_rests 0 = .ok (.aload_n 0, 1) := dk_42 (dk_at dksX1_rests_0 0 rfl rfl)
theorem dX1_rests_1 : decode cX1_rests 1 = .ok (.iload_n 1, 1) := dk_27 (dk_at dksX1_rests_0 1 rfl rfl)
theorem dX1_rests_2 : decode cX1_rests 2 = .ok (.invokevirtual 361, 3) := dk_182 1 105 (dk_at dksX1_rests_0 2 rfl rfl)
theorem dX1_rests_5 : decode cX1_rests 5 = .ok (.istore_n 2, 1) := dk_61 (dk_at dksX1_rests_0 5 rfl rfl)
theorem dX1_rests_6 : decode cX1_rests 6 = .ok (.iload_n 2, 1) := dk_28 (dk_at dksX1_rests_0 6 rfl rfl)
theorem dX1_rests_7 : decode cX1_rests 7 = .ok (.ifCond .le 9, 3) := dk_158 0 9 (dk_at dksX1_rests_0 7 rfl rfl)
theorem dX1_rests_10 : decode cX1_rests 10 = .ok (.aload_n 0, 1) := dk_42 (dk_at dksX1_rests_0 10 rfl rfl)
theorem dX1_rests_11 : decode cX1_rests 11 = .ok (.iload_n 2, 1) := dk_28 (dk_at dksX1_rests_0 11 rfl rfl)
theorem dX1_rests_12 : decode cX1_rests 12 = .ok (.invokevirtual 43, 3) := dk_182 0 43 (dk_at dksX1_rests_0 12 rfl rfl)
theorem dX1_rests_15 : decode cX1_rests 15 = .ok (.ireturn, 1) := dk_172 (dk_at dksX1_rests_0 15 rfl rfl)
theorem dX1_rests_16 : decode cX1_rests 16 = .ok (.iconst 0, 1) := dk_3 (dk_at dksX1_rests_0 16 rfl rfl)
theorem dX1_rests_17 : decode cX1_rests 17 = .ok (.istore_n 3, 1) := dk_62 (dk_at dksX1_rests_0 17 rfl rfl)
theorem dX1_rests_18 : decode cX1_rests 18 = .ok (.iconst 0, 1) := dk_3 (dk_at dksX1_rests_0 18 rfl rfl)
theorem dX1_rests_19 : decode cX1_rests 19 = .ok (.istore 4, 2) := dk_54 4 (dk_at dksX1_rests_0 19 rfl rfl)
theorem dX1_rests_21 : decode cX1_rests 21 = .ok (.iload 4, 2) := dk_21 4 (dk_at dksX1_rests_0 21 rfl rfl)
theorem dX1_rests_23 : decode cX1_rests 23 = .ok (.iconst 4, 1) := dk_7 (dk_at dksX1_rests_0 23 rfl rfl)
theorem dX1_rests_24 : decode cX1_rests 24 = .ok (.if_icmp .ge 26, 3) := dk_162 0 26 (dk_at dksX1_rests_1 0 rfl rfl)
theorem dX1_rests_27 : decode cX1_rests 27 = .ok (.iload_n 3, 1) := dk_29 (dk_at dksX1_rests_1 3 rfl rfl)
theorem dX1_rests_28 : decode cX1_rests 28 = .ok (.iload_n 1, 1) := dk_27 (dk_at dksX1_rests_1 4 rfl rfl)
theorem dX1_rests_29 : decode cX1_rests 29 = .ok (.iload 4, 2) := dk_21 4 (dk_at dksX1_rests_1 5 rfl rfl)
theorem dX1_rests_31 : decode cX1_rests 31 = .ok (.invokestatic 371, 3) := dk_184 1 115 (dk_at dksX1_rests_1 7 rfl rfl)
theorem dX1_rests_34 : decode cX1_rests 34 = .ok (.ifCond .eq 7, 3) := dk_153 0 7 (dk_at dksX1_rests_1 10 rfl rfl)
theorem dX1_rests_37 : decode cX1_rests 37 = .ok (.iconst 1, 1) := dk_4 (dk_at dksX1_rests_1 13 rfl rfl)
theorem dX1_rests_38 : decode cX1_rests 38 = .ok (.goto 4, 3) := dk_167 0 4 (dk_at dksX1_rests_1 14 rfl rfl)
theorem dX1_rests_41 : decode cX1_rests 41 = .ok (.iconst 0, 1) := dk_3 (dk_at dksX1_rests_1 17 rfl rfl)
theorem dX1_rests_42 : decode cX1_rests 42 = .ok (.iadd, 1) := dk_96 (dk_at dksX1_rests_1 18 rfl rfl)
theorem dX1_rests_43 : decode cX1_rests 43 = .ok (.istore_n 3, 1) := dk_62 (dk_at dksX1_rests_1 19 rfl rfl)
theorem dX1_rests_44 : decode cX1_rests 44 = .ok (.iinc 4 1, 3) := dk_132 4 1 (dk_at dksX1_rests_1 20 rfl rfl)
theorem dX1_rests_47 : decode cX1_rests 47 = .ok (.goto (-26), 3) := dk_167 255 230 (dk_at dksX1_rests_2 0 rfl rfl)
theorem dX1_rests_50 : decode cX1_rests 50 = .ok (.aload_n 0, 1) := dk_42 (dk_at dksX1_rests_2 3 rfl rfl)
theorem dX1_rests_51 : decode cX1_rests 51 = .ok (.iload_n 3, 1) := dk_29 (dk_at dksX1_rests_2 4 rfl rfl)
theorem dX1_rests_52 : decode cX1_rests 52 = .ok (.invokevirtual 47, 3) := dk_182 0 47 (dk_at dksX1_rests_2 5 rfl rfl)
theorem dX1_rests_55 : decode cX1_rests 55 = .ok (.ireturn, 1) := dk_172 (dk_at dksX1_rests_2 8 rfl rfl)
abbrev cX1_isRest : ByteArray := prog_1_method_84_code
def yX1_isRest : MethodName := ⟨RX1, "isRest", "(II)Z"⟩
def dkwX1_isRest_3 : List UInt8 := [167, 0, 4, 3, 172]
abbrev dktX1_isRest_3 : List UInt8 := dkwX1_isRest_3 ++ []
def dkwX1_isRest_2 : List UInt8 := [29, 154, 0, 7, 4, 167, 0, 4, 3, 28, 184, 1, 111, 26, 29, 28, 184, 1, 111, 163, 0, 7, 4]
abbrev dktX1_isRest_2 : List UInt8 := dkwX1_isRest_2 ++ dktX1_isRest_3
def dkwX1_isRest_1 : List UInt8 := [26, 28, 154, 0, 7, 4, 167, 0, 4, 3, 29, 184, 1, 111, 26, 28, 29, 184, 1, 111, 163, 0, 30, 26]
abbrev dktX1_isRest_1 : List UInt8 := dkwX1_isRest_1 ++ dktX1_isRest_2
def dkwX1_isRest_0 : List UInt8 := [27, 4, 164, 0, 7, 4, 167, 0, 4, 3, 61, 27, 5, 112, 4, 160, 0, 7, 4, 167, 0, 4, 3, 62]
abbrev dktX1_isRest_0 : List UInt8 := dkwX1_isRest_0 ++ dktX1_isRest_1
theorem dksX1_isRest_0 : cX1_isRest.data.toList.drop 0 = dktX1_isRest_0 := by decide +kernel
theorem dksX1_isRest_1 : cX1_isRest.data.toList.drop 24 = dktX1_isRest_1 := dk_seg dksX1_isRest_0 24 rfl rfl
theorem dksX1_isRest_2 : cX1_isRest.data.toList.drop 48 = dktX1_isRest_2 := dk_seg dksX1_isRest_1 24 rfl rfl
theorem dksX1_isRest_3 : cX1_isRest.data.toList.drop 71 = dktX1_isRest_3 := dk_seg dksX1_isRest_2 23 rfl rfl
theorem dX1_isRest_0 : decode cX1_isRest 0 = .ok (.iload_n 1, 1) := dk_27 (dk_at dksX1_isRest_0 0 rfl rfl)
theorem dX1_isRest_1 : decode cX1_isRest 1 = .ok (.iconst 1, 1) := dk_4 (dk_at dksX1_isRest_0 1 rfl rfl)
theorem dX1_isRest_2 : decode cX1_isRest 2 = .ok (.if_icmp .le 7, 3) := dk_164 0 7 (dk_at dksX1_isRest_0 2 rfl rfl)
theorem dX1_isRest_5 : decode cX1_isRest 5 = .ok (.iconst 1, 1) := dk_4 (dk_at dksX1_isRest_0 5 rfl rfl)
theorem dX1_isRest_6 : decode cX1_isRest 6 = .ok (.goto 4, 3) := dk_167 0 4 (dk_at dksX1_isRest_0 6 rfl rfl)
theorem dX1_isRest_9 : decode cX1_isRest 9 = .ok (.iconst 0, 1) := dk_3 (dk_at dksX1_isRest_0 9 rfl rfl)
theorem dX1_isRest_10 : decode cX1_isRest 10 = .ok (.istore_n 2, 1) := dk_61 (dk_at dksX1_isRest_0 10 rfl rfl)
theorem dX1_isRest_11 : decode cX1_isRest 11 = .ok (.iload_n 1, 1) := dk_27 (dk_at dksX1_isRest_0 11 rfl rfl)
theorem dX1_isRest_12 : decode cX1_isRest 12 = .ok (.iconst 2, 1) := dk_5 (dk_at dksX1_isRest_0 12 rfl rfl)
theorem dX1_isRest_13 : decode cX1_isRest 13 = .ok (.irem, 1) := dk_112 (dk_at dksX1_isRest_0 13 rfl rfl)
theorem dX1_isRest_14 : decode cX1_isRest 14 = .ok (.iconst 1, 1) := dk_4 (dk_at dksX1_isRest_0 14 rfl rfl)
theorem dX1_isRest_15 : decode cX1_isRest 15 = .ok (.if_icmp .ne 7, 3) := dk_160 0 7 (dk_at dksX1_isRest_0 15 rfl rfl)
theorem dX1_isRest_18 : decode cX1_isRest 18 = .ok (.iconst 1, 1) := dk_4 (dk_at dksX1_isRest_0 18 rfl rfl)
theorem dX1_isRest_19 : decode cX1_isRest 19 = .ok (.goto 4, 3) := dk_167 0 4 (dk_at dksX1_isRest_0 19 rfl rfl)
theorem dX1_isRest_22 : decode cX1_isRest 22 = .ok (.iconst 0, 1) := dk_3 (dk_at dksX1_isRest_0 22 rfl rfl)
theorem dX1_isRest_23 : decode cX1_isRest 23 = .ok (.istore_n 3, 1) := dk_62 (dk_at dksX1_isRest_0 23 rfl rfl)
theorem dX1_isRest_24 : decode cX1_isRest 24 = .ok (.iload_n 0, 1) := dk_26 (dk_at dksX1_isRest_1 0 rfl rfl)
theorem dX1_isRest_25 : decode cX1_isRest 25 = .ok (.iload_n 2, 1) := dk_28 (dk_at dksX1_isRest_1 1 rfl rfl)
theorem dX1_isRest_26 : decode cX1_isRest 26 = .ok (.ifCond .ne 7, 3) := dk_154 0 7 (dk_at dksX1_isRest_1 2 rfl rfl)
theorem dX1_isRest_29 : decode cX1_isRest 29 = .ok (.iconst 1, 1) := dk_4 (dk_at dksX1_isRest_1 5 rfl rfl)
theorem dX1_isRest_30 : decode cX1_isRest 30 = .ok (.goto 4, 3) := dk_167 0 4 (dk_at dksX1_isRest_1 6 rfl rfl)
theorem dX1_isRest_33 : decode cX1_isRest 33 = .ok (.iconst 0, 1) := dk_3 (dk_at dksX1_isRest_1 9 rfl rfl)
theorem dX1_isRest_34 : decode cX1_isRest 34 = .ok (.iload_n 3, 1) := dk_29 (dk_at dksX1_isRest_1 10 rfl rfl)
theorem dX1_isRest_35 : decode cX1_isRest 35 = .ok (.invokestatic 367, 3) := dk_184 1 111 (dk_at dksX1_isRest_1 11 rfl rfl)
theorem dX1_isRest_38 : decode cX1_isRest 38 = .ok (.iload_n 0, 1) := dk_26 (dk_at dksX1_isRest_1 14 rfl rfl)
theorem dX1_isRest_39 : decode cX1_isRest 39 = .ok (.iload_n 2, 1) := dk_28 (dk_at dksX1_isRest_1 15 rfl rfl)
theorem dX1_isRest_40 : decode cX1_isRest 40 = .ok (.iload_n 3, 1) := dk_29 (dk_at dksX1_isRest_1 16 rfl rfl)
theorem dX1_isRest_41 : decode cX1_isRest 41 = .ok (.invokestatic 367, 3) := dk_184 1 111 (dk_at dksX1_isRest_1 17 rfl rfl)
theorem dX1_isRest_44 : decode cX1_isRest 44 = .ok (.if_icmp .gt 30, 3) := dk_163 0 30 (dk_at dksX1_isRest_1 20 rfl rfl)
theorem dX1_isRest_47 : decode cX1_isRest 47 = .ok (.iload_n 0, 1) := dk_26 (dk_at dksX1_isRest_1 23 rfl rfl)
theorem dX1_isRest_48 : decode cX1_isRest 48 = .ok (.iload_n 3, 1) := dk_29 (dk_at dksX1_isRest_2 0 rfl rfl)
theorem dX1_isRest_49 : decode cX1_isRest 49 = .ok (.ifCond .ne 7, 3) := dk_154 0 7 (dk_at dksX1_isRest_2 1 rfl rfl)
theorem dX1_isRest_52 : decode cX1_isRest 52 = .ok (.iconst 1, 1) := dk_4 (dk_at dksX1_isRest_2 4 rfl rfl)
theorem dX1_isRest_53 : decode cX1_isRest 53 = .ok (.goto 4, 3) := dk_167 0 4 (dk_at dksX1_isRest_2 5 rfl rfl)
theorem dX1_isRest_56 : decode cX1_isRest 56 = .ok (.iconst 0, 1) := dk_3 (dk_at dksX1_isRest_2 8 rfl rfl)
theorem dX1_isRest_57 : decode cX1_isRest 57 = .ok (.iload_n 2, 1) := dk_28 (dk_at dksX1_isRest_2 9 rfl rfl)
theorem dX1_isRest_58 : decode cX1_isRest 58 = .ok (.invokestatic 367, 3) := dk_184 1 111 (dk_at dksX1_isRest_2 10 rfl rfl)
theorem dX1_isRest_61 : decode cX1_isRest 61 = .ok (.iload_n 0, 1) := dk_26 (dk_at dksX1_isRest_2 13 rfl rfl)
theorem dX1_isRest_62 : decode cX1_isRest 62 = .ok (.iload_n 3, 1) := dk_29 (dk_at dksX1_isRest_2 14 rfl rfl)
theorem dX1_isRest_63 : decode cX1_isRest 63 = .ok (.iload_n 2, 1) := dk_28 (dk_at dksX1_isRest_2 15 rfl rfl)
theorem dX1_isRest_64 : decode cX1_isRest 64 = .ok (.invokestatic 367, 3) := dk_184 1 111 (dk_at dksX1_isRest_2 16 rfl rfl)
theorem dX1_isRest_67 : decode cX1_isRest 67 = .ok (.if_icmp .gt 7, 3) := dk_163 0 7 (dk_at dksX1_isRest_2 19 rfl rfl)
theorem dX1_isRest_70 : decode cX1_isRest 70 = .ok (.iconst 1, 1) := dk_4 (dk_at dksX1_isRest_2 22 rfl rfl)
theorem dX1_isRest_71 : decode cX1_isRest 71 = .ok (.goto 4, 3) := dk_167 0 4 (dk_at dksX1_isRest_3 0 rfl rfl)
theorem dX1_isRest_74 : decode cX1_isRest 74 = .ok (.iconst 0, 1) := dk_3 (dk_at dksX1_isRest_3 3 rfl rfl)
theorem dX1_isRest_75 : decode cX1_isRest 75 = .ok (.ireturn, 1) := dk_172 (dk_at dksX1_isRest_3 4 rfl rfl)
abbrev cX1_rest : ByteArray := prog_1_method_86_code
def yX1_rest : MethodName := ⟨RX1, "rest", "(I)I"⟩
def dkwX1_rest_2 : List UInt8 := [132, 3, 1, 167, 255, 225, 42, 16, 254, 182, 0, 47, 172]
abbrev dktX1_rest_2 : List UInt8 := dkwX1_rest_2 ++ []
def dkwX1_rest_1 : List UInt8 := [29, 184, 1, 115, 153, 0, 18, 42, 16, 10, 29, 5, 108, 104, 29, 5, 112, 96, 182, 0, 47, 172]
abbrev dktX1_rest_1 : List UInt8 := dkwX1_rest_1 ++ dktX1_rest_2
def dkwX1_rest_0 : List UInt8 := [42, 27, 182, 1, 105, 61, 28, 158, 0, 9, 42, 28, 182, 0, 43, 172, 3, 62, 29, 7, 162, 0, 32, 27]
abbrev dktX1_rest_0 : List UInt8 := dkwX1_rest_0 ++ dktX1_rest_1
theorem dksX1_rest_0 : cX1_rest.data.toList.drop 0 = dktX1_rest_0 := by decide +kernel
theorem dksX1_rest_1 : cX1_rest.data.toList.drop 24 = dktX1_rest_1 := dk_seg dksX1_rest_0 24 rfl rfl
theorem dksX1_rest_2 : cX1_rest.data.toList.drop 46 = dktX1_rest_2 := dk_seg dksX1_rest_1 22 rfl rfl
theorem dX1_rest_0 : decode cX1_rest 0 = .ok (.aload_n 0, 1) := dk_42 (dk_at dksX1_rest_0 0 rfl rfl)
theorem dX1_rest_1 : decode cX1_rest 1 = .ok (.iload_n 1, 1) := dk_27 (dk_at dksX1_rest_0 1 rfl rfl)
theorem dX1_rest_2 : decode cX1_rest 2 = .ok (.invokevirtual 361, 3) := dk_182 1 105 (dk_at dksX1_rest_0 2 rfl rfl)
theorem dX1_rest_5 : decode cX1_rest 5 = .ok (.istore_n 2, 1) := dk_61 (dk_at dksX1_rest_0 5 rfl rfl)
theorem dX1_rest_6 : decode cX1_rest 6 = .ok (.iload_n 2, 1) := dk_28 (dk_at dksX1_rest_0 6 rfl rfl)
theorem dX1_rest_7 : decode cX1_rest 7 = .ok (.ifCond .le 9, 3) := dk_158 0 9 (dk_at dksX1_rest_0 7 rfl rfl)
theorem dX1_rest_10 : decode cX1_rest 10 = .ok (.aload_n 0, 1) := dk_42 (dk_at dksX1_rest_0 10 rfl rfl)
theorem dX1_rest_11 : decode cX1_rest 11 = .ok (.iload_n 2, 1) := dk_28 (dk_at dksX1_rest_0 11 rfl rfl)
theorem dX1_rest_12 : decode cX1_rest 12 = .ok (.invokevirtual 43, 3) := dk_182 0 43 (dk_at dksX1_rest_0 12 rfl rfl)
theorem dX1_rest_15 : decode cX1_rest 15 = .ok (.ireturn, 1) := dk_172 (dk_at dksX1_rest_0 15 rfl rfl)
theorem dX1_rest_16 : decode cX1_rest 16 = .ok (.iconst 0, 1) := dk_3 (dk_at dksX1_rest_0 16 rfl rfl)
theorem dX1_rest_17 : decode cX1_rest 17 = .ok (.istore_n 3, 1) := dk_62 (dk_at dksX1_rest_0 17 rfl rfl)
theorem dX1_rest_18 : decode cX1_rest 18 = .ok (.iload_n 3, 1) := dk_29 (dk_at dksX1_rest_0 18 rfl rfl)
theorem dX1_rest_19 : decode cX1_rest 19 = .ok (.iconst 4, 1) := dk_7 (dk_at dksX1_rest_0 19 rfl rfl)
theorem dX1_rest_20 : decode cX1_rest 20 = .ok (.if_icmp .ge 32, 3) := dk_162 0 32 (dk_at dksX1_rest_0 20 rfl rfl)
theorem dX1_rest_23 : decode cX1_rest 23 = .ok (.iload_n 1, 1) := dk_27 (dk_at dksX1_rest_0 23 rfl rfl)
theorem dX1_rest_24 : decode cX1_rest 24 = .ok (.iload_n 3, 1) := dk_29 (dk_at dksX1_rest_1 0 rfl rfl)
theorem dX1_rest_25 : decode cX1_rest 25 = .ok (.invokestatic 371, 3) := dk_184 1 115 (dk_at dksX1_rest_1 1 rfl rfl)
theorem dX1_rest_28 : decode cX1_rest 28 = .ok (.ifCond .eq 18, 3) := dk_153 0 18 (dk_at dksX1_rest_1 4 rfl rfl)
theorem dX1_rest_31 : decode cX1_rest 31 = .ok (.aload_n 0, 1) := dk_42 (dk_at dksX1_rest_1 7 rfl rfl)
theorem dX1_rest_32 : decode cX1_rest 32 = .ok (.bipush 10, 2) := dk_16 10 (dk_at dksX1_rest_1 8 rfl rfl)
theorem dX1_rest_34 : decode cX1_rest 34 = .ok (.iload_n 3, 1) := dk_29 (dk_at dksX1_rest_1 10 rfl rfl)
theorem dX1_rest_35 : decode cX1_rest 35 = .ok (.iconst 2, 1) := dk_5 (dk_at dksX1_rest_1 11 rfl rfl)
theorem dX1_rest_36 : decode cX1_rest 36 = .ok (.idiv, 1) := dk_108 (dk_at dksX1_rest_1 12 rfl rfl)
theorem dX1_rest_37 : decode cX1_rest 37 = .ok (.imul, 1) := dk_104 (dk_at dksX1_rest_1 13 rfl rfl)
theorem dX1_rest_38 : decode cX1_rest 38 = .ok (.iload_n 3, 1) := dk_29 (dk_at dksX1_rest_1 14 rfl rfl)
theorem dX1_rest_39 : decode cX1_rest 39 = .ok (.iconst 2, 1) := dk_5 (dk_at dksX1_rest_1 15 rfl rfl)
theorem dX1_rest_40 : decode cX1_rest 40 = .ok (.irem, 1) := dk_112 (dk_at dksX1_rest_1 16 rfl rfl)
theorem dX1_rest_41 : decode cX1_rest 41 = .ok (.iadd, 1) := dk_96 (dk_at dksX1_rest_1 17 rfl rfl)
theorem dX1_rest_42 : decode cX1_rest 42 = .ok (.invokevirtual 47, 3) := dk_182 0 47 (dk_at dksX1_rest_1 18 rfl rfl)
theorem dX1_rest_45 : decode cX1_rest 45 = .ok (.ireturn, 1) := dk_172 (dk_at dksX1_rest_1 21 rfl rfl)
theorem dX1_rest_46 : decode cX1_rest 46 = .ok (.iinc 3 1, 3) := dk_132 3 1 (dk_at dksX1_rest_2 0 rfl rfl)
theorem dX1_rest_49 : decode cX1_rest 49 = .ok (.goto (-31), 3) := dk_167 255 225 (dk_at dksX1_rest_2 3 rfl rfl)
theorem dX1_rest_52 : decode cX1_rest 52 = .ok (.aload_n 0, 1) := dk_42 (dk_at dksX1_rest_2 6 rfl rfl)
theorem dX1_rest_53 : decode cX1_rest 53 = .ok (.bipush (-2), 2) := dk_16 254 (dk_at dksX1_rest_2 7 rfl rfl)
theorem dX1_rest_55 : decode cX1_rest 55 = .ok (.invokevirtual 47, 3) := dk_182 0 47 (dk_at dksX1_rest_2 9 rfl rfl)
theorem dX1_rest_58 : decode cX1_rest 58 = .ok (.ireturn, 1) := dk_172 (dk_at dksX1_rest_2 12 rfl rfl)
abbrev cX1_board : ByteArray := prog_1_method_88_code
def yX1_board : MethodName := ⟨RX1, "board", "(II)I"⟩
def dkwX1_board_3 : List UInt8 := [28, 79, 42, 42, 180, 0, 91, 28, 182, 0, 164, 184, 0, 243, 182, 0, 47, 172]
abbrev dktX1_board_3 : List UInt8 := dkwX1_board_3 ++ []
def dkwX1_board_2 : List UInt8 := [182, 0, 231, 153, 0, 9, 42, 6, 182, 0, 43, 172, 42, 182, 1, 125, 42, 180, 0, 91, 180, 0, 185, 27]
abbrev dktX1_board_2 : List UInt8 := dkwX1_board_2 ++ dktX1_board_3
def dkwX1_board_1 : List UInt8 := [180, 0, 91, 180, 0, 185, 27, 46, 28, 160, 0, 9, 42, 8, 182, 0, 43, 172, 42, 180, 0, 91, 28]
abbrev dktX1_board_1 : List UInt8 := dkwX1_board_1 ++ dktX1_board_2
def dkwX1_board_0 : List UInt8 := [42, 27, 182, 0, 174, 153, 0, 11, 42, 28, 182, 0, 131, 154, 0, 9, 42, 4, 182, 0, 43, 172, 42]
abbrev dktX1_board_0 : List UInt8 := dkwX1_board_0 ++ dktX1_board_1
theorem dksX1_board_0 : cX1_board.data.toList.drop 0 = dktX1_board_0 := by decide +kernel
theorem dksX1_board_1 : cX1_board.data.toList.drop 23 = dktX1_board_1 := dk_seg dksX1_board_0 23 rfl rfl
theorem dksX1_board_2 : cX1_board.data.toList.drop 46 = dktX1_board_2 := dk_seg dksX1_board_1 23 rfl rfl
theorem dksX1_board_3 : cX1_board.data.toList.drop 70 = dktX1_board_3 := dk_seg dksX1_board_2 24 rfl rfl
theorem dX1_board_0 : decode cX1_board 0 = .ok (.aload_n 0, 1) := dk_42 (dk_at dksX1_board_0 0 rfl rfl)
theorem dX1_board_1 : decode cX1_board 1 = .ok (.iload_n 1, 1) := dk_27 (dk_at dksX1_board_0 1 rfl rfl)
theorem dX1_board_2 : decode cX1_board 2 = .ok (.invokevirtual 174, 3) := dk_182 0 174 (dk_at dksX1_board_0 2 rfl rfl)
theorem dX1_board_5 : decode cX1_board 5 = .ok (.ifCond .eq 11, 3) := dk_153 0 11 (dk_at dksX1_board_0 5 rfl rfl)
theorem dX1_board_8 : decode cX1_board 8 = .ok (.aload_n 0, 1) := dk_42 (dk_at dksX1_board_0 8 rfl rfl)
theorem dX1_board_9 : decode cX1_board 9 = .ok (.iload_n 2, 1) := dk_28 (dk_at dksX1_board_0 9 rfl rfl)
theorem dX1_board_10 : decode cX1_board 10 = .ok (.invokevirtual 131, 3) := dk_182 0 131 (dk_at dksX1_board_0 10 rfl rfl)
theorem dX1_board_13 : decode cX1_board 13 = .ok (.ifCond .ne 9, 3) := dk_154 0 9 (dk_at dksX1_board_0 13 rfl rfl)
theorem dX1_board_16 : decode cX1_board 16 = .ok (.aload_n 0, 1) := dk_42 (dk_at dksX1_board_0 16 rfl rfl)
theorem dX1_board_17 : decode cX1_board 17 = .ok (.iconst 1, 1) := dk_4 (dk_at dksX1_board_0 17 rfl rfl)
theorem dX1_board_18 : decode cX1_board 18 = .ok (.invokevirtual 43, 3) := dk_182 0 43 (dk_at dksX1_board_0 18 rfl rfl)
theorem dX1_board_21 : decode cX1_board 21 = .ok (.ireturn, 1) := dk_172 (dk_at dksX1_board_0 21 rfl rfl)
theorem dX1_board_22 : decode cX1_board 22 = .ok (.aload_n 0, 1) := dk_42 (dk_at dksX1_board_0 22 rfl rfl)
theorem dX1_board_23 : decode cX1_board 23 = .ok (.getfield 91, 3) := dk_180 0 91 (dk_at dksX1_board_1 0 rfl rfl)
theorem dX1_board_26 : decode cX1_board 26 = .ok (.getfield 185, 3) := dk_180 0 185 (dk_at dksX1_board_1 3 rfl rfl)
theorem dX1_board_29 : decode cX1_board 29 = .ok (.iload_n 1, 1) := dk_27 (dk_at dksX1_board_1 6 rfl rfl)
theorem dX1_board_30 : decode cX1_board 30 = .ok (.iaload, 1) := dk_46 (dk_at dksX1_board_1 7 rfl rfl)
theorem dX1_board_31 : decode cX1_board 31 = .ok (.iload_n 2, 1) := dk_28 (dk_at dksX1_board_1 8 rfl rfl)
theorem dX1_board_32 : decode cX1_board 32 = .ok (.if_icmp .ne 9, 3) := dk_160 0 9 (dk_at dksX1_board_1 9 rfl rfl)
theorem dX1_board_35 : decode cX1_board 35 = .ok (.aload_n 0, 1) := dk_42 (dk_at dksX1_board_1 12 rfl rfl)
theorem dX1_board_36 : decode cX1_board 36 = .ok (.iconst 5, 1) := dk_8 (dk_at dksX1_board_1 13 rfl rfl)
theorem dX1_board_37 : decode cX1_board 37 = .ok (.invokevirtual 43, 3) := dk_182 0 43 (dk_at dksX1_board_1 14 rfl rfl)
theorem dX1_board_40 : decode cX1_board 40 = .ok (.ireturn, 1) := dk_172 (dk_at dksX1_board_1 17 rfl rfl)
theorem dX1_board_41 : decode cX1_board 41 = .ok (.aload_n 0, 1) := dk_42 (dk_at dksX1_board_1 18 rfl rfl)
theorem dX1_board_42 : decode cX1_board 42 = .ok (.getfield 91, 3) := dk_180 0 91 (dk_at dksX1_board_1 19 rfl rfl)
theorem dX1_board_45 : decode cX1_board 45 = .ok (.iload_n 2, 1) := dk_28 (dk_at dksX1_board_1 22 rfl rfl)
theorem dX1_board_46 : decode cX1_board 46 = .ok (.invokevirtual 231, 3) := dk_182 0 231 (dk_at dksX1_board_2 0 rfl rfl)
theorem dX1_board_49 : decode cX1_board 49 = .ok (.ifCond .eq 9, 3) := dk_153 0 9 (dk_at dksX1_board_2 3 rfl rfl)
theorem dX1_board_52 : decode cX1_board 52 = .ok (.aload_n 0, 1) := dk_42 (dk_at dksX1_board_2 6 rfl rfl)
theorem dX1_board_53 : decode cX1_board 53 = .ok (.iconst 3, 1) := dk_6 (dk_at dksX1_board_2 7 rfl rfl)
theorem dX1_board_54 : decode cX1_board 54 = .ok (.invokevirtual 43, 3) := dk_182 0 43 (dk_at dksX1_board_2 8 rfl rfl)
theorem dX1_board_57 : decode cX1_board 57 = .ok (.ireturn, 1) := dk_172 (dk_at dksX1_board_2 11 rfl rfl)
theorem dX1_board_58 : decode cX1_board 58 = .ok (.aload_n 0, 1) := dk_42 (dk_at dksX1_board_2 12 rfl rfl)
theorem dX1_board_59 : decode cX1_board 59 = .ok (.invokevirtual 381, 3) := dk_182 1 125 (dk_at dksX1_board_2 13 rfl rfl)
theorem dX1_board_62 : decode cX1_board 62 = .ok (.aload_n 0, 1) := dk_42 (dk_at dksX1_board_2 16 rfl rfl)
theorem dX1_board_63 : decode cX1_board 63 = .ok (.getfield 91, 3) := dk_180 0 91 (dk_at dksX1_board_2 17 rfl rfl)
theorem dX1_board_66 : decode cX1_board 66 = .ok (.getfield 185, 3) := dk_180 0 185 (dk_at dksX1_board_2 20 rfl rfl)
theorem dX1_board_69 : decode cX1_board 69 = .ok (.iload_n 1, 1) := dk_27 (dk_at dksX1_board_2 23 rfl rfl)
theorem dX1_board_70 : decode cX1_board 70 = .ok (.iload_n 2, 1) := dk_28 (dk_at dksX1_board_3 0 rfl rfl)
theorem dX1_board_71 : decode cX1_board 71 = .ok (.iastore, 1) := dk_79 (dk_at dksX1_board_3 1 rfl rfl)
theorem dX1_board_72 : decode cX1_board 72 = .ok (.aload_n 0, 1) := dk_42 (dk_at dksX1_board_3 2 rfl rfl)
theorem dX1_board_73 : decode cX1_board 73 = .ok (.aload_n 0, 1) := dk_42 (dk_at dksX1_board_3 3 rfl rfl)
theorem dX1_board_74 : decode cX1_board 74 = .ok (.getfield 91, 3) := dk_180 0 91 (dk_at dksX1_board_3 4 rfl rfl)
theorem dX1_board_77 : decode cX1_board 77 = .ok (.iload_n 2, 1) := dk_28 (dk_at dksX1_board_3 7 rfl rfl)
theorem dX1_board_78 : decode cX1_board 78 = .ok (.invokevirtual 164, 3) := dk_182 0 164 (dk_at dksX1_board_3 8 rfl rfl)
theorem dX1_board_81 : decode cX1_board 81 = .ok (.invokestatic 243, 3) := dk_184 0 243 (dk_at dksX1_board_3 11 rfl rfl)
theorem dX1_board_84 : decode cX1_board 84 = .ok (.invokevirtual 47, 3) := dk_182 0 47 (dk_at dksX1_board_3 14 rfl rfl)
theorem dX1_board_87 : decode cX1_board 87 = .ok (.ireturn, 1) := dk_172 (dk_at dksX1_board_3 17 rfl rfl)
abbrev cX1_remembers : ByteArray := prog_1_method_87_code
def yX1_remembers : MethodName := ⟨RX1, "remembers", "()V"⟩
def dkwX1_remembers_1 : List UInt8 := [180, 0, 20, 42, 180, 0, 91, 182, 1, 121, 87, 42, 42, 180, 0, 91, 182, 0, 98, 181, 0, 91, 177]
abbrev dktX1_remembers_1 : List UInt8 := dkwX1_remembers_1 ++ []
def dkwX1_remembers_0 : List UInt8 := [42, 180, 0, 20, 182, 0, 117, 16, 16, 160, 0, 12, 42, 180, 0, 20, 3, 182, 1, 118, 87, 42]
abbrev dktX1_remembers_0 : List UInt8 := dkwX1_remembers_0 ++ dktX1_remembers_1
theorem dksX1_remembers_0 : cX1_remembers.data.toList.drop 0 = dktX1_remembers_0 := by decide +kernel
theorem dksX1_remembers_1 : cX1_remembers.data.toList.drop 22 = dktX1_remembers_1 := dk_seg dksX1_remembers_0 22 rfl rfl
theorem dX1_remembers_0 : decode cX1_remembers 0 = .ok (.aload_n 0, 1) := dk_42 (dk_at dksX1_remembers_0 0 rfl rfl)
theorem dX1_remembers_1 : decode cX1_remembers 1 = .ok (.getfield 20, 3) := dk_180 0 20 (dk_at dksX1_remembers_0 1 rfl rfl)
theorem dX1_remembers_4 : decode cX1_remembers 4 = .ok (.invokevirtual 117, 3) := dk_182 0 117 (dk_at dksX1_remembers_0 4 rfl rfl)
theorem dX1_remembers_7 : decode cX1_remembers 7 = .ok (.bipush 16, 2) := dk_16 16 (dk_at dksX1_remembers_0 7 rfl rfl)
theorem dX1_remembers_9 : decode cX1_remembers 9 = .ok (.if_icmp .ne 12, 3) := dk_160 0 12 (dk_at dksX1_remembers_0 9 rfl rfl)
theorem dX1_remembers_12 : decode cX1_remembers 12 = .ok (.aload_n 0, 1) := dk_42 (dk_at dksX1_remembers_0 12 rfl rfl)
theorem dX1_remembers_13 : decode cX1_remembers 13 = .ok (.getfield 20, 3) := dk_180 0 20 (dk_at dksX1_remembers_0 13 rfl rfl)
theorem dX1_remembers_16 : decode cX1_remembers 16 = .ok (.iconst 0, 1) := dk_3 (dk_at dksX1_remembers_0 16 rfl rfl)
theorem dX1_remembers_17 : decode cX1_remembers 17 = .ok (.invokevirtual 374, 3) := dk_182 1 118 (dk_at dksX1_remembers_0 17 rfl rfl)
theorem dX1_remembers_20 : decode cX1_remembers 20 = .ok (.pop, 1) := dk_87 (dk_at dksX1_remembers_0 20 rfl rfl)
theorem dX1_remembers_21 : decode cX1_remembers 21 = .ok (.aload_n 0, 1) := dk_42 (dk_at dksX1_remembers_0 21 rfl rfl)
theorem dX1_remembers_22 : decode cX1_remembers 22 = .ok (.getfield 20, 3) := dk_180 0 20 (dk_at dksX1_remembers_1 0 rfl rfl)
theorem dX1_remembers_25 : decode cX1_remembers 25 = .ok (.aload_n 0, 1) := dk_42 (dk_at dksX1_remembers_1 3 rfl rfl)
theorem dX1_remembers_26 : decode cX1_remembers 26 = .ok (.getfield 91, 3) := dk_180 0 91 (dk_at dksX1_remembers_1 4 rfl rfl)
theorem dX1_remembers_29 : decode cX1_remembers 29 = .ok (.invokevirtual 377, 3) := dk_182 1 121 (dk_at dksX1_remembers_1 7 rfl rfl)
theorem dX1_remembers_32 : decode cX1_remembers 32 = .ok (.pop, 1) := dk_87 (dk_at dksX1_remembers_1 10 rfl rfl)
theorem dX1_remembers_33 : decode cX1_remembers 33 = .ok (.aload_n 0, 1) := dk_42 (dk_at dksX1_remembers_1 11 rfl rfl)
theorem dX1_remembers_34 : decode cX1_remembers 34 = .ok (.aload_n 0, 1) := dk_42 (dk_at dksX1_remembers_1 12 rfl rfl)
theorem dX1_remembers_35 : decode cX1_remembers 35 = .ok (.getfield 91, 3) := dk_180 0 91 (dk_at dksX1_remembers_1 13 rfl rfl)
theorem dX1_remembers_38 : decode cX1_remembers 38 = .ok (.invokevirtual 98, 3) := dk_182 0 98 (dk_at dksX1_remembers_1 16 rfl rfl)
theorem dX1_remembers_41 : decode cX1_remembers 41 = .ok (.putfield 91, 3) := dk_181 0 91 (dk_at dksX1_remembers_1 19 rfl rfl)
theorem dX1_remembers_44 : decode cX1_remembers 44 = .ok (.return_, 1) := dk_177 (dk_at dksX1_remembers_1 22 rfl rfl)
abbrev cX1_ashore : ByteArray := prog_1_method_89_code
def yX1_ashore : MethodName := ⟨RX1, "ashore", "(I)Z"⟩
def dkwX1_ashore_2 : List UInt8 := [16, 254, 79, 42, 182, 1, 131, 172]
abbrev dktX1_ashore_2 : List UInt8 := dkwX1_ashore_2 ++ []
def dkwX1_ashore_1 : List UInt8 := [16, 254, 160, 0, 9, 42, 8, 182, 1, 128, 172, 42, 182, 1, 125, 42, 180, 0, 91, 180, 0, 185, 27]
abbrev dktX1_ashore_1 : List UInt8 := dkwX1_ashore_1 ++ dktX1_ashore_2
def dkwX1_ashore_0 : List UInt8 := [42, 27, 182, 0, 174, 154, 0, 9, 42, 4, 182, 1, 128, 172, 42, 180, 0, 91, 180, 0, 185, 27, 46]
abbrev dktX1_ashore_0 : List UInt8 := dkwX1_ashore_0 ++ dktX1_ashore_1
theorem dksX1_ashore_0 : cX1_ashore.data.toList.drop 0 = dktX1_ashore_0 := by decide +kernel
theorem dksX1_ashore_1 : cX1_ashore.data.toList.drop 23 = dktX1_ashore_1 := dk_seg dksX1_ashore_0 23 rfl rfl
theorem dksX1_ashore_2 : cX1_ashore.data.toList.drop 46 = dktX1_ashore_2 := dk_seg dksX1_ashore_1 23 rfl rfl
theorem dX1_ashore_0 : decode cX1_ashore 0 = .ok (.aload_n 0, 1) := dk_42 (dk_at dksX1_ashore_0 0 rfl rfl)
theorem dX1_ashore_1 : decode cX1_ashore 1 = .ok (.iload_n 1, 1) := dk_27 (dk_at dksX1_ashore_0 1 rfl rfl)
theorem dX1_ashore_2 : decode cX1_ashore 2 = .ok (.invokevirtual 174, 3) := dk_182 0 174 (dk_at dksX1_ashore_0 2 rfl rfl)
theorem dX1_ashore_5 : decode cX1_ashore 5 = .ok (.ifCond .ne 9, 3) := dk_154 0 9 (dk_at dksX1_ashore_0 5 rfl rfl)
theorem dX1_ashore_8 : decode cX1_ashore 8 = .ok (.aload_n 0, 1) := dk_42 (dk_at dksX1_ashore_0 8 rfl rfl)
theorem dX1_ashore_9 : decode cX1_ashore 9 = .ok (.iconst 1, 1) := dk_4 (dk_at dksX1_ashore_0 9 rfl rfl)
theorem dX1_ashore_10 : decode cX1_ashore 10 = .ok (.invokevirtual 384, 3) := dk_182 1 128 (dk_at dksX1_ashore_0 10 rfl rfl)
theorem dX1_ashore_13 : decode cX1_ashore 13 = .ok (.ireturn, 1) := dk_172 (dk_at dksX1_ashore_0 13 rfl rfl)
theorem dX1_ashore_14 : decode cX1_ashore 14 = .ok (.aload_n 0, 1) := dk_42 (dk_at dksX1_ashore_0 14 rfl rfl)
theorem dX1_ashore_15 : decode cX1_ashore 15 = .ok (.getfield 91, 3) := dk_180 0 91 (dk_at dksX1_ashore_0 15 rfl rfl)
theorem dX1_ashore_18 : decode cX1_ashore 18 = .ok (.getfield 185, 3) := dk_180 0 185 (dk_at dksX1_ashore_0 18 rfl rfl)
theorem dX1_ashore_21 : decode cX1_ashore 21 = .ok (.iload_n 1, 1) := dk_27 (dk_at dksX1_ashore_0 21 rfl rfl)
theorem dX1_ashore_22 : decode cX1_ashore 22 = .ok (.iaload, 1) := dk_46 (dk_at dksX1_ashore_0 22 rfl rfl)
theorem dX1_ashore_23 : decode cX1_ashore 23 = .ok (.bipush (-2), 2) := dk_16 254 (dk_at dksX1_ashore_1 0 rfl rfl)
theorem dX1_ashore_25 : decode cX1_ashore 25 = .ok (.if_icmp .ne 9, 3) := dk_160 0 9 (dk_at dksX1_ashore_1 2 rfl rfl)
theorem dX1_ashore_28 : decode cX1_ashore 28 = .ok (.aload_n 0, 1) := dk_42 (dk_at dksX1_ashore_1 5 rfl rfl)
theorem dX1_ashore_29 : decode cX1_ashore 29 = .ok (.iconst 5, 1) := dk_8 (dk_at dksX1_ashore_1 6 rfl rfl)
theorem dX1_ashore_30 : decode cX1_ashore 30 = .ok (.invokevirtual 384, 3) := dk_182 1 128 (dk_at dksX1_ashore_1 7 rfl rfl)
theorem dX1_ashore_33 : decode cX1_ashore 33 = .ok (.ireturn, 1) := dk_172 (dk_at dksX1_ashore_1 10 rfl rfl)
theorem dX1_ashore_34 : decode cX1_ashore 34 = .ok (.aload_n 0, 1) := dk_42 (dk_at dksX1_ashore_1 11 rfl rfl)
theorem dX1_ashore_35 : decode cX1_ashore 35 = .ok (.invokevirtual 381, 3) := dk_182 1 125 (dk_at dksX1_ashore_1 12 rfl rfl)
theorem dX1_ashore_38 : decode cX1_ashore 38 = .ok (.aload_n 0, 1) := dk_42 (dk_at dksX1_ashore_1 15 rfl rfl)
theorem dX1_ashore_39 : decode cX1_ashore 39 = .ok (.getfield 91, 3) := dk_180 0 91 (dk_at dksX1_ashore_1 16 rfl rfl)
theorem dX1_ashore_42 : decode cX1_ashore 42 = .ok (.getfield 185, 3) := dk_180 0 185 (dk_at dksX1_ashore_1 19 rfl rfl)
theorem dX1_ashore_45 : decode cX1_ashore 45 = .ok (.iload_n 1, 1) := dk_27 (dk_at dksX1_ashore_1 22 rfl rfl)
theorem dX1_ashore_46 : decode cX1_ashore 46 = .ok (.bipush (-2), 2) := dk_16 254 (dk_at dksX1_ashore_2 0 rfl rfl)
theorem dX1_ashore_48 : decode cX1_ashore 48 = .ok (.iastore, 1) := dk_79 (dk_at dksX1_ashore_2 2 rfl rfl)
theorem dX1_ashore_49 : decode cX1_ashore 49 = .ok (.aload_n 0, 1) := dk_42 (dk_at dksX1_ashore_2 3 rfl rfl)
theorem dX1_ashore_50 : decode cX1_ashore 50 = .ok (.invokevirtual 387, 3) := dk_182 1 131 (dk_at dksX1_ashore_2 4 rfl rfl)
theorem dX1_ashore_53 : decode cX1_ashore 53 = .ok (.ireturn, 1) := dk_172 (dk_at dksX1_ashore_2 7 rfl rfl)
abbrev cX1_denied : ByteArray := prog_1_method_9_code
def yX1_denied : MethodName := ⟨RX1, "denied", "(I)Z"⟩
def dkwX1_denied_0 : List UInt8 := [42, 27, 182, 0, 43, 87, 3, 172]
abbrev dktX1_denied_0 : List UInt8 := dkwX1_denied_0 ++ []
theorem dksX1_denied_0 : cX1_denied.data.toList.drop 0 = dktX1_denied_0 := by decide +kernel
theorem dX1_denied_0 : decode cX1_denied 0 = .ok (.aload_n 0, 1) := dk_42 (dk_at dksX1_denied_0 0 rfl rfl)
theorem dX1_denied_1 : decode cX1_denied 1 = .ok (.iload_n 1, 1) := dk_27 (dk_at dksX1_denied_0 1 rfl rfl)
theorem dX1_denied_2 : decode cX1_denied 2 = .ok (.invokevirtual 43, 3) := dk_182 0 43 (dk_at dksX1_denied_0 2 rfl rfl)
theorem dX1_denied_5 : decode cX1_denied 5 = .ok (.pop, 1) := dk_87 (dk_at dksX1_denied_0 5 rfl rfl)
theorem dX1_denied_6 : decode cX1_denied 6 = .ok (.iconst 0, 1) := dk_3 (dk_at dksX1_denied_0 6 rfl rfl)
theorem dX1_denied_7 : decode cX1_denied 7 = .ok (.ireturn, 1) := dk_172 (dk_at dksX1_denied_0 7 rfl rfl)
abbrev cX1_granted : ByteArray := prog_1_method_11_code
def yX1_granted : MethodName := ⟨RX1, "granted", "()Z"⟩
def dkwX1_granted_0 : List UInt8 := [42, 3, 182, 0, 47, 87, 4, 172]
abbrev dktX1_granted_0 : List UInt8 := dkwX1_granted_0 ++ []
theorem dksX1_granted_0 : cX1_granted.data.toList.drop 0 = dktX1_granted_0 := by decide +kernel
theorem dX1_granted_0 : decode cX1_granted 0 = .ok (.aload_n 0, 1) := dk_42 (dk_at dksX1_granted_0 0 rfl rfl)
theorem dX1_granted_1 : decode cX1_granted 1 = .ok (.iconst 0, 1) := dk_3 (dk_at dksX1_granted_0 1 rfl rfl)
theorem dX1_granted_2 : decode cX1_granted 2 = .ok (.invokevirtual 47, 3) := dk_182 0 47 (dk_at dksX1_granted_0 2 rfl rfl)
theorem dX1_granted_5 : decode cX1_granted 5 = .ok (.pop, 1) := dk_87 (dk_at dksX1_granted_0 5 rfl rfl)
theorem dX1_granted_6 : decode cX1_granted 6 = .ok (.iconst 1, 1) := dk_4 (dk_at dksX1_granted_0 6 rfl rfl)
theorem dX1_granted_7 : decode cX1_granted 7 = .ok (.ireturn, 1) := dk_172 (dk_at dksX1_granted_0 7 rfl rfl)
abbrev cX1_light : ByteArray := prog_1_method_90_code
def yX1_light : MethodName := ⟨RX1, "light", "(IZ)Z"⟩
def dkwX1_light_2 : List UInt8 := [180, 0, 167, 4, 27, 120, 130, 181, 0, 167, 42, 182, 1, 131, 172]
abbrev dktX1_light_2 : List UInt8 := dkwX1_light_2 ++ []
def dkwX1_light_1 : List UInt8 := [184, 0, 170, 28, 160, 0, 9, 42, 8, 182, 1, 128, 172, 42, 182, 1, 125, 42, 180, 0, 91, 89]
abbrev dktX1_light_1 : List UInt8 := dkwX1_light_1 ++ dktX1_light_2
def dkwX1_light_0 : List UInt8 := [42, 27, 182, 0, 131, 154, 0, 9, 42, 4, 182, 1, 128, 172, 42, 180, 0, 91, 180, 0, 167, 27]
abbrev dktX1_light_0 : List UInt8 := dkwX1_light_0 ++ dktX1_light_1
theorem dksX1_light_0 : cX1_light.data.toList.drop 0 = dktX1_light_0 := by decide +kernel
theorem dksX1_light_1 : cX1_light.data.toList.drop 22 = dktX1_light_1 := dk_seg dksX1_light_0 22 rfl rfl
theorem dksX1_light_2 : cX1_light.data.toList.drop 44 = dktX1_light_2 := dk_seg dksX1_light_1 22 rfl rfl
theorem dX1_light_0 : decode cX1_light 0 = .ok (.aload_n 0, 1) := dk_42 (dk_at dksX1_light_0 0 rfl rfl)
theorem dX1_light_1 : decode cX1_light 1 = .ok (.iload_n 1, 1) := dk_27 (dk_at dksX1_light_0 1 rfl rfl)
theorem dX1_light_2 : decode cX1_light 2 = .ok (.invokevirtual 131, 3) := dk_182 0 131 (dk_at dksX1_light_0 2 rfl rfl)
theorem dX1_light_5 : decode cX1_light 5 = .ok (.ifCond .ne 9, 3) := dk_154 0 9 (dk_at dksX1_light_0 5 rfl rfl)
theorem dX1_light_8 : decode cX1_light 8 = .ok (.aload_n 0, 1) := dk_42 (dk_at dksX1_light_0 8 rfl rfl)
theorem dX1_light_9 : decode cX1_light 9 = .ok (.iconst 1, 1) := dk_4 (dk_at dksX1_light_0 9 rfl rfl)
theorem dX1_light_10 : decode cX1_light 10 = .ok (.invokevirtual 384, 3) := dk_182 1 128 (dk_at dksX1_light_0 10 rfl rfl)
theorem dX1_light_13 : decode cX1_light 13 = .ok (.ireturn, 1) := dk_172 (dk_at dksX1_light_0 13 rfl rfl)
theorem dX1_light_14 : decode cX1_light 14 = .ok (.aload_n 0, 1) := dk_42 (dk_at dksX1_light_0 14 rfl rfl)
theorem dX1_light_15 : decode cX1_light 15 = .ok (.getfield 91, 3) := dk_180 0 91 (dk_at dksX1_light_0 15 rfl rfl)
theorem dX1_light_18 : decode cX1_light 18 = .ok (.getfield 167, 3) := dk_180 0 167 (dk_at dksX1_light_0 18 rfl rfl)
theorem dX1_light_21 : decode cX1_light 21 = .ok (.iload_n 1, 1) := dk_27 (dk_at dksX1_light_0 21 rfl rfl)
theorem dX1_light_22 : decode cX1_light 22 = .ok (.invokestatic 170, 3) := dk_184 0 170 (dk_at dksX1_light_1 0 rfl rfl)
theorem dX1_light_25 : decode cX1_light 25 = .ok (.iload_n 2, 1) := dk_28 (dk_at dksX1_light_1 3 rfl rfl)
theorem dX1_light_26 : decode cX1_light 26 = .ok (.if_icmp .ne 9, 3) := dk_160 0 9 (dk_at dksX1_light_1 4 rfl rfl)
theorem dX1_light_29 : decode cX1_light 29 = .ok (.aload_n 0, 1) := dk_42 (dk_at dksX1_light_1 7 rfl rfl)
theorem dX1_light_30 : decode cX1_light 30 = .ok (.iconst 5, 1) := dk_8 (dk_at dksX1_light_1 8 rfl rfl)
theorem dX1_light_31 : decode cX1_light 31 = .ok (.invokevirtual 384, 3) := dk_182 1 128 (dk_at dksX1_light_1 9 rfl rfl)
theorem dX1_light_34 : decode cX1_light 34 = .ok (.ireturn, 1) := dk_172 (dk_at dksX1_light_1 12 rfl rfl)
theorem dX1_light_35 : decode cX1_light 35 = .ok (.aload_n 0, 1) := dk_42 (dk_at dksX1_light_1 13 rfl rfl)
theorem dX1_light_36 : decode cX1_light 36 = .ok (.invokevirtual 381, 3) := dk_182 1 125 (dk_at dksX1_light_1 14 rfl rfl)
theorem dX1_light_39 : decode cX1_light 39 = .ok (.aload_n 0, 1) := dk_42 (dk_at dksX1_light_1 17 rfl rfl)
theorem dX1_light_40 : decode cX1_light 40 = .ok (.getfield 91, 3) := dk_180 0 91 (dk_at dksX1_light_1 18 rfl rfl)
theorem dX1_light_43 : decode cX1_light 43 = .ok (.dup, 1) := dk_89 (dk_at dksX1_light_1 21 rfl rfl)
theorem dX1_light_44 : decode cX1_light 44 = .ok (.getfield 167, 3) := dk_180 0 167 (dk_at dksX1_light_2 0 rfl rfl)
theorem dX1_light_47 : decode cX1_light 47 = .ok (.iconst 1, 1) := dk_4 (dk_at dksX1_light_2 3 rfl rfl)
theorem dX1_light_48 : decode cX1_light 48 = .ok (.iload_n 1, 1) := dk_27 (dk_at dksX1_light_2 4 rfl rfl)
theorem dX1_light_49 : decode cX1_light 49 = .ok (.ishl, 1) := dk_120 (dk_at dksX1_light_2 5 rfl rfl)
theorem dX1_light_50 : decode cX1_light 50 = .ok (.ixor, 1) := dk_130 (dk_at dksX1_light_2 6 rfl rfl)
theorem dX1_light_51 : decode cX1_light 51 = .ok (.putfield 167, 3) := dk_181 0 167 (dk_at dksX1_light_2 7 rfl rfl)
theorem dX1_light_54 : decode cX1_light 54 = .ok (.aload_n 0, 1) := dk_42 (dk_at dksX1_light_2 10 rfl rfl)
theorem dX1_light_55 : decode cX1_light 55 = .ok (.invokevirtual 387, 3) := dk_182 1 131 (dk_at dksX1_light_2 11 rfl rfl)
theorem dX1_light_58 : decode cX1_light 58 = .ok (.ireturn, 1) := dk_172 (dk_at dksX1_light_2 14 rfl rfl)
abbrev cX1_cross : ByteArray := prog_1_method_91_code
def yX1_cross : MethodName := ⟨RX1, "cross", "(I)I"⟩
def dkwX1_cross_2 : List UInt8 := [27, 46, 182, 0, 47, 172]
abbrev dktX1_cross_2 : List UInt8 := dkwX1_cross_2 ++ []
def dkwX1_cross_1 : List UInt8 := [180, 0, 154, 27, 4, 42, 180, 0, 91, 180, 0, 154, 27, 46, 100, 79, 42, 42, 180, 0, 91, 180, 0, 154]
abbrev dktX1_cross_1 : List UInt8 := dkwX1_cross_1 ++ dktX1_cross_2
def dkwX1_cross_0 : List UInt8 := [42, 27, 182, 0, 131, 154, 0, 9, 42, 4, 182, 0, 43, 172, 42, 182, 1, 125, 42, 180, 0, 91]
abbrev dktX1_cross_0 : List UInt8 := dkwX1_cross_0 ++ dktX1_cross_1
theorem dksX1_cross_0 : cX1_cross.data.toList.drop 0 = dktX1_cross_0 := by decide +kernel
theorem dksX1_cross_1 : cX1_cross.data.toList.drop 22 = dktX1_cross_1 := dk_seg dksX1_cross_0 22 rfl rfl
theorem dksX1_cross_2 : cX1_cross.data.toList.drop 46 = dktX1_cross_2 := dk_seg dksX1_cross_1 24 rfl rfl
theorem dX1_cross_0 : decode cX1_cross 0 = .ok (.aload_n 0, 1) := dk_42 (dk_at dksX1_cross_0 0 rfl rfl)
theorem dX1_cross_1 : decode cX1_cross 1 = .ok (.iload_n 1, 1) := dk_27 (dk_at dksX1_cross_0 1 rfl rfl)
theorem dX1_cross_2 : decode cX1_cross 2 = .ok (.invokevirtual 131, 3) := dk_182 0 131 (dk_at dksX1_cross_0 2 rfl rfl)
theorem dX1_cross_5 : decode cX1_cross 5 = .ok (.ifCond .ne 9, 3) := dk_154 0 9 (dk_at dksX1_cross_0 5 rfl rfl)
theorem dX1_cross_8 : decode cX1_cross 8 = .ok (.aload_n 0, 1) := dk_42 (dk_at dksX1_cross_0 8 rfl rfl)
theorem dX1_cross_9 : decode cX1_cross 9 = .ok (.iconst 1, 1) := dk_4 (dk_at dksX1_cross_0 9 rfl rfl)
theorem dX1_cross_10 : decode cX1_cross 10 = .ok (.invokevirtual 43, 3) := dk_182 0 43 (dk_at dksX1_cross_0 10 rfl rfl)
theorem dX1_cross_13 : decode cX1_cross 13 = .ok (.ireturn, 1) := dk_172 (dk_at dksX1_cross_0 13 rfl rfl)
theorem dX1_cross_14 : decode cX1_cross 14 = .ok (.aload_n 0, 1) := dk_42 (dk_at dksX1_cross_0 14 rfl rfl)
theorem dX1_cross_15 : decode cX1_cross 15 = .ok (.invokevirtual 381, 3) := dk_182 1 125 (dk_at dksX1_cross_0 15 rfl rfl)
theorem dX1_cross_18 : decode cX1_cross 18 = .ok (.aload_n 0, 1) := dk_42 (dk_at dksX1_cross_0 18 rfl rfl)
theorem dX1_cross_19 : decode cX1_cross 19 = .ok (.getfield 91, 3) := dk_180 0 91 (dk_at dksX1_cross_0 19 rfl rfl)
theorem dX1_cross_22 : decode cX1_cross 22 = .ok (.getfield 154, 3) := dk_180 0 154 (dk_at dksX1_cross_1 0 rfl rfl)
theorem dX1_cross_25 : decode cX1_cross 25 = .ok (.iload_n 1, 1) := dk_27 (dk_at dksX1_cross_1 3 rfl rfl)
theorem dX1_cross_26 : decode cX1_cross 26 = .ok (.iconst 1, 1) := dk_4 (dk_at dksX1_cross_1 4 rfl rfl)
theorem dX1_cross_27 : decode cX1_cross 27 = .ok (.aload_n 0, 1) := dk_42 (dk_at dksX1_cross_1 5 rfl rfl)
theorem dX1_cross_28 : decode cX1_cross 28 = .ok (.getfield 91, 3) := dk_180 0 91 (dk_at dksX1_cross_1 6 rfl rfl)
theorem dX1_cross_31 : decode cX1_cross 31 = .ok (.getfield 154, 3) := dk_180 0 154 (dk_at dksX1_cross_1 9 rfl rfl)
theorem dX1_cross_34 : decode cX1_cross 34 = .ok (.iload_n 1, 1) := dk_27 (dk_at dksX1_cross_1 12 rfl rfl)
theorem dX1_cross_35 : decode cX1_cross 35 = .ok (.iaload, 1) := dk_46 (dk_at dksX1_cross_1 13 rfl rfl)
theorem dX1_cross_36 : decode cX1_cross 36 = .ok (.isub, 1) := dk_100 (dk_at dksX1_cross_1 14 rfl rfl)
theorem dX1_cross_37 : decode cX1_cross 37 = .ok (.iastore, 1) := dk_79 (dk_at dksX1_cross_1 15 rfl rfl)
theorem dX1_cross_38 : decode cX1_cross 38 = .ok (.aload_n 0, 1) := dk_42 (dk_at dksX1_cross_1 16 rfl rfl)
theorem dX1_cross_39 : decode cX1_cross 39 = .ok (.aload_n 0, 1) := dk_42 (dk_at dksX1_cross_1 17 rfl rfl)
theorem dX1_cross_40 : decode cX1_cross 40 = .ok (.getfield 91, 3) := dk_180 0 91 (dk_at dksX1_cross_1 18 rfl rfl)
theorem dX1_cross_43 : decode cX1_cross 43 = .ok (.getfield 154, 3) := dk_180 0 154 (dk_at dksX1_cross_1 21 rfl rfl)
theorem dX1_cross_46 : decode cX1_cross 46 = .ok (.iload_n 1, 1) := dk_27 (dk_at dksX1_cross_2 0 rfl rfl)
theorem dX1_cross_47 : decode cX1_cross 47 = .ok (.iaload, 1) := dk_46 (dk_at dksX1_cross_2 1 rfl rfl)
theorem dX1_cross_48 : decode cX1_cross 48 = .ok (.invokevirtual 47, 3) := dk_182 0 47 (dk_at dksX1_cross_2 2 rfl rfl)
theorem dX1_cross_51 : decode cX1_cross 51 = .ok (.ireturn, 1) := dk_172 (dk_at dksX1_cross_2 5 rfl rfl)
abbrev cX1_raise : ByteArray := prog_1_method_92_code
def yX1_raise : MethodName := ⟨RX1, "raise", "(I)Z"⟩
def dkwX1_raise_2 : List UInt8 := [182, 1, 128, 172, 42, 182, 1, 125, 42, 180, 0, 91, 27, 181, 1, 31, 42, 182, 1, 131, 172]
abbrev dktX1_raise_2 : List UInt8 := dkwX1_raise_2 ++ []
def dkwX1_raise_1 : List UInt8 := [158, 0, 9, 42, 28, 182, 1, 128, 172, 42, 180, 0, 91, 180, 1, 31, 27, 160, 0, 9, 42, 8]
abbrev dktX1_raise_1 : List UInt8 := dkwX1_raise_1 ++ dktX1_raise_2
def dkwX1_raise_0 : List UInt8 := [42, 42, 180, 0, 82, 198, 0, 7, 4, 167, 0, 4, 3, 27, 4, 16, 20, 182, 1, 27, 61, 28]
abbrev dktX1_raise_0 : List UInt8 := dkwX1_raise_0 ++ dktX1_raise_1
theorem dksX1_raise_0 : cX1_raise.data.toList.drop 0 = dktX1_raise_0 := by decide +kernel
theorem dksX1_raise_1 : cX1_raise.data.toList.drop 22 = dktX1_raise_1 := dk_seg dksX1_raise_0 22 rfl rfl
theorem dksX1_raise_2 : cX1_raise.data.toList.drop 44 = dktX1_raise_2 := dk_seg dksX1_raise_1 22 rfl rfl
theorem dX1_raise_0 : decode cX1_raise 0 = .ok (.aload_n 0, 1) := dk_42 (dk_at dksX1_raise_0 0 rfl rfl)
theorem dX1_raise_1 : decode cX1_raise 1 = .ok (.aload_n 0, 1) := dk_42 (dk_at dksX1_raise_0 1 rfl rfl)
theorem dX1_raise_2 : decode cX1_raise 2 = .ok (.getfield 82, 3) := dk_180 0 82 (dk_at dksX1_raise_0 2 rfl rfl)
theorem dX1_raise_5 : decode cX1_raise 5 = .ok (.ifnull 7, 3) := dk_198 0 7 (dk_at dksX1_raise_0 5 rfl rfl)
theorem dX1_raise_8 : decode cX1_raise 8 = .ok (.iconst 1, 1) := dk_4 (dk_at dksX1_raise_0 8 rfl rfl)
theorem dX1_raise_9 : decode cX1_raise 9 = .ok (.goto 4, 3) := dk_167 0 4 (dk_at dksX1_raise_0 9 rfl rfl)
theorem dX1_raise_12 : decode cX1_raise 12 = .ok (.iconst 0, 1) := dk_3 (dk_at dksX1_raise_0 12 rfl rfl)
theorem dX1_raise_13 : decode cX1_raise 13 = .ok (.iload_n 1, 1) := dk_27 (dk_at dksX1_raise_0 13 rfl rfl)
theorem dX1_raise_14 : decode cX1_raise 14 = .ok (.iconst 1, 1) := dk_4 (dk_at dksX1_raise_0 14 rfl rfl)
theorem dX1_raise_15 : decode cX1_raise 15 = .ok (.bipush 20, 2) := dk_16 20 (dk_at dksX1_raise_0 15 rfl rfl)
theorem dX1_raise_17 : decode cX1_raise 17 = .ok (.invokevirtual 283, 3) := dk_182 1 27 (dk_at dksX1_raise_0 17 rfl rfl)
theorem dX1_raise_20 : decode cX1_raise 20 = .ok (.istore_n 2, 1) := dk_61 (dk_at dksX1_raise_0 20 rfl rfl)
theorem dX1_raise_21 : decode cX1_raise 21 = .ok (.iload_n 2, 1) := dk_28 (dk_at dksX1_raise_0 21 rfl rfl)
theorem dX1_raise_22 : decode cX1_raise 22 = .ok (.ifCond .le 9, 3) := dk_158 0 9 (dk_at dksX1_raise_1 0 rfl rfl)
theorem dX1_raise_25 : decode cX1_raise 25 = .ok (.aload_n 0, 1) := dk_42 (dk_at dksX1_raise_1 3 rfl rfl)
theorem dX1_raise_26 : decode cX1_raise 26 = .ok (.iload_n 2, 1) := dk_28 (dk_at dksX1_raise_1 4 rfl rfl)
theorem dX1_raise_27 : decode cX1_raise 27 = .ok (.invokevirtual 384, 3) := dk_182 1 128 (dk_at dksX1_raise_1 5 rfl rfl)
theorem dX1_raise_30 : decode cX1_raise 30 = .ok (.ireturn, 1) := dk_172 (dk_at dksX1_raise_1 8 rfl rfl)
theorem dX1_raise_31 : decode cX1_raise 31 = .ok (.aload_n 0, 1) := dk_42 (dk_at dksX1_raise_1 9 rfl rfl)
theorem dX1_raise_32 : decode cX1_raise 32 = .ok (.getfield 91, 3) := dk_180 0 91 (dk_at dksX1_raise_1 10 rfl rfl)
theorem dX1_raise_35 : decode cX1_raise 35 = .ok (.getfield 287, 3) := dk_180 1 31 (dk_at dksX1_raise_1 13 rfl rfl)
theorem dX1_raise_38 : decode cX1_raise 38 = .ok (.iload_n 1, 1) := dk_27 (dk_at dksX1_raise_1 16 rfl rfl)
theorem dX1_raise_39 : decode cX1_raise 39 = .ok (.if_icmp .ne 9, 3) := dk_160 0 9 (dk_at dksX1_raise_1 17 rfl rfl)
theorem dX1_raise_42 : decode cX1_raise 42 = .ok (.aload_n 0, 1) := dk_42 (dk_at dksX1_raise_1 20 rfl rfl)
theorem dX1_raise_43 : decode cX1_raise 43 = .ok (.iconst 5, 1) := dk_8 (dk_at dksX1_raise_1 21 rfl rfl)
theorem dX1_raise_44 : decode cX1_raise 44 = .ok (.invokevirtual 384, 3) := dk_182 1 128 (dk_at dksX1_raise_2 0 rfl rfl)
theorem dX1_raise_47 : decode cX1_raise 47 = .ok (.ireturn, 1) := dk_172 (dk_at dksX1_raise_2 3 rfl rfl)
theorem dX1_raise_48 : decode cX1_raise 48 = .ok (.aload_n 0, 1) := dk_42 (dk_at dksX1_raise_2 4 rfl rfl)
theorem dX1_raise_49 : decode cX1_raise 49 = .ok (.invokevirtual 381, 3) := dk_182 1 125 (dk_at dksX1_raise_2 5 rfl rfl)
theorem dX1_raise_52 : decode cX1_raise 52 = .ok (.aload_n 0, 1) := dk_42 (dk_at dksX1_raise_2 8 rfl rfl)
theorem dX1_raise_53 : decode cX1_raise 53 = .ok (.getfield 91, 3) := dk_180 0 91 (dk_at dksX1_raise_2 9 rfl rfl)
theorem dX1_raise_56 : decode cX1_raise 56 = .ok (.iload_n 1, 1) := dk_27 (dk_at dksX1_raise_2 12 rfl rfl)
theorem dX1_raise_57 : decode cX1_raise 57 = .ok (.putfield 287, 3) := dk_181 1 31 (dk_at dksX1_raise_2 13 rfl rfl)
theorem dX1_raise_60 : decode cX1_raise 60 = .ok (.aload_n 0, 1) := dk_42 (dk_at dksX1_raise_2 16 rfl rfl)
theorem dX1_raise_61 : decode cX1_raise 61 = .ok (.invokevirtual 387, 3) := dk_182 1 131 (dk_at dksX1_raise_2 17 rfl rfl)
theorem dX1_raise_64 : decode cX1_raise 64 = .ok (.ireturn, 1) := dk_172 (dk_at dksX1_raise_2 20 rfl rfl)
abbrev cX1_undo : ByteArray := prog_1_method_93_code
def yX1_undo : MethodName := ⟨RX1, "undo", "()Z"⟩
def dkwX1_undo_1 : List UInt8 := [180, 0, 20, 182, 0, 117, 4, 100, 182, 1, 118, 192, 0, 86, 181, 0, 91, 42, 182, 1, 131, 172]
abbrev dktX1_undo_1 : List UInt8 := dkwX1_undo_1 ++ []
def dkwX1_undo_0 : List UInt8 := [42, 180, 0, 20, 182, 1, 135, 153, 0, 10, 42, 16, 6, 182, 1, 128, 172, 42, 42, 180, 0, 20, 42]
abbrev dktX1_undo_0 : List UInt8 := dkwX1_undo_0 ++ dktX1_undo_1
theorem dksX1_undo_0 : cX1_undo.data.toList.drop 0 = dktX1_undo_0 := by decide +kernel
theorem dksX1_undo_1 : cX1_undo.data.toList.drop 23 = dktX1_undo_1 := dk_seg dksX1_undo_0 23 rfl rfl
theorem dX1_undo_0 : decode cX1_undo 0 = .ok (.aload_n 0, 1) := dk_42 (dk_at dksX1_undo_0 0 rfl rfl)
theorem dX1_undo_1 : decode cX1_undo 1 = .ok (.getfield 20, 3) := dk_180 0 20 (dk_at dksX1_undo_0 1 rfl rfl)
theorem dX1_undo_4 : decode cX1_undo 4 = .ok (.invokevirtual 391, 3) := dk_182 1 135 (dk_at dksX1_undo_0 4 rfl rfl)
theorem dX1_undo_7 : decode cX1_undo 7 = .ok (.ifCond .eq 10, 3) := dk_153 0 10 (dk_at dksX1_undo_0 7 rfl rfl)
theorem dX1_undo_10 : decode cX1_undo 10 = .ok (.aload_n 0, 1) := dk_42 (dk_at dksX1_undo_0 10 rfl rfl)
theorem dX1_undo_11 : decode cX1_undo 11 = .ok (.bipush 6, 2) := dk_16 6 (dk_at dksX1_undo_0 11 rfl rfl)
theorem dX1_undo_13 : decode cX1_undo 13 = .ok (.invokevirtual 384, 3) := dk_182 1 128 (dk_at dksX1_undo_0 13 rfl rfl)
theorem dX1_undo_16 : decode cX1_undo 16 = .ok (.ireturn, 1) := dk_172 (dk_at dksX1_undo_0 16 rfl rfl)
theorem dX1_undo_17 : decode cX1_undo 17 = .ok (.aload_n 0, 1) := dk_42 (dk_at dksX1_undo_0 17 rfl rfl)
theorem dX1_undo_18 : decode cX1_undo 18 = .ok (.aload_n 0, 1) := dk_42 (dk_at dksX1_undo_0 18 rfl rfl)
theorem dX1_undo_19 : decode cX1_undo 19 = .ok (.getfield 20, 3) := dk_180 0 20 (dk_at dksX1_undo_0 19 rfl rfl)
theorem dX1_undo_22 : decode cX1_undo 22 = .ok (.aload_n 0, 1) := dk_42 (dk_at dksX1_undo_0 22 rfl rfl)
theorem dX1_undo_23 : decode cX1_undo 23 = .ok (.getfield 20, 3) := dk_180 0 20 (dk_at dksX1_undo_1 0 rfl rfl)
theorem dX1_undo_26 : decode cX1_undo 26 = .ok (.invokevirtual 117, 3) := dk_182 0 117 (dk_at dksX1_undo_1 3 rfl rfl)
theorem dX1_undo_29 : decode cX1_undo 29 = .ok (.iconst 1, 1) := dk_4 (dk_at dksX1_undo_1 6 rfl rfl)
theorem dX1_undo_30 : decode cX1_undo 30 = .ok (.isub, 1) := dk_100 (dk_at dksX1_undo_1 7 rfl rfl)
theorem dX1_undo_31 : decode cX1_undo 31 = .ok (.invokevirtual 374, 3) := dk_182 1 118 (dk_at dksX1_undo_1 8 rfl rfl)
theorem dX1_undo_34 : decode cX1_undo 34 = .ok (.checkcast 86, 3) := dk_192 0 86 (dk_at dksX1_undo_1 11 rfl rfl)
theorem dX1_undo_37 : decode cX1_undo 37 = .ok (.putfield 91, 3) := dk_181 0 91 (dk_at dksX1_undo_1 14 rfl rfl)
theorem dX1_undo_40 : decode cX1_undo 40 = .ok (.aload_n 0, 1) := dk_42 (dk_at dksX1_undo_1 17 rfl rfl)
theorem dX1_undo_41 : decode cX1_undo 41 = .ok (.invokevirtual 387, 3) := dk_182 1 131 (dk_at dksX1_undo_1 18 rfl rfl)
theorem dX1_undo_44 : decode cX1_undo 44 = .ok (.ireturn, 1) := dk_172 (dk_at dksX1_undo_1 21 rfl rfl)
abbrev cX1_image : ByteArray := prog_1_method_94_code
def yX1_image : MethodName := ⟨RX1, "image", "()I"⟩
def dkwX1_image_2 : List UInt8 := [180, 0, 24, 182, 0, 117, 4, 100, 182, 0, 47, 172]
abbrev dktX1_image_2 : List UInt8 := dkwX1_image_2 ++ []
def dkwX1_image_1 : List UInt8 := [42, 6, 182, 0, 43, 172, 42, 180, 0, 24, 42, 180, 0, 91, 182, 0, 98, 182, 1, 121, 87, 42, 42]
abbrev dktX1_image_1 : List UInt8 := dkwX1_image_1 ++ dktX1_image_2
def dkwX1_image_0 : List UInt8 := [42, 180, 0, 82, 199, 0, 9, 42, 4, 182, 0, 43, 172, 42, 180, 0, 24, 182, 0, 117, 6, 160, 0, 9]
abbrev dktX1_image_0 : List UInt8 := dkwX1_image_0 ++ dktX1_image_1
theorem dksX1_image_0 : cX1_image.data.toList.drop 0 = dktX1_image_0 := by decide +kernel
theorem dksX1_image_1 : cX1_image.data.toList.drop 24 = dktX1_image_1 := dk_seg dksX1_image_0 24 rfl rfl
theorem dksX1_image_2 : cX1_image.data.toList.drop 47 = dktX1_image_2 := dk_seg dksX1_image_1 23 rfl rfl
theorem dX1_image_0 : decode cX1_image 0 = .ok (.aload_n 0, 1) := dk_42 (dk_at dksX1_image_0 0 rfl rfl)
theorem dX1_image_1 : decode cX1_image 1 = .ok (.getfield 82, 3) := dk_180 0 82 (dk_at dksX1_image_0 1 rfl rfl)
theorem dX1_image_4 : decode cX1_image 4 = .ok (.ifnonnull 9, 3) := dk_199 0 9 (dk_at dksX1_image_0 4 rfl rfl)
theorem dX1_image_7 : decode cX1_image 7 = .ok (.aload_n 0, 1) := dk_42 (dk_at dksX1_image_0 7 rfl rfl)
theorem dX1_image_8 : decode cX1_image 8 = .ok (.iconst 1, 1) := dk_4 (dk_at dksX1_image_0 8 rfl rfl)
theorem dX1_image_9 : decode cX1_image 9 = .ok (.invokevirtual 43, 3) := dk_182 0 43 (dk_at dksX1_image_0 9 rfl rfl)
theorem dX1_image_12 : decode cX1_image 12 = .ok (.ireturn, 1) := dk_172 (dk_at dksX1_image_0 12 rfl rfl)
theorem dX1_image_13 : decode cX1_image 13 = .ok (.aload_n 0, 1) := dk_42 (dk_at dksX1_image_0 13 rfl rfl)
theorem dX1_image_14 : decode cX1_image 14 = .ok (.getfield 24, 3) := dk_180 0 24 (dk_at dksX1_image_0 14 rfl rfl)
theorem dX1_image_17 : decode cX1_image 17 = .ok (.invokevirtual 117, 3) := dk_182 0 117 (dk_at dksX1_image_0 17 rfl rfl)
theorem dX1_image_20 : decode cX1_image 20 = .ok (.iconst 3, 1) := dk_6 (dk_at dksX1_image_0 20 rfl rfl)
theorem dX1_image_21 : decode cX1_image 21 = .ok (.if_icmp .ne 9, 3) := dk_160 0 9 (dk_at dksX1_image_0 21 rfl rfl)
theorem dX1_image_24 : decode cX1_image 24 = .ok (.aload_n 0, 1) := dk_42 (dk_at dksX1_image_1 0 rfl rfl)
theorem dX1_image_25 : decode cX1_image 25 = .ok (.iconst 3, 1) := dk_6 (dk_at dksX1_image_1 1 rfl rfl)
theorem dX1_image_26 : decode cX1_image 26 = .ok (.invokevirtual 43, 3) := dk_182 0 43 (dk_at dksX1_image_1 2 rfl rfl)
theorem dX1_image_29 : decode cX1_image 29 = .ok (.ireturn, 1) := dk_172 (dk_at dksX1_image_1 5 rfl rfl)
theorem dX1_image_30 : decode cX1_image 30 = .ok (.aload_n 0, 1) := dk_42 (dk_at dksX1_image_1 6 rfl rfl)
theorem dX1_image_31 : decode cX1_image 31 = .ok (.getfield 24, 3) := dk_180 0 24 (dk_at dksX1_image_1 7 rfl rfl)
theorem dX1_image_34 : decode cX1_image 34 = .ok (.aload_n 0, 1) := dk_42 (dk_at dksX1_image_1 10 rfl rfl)
theorem dX1_image_35 : decode cX1_image 35 = .ok (.getfield 91, 3) := dk_180 0 91 (dk_at dksX1_image_1 11 rfl rfl)
theorem dX1_image_38 : decode cX1_image 38 = .ok (.invokevirtual 98, 3) := dk_182 0 98 (dk_at dksX1_image_1 14 rfl rfl)
theorem dX1_image_41 : decode cX1_image 41 = .ok (.invokevirtual 377, 3) := dk_182 1 121 (dk_at dksX1_image_1 17 rfl rfl)
theorem dX1_image_44 : decode cX1_image 44 = .ok (.pop, 1) := dk_87 (dk_at dksX1_image_1 20 rfl rfl)
theorem dX1_image_45 : decode cX1_image 45 = .ok (.aload_n 0, 1) := dk_42 (dk_at dksX1_image_1 21 rfl rfl)
theorem dX1_image_46 : decode cX1_image 46 = .ok (.aload_n 0, 1) := dk_42 (dk_at dksX1_image_1 22 rfl rfl)
theorem dX1_image_47 : decode cX1_image 47 = .ok (.getfield 24, 3) := dk_180 0 24 (dk_at dksX1_image_2 0 rfl rfl)
theorem dX1_image_50 : decode cX1_image 50 = .ok (.invokevirtual 117, 3) := dk_182 0 117 (dk_at dksX1_image_2 3 rfl rfl)
theorem dX1_image_53 : decode cX1_image 53 = .ok (.iconst 1, 1) := dk_4 (dk_at dksX1_image_2 6 rfl rfl)
theorem dX1_image_54 : decode cX1_image 54 = .ok (.isub, 1) := dk_100 (dk_at dksX1_image_2 7 rfl rfl)
theorem dX1_image_55 : decode cX1_image 55 = .ok (.invokevirtual 47, 3) := dk_182 0 47 (dk_at dksX1_image_2 8 rfl rfl)
theorem dX1_image_58 : decode cX1_image 58 = .ok (.ireturn, 1) := dk_172 (dk_at dksX1_image_2 11 rfl rfl)
abbrev cX1_back : ByteArray := prog_1_method_95_code
def yX1_back : MethodName := ⟨RX1, "back", "(I)Z"⟩
def dkwX1_back_2 : List UInt8 := [42, 182, 1, 131, 172]
abbrev dktX1_back_2 : List UInt8 := dkwX1_back_2 ++ []
def dkwX1_back_1 : List UInt8 := [42, 180, 0, 24, 27, 182, 0, 139, 192, 0, 86, 182, 0, 98, 181, 0, 91, 42, 180, 0, 20, 182, 0, 105]
abbrev dktX1_back_1 : List UInt8 := dkwX1_back_1 ++ dktX1_back_2
def dkwX1_back_0 : List UInt8 := [27, 3, 42, 180, 0, 24, 182, 0, 117, 4, 100, 184, 0, 57, 154, 0, 9, 42, 4, 182, 1, 128, 172, 42]
abbrev dktX1_back_0 : List UInt8 := dkwX1_back_0 ++ dktX1_back_1
theorem dksX1_back_0 : cX1_back.data.toList.drop 0 = dktX1_back_0 := by decide +kernel
theorem dksX1_back_1 : cX1_back.data.toList.drop 24 = dktX1_back_1 := dk_seg dksX1_back_0 24 rfl rfl
theorem dksX1_back_2 : cX1_back.data.toList.drop 48 = dktX1_back_2 := dk_seg dksX1_back_1 24 rfl rfl
theorem dX1_back_0 : decode cX1_back 0 = .ok (.iload_n 1, 1) := dk_27 (dk_at dksX1_back_0 0 rfl rfl)
theorem dX1_back_1 : decode cX1_back 1 = .ok (.iconst 0, 1) := dk_3 (dk_at dksX1_back_0 1 rfl rfl)
theorem dX1_back_2 : decode cX1_back 2 = .ok (.aload_n 0, 1) := dk_42 (dk_at dksX1_back_0 2 rfl rfl)
theorem dX1_back_3 : decode cX1_back 3 = .ok (.getfield 24, 3) := dk_180 0 24 (dk_at dksX1_back_0 3 rfl rfl)
theorem dX1_back_6 : decode cX1_back 6 = .ok (.invokevirtual 117, 3) := dk_182 0 117 (dk_at dksX1_back_0 6 rfl rfl)
theorem dX1_back_9 : decode cX1_back 9 = .ok (.iconst 1, 1) := dk_4 (dk_at dksX1_back_0 9 rfl rfl)
theorem dX1_back_10 : decode cX1_back 10 = .ok (.isub, 1) := dk_100 (dk_at dksX1_back_0 10 rfl rfl)
theorem dX1_back_11 : decode cX1_back 11 = .ok (.invokestatic 57, 3) := dk_184 0 57 (dk_at dksX1_back_0 11 rfl rfl)
theorem dX1_back_14 : decode cX1_back 14 = .ok (.ifCond .ne 9, 3) := dk_154 0 9 (dk_at dksX1_back_0 14 rfl rfl)
theorem dX1_back_17 : decode cX1_back 17 = .ok (.aload_n 0, 1) := dk_42 (dk_at dksX1_back_0 17 rfl rfl)
theorem dX1_back_18 : decode cX1_back 18 = .ok (.iconst 1, 1) := dk_4 (dk_at dksX1_back_0 18 rfl rfl)
theorem dX1_back_19 : decode cX1_back 19 = .ok (.invokevirtual 384, 3) := dk_182 1 128 (dk_at dksX1_back_0 19 rfl rfl)
theorem dX1_back_22 : decode cX1_back 22 = .ok (.ireturn, 1) := dk_172 (dk_at dksX1_back_0 22 rfl rfl)
theorem dX1_back_23 : decode cX1_back 23 = .ok (.aload_n 0, 1) := dk_42 (dk_at dksX1_back_0 23 rfl rfl)
theorem dX1_back_24 : decode cX1_back 24 = .ok (.aload_n 0, 1) := dk_42 (dk_at dksX1_back_1 0 rfl rfl)
theorem dX1_back_25 : decode cX1_back 25 = .ok (.getfield 24, 3) := dk_180 0 24 (dk_at dksX1_back_1 1 rfl rfl)
theorem dX1_back_28 : decode cX1_back 28 = .ok (.iload_n 1, 1) := dk_27 (dk_at dksX1_back_1 4 rfl rfl)
theorem dX1_back_29 : decode cX1_back 29 = .ok (.invokevirtual 139, 3) := dk_182 0 139 (dk_at dksX1_back_1 5 rfl rfl)
theorem dX1_back_32 : decode cX1_back 32 = .ok (.checkcast 86, 3) := dk_192 0 86 (dk_at dksX1_back_1 8 rfl rfl)
theorem dX1_back_35 : decode cX1_back 35 = .ok (.invokevirtual 98, 3) := dk_182 0 98 (dk_at dksX1_back_1 11 rfl rfl)
theorem dX1_back_38 : decode cX1_back 38 = .ok (.putfield 91, 3) := dk_181 0 91 (dk_at dksX1_back_1 14 rfl rfl)
theorem dX1_back_41 : decode cX1_back 41 = .ok (.aload_n 0, 1) := dk_42 (dk_at dksX1_back_1 17 rfl rfl)
theorem dX1_back_42 : decode cX1_back 42 = .ok (.getfield 20, 3) := dk_180 0 20 (dk_at dksX1_back_1 18 rfl rfl)
theorem dX1_back_45 : decode cX1_back 45 = .ok (.invokevirtual 105, 3) := dk_182 0 105 (dk_at dksX1_back_1 21 rfl rfl)
theorem dX1_back_48 : decode cX1_back 48 = .ok (.aload_n 0, 1) := dk_42 (dk_at dksX1_back_2 0 rfl rfl)
theorem dX1_back_49 : decode cX1_back 49 = .ok (.invokevirtual 387, 3) := dk_182 1 131 (dk_at dksX1_back_2 1 rfl rfl)
theorem dX1_back_52 : decode cX1_back 52 = .ok (.ireturn, 1) := dk_172 (dk_at dksX1_back_2 4 rfl rfl)
abbrev cX1_size : ByteArray := prog_1_method_97_code
def yX1_size : MethodName := ⟨RX1, "size", "(I)I"⟩
def dkwX1_size_7 : List UInt8 := [182, 0, 117, 172]
abbrev dktX1_size_7 : List UInt8 := dkwX1_size_7 ++ []
def dkwX1_size_6 : List UInt8 := [172, 42, 180, 0, 82, 180, 1, 34, 182, 0, 117, 172, 42, 180, 0, 20, 182, 0, 117, 172, 42, 180, 0, 24]
abbrev dktX1_size_6 : List UInt8 := dkwX1_size_6 ++ dktX1_size_7
def dkwX1_size_5 : List UInt8 := [182, 0, 108, 172, 42, 182, 0, 126, 172, 42, 180, 0, 82, 180, 1, 147, 172, 42, 180, 0, 82, 180, 1, 150]
abbrev dktX1_size_5 : List UInt8 := dkwX1_size_5 ++ dktX1_size_6
def dkwX1_size_4 : List UInt8 := [42, 180, 0, 82, 180, 1, 74, 172, 42, 180, 0, 82, 180, 1, 144, 172, 42, 182, 0, 129, 172, 42]
abbrev dktX1_size_4 : List UInt8 := dkwX1_size_4 ++ dktX1_size_5
def dkwX1_size_3 : List UInt8 := [42, 180, 0, 91, 180, 1, 31, 172, 42, 180, 0, 82, 180, 1, 141, 172, 42, 180, 0, 82, 180, 0, 234, 172]
abbrev dktX1_size_3 : List UInt8 := dkwX1_size_3 ++ dktX1_size_4
def dkwX1_size_2 : List UInt8 := [170, 0, 0, 0, 0, 0, 153, 0, 0, 0, 0, 0, 0, 0, 11, 0, 0, 0, 63, 0, 0, 0, 71, 0, 0, 0, 79, 0, 0, 0, 87, 0, 0, 0, 95, 0, 0, 0, 103, 0, 0, 0, 108, 0, 0, 0, 113, 0, 0, 0, 118, 0, 0, 0, 126, 0, 0, 0, 134, 0, 0, 0, 145]
abbrev dktX1_size_2 : List UInt8 := dkwX1_size_2 ++ dktX1_size_3
def dkwX1_size_1 : List UInt8 := [180, 0, 82, 199, 0, 5, 3, 172, 27]
abbrev dktX1_size_1 : List UInt8 := dkwX1_size_1 ++ dktX1_size_2
def dkwX1_size_0 : List UInt8 := [27, 16, 13, 160, 0, 8, 42, 180, 0, 54, 172, 27, 3, 16, 12, 184, 0, 57, 154, 0, 5, 2, 172, 42]
abbrev dktX1_size_0 : List UInt8 := dkwX1_size_0 ++ dktX1_size_1
theorem dksX1_size_0 : cX1_size.data.toList.drop 0 = dktX1_size_0 := by decide +kernel
theorem dksX1_size_1 : cX1_size.data.toList.drop 24 = dktX1_size_1 := dk_seg dksX1_size_0 24 rfl rfl
theorem dksX1_size_2 : cX1_size.data.toList.drop 33 = dktX1_size_2 := dk_seg dksX1_size_1 9 rfl rfl
theorem dksX1_size_3 : cX1_size.data.toList.drop 96 = dktX1_size_3 := dk_seg dksX1_size_2 63 rfl rfl
theorem dksX1_size_4 : cX1_size.data.toList.drop 120 = dktX1_size_4 := dk_seg dksX1_size_3 24 rfl rfl
theorem dksX1_size_5 : cX1_size.data.toList.drop 142 = dktX1_size_5 := dk_seg dksX1_size_4 22 rfl rfl
theorem dksX1_size_6 : cX1_size.data.toList.drop 166 = dktX1_size_6 := dk_seg dksX1_size_5 24 rfl rfl
theorem dksX1_size_7 : cX1_size.data.toList.drop 190 = dktX1_size_7 := dk_seg dksX1_size_6 24 rfl rfl
theorem dX1_size_0 : decode cX1_size 0 = .ok (.iload_n 1, 1) := dk_27 (dk_at dksX1_size_0 0 rfl rfl)
theorem dX1_size_1 : decode cX1_size 1 = .ok (.bipush 13, 2) := dk_16 13 (dk_at dksX1_size_0 1 rfl rfl)
theorem dX1_size_3 : decode cX1_size 3 = .ok (.if_icmp .ne 8, 3) := dk_160 0 8 (dk_at dksX1_size_0 3 rfl rfl)
theorem dX1_size_6 : decode cX1_size 6 = .ok (.aload_n 0, 1) := dk_42 (dk_at dksX1_size_0 6 rfl rfl)
theorem dX1_size_7 : decode cX1_size 7 = .ok (.getfield 54, 3) := dk_180 0 54 (dk_at dksX1_size_0 7 rfl rfl)
theorem dX1_size_10 : decode cX1_size 10 = .ok (.ireturn, 1) := dk_172 (dk_at dksX1_size_0 10 rfl rfl)
theorem dX1_size_11 : decode cX1_size 11 = .ok (.iload_n 1, 1) := dk_27 (dk_at dksX1_size_0 11 rfl rfl)
theorem dX1_size_12 : decode cX1_size 12 = .ok (.iconst 0, 1) := dk_3 (dk_at dksX1_size_0 12 rfl rfl)
theorem dX1_size_13 : decode cX1_size 13 = .ok (.bipush 12, 2) := dk_16 12 (dk_at dksX1_size_0 13 rfl rfl)
theorem dX1_size_15 : decode cX1_size 15 = .ok (.invokestatic 57, 3) := dk_184 0 57 (dk_at dksX1_size_0 15 rfl rfl)
theorem dX1_size_18 : decode cX1_size 18 = .ok (.ifCond .ne 5, 3) := dk_154 0 5 (dk_at dksX1_size_0 18 rfl rfl)
theorem dX1_size_21 : decode cX1_size 21 = .ok (.iconst (-1), 1) := dk_2 (dk_at dksX1_size_0 21 rfl rfl)
theorem dX1_size_22 : decode cX1_size 22 = .ok (.ireturn, 1) := dk_172 (dk_at dksX1_size_0 22 rfl rfl)
theorem dX1_size_23 : decode cX1_size 23 = .ok (.aload_n 0, 1) := dk_42 (dk_at dksX1_size_0 23 rfl rfl)
theorem dX1_size_24 : decode cX1_size 24 = .ok (.getfield 82, 3) := dk_180 0 82 (dk_at dksX1_size_1 0 rfl rfl)
theorem dX1_size_27 : decode cX1_size 27 = .ok (.ifnonnull 5, 3) := dk_199 0 5 (dk_at dksX1_size_1 3 rfl rfl)
theorem dX1_size_30 : decode cX1_size 30 = .ok (.iconst 0, 1) := dk_3 (dk_at dksX1_size_1 6 rfl rfl)
theorem dX1_size_31 : decode cX1_size 31 = .ok (.ireturn, 1) := dk_172 (dk_at dksX1_size_1 7 rfl rfl)
theorem dX1_size_32 : decode cX1_size 32 = .ok (.iload_n 1, 1) := dk_27 (dk_at dksX1_size_1 8 rfl rfl)
theorem dX1_size_33 : decode cX1_size 33 = .ok (.tableswitch 153 0 11 #[63, 71, 79, 87, 95, 103, 108, 113, 118, 126, 134, 145], 63) := by decide +kernel
theorem dX1_size_96 : decode cX1_size 96 = .ok (.aload_n 0, 1) := dk_42 (dk_at dksX1_size_3 0 rfl rfl)
theorem dX1_size_97 : decode cX1_size 97 = .ok (.getfield 91, 3) := dk_180 0 91 (dk_at dksX1_size_3 1 rfl rfl)
theorem dX1_size_100 : decode cX1_size 100 = .ok (.getfield 287, 3) := dk_180 1 31 (dk_at dksX1_size_3 4 rfl rfl)
theorem dX1_size_103 : decode cX1_size 103 = .ok (.ireturn, 1) := dk_172 (dk_at dksX1_size_3 7 rfl rfl)
theorem dX1_size_104 : decode cX1_size 104 = .ok (.aload_n 0, 1) := dk_42 (dk_at dksX1_size_3 8 rfl rfl)
theorem dX1_size_105 : decode cX1_size 105 = .ok (.getfield 82, 3) := dk_180 0 82 (dk_at dksX1_size_3 9 rfl rfl)
theorem dX1_size_108 : decode cX1_size 108 = .ok (.getfield 397, 3) := dk_180 1 141 (dk_at dksX1_size_3 12 rfl rfl)
theorem dX1_size_111 : decode cX1_size 111 = .ok (.ireturn, 1) := dk_172 (dk_at dksX1_size_3 15 rfl rfl)
theorem dX1_size_112 : decode cX1_size 112 = .ok (.aload_n 0, 1) := dk_42 (dk_at dksX1_size_3 16 rfl rfl)
theorem dX1_size_113 : decode cX1_size 113 = .ok (.getfield 82, 3) := dk_180 0 82 (dk_at dksX1_size_3 17 rfl rfl)
theorem dX1_size_116 : decode cX1_size 116 = .ok (.getfield 234, 3) := dk_180 0 234 (dk_at dksX1_size_3 20 rfl rfl)
theorem dX1_size_119 : decode cX1_size 119 = .ok (.ireturn, 1) := dk_172 (dk_at dksX1_size_3 23 rfl rfl)
theorem dX1_size_120 : decode cX1_size 120 = .ok (.aload_n 0, 1) := dk_42 (dk_at dksX1_size_4 0 rfl rfl)
theorem dX1_size_121 : decode cX1_size 121 = .ok (.getfield 82, 3) := dk_180 0 82 (dk_at dksX1_size_4 1 rfl rfl)
theorem dX1_size_124 : decode cX1_size 124 = .ok (.getfield 330, 3) := dk_180 1 74 (dk_at dksX1_size_4 4 rfl rfl)
theorem dX1_size_127 : decode cX1_size 127 = .ok (.ireturn, 1) := dk_172 (dk_at dksX1_size_4 7 rfl rfl)
theorem dX1_size_128 : decode cX1_size 128 = .ok (.aload_n 0, 1) := dk_42 (dk_at dksX1_size_4 8 rfl rfl)
theorem dX1_size_129 : decode cX1_size 129 = .ok (.getfield 82, 3) := dk_180 0 82 (dk_at dksX1_size_4 9 rfl rfl)
theorem dX1_size_132 : decode cX1_size 132 = .ok (.getfield 400, 3) := dk_180 1 144 (dk_at dksX1_size_4 12 rfl rfl)
theorem dX1_size_135 : decode cX1_size 135 = .ok (.ireturn, 1) := dk_172 (dk_at dksX1_size_4 15 rfl rfl)
theorem dX1_size_136 : decode cX1_size 136 = .ok (.aload_n 0, 1) := dk_42 (dk_at dksX1_size_4 16 rfl rfl)
theorem dX1_size_137 : decode cX1_size 137 = .ok (.invokevirtual 129, 3) := dk_182 0 129 (dk_at dksX1_size_4 17 rfl rfl)
theorem dX1_size_140 : decode cX1_size 140 = .ok (.ireturn, 1) := dk_172 (dk_at dksX1_size_4 20 rfl rfl)
theorem dX1_size_141 : decode cX1_size 141 = .ok (.aload_n 0, 1) := dk_42 (dk_at dksX1_size_4 21 rfl rfl)
theorem dX1_size_142 : decode cX1_size 142 = .ok (.invokevirtual 108, 3) := dk_182 0 108 (dk_at dksX1_size_5 0 rfl rfl)
theorem dX1_size_145 : decode cX1_size 145 = .ok (.ireturn, 1) := dk_172 (dk_at dksX1_size_5 3 rfl rfl)
theorem dX1_size_146 : decode cX1_size 146 = .ok (.aload_n 0, 1) := dk_42 (dk_at dksX1_size_5 4 rfl rfl)
theorem dX1_size_147 : decode cX1_size 147 = .ok (.invokevirtual 126, 3) := dk_182 0 126 (dk_at dksX1_size_5 5 rfl rfl)
theorem dX1_size_150 : decode cX1_size 150 = .ok (.ireturn, 1) := dk_172 (dk_at dksX1_size_5 8 rfl rfl)
theorem dX1_size_151 : decode cX1_size 151 = .ok (.aload_n 0, 1) := dk_42 (dk_at dksX1_size_5 9 rfl rfl)
theorem dX1_size_152 : decode cX1_size 152 = .ok (.getfield 82, 3) := dk_180 0 82 (dk_at dksX1_size_5 10 rfl rfl)
theorem dX1_size_155 : decode cX1_size 155 = .ok (.getfield 403, 3) := dk_180 1 147 (dk_at dksX1_size_5 13 rfl rfl)
theorem dX1_size_158 : decode cX1_size 158 = .ok (.ireturn, 1) := dk_172 (dk_at dksX1_size_5 16 rfl rfl)
theorem dX1_size_159 : decode cX1_size 159 = .ok (.aload_n 0, 1) := dk_42 (dk_at dksX1_size_5 17 rfl rfl)
theorem dX1_size_160 : decode cX1_size 160 = .ok (.getfield 82, 3) := dk_180 0 82 (dk_at dksX1_size_5 18 rfl rfl)
theorem dX1_size_163 : decode cX1_size 163 = .ok (.getfield 406, 3) := dk_180 1 150 (dk_at dksX1_size_5 21 rfl rfl)
theorem dX1_size_166 : decode cX1_size 166 = .ok (.ireturn, 1) := dk_172 (dk_at dksX1_size_6 0 rfl rfl)
theorem dX1_size_167 : decode cX1_size 167 = .ok (.aload_n 0, 1) := dk_42 (dk_at dksX1_size_6 1 rfl rfl)
theorem dX1_size_168 : decode cX1_size 168 = .ok (.getfield 82, 3) := dk_180 0 82 (dk_at dksX1_size_6 2 rfl rfl)
theorem dX1_size_171 : decode cX1_size 171 = .ok (.getfield 290, 3) := dk_180 1 34 (dk_at dksX1_size_6 5 rfl rfl)
theorem dX1_size_174 : decode cX1_size 174 = .ok (.invokevirtual 117, 3) := dk_182 0 117 (dk_at dksX1_size_6 8 rfl rfl)
theorem dX1_size_177 : decode cX1_size 177 = .ok (.ireturn, 1) := dk_172 (dk_at dksX1_size_6 11 rfl rfl)
theorem dX1_size_178 : decode cX1_size 178 = .ok (.aload_n 0, 1) := dk_42 (dk_at dksX1_size_6 12 rfl rfl)
theorem dX1_size_179 : decode cX1_size 179 = .ok (.getfield 20, 3) := dk_180 0 20 (dk_at dksX1_size_6 13 rfl rfl)
theorem dX1_size_182 : decode cX1_size 182 = .ok (.invokevirtual 117, 3) := dk_182 0 117 (dk_at dksX1_size_6 16 rfl rfl)
theorem dX1_size_185 : decode cX1_size 185 = .ok (.ireturn, 1) := dk_172 (dk_at dksX1_size_6 19 rfl rfl)
theorem dX1_size_186 : decode cX1_size 186 = .ok (.aload_n 0, 1) := dk_42 (dk_at dksX1_size_6 20 rfl rfl)
theorem dX1_size_187 : decode cX1_size 187 = .ok (.getfield 24, 3) := dk_180 0 24 (dk_at dksX1_size_6 21 rfl rfl)
theorem dX1_size_190 : decode cX1_size 190 = .ok (.invokevirtual 117, 3) := dk_182 0 117 (dk_at dksX1_size_7 0 rfl rfl)
theorem dX1_size_193 : decode cX1_size 193 = .ok (.ireturn, 1) := dk_172 (dk_at dksX1_size_7 3 rfl rfl)
abbrev cX1_trouble : ByteArray := prog_1_method_98_code
def yX1_trouble : MethodName := ⟨RX1, "trouble", "()I"⟩
theorem dX1_trouble_0 : decode cX1_trouble 0 = .ok (.aload_n 0, 1) := by decide +kernel
theorem dX1_trouble_1 : decode cX1_trouble 1 = .ok (.getfield 40, 3) := by decide +kernel
theorem dX1_trouble_4 : decode cX1_trouble 4 = .ok (.ireturn, 1) := by decide +kernel
abbrev cX1_led : ByteArray := prog_1_method_96_code
def yX1_led : MethodName := ⟨RX1, "led", "(I)I"⟩
def dkwX1_led_2 : List UInt8 := [132, 3, 1, 167, 255, 211, 187, 1, 138, 89, 183, 1, 140, 191]
abbrev dktX1_led_2 : List UInt8 := dkwX1_led_2 ++ []
def dkwX1_led_1 : List UInt8 := [180, 0, 185, 29, 46, 16, 254, 159, 0, 6, 167, 0, 13, 28, 27, 160, 0, 5, 29, 172, 132, 2, 1]
abbrev dktX1_led_1 : List UInt8 := dkwX1_led_1 ++ dktX1_led_2
def dkwX1_led_0 : List UInt8 := [3, 61, 3, 62, 42, 180, 0, 82, 198, 0, 44, 29, 42, 182, 0, 126, 162, 0, 36, 42, 180, 0, 91]
abbrev dktX1_led_0 : List UInt8 := dkwX1_led_0 ++ dktX1_led_1
theorem dksX1_led_0 : cX1_led.data.toList.drop 0 = dktX1_led_0 := by decide +kernel
theorem dksX1_led_1 : cX1_led.data.toList.drop 23 = dktX1_led_1 := dk_seg dksX1_led_0 23 rfl rfl
theorem dksX1_led_2 : cX1_led.data.toList.drop 46 = dktX1_led_2 := dk_seg dksX1_led_1 23 rfl rfl
theorem dX1_led_0 : decode cX1_led 0 = .ok (.iconst 0, 1) := dk_3 (dk_at dksX1_led_0 0 rfl rfl)
theorem dX1_led_1 : decode cX1_led 1 = .ok (.istore_n 2, 1) := dk_61 (dk_at dksX1_led_0 1 rfl rfl)
theorem dX1_led_2 : decode cX1_led 2 = .ok (.iconst 0, 1) := dk_3 (dk_at dksX1_led_0 2 rfl rfl)
theorem dX1_led_3 : decode cX1_led 3 = .ok (.istore_n 3, 1) := dk_62 (dk_at dksX1_led_0 3 rfl rfl)
theorem dX1_led_4 : decode cX1_led 4 = .ok (.aload_n 0, 1) := dk_42 (dk_at dksX1_led_0 4 rfl rfl)
theorem dX1_led_5 : decode cX1_led 5 = .ok (.getfield 82, 3) := dk_180 0 82 (dk_at dksX1_led_0 5 rfl rfl)
theorem dX1_led_8 : decode cX1_led 8 = .ok (.ifnull 44, 3) := dk_198 0 44 (dk_at dksX1_led_0 8 rfl rfl)
theorem dX1_led_11 : decode cX1_led 11 = .ok (.iload_n 3, 1) := dk_29 (dk_at dksX1_led_0 11 rfl rfl)
theorem dX1_led_12 : decode cX1_led 12 = .ok (.aload_n 0, 1) := dk_42 (dk_at dksX1_led_0 12 rfl rfl)
theorem dX1_led_13 : decode cX1_led 13 = .ok (.invokevirtual 126, 3) := dk_182 0 126 (dk_at dksX1_led_0 13 rfl rfl)
theorem dX1_led_16 : decode cX1_led 16 = .ok (.if_icmp .ge 36, 3) := dk_162 0 36 (dk_at dksX1_led_0 16 rfl rfl)
theorem dX1_led_19 : decode cX1_led 19 = .ok (.aload_n 0, 1) := dk_42 (dk_at dksX1_led_0 19 rfl rfl)
theorem dX1_led_20 : decode cX1_led 20 = .ok (.getfield 91, 3) := dk_180 0 91 (dk_at dksX1_led_0 20 rfl rfl)
theorem dX1_led_23 : decode cX1_led 23 = .ok (.getfield 185, 3) := dk_180 0 185 (dk_at dksX1_led_1 0 rfl rfl)
theorem dX1_led_26 : decode cX1_led 26 = .ok (.iload_n 3, 1) := dk_29 (dk_at dksX1_led_1 3 rfl rfl)
theorem dX1_led_27 : decode cX1_led 27 = .ok (.iaload, 1) := dk_46 (dk_at dksX1_led_1 4 rfl rfl)
theorem dX1_led_28 : decode cX1_led 28 = .ok (.bipush (-2), 2) := dk_16 254 (dk_at dksX1_led_1 5 rfl rfl)
theorem dX1_led_30 : decode cX1_led 30 = .ok (.if_icmp .eq 6, 3) := dk_159 0 6 (dk_at dksX1_led_1 7 rfl rfl)
theorem dX1_led_33 : decode cX1_led 33 = .ok (.goto 13, 3) := dk_167 0 13 (dk_at dksX1_led_1 10 rfl rfl)
theorem dX1_led_36 : decode cX1_led 36 = .ok (.iload_n 2, 1) := dk_28 (dk_at dksX1_led_1 13 rfl rfl)
theorem dX1_led_37 : decode cX1_led 37 = .ok (.iload_n 1, 1) := dk_27 (dk_at dksX1_led_1 14 rfl rfl)
theorem dX1_led_38 : decode cX1_led 38 = .ok (.if_icmp .ne 5, 3) := dk_160 0 5 (dk_at dksX1_led_1 15 rfl rfl)
theorem dX1_led_41 : decode cX1_led 41 = .ok (.iload_n 3, 1) := dk_29 (dk_at dksX1_led_1 18 rfl rfl)
theorem dX1_led_42 : decode cX1_led 42 = .ok (.ireturn, 1) := dk_172 (dk_at dksX1_led_1 19 rfl rfl)
theorem dX1_led_43 : decode cX1_led 43 = .ok (.iinc 2 1, 3) := dk_132 2 1 (dk_at dksX1_led_1 20 rfl rfl)
theorem dX1_led_46 : decode cX1_led 46 = .ok (.iinc 3 1, 3) := dk_132 3 1 (dk_at dksX1_led_2 0 rfl rfl)
theorem dX1_led_49 : decode cX1_led 49 = .ok (.goto (-45), 3) := dk_167 255 211 (dk_at dksX1_led_2 3 rfl rfl)
theorem dX1_led_52 : decode cX1_led 52 = .ok (.new 394, 3) := dk_187 1 138 (dk_at dksX1_led_2 6 rfl rfl)
theorem dX1_led_55 : decode cX1_led 55 = .ok (.dup, 1) := dk_89 (dk_at dksX1_led_2 9 rfl rfl)
theorem dX1_led_56 : decode cX1_led 56 = .ok (.invokespecial 396, 3) := dk_183 1 140 (dk_at dksX1_led_2 10 rfl rfl)
theorem dX1_led_59 : decode cX1_led 59 = .ok (.athrow, 1) := dk_191 (dk_at dksX1_led_2 13 rfl rfl)
theorem q124 : (Jvm.Cond.initialized "RoofRegatta") ∈ lw_all := lw_g (lw_at lw_m1 1 rfl) rfl
theorem q157 : (Jvm.Cond.instantiable "RoofRegatta" (19 : Nat)) ∈ lw_all := lw_g (lw_at lw_m1 34 rfl) rfl
theorem q159 : (Jvm.Cond.instanceMethod ({ cls := "RoofRegatta", name := "<init>", desc := "()V" } : Jvm.MethodName)) ∈ lw_all := lw_g (lw_at lw_m1 36 rfl) rfl
theorem q160 : (Jvm.Cond.code ({ cls := "RoofRegatta", name := "<init>", desc := "()V" } : Jvm.MethodName) prog_1_method_1_code (1 : Nat) (Option.none : Option Jvm.ClassFile.FieldType)) ∈ lw_all := lw_g (lw_at lw_m1 37 rfl) rfl
theorem q161 : (Jvm.Cond.methodLink "RoofRegatta" (1 : Nat) ({ cls := "java/lang/Object", name := "<init>", desc := "()V" } : Jvm.MethodName)) ∈ lw_all := lw_g (lw_at lw_m1 38 rfl) rfl
theorem q164 : (Jvm.Cond.classLink "RoofRegatta" (17 : Nat) "java/util/ArrayList") ∈ lw_all := lw_g (lw_at lw_m1 41 rfl) rfl
theorem q166 : (Jvm.Cond.methodLink "RoofRegatta" (19 : Nat) ({ cls := "java/util/ArrayList", name := "<init>", desc := "()V" } : Jvm.MethodName)) ∈ lw_all := lw_g (lw_at lw_m1 43 rfl) rfl
theorem q191 : (Jvm.Cond.fieldLink "RoofRegatta" (9 : Nat) "RoofRegatta" "tape" "[B") ∈ lw_all := lw_g (lw_at lw_m1 68 rfl) rfl
theorem q192 : (Jvm.Cond.fieldLink "RoofRegatta" (54 : Nat) "RoofRegatta" "taped" "I") ∈ lw_all := lw_g (lw_at lw_m1 69 rfl) rfl
theorem q193 : (Jvm.Cond.fieldLink "RoofRegatta" (78 : Nat) "RoofRegatta" "fault" "I") ∈ lw_all := lw_g (lw_at lw_m1 70 rfl) rfl
theorem q194 : (Jvm.Cond.fieldLink "RoofRegatta" (13 : Nat) "RoofRegatta" "where" "I") ∈ lw_all := lw_g (lw_at lw_m1 71 rfl) rfl
theorem q195 : (Jvm.Cond.fieldLink "RoofRegatta" (40 : Nat) "RoofRegatta" "trouble" "I") ∈ lw_all := lw_g (lw_at lw_m1 72 rfl) rfl
theorem q196 : (Jvm.Cond.fieldLink "RoofRegatta" (82 : Nat) "RoofRegatta" "regatta" "LRoofRegatta$Regatta;") ∈ lw_all := lw_g (lw_at lw_m1 73 rfl) rfl
theorem q197 : (Jvm.Cond.fieldLink "RoofRegatta" (91 : Nat) "RoofRegatta" "river" "LRoofRegatta$River;") ∈ lw_all := lw_g (lw_at lw_m1 74 rfl) rfl
theorem q198 : (Jvm.Cond.fieldLink "RoofRegatta" (102 : Nat) "RoofRegatta" "tried" "LRoofRegatta$River;") ∈ lw_all := lw_g (lw_at lw_m1 75 rfl) rfl
theorem q199 : (Jvm.Cond.fieldLink "RoofRegatta" (20 : Nat) "RoofRegatta" "past" "Ljava/util/ArrayList;") ∈ lw_all := lw_g (lw_at lw_m1 76 rfl) rfl
theorem q200 : (Jvm.Cond.fieldLink "RoofRegatta" (24 : Nat) "RoofRegatta" "images" "Ljava/util/ArrayList;") ∈ lw_all := lw_g (lw_at lw_m1 77 rfl) rfl
theorem q201 : (Jvm.Cond.fieldLink "RoofRegatta" (27 : Nat) "RoofRegatta" "bestLoad" "[I") ∈ lw_all := lw_g (lw_at lw_m1 78 rfl) rfl
theorem q202 : (Jvm.Cond.fieldLink "RoofRegatta" (247 : Nat) "RoofRegatta" "bestOf" "I") ∈ lw_all := lw_g (lw_at lw_m1 79 rfl) rfl
theorem q203 : (Jvm.Cond.fieldLink "RoofRegatta" (250 : Nat) "RoofRegatta" "bestMoves" "I") ∈ lw_all := lw_g (lw_at lw_m1 80 rfl) rfl
theorem q204 : (Jvm.Cond.fieldLink "RoofRegatta" (304 : Nat) "RoofRegatta" "firesNow" "I") ∈ lw_all := lw_g (lw_at lw_m1 81 rfl) rfl
theorem q205 : (Jvm.Cond.fieldLink "RoofRegatta" (307 : Nat) "RoofRegatta" "someLit" "I") ∈ lw_all := lw_g (lw_at lw_m1 82 rfl) rfl
theorem q206 : (Jvm.Cond.fieldLink "RoofRegatta" (310 : Nat) "RoofRegatta" "allLit" "I") ∈ lw_all := lw_g (lw_at lw_m1 83 rfl) rfl
theorem q207 : (Jvm.Cond.fieldLink "RoofRegatta" (31 : Nat) "RoofRegatta" "litIn" "[I") ∈ lw_all := lw_g (lw_at lw_m1 84 rfl) rfl
theorem q208 : (Jvm.Cond.fieldLink "RoofRegatta" (319 : Nat) "RoofRegatta" "askLeft" "I") ∈ lw_all := lw_g (lw_at lw_m1 85 rfl) rfl
theorem q209 : (Jvm.Cond.fieldLink "RoofRegatta" (345 : Nat) "RoofRegatta" "seedThen" "I") ∈ lw_all := lw_g (lw_at lw_m1 86 rfl) rfl
theorem q210 : (Jvm.Cond.laysFinal "RoofRegatta" "RoofRegatta" "tape" "[B") ∈ lw_all := lw_g (lw_at lw_m1 87 rfl) rfl
theorem q211 : (Jvm.Cond.soleField "RoofRegatta" "tape") ∈ lw_all := lw_g (lw_at lw_m1 88 rfl) rfl
theorem q212 : (Jvm.Cond.lays "RoofRegatta" "RoofRegatta" "taped" "I") ∈ lw_all := lw_g (lw_at lw_m1 89 rfl) rfl
theorem q213 : (Jvm.Cond.soleField "RoofRegatta" "taped") ∈ lw_all := lw_g (lw_at lw_m1 90 rfl) rfl
theorem q214 : (Jvm.Cond.lays "RoofRegatta" "RoofRegatta" "fault" "I") ∈ lw_all := lw_g (lw_at lw_m1 91 rfl) rfl
theorem q215 : (Jvm.Cond.soleField "RoofRegatta" "fault") ∈ lw_all := lw_g (lw_at lw_m1 92 rfl) rfl
theorem q216 : (Jvm.Cond.lays "RoofRegatta" "RoofRegatta" "where" "I") ∈ lw_all := lw_g (lw_at lw_m1 93 rfl) rfl
theorem q217 : (Jvm.Cond.soleField "RoofRegatta" "where") ∈ lw_all := lw_g (lw_at lw_m1 94 rfl) rfl
theorem q218 : (Jvm.Cond.lays "RoofRegatta" "RoofRegatta" "trouble" "I") ∈ lw_all := lw_g (lw_at lw_m1 95 rfl) rfl
theorem q219 : (Jvm.Cond.soleField "RoofRegatta" "trouble") ∈ lw_all := lw_g (lw_at lw_m1 96 rfl) rfl
theorem q220 : (Jvm.Cond.lays "RoofRegatta" "RoofRegatta" "regatta" "LRoofRegatta$Regatta;") ∈ lw_all := lw_g (lw_at lw_m1 97 rfl) rfl
theorem q221 : (Jvm.Cond.soleField "RoofRegatta" "regatta") ∈ lw_all := lw_g (lw_at lw_m1 98 rfl) rfl
theorem q222 : (Jvm.Cond.lays "RoofRegatta" "RoofRegatta" "river" "LRoofRegatta$River;") ∈ lw_all := lw_g (lw_at lw_m1 99 rfl) rfl
theorem q223 : (Jvm.Cond.soleField "RoofRegatta" "river") ∈ lw_all := lw_g (lw_at lw_m1 100 rfl) rfl
theorem q224 : (Jvm.Cond.lays "RoofRegatta" "RoofRegatta" "tried" "LRoofRegatta$River;") ∈ lw_all := lw_g (lw_at lw_m1 101 rfl) rfl
theorem q225 : (Jvm.Cond.soleField "RoofRegatta" "tried") ∈ lw_all := lw_g (lw_at lw_m1 102 rfl) rfl
theorem q226 : (Jvm.Cond.laysFinal "RoofRegatta" "RoofRegatta" "past" "Ljava/util/ArrayList;") ∈ lw_all := lw_g (lw_at lw_m1 103 rfl) rfl
theorem q227 : (Jvm.Cond.soleField "RoofRegatta" "past") ∈ lw_all := lw_g (lw_at lw_m1 104 rfl) rfl
theorem q228 : (Jvm.Cond.laysFinal "RoofRegatta" "RoofRegatta" "images" "Ljava/util/ArrayList;") ∈ lw_all := lw_g (lw_at lw_m1 105 rfl) rfl
theorem q229 : (Jvm.Cond.soleField "RoofRegatta" "images") ∈ lw_all := lw_g (lw_at lw_m1 106 rfl) rfl
theorem q230 : (Jvm.Cond.laysFinal "RoofRegatta" "RoofRegatta" "bestLoad" "[I") ∈ lw_all := lw_g (lw_at lw_m1 107 rfl) rfl
theorem q231 : (Jvm.Cond.soleField "RoofRegatta" "bestLoad") ∈ lw_all := lw_g (lw_at lw_m1 108 rfl) rfl
theorem q232 : (Jvm.Cond.lays "RoofRegatta" "RoofRegatta" "bestOf" "I") ∈ lw_all := lw_g (lw_at lw_m1 109 rfl) rfl
theorem q233 : (Jvm.Cond.soleField "RoofRegatta" "bestOf") ∈ lw_all := lw_g (lw_at lw_m1 110 rfl) rfl
theorem q234 : (Jvm.Cond.lays "RoofRegatta" "RoofRegatta" "bestMoves" "I") ∈ lw_all := lw_g (lw_at lw_m1 111 rfl) rfl
theorem q235 : (Jvm.Cond.soleField "RoofRegatta" "bestMoves") ∈ lw_all := lw_g (lw_at lw_m1 112 rfl) rfl
theorem q236 : (Jvm.Cond.lays "RoofRegatta" "RoofRegatta" "firesNow" "I") ∈ lw_all := lw_g (lw_at lw_m1 113 rfl) rfl
theorem q237 : (Jvm.Cond.soleField "RoofRegatta" "firesNow") ∈ lw_all := lw_g (lw_at lw_m1 114 rfl) rfl
theorem q238 : (Jvm.Cond.lays "RoofRegatta" "RoofRegatta" "someLit" "I") ∈ lw_all := lw_g (lw_at lw_m1 115 rfl) rfl
theorem q239 : (Jvm.Cond.soleField "RoofRegatta" "someLit") ∈ lw_all := lw_g (lw_at lw_m1 116 rfl) rfl
theorem q240 : (Jvm.Cond.lays "RoofRegatta" "RoofRegatta" "allLit" "I") ∈ lw_all := lw_g (lw_at lw_m1 117 rfl) rfl
theorem q241 : (Jvm.Cond.soleField "RoofRegatta" "allLit") ∈ lw_all := lw_g (lw_at lw_m1 118 rfl) rfl
theorem q242 : (Jvm.Cond.laysFinal "RoofRegatta" "RoofRegatta" "litIn" "[I") ∈ lw_all := lw_g (lw_at lw_m1 119 rfl) rfl
theorem q243 : (Jvm.Cond.soleField "RoofRegatta" "litIn") ∈ lw_all := lw_g (lw_at lw_m1 120 rfl) rfl
theorem q244 : (Jvm.Cond.lays "RoofRegatta" "RoofRegatta" "askLeft" "I") ∈ lw_all := lw_g (lw_at lw_m1 121 rfl) rfl
theorem q245 : (Jvm.Cond.soleField "RoofRegatta" "askLeft") ∈ lw_all := lw_g (lw_at lw_m1 122 rfl) rfl
theorem q246 : (Jvm.Cond.lays "RoofRegatta" "RoofRegatta" "seedThen" "I") ∈ lw_all := lw_g (lw_at lw_m1 123 rfl) rfl
theorem q247 : (Jvm.Cond.soleField "RoofRegatta" "seedThen") ∈ lw_all := lw_g (lw_at lw_m1 124 rfl) rfl
theorem q248 : (Jvm.Cond.superclass "RoofRegatta" "java/lang/Object") ∈ lw_all := lw_g (lw_at lw_m1 125 rfl) rfl
theorem q251 : (Jvm.Cond.instanceMethod ({ cls := "RoofRegatta", name := "feed", desc := "(IIIII)I" } : Jvm.MethodName)) ∈ lw_all := lw_g (lw_at lw_m1 128 rfl) rfl
theorem q252 : (Jvm.Cond.selects "RoofRegatta" ({ cls := "RoofRegatta", name := "feed", desc := "(IIIII)I" } : Jvm.MethodName) ({ cls := "RoofRegatta", name := "feed", desc := "(IIIII)I" } : Jvm.MethodName)) ∈ lw_all := lw_g (lw_at lw_m1 129 rfl) rfl
theorem q253 : (Jvm.Cond.code ({ cls := "RoofRegatta", name := "feed", desc := "(IIIII)I" } : Jvm.MethodName) prog_1_method_13_code (8 : Nat) (Option.some Jvm.ClassFile.FieldType.int)) ∈ lw_all := lw_g (lw_at lw_m1 130 rfl) rfl
theorem q255 : (Jvm.Cond.instanceMethod ({ cls := "RoofRegatta", name := "regatta", desc := "(I)I" } : Jvm.MethodName)) ∈ lw_all := lw_g (lw_at lw_m1 132 rfl) rfl
theorem q256 : (Jvm.Cond.selects "RoofRegatta" ({ cls := "RoofRegatta", name := "regatta", desc := "(I)I" } : Jvm.MethodName) ({ cls := "RoofRegatta", name := "regatta", desc := "(I)I" } : Jvm.MethodName)) ∈ lw_all := lw_g (lw_at lw_m1 133 rfl) rfl
theorem q257 : (Jvm.Cond.code ({ cls := "RoofRegatta", name := "regatta", desc := "(I)I" } : Jvm.MethodName) prog_1_method_14_code (4 : Nat) (Option.some Jvm.ClassFile.FieldType.int)) ∈ lw_all := lw_g (lw_at lw_m1 134 rfl) rfl
theorem q258 : (Jvm.Cond.methodLink "RoofRegatta" (57 : Nat) ({ cls := "RoofRegatta", name := "in", desc := "(III)Z" } : Jvm.MethodName)) ∈ lw_all := lw_g (lw_at lw_m1 135 rfl) rfl
theorem q259 : (Jvm.Cond.static ({ cls := "RoofRegatta", name := "in", desc := "(III)Z" } : Jvm.MethodName)) ∈ lw_all := lw_g (lw_at lw_m1 136 rfl) rfl
theorem q260 : (Jvm.Cond.code ({ cls := "RoofRegatta", name := "in", desc := "(III)Z" } : Jvm.MethodName) prog_1_method_2_code (3 : Nat) (Option.some Jvm.ClassFile.FieldType.boolean)) ∈ lw_all := lw_g (lw_at lw_m1 137 rfl) rfl
theorem q261 : (Jvm.Cond.methodLink "RoofRegatta" (43 : Nat) ({ cls := "RoofRegatta", name := "refused", desc := "(I)I" } : Jvm.MethodName)) ∈ lw_all := lw_g (lw_at lw_m1 138 rfl) rfl
theorem q262 : (Jvm.Cond.privateMethod ({ cls := "RoofRegatta", name := "refused", desc := "(I)I" } : Jvm.MethodName)) ∈ lw_tbl := lw_at lw_m1 139 rfl
theorem q263 : (Jvm.Cond.instanceMethod ({ cls := "RoofRegatta", name := "refused", desc := "(I)I" } : Jvm.MethodName)) ∈ lw_all := lw_g (lw_at lw_m1 140 rfl) rfl
theorem q264 : (Jvm.Cond.code ({ cls := "RoofRegatta", name := "refused", desc := "(I)I" } : Jvm.MethodName) prog_1_method_7_code (2 : Nat) (Option.some Jvm.ClassFile.FieldType.int)) ∈ lw_all := lw_g (lw_at lw_m1 141 rfl) rfl
theorem q265 : (Jvm.Cond.classLink "RoofRegatta" (61 : Nat) "RoofRegatta$Reader") ∈ lw_all := lw_g (lw_at lw_m1 142 rfl) rfl
theorem q267 : (Jvm.Cond.classLink "RoofRegatta" (63 : Nat) "RoofRegatta$Tokens") ∈ lw_all := lw_g (lw_at lw_m1 144 rfl) rfl
theorem q269 : (Jvm.Cond.methodLink "RoofRegatta" (65 : Nat) ({ cls := "RoofRegatta$Tokens", name := "<init>", desc := "([BI)V" } : Jvm.MethodName)) ∈ lw_all := lw_g (lw_at lw_m1 146 rfl) rfl
theorem q283 : (Jvm.Cond.methodLink "RoofRegatta" (68 : Nat) ({ cls := "RoofRegatta$Reader", name := "<init>", desc := "(LRoofRegatta$Tokens;)V" } : Jvm.MethodName)) ∈ lw_all := lw_g (lw_at lw_m1 160 rfl) rfl
theorem q299 : (Jvm.Cond.fieldLink "RoofRegatta" (397 : Nat) "RoofRegatta$Regatta" "bridge" "I") ∈ lw_all := lw_g (lw_at lw_m1 176 rfl) rfl
theorem q302 : (Jvm.Cond.fieldLink "RoofRegatta" (234 : Nat) "RoofRegatta$Regatta" "storey" "I") ∈ lw_all := lw_g (lw_at lw_m1 179 rfl) rfl
theorem q304 : (Jvm.Cond.fieldLink "RoofRegatta" (330 : Nat) "RoofRegatta$Regatta" "rain" "I") ∈ lw_all := lw_g (lw_at lw_m1 181 rfl) rfl
theorem q307 : (Jvm.Cond.fieldLink "RoofRegatta" (400 : Nat) "RoofRegatta$Regatta" "by" "I") ∈ lw_all := lw_g (lw_at lw_m1 184 rfl) rfl
theorem q309 : (Jvm.Cond.fieldLink "RoofRegatta" (403 : Nat) "RoofRegatta$Regatta" "friendships" "I") ∈ lw_all := lw_g (lw_at lw_m1 186 rfl) rfl
theorem q312 : (Jvm.Cond.fieldLink "RoofRegatta" (406 : Nat) "RoofRegatta$Regatta" "manyPrizes" "I") ∈ lw_all := lw_g (lw_at lw_m1 189 rfl) rfl
theorem q318 : (Jvm.Cond.fieldLink "RoofRegatta" (123 : Nat) "RoofRegatta$Regatta" "bends" "Ljava/util/ArrayList;") ∈ lw_all := lw_g (lw_at lw_m1 195 rfl) rfl
theorem q323 : (Jvm.Cond.fieldLink "RoofRegatta" (112 : Nat) "RoofRegatta$Regatta" "houses" "Ljava/util/ArrayList;") ∈ lw_all := lw_g (lw_at lw_m1 200 rfl) rfl
theorem q326 : (Jvm.Cond.fieldLink "RoofRegatta" (120 : Nat) "RoofRegatta$Regatta" "lodgers" "Ljava/util/ArrayList;") ∈ lw_all := lw_g (lw_at lw_m1 203 rfl) rfl
theorem q330 : (Jvm.Cond.fieldLink "RoofRegatta" (290 : Nat) "RoofRegatta$Regatta" "seen" "Ljava/util/ArrayList;") ∈ lw_all := lw_g (lw_at lw_m1 207 rfl) rfl
theorem q582 : (Jvm.Cond.fieldLinkNest "RoofRegatta" (75 : Nat) "RoofRegatta$Reader" "fault" "I" "RoofRegatta") ∈ lw_tbl := lw_at lw_m2 219 rfl
theorem q584 : (Jvm.Cond.fieldLinkNest "RoofRegatta" (79 : Nat) "RoofRegatta$Reader" "place" "I" "RoofRegatta") ∈ lw_tbl := lw_at lw_m2 221 rfl
theorem q596 : (Jvm.Cond.methodLink "RoofRegatta" (71 : Nat) ({ cls := "RoofRegatta$Reader", name := "read", desc := "()LRoofRegatta$Regatta;" } : Jvm.MethodName)) ∈ lw_all := lw_g (lw_at lw_m2 233 rfl) rfl
theorem q781 : (Jvm.Cond.fieldLink "RoofRegatta" (196 : Nat) "RoofRegatta$Bend" "length" "I") ∈ lw_all := lw_g (lw_at lw_m3 178 rfl) rfl
theorem q785 : (Jvm.Cond.fieldLink "RoofRegatta" (199 : Nat) "RoofRegatta$Bend" "inside" "I") ∈ lw_all := lw_g (lw_at lw_m3 182 rfl) rfl
theorem q823 : (Jvm.Cond.selects "RoofRegatta" ({ cls := "java/lang/Object", name := "getClass", desc := "()Ljava/lang/Class;" } : Jvm.MethodName) ({ cls := "java/lang/Object", name := "getClass", desc := "()Ljava/lang/Class;" } : Jvm.MethodName)) ∈ lw_all := lw_g (lw_at lw_m3 220 rfl) rfl
theorem q875 : (Jvm.Cond.fieldLink "RoofRegatta" (148 : Nat) "RoofRegatta$House" "tiles" "I") ∈ lw_all := lw_g (lw_at lw_m4 32 rfl) rfl
theorem q879 : (Jvm.Cond.fieldLink "RoofRegatta" (151 : Nat) "RoofRegatta$House" "storeys" "I") ∈ lw_all := lw_g (lw_at lw_m4 36 rfl) rfl
theorem q938 : (Jvm.Cond.fieldLink "RoofRegatta" (179 : Nat) "RoofRegatta$Lodger" "weighs" "I") ∈ lw_all := lw_g (lw_at lw_m4 95 rfl) rfl
theorem q941 : (Jvm.Cond.fieldLink "RoofRegatta" (182 : Nat) "RoofRegatta$Lodger" "rows" "I") ∈ lw_all := lw_g (lw_at lw_m4 98 rfl) rfl
theorem q948 : (Jvm.Cond.fieldLink "RoofRegatta" (188 : Nat) "RoofRegatta$Lodger" "friends" "I") ∈ lw_all := lw_g (lw_at lw_m4 105 rfl) rfl
theorem q988 : (Jvm.Cond.static ({ cls := "RoofRegatta", name := "has", desc := "(II)Z" } : Jvm.MethodName)) ∈ lw_all := lw_g (lw_at lw_m4 145 rfl) rfl
theorem q989 : (Jvm.Cond.code ({ cls := "RoofRegatta", name := "has", desc := "(II)Z" } : Jvm.MethodName) prog_1_method_3_code (2 : Nat) (Option.some Jvm.ClassFile.FieldType.boolean)) ∈ lw_all := lw_g (lw_at lw_m4 146 rfl) rfl
theorem q1009 : (Jvm.Cond.fieldLink "RoofRegatta" (295 : Nat) "RoofRegatta$Seen" "one" "I") ∈ lw_all := lw_g (lw_at lw_m4 166 rfl) rfl
theorem q1011 : (Jvm.Cond.fieldLink "RoofRegatta" (298 : Nat) "RoofRegatta$Seen" "two" "I") ∈ lw_all := lw_g (lw_at lw_m4 168 rfl) rfl
theorem q1013 : (Jvm.Cond.fieldLink "RoofRegatta" (301 : Nat) "RoofRegatta$Seen" "bend" "I") ∈ lw_all := lw_g (lw_at lw_m4 170 rfl) rfl
theorem q1029 : (Jvm.Cond.classLink "RoofRegatta" (86 : Nat) "RoofRegatta$River") ∈ lw_all := lw_g (lw_at lw_m4 186 rfl) rfl
theorem q1031 : (Jvm.Cond.methodLink "RoofRegatta" (88 : Nat) ({ cls := "RoofRegatta$River", name := "<init>", desc := "(LRoofRegatta$Regatta;)V" } : Jvm.MethodName)) ∈ lw_all := lw_g (lw_at lw_m4 188 rfl) rfl
theorem q1037 : (Jvm.Cond.fieldLink "RoofRegatta" (185 : Nat) "RoofRegatta$River" "house" "[I") ∈ lw_all := lw_g (lw_at lw_m4 194 rfl) rfl
theorem q1039 : (Jvm.Cond.fieldLink "RoofRegatta" (154 : Nat) "RoofRegatta$River" "lane" "[I") ∈ lw_all := lw_g (lw_at lw_m4 196 rfl) rfl
theorem q1041 : (Jvm.Cond.fieldLink "RoofRegatta" (167 : Nat) "RoofRegatta$River" "lit" "I") ∈ lw_all := lw_g (lw_at lw_m4 198 rfl) rfl
theorem q1043 : (Jvm.Cond.fieldLink "RoofRegatta" (287 : Nat) "RoofRegatta$River" "water" "I") ∈ lw_all := lw_g (lw_at lw_m4 200 rfl) rfl
theorem q1055 : (Jvm.Cond.methodLink "RoofRegatta" (95 : Nat) ({ cls := "RoofRegatta$River", name := "begins", desc := "()V" } : Jvm.MethodName)) ∈ lw_all := lw_g (lw_at lw_m4 212 rfl) rfl
theorem q1063 : (Jvm.Cond.methodLink "RoofRegatta" (98 : Nat) ({ cls := "RoofRegatta$River", name := "copy", desc := "()LRoofRegatta$River;" } : Jvm.MethodName)) ∈ lw_all := lw_g (lw_at lw_m4 220 rfl) rfl
theorem q1074 : (Jvm.Cond.methodLink "RoofRegatta" (105 : Nat) ({ cls := "java/util/ArrayList", name := "clear", desc := "()V" } : Jvm.MethodName)) ∈ lw_all := lw_g (lw_at lw_m4 231 rfl) rfl
theorem q1078 : (Jvm.Cond.methodLink "RoofRegatta" (108 : Nat) ({ cls := "RoofRegatta", name := "many", desc := "()I" } : Jvm.MethodName)) ∈ lw_all := lw_g (lw_at lw_m4 235 rfl) rfl
theorem q1079 : (Jvm.Cond.privateMethod ({ cls := "RoofRegatta", name := "many", desc := "()I" } : Jvm.MethodName)) ∈ lw_tbl := lw_at lw_m4 236 rfl
theorem q1080 : (Jvm.Cond.instanceMethod ({ cls := "RoofRegatta", name := "many", desc := "()I" } : Jvm.MethodName)) ∈ lw_all := lw_g (lw_at lw_m4 237 rfl) rfl
theorem q1081 : (Jvm.Cond.code ({ cls := "RoofRegatta", name := "many", desc := "()I" } : Jvm.MethodName) prog_1_method_17_code (1 : Nat) (Option.some Jvm.ClassFile.FieldType.int)) ∈ lw_all := lw_g (lw_at lw_m4 238 rfl) rfl
theorem q1082 : (Jvm.Cond.methodLink "RoofRegatta" (117 : Nat) ({ cls := "java/util/ArrayList", name := "size", desc := "()I" } : Jvm.MethodName)) ∈ lw_all := lw_g (lw_at lw_m4 239 rfl) rfl
theorem q1083 : (Jvm.Cond.methodLink "RoofRegatta" (47 : Nat) ({ cls := "RoofRegatta", name := "well", desc := "(I)I" } : Jvm.MethodName)) ∈ lw_all := lw_g (lw_at lw_m5 0 rfl) rfl
theorem q1084 : (Jvm.Cond.privateMethod ({ cls := "RoofRegatta", name := "well", desc := "(I)I" } : Jvm.MethodName)) ∈ lw_tbl := lw_at lw_m5 1 rfl
theorem q1085 : (Jvm.Cond.instanceMethod ({ cls := "RoofRegatta", name := "well", desc := "(I)I" } : Jvm.MethodName)) ∈ lw_all := lw_g (lw_at lw_m5 2 rfl) rfl
theorem q1086 : (Jvm.Cond.code ({ cls := "RoofRegatta", name := "well", desc := "(I)I" } : Jvm.MethodName) prog_1_method_10_code (2 : Nat) (Option.some Jvm.ClassFile.FieldType.int)) ∈ lw_all := lw_g (lw_at lw_m5 3 rfl) rfl
theorem q1088 : (Jvm.Cond.instanceMethod ({ cls := "RoofRegatta", name := "fault", desc := "()I" } : Jvm.MethodName)) ∈ lw_all := lw_g (lw_at lw_m5 5 rfl) rfl
theorem q1089 : (Jvm.Cond.selects "RoofRegatta" ({ cls := "RoofRegatta", name := "fault", desc := "()I" } : Jvm.MethodName) ({ cls := "RoofRegatta", name := "fault", desc := "()I" } : Jvm.MethodName)) ∈ lw_all := lw_g (lw_at lw_m5 6 rfl) rfl
theorem q1090 : (Jvm.Cond.code ({ cls := "RoofRegatta", name := "fault", desc := "()I" } : Jvm.MethodName) prog_1_method_15_code (1 : Nat) (Option.some Jvm.ClassFile.FieldType.int)) ∈ lw_all := lw_g (lw_at lw_m5 7 rfl) rfl
theorem q1092 : (Jvm.Cond.instanceMethod ({ cls := "RoofRegatta", name := "where", desc := "()I" } : Jvm.MethodName)) ∈ lw_all := lw_g (lw_at lw_m5 9 rfl) rfl
theorem q1093 : (Jvm.Cond.selects "RoofRegatta" ({ cls := "RoofRegatta", name := "where", desc := "()I" } : Jvm.MethodName) ({ cls := "RoofRegatta", name := "where", desc := "()I" } : Jvm.MethodName)) ∈ lw_all := lw_g (lw_at lw_m5 10 rfl) rfl
theorem q1094 : (Jvm.Cond.code ({ cls := "RoofRegatta", name := "where", desc := "()I" } : Jvm.MethodName) prog_1_method_16_code (1 : Nat) (Option.some Jvm.ClassFile.FieldType.int)) ∈ lw_all := lw_g (lw_at lw_m5 11 rfl) rfl
theorem q1096 : (Jvm.Cond.instanceMethod ({ cls := "RoofRegatta", name := "house", desc := "(II)I" } : Jvm.MethodName)) ∈ lw_all := lw_g (lw_at lw_m5 13 rfl) rfl
theorem q1097 : (Jvm.Cond.selects "RoofRegatta" ({ cls := "RoofRegatta", name := "house", desc := "(II)I" } : Jvm.MethodName) ({ cls := "RoofRegatta", name := "house", desc := "(II)I" } : Jvm.MethodName)) ∈ lw_all := lw_g (lw_at lw_m5 14 rfl) rfl
theorem q1098 : (Jvm.Cond.code ({ cls := "RoofRegatta", name := "house", desc := "(II)I" } : Jvm.MethodName) prog_1_method_26_code (4 : Nat) (Option.some Jvm.ClassFile.FieldType.int)) ∈ lw_all := lw_g (lw_at lw_m5 15 rfl) rfl
theorem q1099 : (Jvm.Cond.methodLink "RoofRegatta" (131 : Nat) ({ cls := "RoofRegatta", name := "isHouse", desc := "(I)Z" } : Jvm.MethodName)) ∈ lw_all := lw_g (lw_at lw_m5 16 rfl) rfl
theorem q1100 : (Jvm.Cond.privateMethod ({ cls := "RoofRegatta", name := "isHouse", desc := "(I)Z" } : Jvm.MethodName)) ∈ lw_tbl := lw_at lw_m5 17 rfl
theorem q1101 : (Jvm.Cond.instanceMethod ({ cls := "RoofRegatta", name := "isHouse", desc := "(I)Z" } : Jvm.MethodName)) ∈ lw_all := lw_g (lw_at lw_m5 18 rfl) rfl
theorem q1102 : (Jvm.Cond.code ({ cls := "RoofRegatta", name := "isHouse", desc := "(I)Z" } : Jvm.MethodName) prog_1_method_20_code (2 : Nat) (Option.some Jvm.ClassFile.FieldType.boolean)) ∈ lw_all := lw_g (lw_at lw_m5 19 rfl) rfl
theorem q1103 : (Jvm.Cond.methodLink "RoofRegatta" (139 : Nat) ({ cls := "java/util/ArrayList", name := "get", desc := "(I)Ljava/lang/Object;" } : Jvm.MethodName)) ∈ lw_all := lw_g (lw_at lw_m5 20 rfl) rfl
theorem q1104 : (Jvm.Cond.classLink "RoofRegatta" (143 : Nat) "RoofRegatta$House") ∈ lw_all := lw_g (lw_at lw_m5 21 rfl) rfl
theorem q1105 : (Jvm.Cond.methodLink "RoofRegatta" (145 : Nat) ({ cls := "RoofRegatta$House", name := "kind", desc := "()I" } : Jvm.MethodName)) ∈ lw_all := lw_g (lw_at lw_m5 22 rfl) rfl
theorem q1119 : (Jvm.Cond.methodLink "RoofRegatta" (157 : Nat) ({ cls := "RoofRegatta$River", name := "weight", desc := "(I)I" } : Jvm.MethodName)) ∈ lw_all := lw_g (lw_at lw_m5 36 rfl) rfl
theorem q1134 : (Jvm.Cond.methodLink "RoofRegatta" (160 : Nat) ({ cls := "RoofRegatta$River", name := "power", desc := "(II)I" } : Jvm.MethodName)) ∈ lw_all := lw_g (lw_at lw_m5 51 rfl) rfl
theorem q1143 : (Jvm.Cond.static ({ cls := "RoofRegatta", name := "bits", desc := "(I)I" } : Jvm.MethodName)) ∈ lw_all := lw_g (lw_at lw_m5 60 rfl) rfl
theorem q1144 : (Jvm.Cond.code ({ cls := "RoofRegatta", name := "bits", desc := "(I)I" } : Jvm.MethodName) prog_1_method_4_code (3 : Nat) (Option.some Jvm.ClassFile.FieldType.int)) ∈ lw_all := lw_g (lw_at lw_m5 61 rfl) rfl
theorem q1156 : (Jvm.Cond.methodLink "RoofRegatta" (164 : Nat) ({ cls := "RoofRegatta$River", name := "aboard", desc := "(I)I" } : Jvm.MethodName)) ∈ lw_all := lw_g (lw_at lw_m5 73 rfl) rfl
theorem q1157 : (Jvm.Cond.methodLink "RoofRegatta" (170 : Nat) ({ cls := "RoofRegatta", name := "has", desc := "(II)Z" } : Jvm.MethodName)) ∈ lw_all := lw_g (lw_at lw_m5 74 rfl) rfl
theorem q1159 : (Jvm.Cond.instanceMethod ({ cls := "RoofRegatta", name := "lodger", desc := "(II)I" } : Jvm.MethodName)) ∈ lw_all := lw_g (lw_at lw_m5 76 rfl) rfl
theorem q1160 : (Jvm.Cond.selects "RoofRegatta" ({ cls := "RoofRegatta", name := "lodger", desc := "(II)I" } : Jvm.MethodName) ({ cls := "RoofRegatta", name := "lodger", desc := "(II)I" } : Jvm.MethodName)) ∈ lw_all := lw_g (lw_at lw_m5 77 rfl) rfl
theorem q1161 : (Jvm.Cond.code ({ cls := "RoofRegatta", name := "lodger", desc := "(II)I" } : Jvm.MethodName) prog_1_method_27_code (4 : Nat) (Option.some Jvm.ClassFile.FieldType.int)) ∈ lw_all := lw_g (lw_at lw_m5 78 rfl) rfl
theorem q1162 : (Jvm.Cond.methodLink "RoofRegatta" (174 : Nat) ({ cls := "RoofRegatta", name := "isLodger", desc := "(I)Z" } : Jvm.MethodName)) ∈ lw_all := lw_g (lw_at lw_m5 79 rfl) rfl
theorem q1163 : (Jvm.Cond.privateMethod ({ cls := "RoofRegatta", name := "isLodger", desc := "(I)Z" } : Jvm.MethodName)) ∈ lw_tbl := lw_at lw_m5 80 rfl
theorem q1164 : (Jvm.Cond.instanceMethod ({ cls := "RoofRegatta", name := "isLodger", desc := "(I)Z" } : Jvm.MethodName)) ∈ lw_all := lw_g (lw_at lw_m5 81 rfl) rfl
theorem q1165 : (Jvm.Cond.code ({ cls := "RoofRegatta", name := "isLodger", desc := "(I)Z" } : Jvm.MethodName) prog_1_method_21_code (2 : Nat) (Option.some Jvm.ClassFile.FieldType.boolean)) ∈ lw_all := lw_g (lw_at lw_m5 82 rfl) rfl
theorem q1166 : (Jvm.Cond.methodLink "RoofRegatta" (126 : Nat) ({ cls := "RoofRegatta", name := "crew", desc := "()I" } : Jvm.MethodName)) ∈ lw_all := lw_g (lw_at lw_m5 83 rfl) rfl
theorem q1167 : (Jvm.Cond.privateMethod ({ cls := "RoofRegatta", name := "crew", desc := "()I" } : Jvm.MethodName)) ∈ lw_tbl := lw_at lw_m5 84 rfl
theorem q1168 : (Jvm.Cond.instanceMethod ({ cls := "RoofRegatta", name := "crew", desc := "()I" } : Jvm.MethodName)) ∈ lw_all := lw_g (lw_at lw_m5 85 rfl) rfl
theorem q1169 : (Jvm.Cond.code ({ cls := "RoofRegatta", name := "crew", desc := "()I" } : Jvm.MethodName) prog_1_method_18_code (1 : Nat) (Option.some Jvm.ClassFile.FieldType.int)) ∈ lw_all := lw_g (lw_at lw_m5 86 rfl) rfl
theorem q1170 : (Jvm.Cond.classLink "RoofRegatta" (177 : Nat) "RoofRegatta$Lodger") ∈ lw_all := lw_g (lw_at lw_m5 87 rfl) rfl
theorem q1172 : (Jvm.Cond.instanceMethod ({ cls := "RoofRegatta", name := "bend", desc := "(II)I" } : Jvm.MethodName)) ∈ lw_all := lw_g (lw_at lw_m5 89 rfl) rfl
theorem q1173 : (Jvm.Cond.selects "RoofRegatta" ({ cls := "RoofRegatta", name := "bend", desc := "(II)I" } : Jvm.MethodName) ({ cls := "RoofRegatta", name := "bend", desc := "(II)I" } : Jvm.MethodName)) ∈ lw_all := lw_g (lw_at lw_m5 90 rfl) rfl
theorem q1174 : (Jvm.Cond.code ({ cls := "RoofRegatta", name := "bend", desc := "(II)I" } : Jvm.MethodName) prog_1_method_28_code (3 : Nat) (Option.some Jvm.ClassFile.FieldType.int)) ∈ lw_all := lw_g (lw_at lw_m5 91 rfl) rfl
theorem q1175 : (Jvm.Cond.methodLink "RoofRegatta" (191 : Nat) ({ cls := "RoofRegatta", name := "isBend", desc := "(I)Z" } : Jvm.MethodName)) ∈ lw_all := lw_g (lw_at lw_m5 92 rfl) rfl
theorem q1176 : (Jvm.Cond.privateMethod ({ cls := "RoofRegatta", name := "isBend", desc := "(I)Z" } : Jvm.MethodName)) ∈ lw_tbl := lw_at lw_m5 93 rfl
theorem q1177 : (Jvm.Cond.instanceMethod ({ cls := "RoofRegatta", name := "isBend", desc := "(I)Z" } : Jvm.MethodName)) ∈ lw_all := lw_g (lw_at lw_m5 94 rfl) rfl
theorem q1178 : (Jvm.Cond.code ({ cls := "RoofRegatta", name := "isBend", desc := "(I)Z" } : Jvm.MethodName) prog_1_method_22_code (2 : Nat) (Option.some Jvm.ClassFile.FieldType.boolean)) ∈ lw_all := lw_g (lw_at lw_m5 95 rfl) rfl
theorem q1179 : (Jvm.Cond.methodLink "RoofRegatta" (129 : Nat) ({ cls := "RoofRegatta", name := "bends", desc := "()I" } : Jvm.MethodName)) ∈ lw_all := lw_g (lw_at lw_m5 96 rfl) rfl
theorem q1180 : (Jvm.Cond.privateMethod ({ cls := "RoofRegatta", name := "bends", desc := "()I" } : Jvm.MethodName)) ∈ lw_tbl := lw_at lw_m5 97 rfl
theorem q1181 : (Jvm.Cond.instanceMethod ({ cls := "RoofRegatta", name := "bends", desc := "()I" } : Jvm.MethodName)) ∈ lw_all := lw_g (lw_at lw_m5 98 rfl) rfl
theorem q1182 : (Jvm.Cond.code ({ cls := "RoofRegatta", name := "bends", desc := "()I" } : Jvm.MethodName) prog_1_method_19_code (1 : Nat) (Option.some Jvm.ClassFile.FieldType.int)) ∈ lw_all := lw_g (lw_at lw_m5 99 rfl) rfl
theorem q1183 : (Jvm.Cond.classLink "RoofRegatta" (194 : Nat) "RoofRegatta$Bend") ∈ lw_all := lw_g (lw_at lw_m5 100 rfl) rfl
theorem q1185 : (Jvm.Cond.instanceMethod ({ cls := "RoofRegatta", name := "time", desc := "(II)I" } : Jvm.MethodName)) ∈ lw_all := lw_g (lw_at lw_m5 102 rfl) rfl
theorem q1186 : (Jvm.Cond.selects "RoofRegatta" ({ cls := "RoofRegatta", name := "time", desc := "(II)I" } : Jvm.MethodName) ({ cls := "RoofRegatta", name := "time", desc := "(II)I" } : Jvm.MethodName)) ∈ lw_all := lw_g (lw_at lw_m5 103 rfl) rfl
theorem q1187 : (Jvm.Cond.code ({ cls := "RoofRegatta", name := "time", desc := "(II)I" } : Jvm.MethodName) prog_1_method_29_code (3 : Nat) (Option.some Jvm.ClassFile.FieldType.int)) ∈ lw_all := lw_g (lw_at lw_m5 104 rfl) rfl
theorem q1188 : (Jvm.Cond.methodLink "RoofRegatta" (202 : Nat) ({ cls := "RoofRegatta$River", name := "time", desc := "(III)I" } : Jvm.MethodName)) ∈ lw_all := lw_g (lw_at lw_m5 105 rfl) rfl
theorem q1208 : (Jvm.Cond.instanceMethod ({ cls := "RoofRegatta", name := "soFar", desc := "(II)I" } : Jvm.MethodName)) ∈ lw_all := lw_g (lw_at lw_m5 125 rfl) rfl
theorem q1209 : (Jvm.Cond.selects "RoofRegatta" ({ cls := "RoofRegatta", name := "soFar", desc := "(II)I" } : Jvm.MethodName) ({ cls := "RoofRegatta", name := "soFar", desc := "(II)I" } : Jvm.MethodName)) ∈ lw_all := lw_g (lw_at lw_m5 126 rfl) rfl
theorem q1210 : (Jvm.Cond.code ({ cls := "RoofRegatta", name := "soFar", desc := "(II)I" } : Jvm.MethodName) prog_1_method_30_code (3 : Nat) (Option.some Jvm.ClassFile.FieldType.int)) ∈ lw_all := lw_g (lw_at lw_m5 127 rfl) rfl
theorem q1211 : (Jvm.Cond.methodLink "RoofRegatta" (206 : Nat) ({ cls := "RoofRegatta$River", name := "soFar", desc := "(III)I" } : Jvm.MethodName)) ∈ lw_all := lw_g (lw_at lw_m5 128 rfl) rfl
theorem q1223 : (Jvm.Cond.instanceMethod ({ cls := "RoofRegatta", name := "total", desc := "(I)I" } : Jvm.MethodName)) ∈ lw_all := lw_g (lw_at lw_m5 140 rfl) rfl
theorem q1224 : (Jvm.Cond.selects "RoofRegatta" ({ cls := "RoofRegatta", name := "total", desc := "(I)I" } : Jvm.MethodName) ({ cls := "RoofRegatta", name := "total", desc := "(I)I" } : Jvm.MethodName)) ∈ lw_all := lw_g (lw_at lw_m5 141 rfl) rfl
theorem q1225 : (Jvm.Cond.code ({ cls := "RoofRegatta", name := "total", desc := "(I)I" } : Jvm.MethodName) prog_1_method_31_code (2 : Nat) (Option.some Jvm.ClassFile.FieldType.int)) ∈ lw_all := lw_g (lw_at lw_m5 142 rfl) rfl
theorem q1226 : (Jvm.Cond.methodLink "RoofRegatta" (209 : Nat) ({ cls := "RoofRegatta$River", name := "total", desc := "(II)I" } : Jvm.MethodName)) ∈ lw_all := lw_g (lw_at lw_m5 143 rfl) rfl
theorem q1232 : (Jvm.Cond.instanceMethod ({ cls := "RoofRegatta", name := "loses", desc := "(I)I" } : Jvm.MethodName)) ∈ lw_all := lw_g (lw_at lw_m5 149 rfl) rfl
theorem q1233 : (Jvm.Cond.selects "RoofRegatta" ({ cls := "RoofRegatta", name := "loses", desc := "(I)I" } : Jvm.MethodName) ({ cls := "RoofRegatta", name := "loses", desc := "(I)I" } : Jvm.MethodName)) ∈ lw_all := lw_g (lw_at lw_m5 150 rfl) rfl
theorem q1234 : (Jvm.Cond.code ({ cls := "RoofRegatta", name := "loses", desc := "(I)I" } : Jvm.MethodName) prog_1_method_32_code (2 : Nat) (Option.some Jvm.ClassFile.FieldType.int)) ∈ lw_all := lw_g (lw_at lw_m5 151 rfl) rfl
theorem q1235 : (Jvm.Cond.methodLink "RoofRegatta" (212 : Nat) ({ cls := "RoofRegatta$Regatta", name := "loses", desc := "(I)I" } : Jvm.MethodName)) ∈ lw_all := lw_g (lw_at lw_m5 152 rfl) rfl
theorem q1237 : (Jvm.Cond.instanceMethod ({ cls := "RoofRegatta", name := "rank", desc := "(I)I" } : Jvm.MethodName)) ∈ lw_all := lw_g (lw_at lw_m5 154 rfl) rfl
theorem q1238 : (Jvm.Cond.selects "RoofRegatta" ({ cls := "RoofRegatta", name := "rank", desc := "(I)I" } : Jvm.MethodName) ({ cls := "RoofRegatta", name := "rank", desc := "(I)I" } : Jvm.MethodName)) ∈ lw_all := lw_g (lw_at lw_m5 155 rfl) rfl
theorem q1239 : (Jvm.Cond.code ({ cls := "RoofRegatta", name := "rank", desc := "(I)I" } : Jvm.MethodName) prog_1_method_33_code (2 : Nat) (Option.some Jvm.ClassFile.FieldType.int)) ∈ lw_all := lw_g (lw_at lw_m5 156 rfl) rfl
theorem q1240 : (Jvm.Cond.methodLink "RoofRegatta" (215 : Nat) ({ cls := "RoofRegatta$River", name := "rank", desc := "(II)I" } : Jvm.MethodName)) ∈ lw_all := lw_g (lw_at lw_m5 157 rfl) rfl
theorem q1258 : (Jvm.Cond.instanceMethod ({ cls := "RoofRegatta", name := "ranked", desc := "(I)I" } : Jvm.MethodName)) ∈ lw_all := lw_g (lw_at lw_m5 175 rfl) rfl
theorem q1259 : (Jvm.Cond.selects "RoofRegatta" ({ cls := "RoofRegatta", name := "ranked", desc := "(I)I" } : Jvm.MethodName) ({ cls := "RoofRegatta", name := "ranked", desc := "(I)I" } : Jvm.MethodName)) ∈ lw_all := lw_g (lw_at lw_m5 176 rfl) rfl
theorem q1260 : (Jvm.Cond.code ({ cls := "RoofRegatta", name := "ranked", desc := "(I)I" } : Jvm.MethodName) prog_1_method_34_code (3 : Nat) (Option.some Jvm.ClassFile.FieldType.int)) ∈ lw_all := lw_g (lw_at lw_m5 177 rfl) rfl
theorem q1262 : (Jvm.Cond.instanceMethod ({ cls := "RoofRegatta", name := "out", desc := "(I)I" } : Jvm.MethodName)) ∈ lw_all := lw_g (lw_at lw_m5 179 rfl) rfl
theorem q1263 : (Jvm.Cond.selects "RoofRegatta" ({ cls := "RoofRegatta", name := "out", desc := "(I)I" } : Jvm.MethodName) ({ cls := "RoofRegatta", name := "out", desc := "(I)I" } : Jvm.MethodName)) ∈ lw_all := lw_g (lw_at lw_m5 180 rfl) rfl
theorem q1264 : (Jvm.Cond.code ({ cls := "RoofRegatta", name := "out", desc := "(I)I" } : Jvm.MethodName) prog_1_method_35_code (2 : Nat) (Option.some Jvm.ClassFile.FieldType.int)) ∈ lw_all := lw_g (lw_at lw_m5 181 rfl) rfl
theorem q1265 : (Jvm.Cond.methodLink "RoofRegatta" (218 : Nat) ({ cls := "RoofRegatta$River", name := "isOut", desc := "(II)Z" } : Jvm.MethodName)) ∈ lw_all := lw_g (lw_at lw_m5 182 rfl) rfl
theorem q1267 : (Jvm.Cond.instanceMethod ({ cls := "RoofRegatta", name := "prize", desc := "(I)I" } : Jvm.MethodName)) ∈ lw_all := lw_g (lw_at lw_m5 184 rfl) rfl
theorem q1268 : (Jvm.Cond.selects "RoofRegatta" ({ cls := "RoofRegatta", name := "prize", desc := "(I)I" } : Jvm.MethodName) ({ cls := "RoofRegatta", name := "prize", desc := "(I)I" } : Jvm.MethodName)) ∈ lw_all := lw_g (lw_at lw_m5 185 rfl) rfl
theorem q1269 : (Jvm.Cond.code ({ cls := "RoofRegatta", name := "prize", desc := "(I)I" } : Jvm.MethodName) prog_1_method_36_code (2 : Nat) (Option.some Jvm.ClassFile.FieldType.int)) ∈ lw_all := lw_g (lw_at lw_m5 186 rfl) rfl
theorem q1270 : (Jvm.Cond.methodLink "RoofRegatta" (221 : Nat) ({ cls := "RoofRegatta$River", name := "prize", desc := "(II)I" } : Jvm.MethodName)) ∈ lw_all := lw_g (lw_at lw_m5 187 rfl) rfl
theorem q1276 : (Jvm.Cond.instanceMethod ({ cls := "RoofRegatta", name := "ahead", desc := "(II)I" } : Jvm.MethodName)) ∈ lw_all := lw_g (lw_at lw_m5 193 rfl) rfl
theorem q1277 : (Jvm.Cond.selects "RoofRegatta" ({ cls := "RoofRegatta", name := "ahead", desc := "(II)I" } : Jvm.MethodName) ({ cls := "RoofRegatta", name := "ahead", desc := "(II)I" } : Jvm.MethodName)) ∈ lw_all := lw_g (lw_at lw_m5 194 rfl) rfl
theorem q1278 : (Jvm.Cond.code ({ cls := "RoofRegatta", name := "ahead", desc := "(II)I" } : Jvm.MethodName) prog_1_method_38_code (4 : Nat) (Option.some Jvm.ClassFile.FieldType.int)) ∈ lw_all := lw_g (lw_at lw_m5 195 rfl) rfl
theorem q1279 : (Jvm.Cond.methodLink "RoofRegatta" (224 : Nat) ({ cls := "RoofRegatta", name := "areTwo", desc := "(II)Z" } : Jvm.MethodName)) ∈ lw_all := lw_g (lw_at lw_m5 196 rfl) rfl
theorem q1280 : (Jvm.Cond.privateMethod ({ cls := "RoofRegatta", name := "areTwo", desc := "(II)Z" } : Jvm.MethodName)) ∈ lw_tbl := lw_at lw_m5 197 rfl
theorem q1281 : (Jvm.Cond.instanceMethod ({ cls := "RoofRegatta", name := "areTwo", desc := "(II)Z" } : Jvm.MethodName)) ∈ lw_all := lw_g (lw_at lw_m5 198 rfl) rfl
theorem q1282 : (Jvm.Cond.code ({ cls := "RoofRegatta", name := "areTwo", desc := "(II)Z" } : Jvm.MethodName) prog_1_method_23_code (3 : Nat) (Option.some Jvm.ClassFile.FieldType.boolean)) ∈ lw_all := lw_g (lw_at lw_m5 199 rfl) rfl
theorem q1283 : (Jvm.Cond.methodLink "RoofRegatta" (227 : Nat) ({ cls := "RoofRegatta", name := "isAhead", desc := "(LRoofRegatta$River;III)Z" } : Jvm.MethodName)) ∈ lw_all := lw_g (lw_at lw_m5 200 rfl) rfl
theorem q1284 : (Jvm.Cond.static ({ cls := "RoofRegatta", name := "isAhead", desc := "(LRoofRegatta$River;III)Z" } : Jvm.MethodName)) ∈ lw_all := lw_g (lw_at lw_m5 201 rfl) rfl
theorem q1285 : (Jvm.Cond.code ({ cls := "RoofRegatta", name := "isAhead", desc := "(LRoofRegatta$River;III)Z" } : Jvm.MethodName) prog_1_method_37_code (4 : Nat) (Option.some Jvm.ClassFile.FieldType.boolean)) ∈ lw_all := lw_g (lw_at lw_m5 202 rfl) rfl
theorem q1287 : (Jvm.Cond.instanceMethod ({ cls := "RoofRegatta", name := "passes", desc := "()I" } : Jvm.MethodName)) ∈ lw_all := lw_g (lw_at lw_m5 204 rfl) rfl
theorem q1288 : (Jvm.Cond.selects "RoofRegatta" ({ cls := "RoofRegatta", name := "passes", desc := "()I" } : Jvm.MethodName) ({ cls := "RoofRegatta", name := "passes", desc := "()I" } : Jvm.MethodName)) ∈ lw_all := lw_g (lw_at lw_m5 205 rfl) rfl
theorem q1289 : (Jvm.Cond.code ({ cls := "RoofRegatta", name := "passes", desc := "()I" } : Jvm.MethodName) prog_1_method_39_code (5 : Nat) (Option.some Jvm.ClassFile.FieldType.int)) ∈ lw_all := lw_g (lw_at lw_m5 206 rfl) rfl
theorem q1291 : (Jvm.Cond.instanceMethod ({ cls := "RoofRegatta", name := "fastest", desc := "(I)I" } : Jvm.MethodName)) ∈ lw_all := lw_g (lw_at lw_m5 208 rfl) rfl
theorem q1292 : (Jvm.Cond.selects "RoofRegatta" ({ cls := "RoofRegatta", name := "fastest", desc := "(I)I" } : Jvm.MethodName) ({ cls := "RoofRegatta", name := "fastest", desc := "(I)I" } : Jvm.MethodName)) ∈ lw_all := lw_g (lw_at lw_m5 209 rfl) rfl
theorem q1293 : (Jvm.Cond.code ({ cls := "RoofRegatta", name := "fastest", desc := "(I)I" } : Jvm.MethodName) prog_1_method_40_code (4 : Nat) (Option.some Jvm.ClassFile.FieldType.int)) ∈ lw_all := lw_g (lw_at lw_m5 210 rfl) rfl
theorem q1295 : (Jvm.Cond.instanceMethod ({ cls := "RoofRegatta", name := "leader", desc := "(I)I" } : Jvm.MethodName)) ∈ lw_all := lw_g (lw_at lw_m5 212 rfl) rfl
theorem q1296 : (Jvm.Cond.selects "RoofRegatta" ({ cls := "RoofRegatta", name := "leader", desc := "(I)I" } : Jvm.MethodName) ({ cls := "RoofRegatta", name := "leader", desc := "(I)I" } : Jvm.MethodName)) ∈ lw_all := lw_g (lw_at lw_m5 213 rfl) rfl
theorem q1297 : (Jvm.Cond.code ({ cls := "RoofRegatta", name := "leader", desc := "(I)I" } : Jvm.MethodName) prog_1_method_41_code (4 : Nat) (Option.some Jvm.ClassFile.FieldType.int)) ∈ lw_all := lw_g (lw_at lw_m5 214 rfl) rfl
theorem q1299 : (Jvm.Cond.instanceMethod ({ cls := "RoofRegatta", name := "full", desc := "()I" } : Jvm.MethodName)) ∈ lw_all := lw_g (lw_at lw_m5 216 rfl) rfl
theorem q1300 : (Jvm.Cond.selects "RoofRegatta" ({ cls := "RoofRegatta", name := "full", desc := "()I" } : Jvm.MethodName) ({ cls := "RoofRegatta", name := "full", desc := "()I" } : Jvm.MethodName)) ∈ lw_all := lw_g (lw_at lw_m5 217 rfl) rfl
theorem q1301 : (Jvm.Cond.code ({ cls := "RoofRegatta", name := "full", desc := "()I" } : Jvm.MethodName) prog_1_method_42_code (3 : Nat) (Option.some Jvm.ClassFile.FieldType.int)) ∈ lw_all := lw_g (lw_at lw_m5 218 rfl) rfl
theorem q1302 : (Jvm.Cond.methodLink "RoofRegatta" (231 : Nat) ({ cls := "RoofRegatta$River", name := "isFull", desc := "(I)Z" } : Jvm.MethodName)) ∈ lw_all := lw_g (lw_at lw_m5 219 rfl) rfl
theorem q1307 : (Jvm.Cond.instanceMethod ({ cls := "RoofRegatta", name := "storey", desc := "(I)I" } : Jvm.MethodName)) ∈ lw_all := lw_g (lw_at lw_m5 224 rfl) rfl
theorem q1308 : (Jvm.Cond.selects "RoofRegatta" ({ cls := "RoofRegatta", name := "storey", desc := "(I)I" } : Jvm.MethodName) ({ cls := "RoofRegatta", name := "storey", desc := "(I)I" } : Jvm.MethodName)) ∈ lw_all := lw_g (lw_at lw_m5 225 rfl) rfl
theorem q1309 : (Jvm.Cond.code ({ cls := "RoofRegatta", name := "storey", desc := "(I)I" } : Jvm.MethodName) prog_1_method_43_code (2 : Nat) (Option.some Jvm.ClassFile.FieldType.int)) ∈ lw_all := lw_g (lw_at lw_m5 226 rfl) rfl
theorem q1311 : (Jvm.Cond.instanceMethod ({ cls := "RoofRegatta", name := "together", desc := "()I" } : Jvm.MethodName)) ∈ lw_all := lw_g (lw_at lw_m5 228 rfl) rfl
theorem q1312 : (Jvm.Cond.selects "RoofRegatta" ({ cls := "RoofRegatta", name := "together", desc := "()I" } : Jvm.MethodName) ({ cls := "RoofRegatta", name := "together", desc := "()I" } : Jvm.MethodName)) ∈ lw_all := lw_g (lw_at lw_m5 229 rfl) rfl
theorem q1313 : (Jvm.Cond.code ({ cls := "RoofRegatta", name := "together", desc := "()I" } : Jvm.MethodName) prog_1_method_44_code (1 : Nat) (Option.some Jvm.ClassFile.FieldType.int)) ∈ lw_all := lw_g (lw_at lw_m5 230 rfl) rfl
theorem q1314 : (Jvm.Cond.methodLink "RoofRegatta" (237 : Nat) ({ cls := "RoofRegatta$River", name := "together", desc := "()I" } : Jvm.MethodName)) ∈ lw_all := lw_g (lw_at lw_m5 231 rfl) rfl
theorem q1319 : (Jvm.Cond.instanceMethod ({ cls := "RoofRegatta", name := "bestRank", desc := "(I)I" } : Jvm.MethodName)) ∈ lw_all := lw_g (lw_at lw_m5 236 rfl) rfl
theorem q1320 : (Jvm.Cond.selects "RoofRegatta" ({ cls := "RoofRegatta", name := "bestRank", desc := "(I)I" } : Jvm.MethodName) ({ cls := "RoofRegatta", name := "bestRank", desc := "(I)I" } : Jvm.MethodName)) ∈ lw_all := lw_g (lw_at lw_m5 237 rfl) rfl
theorem q1321 : (Jvm.Cond.code ({ cls := "RoofRegatta", name := "bestRank", desc := "(I)I" } : Jvm.MethodName) prog_1_method_49_code (2 : Nat) (Option.some Jvm.ClassFile.FieldType.int)) ∈ lw_all := lw_g (lw_at lw_m5 238 rfl) rfl
theorem q1322 : (Jvm.Cond.methodLink "RoofRegatta" (268 : Nat) ({ cls := "RoofRegatta", name := "bests", desc := "(I)V" } : Jvm.MethodName)) ∈ lw_all := lw_g (lw_at lw_m5 239 rfl) rfl
theorem q1323 : (Jvm.Cond.privateMethod ({ cls := "RoofRegatta", name := "bests", desc := "(I)V" } : Jvm.MethodName)) ∈ lw_tbl := lw_at lw_m6 0 rfl
theorem q1324 : (Jvm.Cond.instanceMethod ({ cls := "RoofRegatta", name := "bests", desc := "(I)V" } : Jvm.MethodName)) ∈ lw_all := lw_g (lw_at lw_m6 1 rfl) rfl
theorem q1325 : (Jvm.Cond.code ({ cls := "RoofRegatta", name := "bests", desc := "(I)V" } : Jvm.MethodName) prog_1_method_48_code (4 : Nat) (Option.none : Option Jvm.ClassFile.FieldType)) ∈ lw_all := lw_g (lw_at lw_m6 2 rfl) rfl
theorem q1326 : (Jvm.Cond.constant "RoofRegatta" (246 : Nat) (99999 : Int32)) ∈ lw_all := lw_g (lw_at lw_m6 3 rfl) rfl
theorem q1327 : (Jvm.Cond.methodLink "RoofRegatta" (253 : Nat) ({ cls := "RoofRegatta", name := "loads", desc := "()I" } : Jvm.MethodName)) ∈ lw_all := lw_g (lw_at lw_m6 4 rfl) rfl
theorem q1328 : (Jvm.Cond.privateMethod ({ cls := "RoofRegatta", name := "loads", desc := "()I" } : Jvm.MethodName)) ∈ lw_tbl := lw_at lw_m6 5 rfl
theorem q1329 : (Jvm.Cond.instanceMethod ({ cls := "RoofRegatta", name := "loads", desc := "()I" } : Jvm.MethodName)) ∈ lw_all := lw_g (lw_at lw_m6 6 rfl) rfl
theorem q1330 : (Jvm.Cond.code ({ cls := "RoofRegatta", name := "loads", desc := "()I" } : Jvm.MethodName) prog_1_method_45_code (3 : Nat) (Option.some Jvm.ClassFile.FieldType.int)) ∈ lw_all := lw_g (lw_at lw_m6 7 rfl) rfl
theorem q1331 : (Jvm.Cond.methodLink "RoofRegatta" (256 : Nat) ({ cls := "RoofRegatta", name := "lays", desc := "(I)Z" } : Jvm.MethodName)) ∈ lw_all := lw_g (lw_at lw_m6 8 rfl) rfl
theorem q1332 : (Jvm.Cond.privateMethod ({ cls := "RoofRegatta", name := "lays", desc := "(I)Z" } : Jvm.MethodName)) ∈ lw_tbl := lw_at lw_m6 9 rfl
theorem q1333 : (Jvm.Cond.instanceMethod ({ cls := "RoofRegatta", name := "lays", desc := "(I)Z" } : Jvm.MethodName)) ∈ lw_all := lw_g (lw_at lw_m6 10 rfl) rfl
theorem q1334 : (Jvm.Cond.code ({ cls := "RoofRegatta", name := "lays", desc := "(I)Z" } : Jvm.MethodName) prog_1_method_46_code (5 : Nat) (Option.some Jvm.ClassFile.FieldType.boolean)) ∈ lw_all := lw_g (lw_at lw_m6 11 rfl) rfl
theorem q1335 : (Jvm.Cond.methodLink "RoofRegatta" (240 : Nat) ({ cls := "RoofRegatta", name := "tries", desc := "()LRoofRegatta$River;" } : Jvm.MethodName)) ∈ lw_all := lw_g (lw_at lw_m6 12 rfl) rfl
theorem q1336 : (Jvm.Cond.privateMethod ({ cls := "RoofRegatta", name := "tries", desc := "()LRoofRegatta$River;" } : Jvm.MethodName)) ∈ lw_tbl := lw_at lw_m6 13 rfl
theorem q1337 : (Jvm.Cond.instanceMethod ({ cls := "RoofRegatta", name := "tries", desc := "()LRoofRegatta$River;" } : Jvm.MethodName)) ∈ lw_all := lw_g (lw_at lw_m6 14 rfl) rfl
theorem q1338 : (Jvm.Cond.code ({ cls := "RoofRegatta", name := "tries", desc := "()LRoofRegatta$River;" } : Jvm.MethodName) prog_1_method_25_code (1 : Nat) (Option.some (Jvm.ClassFile.FieldType.object "RoofRegatta$River"))) ∈ lw_all := lw_g (lw_at lw_m6 15 rfl) rfl
theorem q1339 : (Jvm.Cond.methodLink "RoofRegatta" (135 : Nat) ({ cls := "RoofRegatta$River", name := "takes", desc := "(LRoofRegatta$River;)V" } : Jvm.MethodName)) ∈ lw_all := lw_g (lw_at lw_m6 16 rfl) rfl
theorem q1340 : (Jvm.Cond.methodLink "RoofRegatta" (243 : Nat) ({ cls := "RoofRegatta", name := "bits", desc := "(I)I" } : Jvm.MethodName)) ∈ lw_all := lw_g (lw_at lw_m6 17 rfl) rfl
theorem q1341 : (Jvm.Cond.methodLink "RoofRegatta" (259 : Nat) ({ cls := "RoofRegatta", name := "moves", desc := "()I" } : Jvm.MethodName)) ∈ lw_all := lw_g (lw_at lw_m6 18 rfl) rfl
theorem q1342 : (Jvm.Cond.privateMethod ({ cls := "RoofRegatta", name := "moves", desc := "()I" } : Jvm.MethodName)) ∈ lw_tbl := lw_at lw_m6 19 rfl
theorem q1343 : (Jvm.Cond.instanceMethod ({ cls := "RoofRegatta", name := "moves", desc := "()I" } : Jvm.MethodName)) ∈ lw_all := lw_g (lw_at lw_m6 20 rfl) rfl
theorem q1344 : (Jvm.Cond.code ({ cls := "RoofRegatta", name := "moves", desc := "()I" } : Jvm.MethodName) prog_1_method_47_code (3 : Nat) (Option.some Jvm.ClassFile.FieldType.int)) ∈ lw_all := lw_g (lw_at lw_m6 21 rfl) rfl
theorem q1345 : (Jvm.Cond.methodLink "RoofRegatta" (262 : Nat) ({ cls := "java/lang/System", name := "arraycopy", desc := "(Ljava/lang/Object;ILjava/lang/Object;II)V" } : Jvm.MethodName)) ∈ lw_all := lw_g (lw_at lw_m6 22 rfl) rfl
theorem q1347 : (Jvm.Cond.instanceMethod ({ cls := "RoofRegatta", name := "loadOf", desc := "(II)I" } : Jvm.MethodName)) ∈ lw_all := lw_g (lw_at lw_m6 24 rfl) rfl
theorem q1348 : (Jvm.Cond.selects "RoofRegatta" ({ cls := "RoofRegatta", name := "loadOf", desc := "(II)I" } : Jvm.MethodName) ({ cls := "RoofRegatta", name := "loadOf", desc := "(II)I" } : Jvm.MethodName)) ∈ lw_all := lw_g (lw_at lw_m6 25 rfl) rfl
theorem q1349 : (Jvm.Cond.code ({ cls := "RoofRegatta", name := "loadOf", desc := "(II)I" } : Jvm.MethodName) prog_1_method_50_code (3 : Nat) (Option.some Jvm.ClassFile.FieldType.int)) ∈ lw_all := lw_g (lw_at lw_m6 26 rfl) rfl
theorem q1351 : (Jvm.Cond.instanceMethod ({ cls := "RoofRegatta", name := "loadMoves", desc := "(I)I" } : Jvm.MethodName)) ∈ lw_all := lw_g (lw_at lw_m6 28 rfl) rfl
theorem q1352 : (Jvm.Cond.selects "RoofRegatta" ({ cls := "RoofRegatta", name := "loadMoves", desc := "(I)I" } : Jvm.MethodName) ({ cls := "RoofRegatta", name := "loadMoves", desc := "(I)I" } : Jvm.MethodName)) ∈ lw_all := lw_g (lw_at lw_m6 29 rfl) rfl
theorem q1353 : (Jvm.Cond.code ({ cls := "RoofRegatta", name := "loadMoves", desc := "(I)I" } : Jvm.MethodName) prog_1_method_51_code (2 : Nat) (Option.some Jvm.ClassFile.FieldType.int)) ∈ lw_all := lw_g (lw_at lw_m6 30 rfl) rfl
theorem q1355 : (Jvm.Cond.instanceMethod ({ cls := "RoofRegatta", name := "friendly", desc := "()I" } : Jvm.MethodName)) ∈ lw_all := lw_g (lw_at lw_m6 32 rfl) rfl
theorem q1356 : (Jvm.Cond.selects "RoofRegatta" ({ cls := "RoofRegatta", name := "friendly", desc := "()I" } : Jvm.MethodName) ({ cls := "RoofRegatta", name := "friendly", desc := "()I" } : Jvm.MethodName)) ∈ lw_all := lw_g (lw_at lw_m6 33 rfl) rfl
theorem q1357 : (Jvm.Cond.code ({ cls := "RoofRegatta", name := "friendly", desc := "()I" } : Jvm.MethodName) prog_1_method_52_code (1 : Nat) (Option.some Jvm.ClassFile.FieldType.int)) ∈ lw_all := lw_g (lw_at lw_m6 34 rfl) rfl
theorem q1359 : (Jvm.Cond.instanceMethod ({ cls := "RoofRegatta", name := "friendlyOf", desc := "(I)I" } : Jvm.MethodName)) ∈ lw_all := lw_g (lw_at lw_m6 36 rfl) rfl
theorem q1360 : (Jvm.Cond.selects "RoofRegatta" ({ cls := "RoofRegatta", name := "friendlyOf", desc := "(I)I" } : Jvm.MethodName) ({ cls := "RoofRegatta", name := "friendlyOf", desc := "(I)I" } : Jvm.MethodName)) ∈ lw_all := lw_g (lw_at lw_m6 37 rfl) rfl
theorem q1361 : (Jvm.Cond.code ({ cls := "RoofRegatta", name := "friendlyOf", desc := "(I)I" } : Jvm.MethodName) prog_1_method_53_code (2 : Nat) (Option.some Jvm.ClassFile.FieldType.int)) ∈ lw_all := lw_g (lw_at lw_m6 38 rfl) rfl
theorem q1363 : (Jvm.Cond.instanceMethod ({ cls := "RoofRegatta", name := "leastTotal", desc := "(I)I" } : Jvm.MethodName)) ∈ lw_all := lw_g (lw_at lw_m6 40 rfl) rfl
theorem q1364 : (Jvm.Cond.selects "RoofRegatta" ({ cls := "RoofRegatta", name := "leastTotal", desc := "(I)I" } : Jvm.MethodName) ({ cls := "RoofRegatta", name := "leastTotal", desc := "(I)I" } : Jvm.MethodName)) ∈ lw_all := lw_g (lw_at lw_m6 41 rfl) rfl
theorem q1365 : (Jvm.Cond.code ({ cls := "RoofRegatta", name := "leastTotal", desc := "(I)I" } : Jvm.MethodName) prog_1_method_56_code (4 : Nat) (Option.some Jvm.ClassFile.FieldType.int)) ∈ lw_all := lw_g (lw_at lw_m6 42 rfl) rfl
theorem q1366 : (Jvm.Cond.methodLink "RoofRegatta" (272 : Nat) ({ cls := "RoofRegatta", name := "canHold", desc := "(II)Z" } : Jvm.MethodName)) ∈ lw_all := lw_g (lw_at lw_m6 43 rfl) rfl
theorem q1367 : (Jvm.Cond.privateMethod ({ cls := "RoofRegatta", name := "canHold", desc := "(II)Z" } : Jvm.MethodName)) ∈ lw_tbl := lw_at lw_m6 44 rfl
theorem q1368 : (Jvm.Cond.instanceMethod ({ cls := "RoofRegatta", name := "canHold", desc := "(II)Z" } : Jvm.MethodName)) ∈ lw_all := lw_g (lw_at lw_m6 45 rfl) rfl
theorem q1369 : (Jvm.Cond.code ({ cls := "RoofRegatta", name := "canHold", desc := "(II)Z" } : Jvm.MethodName) prog_1_method_55_code (3 : Nat) (Option.some Jvm.ClassFile.FieldType.boolean)) ∈ lw_all := lw_g (lw_at lw_m6 46 rfl) rfl
theorem q1370 : (Jvm.Cond.methodLink "RoofRegatta" (275 : Nat) ({ cls := "RoofRegatta", name := "totalWith", desc := "(II)I" } : Jvm.MethodName)) ∈ lw_all := lw_g (lw_at lw_m6 47 rfl) rfl
theorem q1371 : (Jvm.Cond.privateMethod ({ cls := "RoofRegatta", name := "totalWith", desc := "(II)I" } : Jvm.MethodName)) ∈ lw_tbl := lw_at lw_m6 48 rfl
theorem q1372 : (Jvm.Cond.instanceMethod ({ cls := "RoofRegatta", name := "totalWith", desc := "(II)I" } : Jvm.MethodName)) ∈ lw_all := lw_g (lw_at lw_m6 49 rfl) rfl
theorem q1373 : (Jvm.Cond.code ({ cls := "RoofRegatta", name := "totalWith", desc := "(II)I" } : Jvm.MethodName) prog_1_method_54_code (4 : Nat) (Option.some Jvm.ClassFile.FieldType.int)) ∈ lw_all := lw_g (lw_at lw_m6 50 rfl) rfl
theorem q1374 : (Jvm.Cond.methodLink "RoofRegatta" (278 : Nat) ({ cls := "java/lang/Math", name := "min", desc := "(II)I" } : Jvm.MethodName)) ∈ lw_all := lw_g (lw_at lw_m6 51 rfl) rfl
theorem q1376 : (Jvm.Cond.instanceMethod ({ cls := "RoofRegatta", name := "leastFor", desc := "(II)I" } : Jvm.MethodName)) ∈ lw_all := lw_g (lw_at lw_m6 53 rfl) rfl
theorem q1377 : (Jvm.Cond.selects "RoofRegatta" ({ cls := "RoofRegatta", name := "leastFor", desc := "(II)I" } : Jvm.MethodName) ({ cls := "RoofRegatta", name := "leastFor", desc := "(II)I" } : Jvm.MethodName)) ∈ lw_all := lw_g (lw_at lw_m6 54 rfl) rfl
theorem q1378 : (Jvm.Cond.code ({ cls := "RoofRegatta", name := "leastFor", desc := "(II)I" } : Jvm.MethodName) prog_1_method_57_code (6 : Nat) (Option.some Jvm.ClassFile.FieldType.int)) ∈ lw_all := lw_g (lw_at lw_m6 55 rfl) rfl
theorem q1379 : (Jvm.Cond.methodLink "RoofRegatta" (283 : Nat) ({ cls := "RoofRegatta", name := "why", desc := "(ZIII)I" } : Jvm.MethodName)) ∈ lw_all := lw_g (lw_at lw_m6 56 rfl) rfl
theorem q1380 : (Jvm.Cond.privateMethod ({ cls := "RoofRegatta", name := "why", desc := "(ZIII)I" } : Jvm.MethodName)) ∈ lw_tbl := lw_at lw_m6 57 rfl
theorem q1381 : (Jvm.Cond.instanceMethod ({ cls := "RoofRegatta", name := "why", desc := "(ZIII)I" } : Jvm.MethodName)) ∈ lw_all := lw_g (lw_at lw_m6 58 rfl) rfl
theorem q1382 : (Jvm.Cond.code ({ cls := "RoofRegatta", name := "why", desc := "(ZIII)I" } : Jvm.MethodName) prog_1_method_24_code (5 : Nat) (Option.some Jvm.ClassFile.FieldType.int)) ∈ lw_all := lw_g (lw_at lw_m6 59 rfl) rfl
theorem q1384 : (Jvm.Cond.instanceMethod ({ cls := "RoofRegatta", name := "toMove", desc := "(I)I" } : Jvm.MethodName)) ∈ lw_all := lw_g (lw_at lw_m6 61 rfl) rfl
theorem q1385 : (Jvm.Cond.selects "RoofRegatta" ({ cls := "RoofRegatta", name := "toMove", desc := "(I)I" } : Jvm.MethodName) ({ cls := "RoofRegatta", name := "toMove", desc := "(I)I" } : Jvm.MethodName)) ∈ lw_all := lw_g (lw_at lw_m6 62 rfl) rfl
theorem q1386 : (Jvm.Cond.code ({ cls := "RoofRegatta", name := "toMove", desc := "(I)I" } : Jvm.MethodName) prog_1_method_58_code (7 : Nat) (Option.some Jvm.ClassFile.FieldType.int)) ∈ lw_all := lw_g (lw_at lw_m6 63 rfl) rfl
theorem q1388 : (Jvm.Cond.instanceMethod ({ cls := "RoofRegatta", name := "waterFor", desc := "(II)I" } : Jvm.MethodName)) ∈ lw_all := lw_g (lw_at lw_m6 65 rfl) rfl
theorem q1389 : (Jvm.Cond.selects "RoofRegatta" ({ cls := "RoofRegatta", name := "waterFor", desc := "(II)I" } : Jvm.MethodName) ({ cls := "RoofRegatta", name := "waterFor", desc := "(II)I" } : Jvm.MethodName)) ∈ lw_all := lw_g (lw_at lw_m6 66 rfl) rfl
theorem q1390 : (Jvm.Cond.code ({ cls := "RoofRegatta", name := "waterFor", desc := "(II)I" } : Jvm.MethodName) prog_1_method_59_code (5 : Nat) (Option.some Jvm.ClassFile.FieldType.int)) ∈ lw_all := lw_g (lw_at lw_m6 67 rfl) rfl
theorem q1392 : (Jvm.Cond.instanceMethod ({ cls := "RoofRegatta", name := "bestSwap", desc := "(I)I" } : Jvm.MethodName)) ∈ lw_all := lw_g (lw_at lw_m6 69 rfl) rfl
theorem q1393 : (Jvm.Cond.selects "RoofRegatta" ({ cls := "RoofRegatta", name := "bestSwap", desc := "(I)I" } : Jvm.MethodName) ({ cls := "RoofRegatta", name := "bestSwap", desc := "(I)I" } : Jvm.MethodName)) ∈ lw_all := lw_g (lw_at lw_m6 70 rfl) rfl
theorem q1394 : (Jvm.Cond.code ({ cls := "RoofRegatta", name := "bestSwap", desc := "(I)I" } : Jvm.MethodName) prog_1_method_60_code (7 : Nat) (Option.some Jvm.ClassFile.FieldType.int)) ∈ lw_all := lw_g (lw_at lw_m6 71 rfl) rfl
theorem q1396 : (Jvm.Cond.instanceMethod ({ cls := "RoofRegatta", name := "bestLane", desc := "(I)I" } : Jvm.MethodName)) ∈ lw_all := lw_g (lw_at lw_m6 73 rfl) rfl
theorem q1397 : (Jvm.Cond.selects "RoofRegatta" ({ cls := "RoofRegatta", name := "bestLane", desc := "(I)I" } : Jvm.MethodName) ({ cls := "RoofRegatta", name := "bestLane", desc := "(I)I" } : Jvm.MethodName)) ∈ lw_all := lw_g (lw_at lw_m6 74 rfl) rfl
theorem q1398 : (Jvm.Cond.code ({ cls := "RoofRegatta", name := "bestLane", desc := "(I)I" } : Jvm.MethodName) prog_1_method_61_code (3 : Nat) (Option.some Jvm.ClassFile.FieldType.int)) ∈ lw_all := lw_g (lw_at lw_m6 75 rfl) rfl
theorem q1400 : (Jvm.Cond.instanceMethod ({ cls := "RoofRegatta", name := "fires", desc := "()I" } : Jvm.MethodName)) ∈ lw_all := lw_g (lw_at lw_m6 77 rfl) rfl
theorem q1401 : (Jvm.Cond.selects "RoofRegatta" ({ cls := "RoofRegatta", name := "fires", desc := "()I" } : Jvm.MethodName) ({ cls := "RoofRegatta", name := "fires", desc := "()I" } : Jvm.MethodName)) ∈ lw_all := lw_g (lw_at lw_m6 78 rfl) rfl
theorem q1402 : (Jvm.Cond.code ({ cls := "RoofRegatta", name := "fires", desc := "()I" } : Jvm.MethodName) prog_1_method_64_code (1 : Nat) (Option.some Jvm.ClassFile.FieldType.int)) ∈ lw_all := lw_g (lw_at lw_m6 79 rfl) rfl
theorem q1403 : (Jvm.Cond.methodLink "RoofRegatta" (316 : Nat) ({ cls := "RoofRegatta", name := "fitting", desc := "(I)I" } : Jvm.MethodName)) ∈ lw_all := lw_g (lw_at lw_m6 80 rfl) rfl
theorem q1404 : (Jvm.Cond.privateMethod ({ cls := "RoofRegatta", name := "fitting", desc := "(I)I" } : Jvm.MethodName)) ∈ lw_tbl := lw_at lw_m6 81 rfl
theorem q1405 : (Jvm.Cond.instanceMethod ({ cls := "RoofRegatta", name := "fitting", desc := "(I)I" } : Jvm.MethodName)) ∈ lw_all := lw_g (lw_at lw_m6 82 rfl) rfl
theorem q1406 : (Jvm.Cond.code ({ cls := "RoofRegatta", name := "fitting", desc := "(I)I" } : Jvm.MethodName) prog_1_method_63_code (5 : Nat) (Option.some Jvm.ClassFile.FieldType.int)) ∈ lw_all := lw_g (lw_at lw_m6 83 rfl) rfl
theorem q1407 : (Jvm.Cond.methodLink "RoofRegatta" (313 : Nat) ({ cls := "RoofRegatta", name := "wrong", desc := "(I)I" } : Jvm.MethodName)) ∈ lw_all := lw_g (lw_at lw_m6 84 rfl) rfl
theorem q1408 : (Jvm.Cond.privateMethod ({ cls := "RoofRegatta", name := "wrong", desc := "(I)I" } : Jvm.MethodName)) ∈ lw_tbl := lw_at lw_m6 85 rfl
theorem q1409 : (Jvm.Cond.instanceMethod ({ cls := "RoofRegatta", name := "wrong", desc := "(I)I" } : Jvm.MethodName)) ∈ lw_all := lw_g (lw_at lw_m6 86 rfl) rfl
theorem q1410 : (Jvm.Cond.code ({ cls := "RoofRegatta", name := "wrong", desc := "(I)I" } : Jvm.MethodName) prog_1_method_62_code (4 : Nat) (Option.some Jvm.ClassFile.FieldType.int)) ∈ lw_all := lw_g (lw_at lw_m6 87 rfl) rfl
theorem q1411 : (Jvm.Cond.classLink "RoofRegatta" (293 : Nat) "RoofRegatta$Seen") ∈ lw_all := lw_g (lw_at lw_m6 88 rfl) rfl
theorem q1413 : (Jvm.Cond.instanceMethod ({ cls := "RoofRegatta", name := "fireAt", desc := "(I)I" } : Jvm.MethodName)) ∈ lw_all := lw_g (lw_at lw_m6 90 rfl) rfl
theorem q1414 : (Jvm.Cond.selects "RoofRegatta" ({ cls := "RoofRegatta", name := "fireAt", desc := "(I)I" } : Jvm.MethodName) ({ cls := "RoofRegatta", name := "fireAt", desc := "(I)I" } : Jvm.MethodName)) ∈ lw_all := lw_g (lw_at lw_m6 91 rfl) rfl
theorem q1415 : (Jvm.Cond.code ({ cls := "RoofRegatta", name := "fireAt", desc := "(I)I" } : Jvm.MethodName) prog_1_method_65_code (3 : Nat) (Option.some Jvm.ClassFile.FieldType.int)) ∈ lw_all := lw_g (lw_at lw_m6 92 rfl) rfl
theorem q1417 : (Jvm.Cond.instanceMethod ({ cls := "RoofRegatta", name := "could", desc := "()I" } : Jvm.MethodName)) ∈ lw_all := lw_g (lw_at lw_m6 94 rfl) rfl
theorem q1418 : (Jvm.Cond.selects "RoofRegatta" ({ cls := "RoofRegatta", name := "could", desc := "()I" } : Jvm.MethodName) ({ cls := "RoofRegatta", name := "could", desc := "()I" } : Jvm.MethodName)) ∈ lw_all := lw_g (lw_at lw_m6 95 rfl) rfl
theorem q1419 : (Jvm.Cond.code ({ cls := "RoofRegatta", name := "could", desc := "()I" } : Jvm.MethodName) prog_1_method_66_code (1 : Nat) (Option.some Jvm.ClassFile.FieldType.int)) ∈ lw_all := lw_g (lw_at lw_m6 96 rfl) rfl
theorem q1421 : (Jvm.Cond.instanceMethod ({ cls := "RoofRegatta", name := "surely", desc := "()I" } : Jvm.MethodName)) ∈ lw_all := lw_g (lw_at lw_m6 98 rfl) rfl
theorem q1422 : (Jvm.Cond.selects "RoofRegatta" ({ cls := "RoofRegatta", name := "surely", desc := "()I" } : Jvm.MethodName) ({ cls := "RoofRegatta", name := "surely", desc := "()I" } : Jvm.MethodName)) ∈ lw_all := lw_g (lw_at lw_m6 99 rfl) rfl
theorem q1423 : (Jvm.Cond.code ({ cls := "RoofRegatta", name := "surely", desc := "()I" } : Jvm.MethodName) prog_1_method_67_code (1 : Nat) (Option.some Jvm.ClassFile.FieldType.int)) ∈ lw_all := lw_g (lw_at lw_m6 100 rfl) rfl
theorem q1425 : (Jvm.Cond.instanceMethod ({ cls := "RoofRegatta", name := "ask", desc := "()I" } : Jvm.MethodName)) ∈ lw_all := lw_g (lw_at lw_m6 102 rfl) rfl
theorem q1426 : (Jvm.Cond.selects "RoofRegatta" ({ cls := "RoofRegatta", name := "ask", desc := "()I" } : Jvm.MethodName) ({ cls := "RoofRegatta", name := "ask", desc := "()I" } : Jvm.MethodName)) ∈ lw_all := lw_g (lw_at lw_m6 103 rfl) rfl
theorem q1427 : (Jvm.Cond.code ({ cls := "RoofRegatta", name := "ask", desc := "()I" } : Jvm.MethodName) prog_1_method_69_code (1 : Nat) (Option.some Jvm.ClassFile.FieldType.int)) ∈ lw_all := lw_g (lw_at lw_m6 104 rfl) rfl
theorem q1428 : (Jvm.Cond.methodLink "RoofRegatta" (325 : Nat) ({ cls := "RoofRegatta", name := "asks", desc := "()I" } : Jvm.MethodName)) ∈ lw_all := lw_g (lw_at lw_m6 105 rfl) rfl
theorem q1429 : (Jvm.Cond.privateMethod ({ cls := "RoofRegatta", name := "asks", desc := "()I" } : Jvm.MethodName)) ∈ lw_tbl := lw_at lw_m6 106 rfl
theorem q1430 : (Jvm.Cond.instanceMethod ({ cls := "RoofRegatta", name := "asks", desc := "()I" } : Jvm.MethodName)) ∈ lw_all := lw_g (lw_at lw_m6 107 rfl) rfl
theorem q1431 : (Jvm.Cond.code ({ cls := "RoofRegatta", name := "asks", desc := "()I" } : Jvm.MethodName) prog_1_method_68_code (4 : Nat) (Option.some Jvm.ClassFile.FieldType.int)) ∈ lw_all := lw_g (lw_at lw_m6 108 rfl) rfl
theorem q1432 : (Jvm.Cond.methodLink "RoofRegatta" (322 : Nat) ({ cls := "java/lang/Math", name := "max", desc := "(II)I" } : Jvm.MethodName)) ∈ lw_all := lw_g (lw_at lw_m6 109 rfl) rfl
theorem q1434 : (Jvm.Cond.instanceMethod ({ cls := "RoofRegatta", name := "askLeaves", desc := "()I" } : Jvm.MethodName)) ∈ lw_all := lw_g (lw_at lw_m6 111 rfl) rfl
theorem q1435 : (Jvm.Cond.selects "RoofRegatta" ({ cls := "RoofRegatta", name := "askLeaves", desc := "()I" } : Jvm.MethodName) ({ cls := "RoofRegatta", name := "askLeaves", desc := "()I" } : Jvm.MethodName)) ∈ lw_all := lw_g (lw_at lw_m6 112 rfl) rfl
theorem q1436 : (Jvm.Cond.code ({ cls := "RoofRegatta", name := "askLeaves", desc := "()I" } : Jvm.MethodName) prog_1_method_70_code (1 : Nat) (Option.some Jvm.ClassFile.FieldType.int)) ∈ lw_all := lw_g (lw_at lw_m6 113 rfl) rfl
theorem q1438 : (Jvm.Cond.instanceMethod ({ cls := "RoofRegatta", name := "judge", desc := "()I" } : Jvm.MethodName)) ∈ lw_all := lw_g (lw_at lw_m6 115 rfl) rfl
theorem q1439 : (Jvm.Cond.selects "RoofRegatta" ({ cls := "RoofRegatta", name := "judge", desc := "()I" } : Jvm.MethodName) ({ cls := "RoofRegatta", name := "judge", desc := "()I" } : Jvm.MethodName)) ∈ lw_all := lw_g (lw_at lw_m6 116 rfl) rfl
theorem q1440 : (Jvm.Cond.code ({ cls := "RoofRegatta", name := "judge", desc := "()I" } : Jvm.MethodName) prog_1_method_71_code (1 : Nat) (Option.some Jvm.ClassFile.FieldType.int)) ∈ lw_all := lw_g (lw_at lw_m6 117 rfl) rfl
theorem q1442 : (Jvm.Cond.instanceMethod ({ cls := "RoofRegatta", name := "odds", desc := "(IIZ)J" } : Jvm.MethodName)) ∈ lw_all := lw_g (lw_at lw_m6 119 rfl) rfl
theorem q1443 : (Jvm.Cond.selects "RoofRegatta" ({ cls := "RoofRegatta", name := "odds", desc := "(IIZ)J" } : Jvm.MethodName) ({ cls := "RoofRegatta", name := "odds", desc := "(IIZ)J" } : Jvm.MethodName)) ∈ lw_all := lw_g (lw_at lw_m6 120 rfl) rfl
theorem q1444 : (Jvm.Cond.code ({ cls := "RoofRegatta", name := "odds", desc := "(IIZ)J" } : Jvm.MethodName) prog_1_method_74_code (7 : Nat) (Option.some Jvm.ClassFile.FieldType.long)) ∈ lw_all := lw_g (lw_at lw_m6 121 rfl) rfl
theorem q1445 : (Jvm.Cond.methodLink "RoofRegatta" (333 : Nat) ({ cls := "RoofRegatta", name := "part", desc := "(I)J" } : Jvm.MethodName)) ∈ lw_all := lw_g (lw_at lw_m6 122 rfl) rfl
theorem q1446 : (Jvm.Cond.privateMethod ({ cls := "RoofRegatta", name := "part", desc := "(I)J" } : Jvm.MethodName)) ∈ lw_tbl := lw_at lw_m6 123 rfl
theorem q1447 : (Jvm.Cond.instanceMethod ({ cls := "RoofRegatta", name := "part", desc := "(I)J" } : Jvm.MethodName)) ∈ lw_all := lw_g (lw_at lw_m6 124 rfl) rfl
theorem q1448 : (Jvm.Cond.code ({ cls := "RoofRegatta", name := "part", desc := "(I)J" } : Jvm.MethodName) prog_1_method_73_code (5 : Nat) (Option.some Jvm.ClassFile.FieldType.long)) ∈ lw_all := lw_g (lw_at lw_m6 125 rfl) rfl
theorem q1449 : (Jvm.Cond.methodLink "RoofRegatta" (337 : Nat) ({ cls := "RoofRegatta", name := "whole", desc := "()J" } : Jvm.MethodName)) ∈ lw_all := lw_g (lw_at lw_m6 126 rfl) rfl
theorem q1450 : (Jvm.Cond.privateMethod ({ cls := "RoofRegatta", name := "whole", desc := "()J" } : Jvm.MethodName)) ∈ lw_tbl := lw_at lw_m6 127 rfl
theorem q1451 : (Jvm.Cond.instanceMethod ({ cls := "RoofRegatta", name := "whole", desc := "()J" } : Jvm.MethodName)) ∈ lw_all := lw_g (lw_at lw_m6 128 rfl) rfl
theorem q1452 : (Jvm.Cond.code ({ cls := "RoofRegatta", name := "whole", desc := "()J" } : Jvm.MethodName) prog_1_method_72_code (4 : Nat) (Option.some Jvm.ClassFile.FieldType.long)) ∈ lw_all := lw_g (lw_at lw_m6 129 rfl) rfl
theorem q1453 : (Jvm.Cond.constantLong "RoofRegatta" (328 : Nat) (100 : Int64)) ∈ lw_all := lw_g (lw_at lw_m6 130 rfl) rfl
theorem q1454 : (Jvm.Cond.methodLink "RoofRegatta" (341 : Nat) ({ cls := "RoofRegatta", name := "fraction", desc := "(JJZ)J" } : Jvm.MethodName)) ∈ lw_all := lw_g (lw_at lw_m6 131 rfl) rfl
theorem q1455 : (Jvm.Cond.privateMethod ({ cls := "RoofRegatta", name := "fraction", desc := "(JJZ)J" } : Jvm.MethodName)) ∈ lw_tbl := lw_at lw_m6 132 rfl
theorem q1456 : (Jvm.Cond.instanceMethod ({ cls := "RoofRegatta", name := "fraction", desc := "(JJZ)J" } : Jvm.MethodName)) ∈ lw_all := lw_g (lw_at lw_m6 133 rfl) rfl
theorem q1457 : (Jvm.Cond.code ({ cls := "RoofRegatta", name := "fraction", desc := "(JJZ)J" } : Jvm.MethodName) prog_1_method_12_code (6 : Nat) (Option.some Jvm.ClassFile.FieldType.long)) ∈ lw_all := lw_g (lw_at lw_m6 134 rfl) rfl
theorem q1458 : (Jvm.Cond.methodLink "RoofRegatta" (50 : Nat) ({ cls := "RoofRegatta", name := "common", desc := "(JJ)J" } : Jvm.MethodName)) ∈ lw_all := lw_g (lw_at lw_m6 135 rfl) rfl
theorem q1459 : (Jvm.Cond.static ({ cls := "RoofRegatta", name := "common", desc := "(JJ)J" } : Jvm.MethodName)) ∈ lw_all := lw_g (lw_at lw_m6 136 rfl) rfl
theorem q1460 : (Jvm.Cond.code ({ cls := "RoofRegatta", name := "common", desc := "(JJ)J" } : Jvm.MethodName) prog_1_method_5_code (10 : Nat) (Option.some Jvm.ClassFile.FieldType.long)) ∈ lw_all := lw_g (lw_at lw_m6 137 rfl) rfl
theorem q1462 : (Jvm.Cond.instanceMethod ({ cls := "RoofRegatta", name := "mean", desc := "(IZ)J" } : Jvm.MethodName)) ∈ lw_all := lw_g (lw_at lw_m6 139 rfl) rfl
theorem q1463 : (Jvm.Cond.selects "RoofRegatta" ({ cls := "RoofRegatta", name := "mean", desc := "(IZ)J" } : Jvm.MethodName) ({ cls := "RoofRegatta", name := "mean", desc := "(IZ)J" } : Jvm.MethodName)) ∈ lw_all := lw_g (lw_at lw_m6 140 rfl) rfl
theorem q1464 : (Jvm.Cond.code ({ cls := "RoofRegatta", name := "mean", desc := "(IZ)J" } : Jvm.MethodName) prog_1_method_75_code (6 : Nat) (Option.some Jvm.ClassFile.FieldType.long)) ∈ lw_all := lw_g (lw_at lw_m6 141 rfl) rfl
theorem q1466 : (Jvm.Cond.instanceMethod ({ cls := "RoofRegatta", name := "hopes", desc := "(IZ)J" } : Jvm.MethodName)) ∈ lw_all := lw_g (lw_at lw_m6 143 rfl) rfl
theorem q1467 : (Jvm.Cond.selects "RoofRegatta" ({ cls := "RoofRegatta", name := "hopes", desc := "(IZ)J" } : Jvm.MethodName) ({ cls := "RoofRegatta", name := "hopes", desc := "(IZ)J" } : Jvm.MethodName)) ∈ lw_all := lw_g (lw_at lw_m6 144 rfl) rfl
theorem q1468 : (Jvm.Cond.code ({ cls := "RoofRegatta", name := "hopes", desc := "(IZ)J" } : Jvm.MethodName) prog_1_method_76_code (6 : Nat) (Option.some Jvm.ClassFile.FieldType.long)) ∈ lw_all := lw_g (lw_at lw_m6 145 rfl) rfl
theorem q1470 : (Jvm.Cond.instanceMethod ({ cls := "RoofRegatta", name := "wins", desc := "(III)I" } : Jvm.MethodName)) ∈ lw_all := lw_g (lw_at lw_m6 147 rfl) rfl
theorem q1471 : (Jvm.Cond.selects "RoofRegatta" ({ cls := "RoofRegatta", name := "wins", desc := "(III)I" } : Jvm.MethodName) ({ cls := "RoofRegatta", name := "wins", desc := "(III)I" } : Jvm.MethodName)) ∈ lw_all := lw_g (lw_at lw_m6 148 rfl) rfl
theorem q1472 : (Jvm.Cond.code ({ cls := "RoofRegatta", name := "wins", desc := "(III)I" } : Jvm.MethodName) prog_1_method_79_code (7 : Nat) (Option.some Jvm.ClassFile.FieldType.int)) ∈ lw_all := lw_g (lw_at lw_m6 149 rfl) rfl
theorem q1473 : (Jvm.Cond.methodLink "RoofRegatta" (352 : Nat) ({ cls := "RoofRegatta", name := "whyRaces", desc := "(ZIII)I" } : Jvm.MethodName)) ∈ lw_all := lw_g (lw_at lw_m6 150 rfl) rfl
theorem q1474 : (Jvm.Cond.privateMethod ({ cls := "RoofRegatta", name := "whyRaces", desc := "(ZIII)I" } : Jvm.MethodName)) ∈ lw_tbl := lw_at lw_m6 151 rfl
theorem q1475 : (Jvm.Cond.instanceMethod ({ cls := "RoofRegatta", name := "whyRaces", desc := "(ZIII)I" } : Jvm.MethodName)) ∈ lw_all := lw_g (lw_at lw_m6 152 rfl) rfl
theorem q1476 : (Jvm.Cond.code ({ cls := "RoofRegatta", name := "whyRaces", desc := "(ZIII)I" } : Jvm.MethodName) prog_1_method_78_code (6 : Nat) (Option.some Jvm.ClassFile.FieldType.int)) ∈ lw_all := lw_g (lw_at lw_m6 153 rfl) rfl
theorem q1477 : (Jvm.Cond.constant "RoofRegatta" (351 : Nat) (65536 : Int32)) ∈ lw_all := lw_g (lw_at lw_m6 154 rfl) rfl
theorem q1478 : (Jvm.Cond.methodLink "RoofRegatta" (355 : Nat) ({ cls := "RoofRegatta", name := "rains", desc := "()I" } : Jvm.MethodName)) ∈ lw_all := lw_g (lw_at lw_m6 155 rfl) rfl
theorem q1479 : (Jvm.Cond.privateMethod ({ cls := "RoofRegatta", name := "rains", desc := "()I" } : Jvm.MethodName)) ∈ lw_tbl := lw_at lw_m6 156 rfl
theorem q1480 : (Jvm.Cond.instanceMethod ({ cls := "RoofRegatta", name := "rains", desc := "()I" } : Jvm.MethodName)) ∈ lw_all := lw_g (lw_at lw_m6 157 rfl) rfl
theorem q1481 : (Jvm.Cond.code ({ cls := "RoofRegatta", name := "rains", desc := "()I" } : Jvm.MethodName) prog_1_method_77_code (3 : Nat) (Option.some Jvm.ClassFile.FieldType.int)) ∈ lw_all := lw_g (lw_at lw_m6 158 rfl) rfl
theorem q1482 : (Jvm.Cond.methodLink "RoofRegatta" (348 : Nat) ({ cls := "RoofRegatta", name := "drawn", desc := "(I)I" } : Jvm.MethodName)) ∈ lw_all := lw_g (lw_at lw_m6 159 rfl) rfl
theorem q1483 : (Jvm.Cond.static ({ cls := "RoofRegatta", name := "drawn", desc := "(I)I" } : Jvm.MethodName)) ∈ lw_all := lw_g (lw_at lw_m6 160 rfl) rfl
theorem q1484 : (Jvm.Cond.code ({ cls := "RoofRegatta", name := "drawn", desc := "(I)I" } : Jvm.MethodName) prog_1_method_6_code (1 : Nat) (Option.some Jvm.ClassFile.FieldType.int)) ∈ lw_all := lw_g (lw_at lw_m6 161 rfl) rfl
theorem q1485 : (Jvm.Cond.constantLong "RoofRegatta" (34 : Nat) (75 : Int64)) ∈ lw_all := lw_g (lw_at lw_m6 162 rfl) rfl
theorem q1486 : (Jvm.Cond.constantLong "RoofRegatta" (36 : Nat) (74 : Int64)) ∈ lw_all := lw_g (lw_at lw_m6 163 rfl) rfl
theorem q1487 : (Jvm.Cond.constantLong "RoofRegatta" (38 : Nat) (65537 : Int64)) ∈ lw_all := lw_g (lw_at lw_m6 164 rfl) rfl
theorem q1489 : (Jvm.Cond.instanceMethod ({ cls := "RoofRegatta", name := "record", desc := "(II)I" } : Jvm.MethodName)) ∈ lw_all := lw_g (lw_at lw_m6 166 rfl) rfl
theorem q1490 : (Jvm.Cond.selects "RoofRegatta" ({ cls := "RoofRegatta", name := "record", desc := "(II)I" } : Jvm.MethodName) ({ cls := "RoofRegatta", name := "record", desc := "(II)I" } : Jvm.MethodName)) ∈ lw_all := lw_g (lw_at lw_m6 167 rfl) rfl
theorem q1491 : (Jvm.Cond.code ({ cls := "RoofRegatta", name := "record", desc := "(II)I" } : Jvm.MethodName) prog_1_method_80_code (7 : Nat) (Option.some Jvm.ClassFile.FieldType.int)) ∈ lw_all := lw_g (lw_at lw_m6 168 rfl) rfl
theorem q1492 : (Jvm.Cond.methodLink "RoofRegatta" (358 : Nat) ({ cls := "RoofRegatta$River", name := "first", desc := "(I)I" } : Jvm.MethodName)) ∈ lw_all := lw_g (lw_at lw_m6 169 rfl) rfl
theorem q1494 : (Jvm.Cond.instanceMethod ({ cls := "RoofRegatta", name := "weir", desc := "(IZZZ)I" } : Jvm.MethodName)) ∈ lw_all := lw_g (lw_at lw_m6 171 rfl) rfl
theorem q1495 : (Jvm.Cond.selects "RoofRegatta" ({ cls := "RoofRegatta", name := "weir", desc := "(IZZZ)I" } : Jvm.MethodName) ({ cls := "RoofRegatta", name := "weir", desc := "(IZZZ)I" } : Jvm.MethodName)) ∈ lw_all := lw_g (lw_at lw_m6 172 rfl) rfl
theorem q1496 : (Jvm.Cond.code ({ cls := "RoofRegatta", name := "weir", desc := "(IZZZ)I" } : Jvm.MethodName) prog_1_method_83_code (6 : Nat) (Option.some Jvm.ClassFile.FieldType.int)) ∈ lw_all := lw_g (lw_at lw_m6 173 rfl) rfl
theorem q1497 : (Jvm.Cond.methodLink "RoofRegatta" (361 : Nat) ({ cls := "RoofRegatta", name := "whySpite", desc := "(I)I" } : Jvm.MethodName)) ∈ lw_all := lw_g (lw_at lw_m6 174 rfl) rfl
theorem q1498 : (Jvm.Cond.privateMethod ({ cls := "RoofRegatta", name := "whySpite", desc := "(I)I" } : Jvm.MethodName)) ∈ lw_tbl := lw_at lw_m6 175 rfl
theorem q1499 : (Jvm.Cond.instanceMethod ({ cls := "RoofRegatta", name := "whySpite", desc := "(I)I" } : Jvm.MethodName)) ∈ lw_all := lw_g (lw_at lw_m6 176 rfl) rfl
theorem q1500 : (Jvm.Cond.code ({ cls := "RoofRegatta", name := "whySpite", desc := "(I)I" } : Jvm.MethodName) prog_1_method_82_code (2 : Nat) (Option.some Jvm.ClassFile.FieldType.int)) ∈ lw_all := lw_g (lw_at lw_m6 177 rfl) rfl
theorem q1501 : (Jvm.Cond.methodLink "RoofRegatta" (364 : Nat) ({ cls := "RoofRegatta", name := "refusedBy", desc := "(II)I" } : Jvm.MethodName)) ∈ lw_all := lw_g (lw_at lw_m6 178 rfl) rfl
theorem q1502 : (Jvm.Cond.privateMethod ({ cls := "RoofRegatta", name := "refusedBy", desc := "(II)I" } : Jvm.MethodName)) ∈ lw_tbl := lw_at lw_m6 179 rfl
theorem q1503 : (Jvm.Cond.instanceMethod ({ cls := "RoofRegatta", name := "refusedBy", desc := "(II)I" } : Jvm.MethodName)) ∈ lw_all := lw_g (lw_at lw_m6 180 rfl) rfl
theorem q1504 : (Jvm.Cond.code ({ cls := "RoofRegatta", name := "refusedBy", desc := "(II)I" } : Jvm.MethodName) prog_1_method_8_code (3 : Nat) (Option.some Jvm.ClassFile.FieldType.int)) ∈ lw_all := lw_g (lw_at lw_m6 181 rfl) rfl
theorem q1505 : (Jvm.Cond.methodLink "RoofRegatta" (367 : Nat) ({ cls := "RoofRegatta", name := "gets", desc := "(IZZ)I" } : Jvm.MethodName)) ∈ lw_all := lw_g (lw_at lw_m6 182 rfl) rfl
theorem q1506 : (Jvm.Cond.static ({ cls := "RoofRegatta", name := "gets", desc := "(IZZ)I" } : Jvm.MethodName)) ∈ lw_all := lw_g (lw_at lw_m6 183 rfl) rfl
theorem q1507 : (Jvm.Cond.code ({ cls := "RoofRegatta", name := "gets", desc := "(IZZ)I" } : Jvm.MethodName) prog_1_method_81_code (3 : Nat) (Option.some Jvm.ClassFile.FieldType.int)) ∈ lw_all := lw_g (lw_at lw_m6 184 rfl) rfl
theorem q1509 : (Jvm.Cond.instanceMethod ({ cls := "RoofRegatta", name := "rests", desc := "(I)I" } : Jvm.MethodName)) ∈ lw_all := lw_g (lw_at lw_m6 186 rfl) rfl
theorem q1510 : (Jvm.Cond.selects "RoofRegatta" ({ cls := "RoofRegatta", name := "rests", desc := "(I)I" } : Jvm.MethodName) ({ cls := "RoofRegatta", name := "rests", desc := "(I)I" } : Jvm.MethodName)) ∈ lw_all := lw_g (lw_at lw_m6 187 rfl) rfl
theorem q1511 : (Jvm.Cond.code ({ cls := "RoofRegatta", name := "rests", desc := "(I)I" } : Jvm.MethodName) prog_1_method_85_code (5 : Nat) (Option.some Jvm.ClassFile.FieldType.int)) ∈ lw_all := lw_g (lw_at lw_m6 188 rfl) rfl
theorem q1512 : (Jvm.Cond.methodLink "RoofRegatta" (371 : Nat) ({ cls := "RoofRegatta", name := "isRest", desc := "(II)Z" } : Jvm.MethodName)) ∈ lw_all := lw_g (lw_at lw_m6 189 rfl) rfl
theorem q1513 : (Jvm.Cond.static ({ cls := "RoofRegatta", name := "isRest", desc := "(II)Z" } : Jvm.MethodName)) ∈ lw_all := lw_g (lw_at lw_m6 190 rfl) rfl
theorem q1514 : (Jvm.Cond.code ({ cls := "RoofRegatta", name := "isRest", desc := "(II)Z" } : Jvm.MethodName) prog_1_method_84_code (4 : Nat) (Option.some Jvm.ClassFile.FieldType.boolean)) ∈ lw_all := lw_g (lw_at lw_m6 191 rfl) rfl
theorem q1516 : (Jvm.Cond.instanceMethod ({ cls := "RoofRegatta", name := "rest", desc := "(I)I" } : Jvm.MethodName)) ∈ lw_all := lw_g (lw_at lw_m6 193 rfl) rfl
theorem q1517 : (Jvm.Cond.selects "RoofRegatta" ({ cls := "RoofRegatta", name := "rest", desc := "(I)I" } : Jvm.MethodName) ({ cls := "RoofRegatta", name := "rest", desc := "(I)I" } : Jvm.MethodName)) ∈ lw_all := lw_g (lw_at lw_m6 194 rfl) rfl
theorem q1518 : (Jvm.Cond.code ({ cls := "RoofRegatta", name := "rest", desc := "(I)I" } : Jvm.MethodName) prog_1_method_86_code (4 : Nat) (Option.some Jvm.ClassFile.FieldType.int)) ∈ lw_all := lw_g (lw_at lw_m6 195 rfl) rfl
theorem q1520 : (Jvm.Cond.instanceMethod ({ cls := "RoofRegatta", name := "board", desc := "(II)I" } : Jvm.MethodName)) ∈ lw_all := lw_g (lw_at lw_m6 197 rfl) rfl
theorem q1521 : (Jvm.Cond.selects "RoofRegatta" ({ cls := "RoofRegatta", name := "board", desc := "(II)I" } : Jvm.MethodName) ({ cls := "RoofRegatta", name := "board", desc := "(II)I" } : Jvm.MethodName)) ∈ lw_all := lw_g (lw_at lw_m6 198 rfl) rfl
theorem q1522 : (Jvm.Cond.code ({ cls := "RoofRegatta", name := "board", desc := "(II)I" } : Jvm.MethodName) prog_1_method_88_code (3 : Nat) (Option.some Jvm.ClassFile.FieldType.int)) ∈ lw_all := lw_g (lw_at lw_m6 199 rfl) rfl
theorem q1523 : (Jvm.Cond.methodLink "RoofRegatta" (381 : Nat) ({ cls := "RoofRegatta", name := "remembers", desc := "()V" } : Jvm.MethodName)) ∈ lw_all := lw_g (lw_at lw_m6 200 rfl) rfl
theorem q1524 : (Jvm.Cond.privateMethod ({ cls := "RoofRegatta", name := "remembers", desc := "()V" } : Jvm.MethodName)) ∈ lw_tbl := lw_at lw_m6 201 rfl
theorem q1525 : (Jvm.Cond.instanceMethod ({ cls := "RoofRegatta", name := "remembers", desc := "()V" } : Jvm.MethodName)) ∈ lw_all := lw_g (lw_at lw_m6 202 rfl) rfl
theorem q1526 : (Jvm.Cond.code ({ cls := "RoofRegatta", name := "remembers", desc := "()V" } : Jvm.MethodName) prog_1_method_87_code (1 : Nat) (Option.none : Option Jvm.ClassFile.FieldType)) ∈ lw_all := lw_g (lw_at lw_m6 203 rfl) rfl
theorem q1527 : (Jvm.Cond.methodLink "RoofRegatta" (374 : Nat) ({ cls := "java/util/ArrayList", name := "remove", desc := "(I)Ljava/lang/Object;" } : Jvm.MethodName)) ∈ lw_all := lw_g (lw_at lw_m6 204 rfl) rfl
theorem q1536 : (Jvm.Cond.methodLink "RoofRegatta" (377 : Nat) ({ cls := "java/util/ArrayList", name := "add", desc := "(Ljava/lang/Object;)Z" } : Jvm.MethodName)) ∈ lw_all := lw_g (lw_at lw_m6 213 rfl) rfl
theorem q1538 : (Jvm.Cond.instanceMethod ({ cls := "RoofRegatta", name := "ashore", desc := "(I)Z" } : Jvm.MethodName)) ∈ lw_all := lw_g (lw_at lw_m6 215 rfl) rfl
theorem q1539 : (Jvm.Cond.selects "RoofRegatta" ({ cls := "RoofRegatta", name := "ashore", desc := "(I)Z" } : Jvm.MethodName) ({ cls := "RoofRegatta", name := "ashore", desc := "(I)Z" } : Jvm.MethodName)) ∈ lw_all := lw_g (lw_at lw_m6 216 rfl) rfl
theorem q1540 : (Jvm.Cond.code ({ cls := "RoofRegatta", name := "ashore", desc := "(I)Z" } : Jvm.MethodName) prog_1_method_89_code (2 : Nat) (Option.some Jvm.ClassFile.FieldType.boolean)) ∈ lw_all := lw_g (lw_at lw_m6 217 rfl) rfl
theorem q1541 : (Jvm.Cond.methodLink "RoofRegatta" (384 : Nat) ({ cls := "RoofRegatta", name := "denied", desc := "(I)Z" } : Jvm.MethodName)) ∈ lw_all := lw_g (lw_at lw_m6 218 rfl) rfl
theorem q1542 : (Jvm.Cond.privateMethod ({ cls := "RoofRegatta", name := "denied", desc := "(I)Z" } : Jvm.MethodName)) ∈ lw_tbl := lw_at lw_m6 219 rfl
theorem q1543 : (Jvm.Cond.instanceMethod ({ cls := "RoofRegatta", name := "denied", desc := "(I)Z" } : Jvm.MethodName)) ∈ lw_all := lw_g (lw_at lw_m6 220 rfl) rfl
theorem q1544 : (Jvm.Cond.code ({ cls := "RoofRegatta", name := "denied", desc := "(I)Z" } : Jvm.MethodName) prog_1_method_9_code (2 : Nat) (Option.some Jvm.ClassFile.FieldType.boolean)) ∈ lw_all := lw_g (lw_at lw_m6 221 rfl) rfl
theorem q1545 : (Jvm.Cond.methodLink "RoofRegatta" (387 : Nat) ({ cls := "RoofRegatta", name := "granted", desc := "()Z" } : Jvm.MethodName)) ∈ lw_all := lw_g (lw_at lw_m6 222 rfl) rfl
theorem q1546 : (Jvm.Cond.privateMethod ({ cls := "RoofRegatta", name := "granted", desc := "()Z" } : Jvm.MethodName)) ∈ lw_tbl := lw_at lw_m6 223 rfl
theorem q1547 : (Jvm.Cond.instanceMethod ({ cls := "RoofRegatta", name := "granted", desc := "()Z" } : Jvm.MethodName)) ∈ lw_all := lw_g (lw_at lw_m6 224 rfl) rfl
theorem q1548 : (Jvm.Cond.code ({ cls := "RoofRegatta", name := "granted", desc := "()Z" } : Jvm.MethodName) prog_1_method_11_code (1 : Nat) (Option.some Jvm.ClassFile.FieldType.boolean)) ∈ lw_all := lw_g (lw_at lw_m6 225 rfl) rfl
theorem q1550 : (Jvm.Cond.instanceMethod ({ cls := "RoofRegatta", name := "light", desc := "(IZ)Z" } : Jvm.MethodName)) ∈ lw_all := lw_g (lw_at lw_m6 227 rfl) rfl
theorem q1551 : (Jvm.Cond.selects "RoofRegatta" ({ cls := "RoofRegatta", name := "light", desc := "(IZ)Z" } : Jvm.MethodName) ({ cls := "RoofRegatta", name := "light", desc := "(IZ)Z" } : Jvm.MethodName)) ∈ lw_all := lw_g (lw_at lw_m6 228 rfl) rfl
theorem q1552 : (Jvm.Cond.code ({ cls := "RoofRegatta", name := "light", desc := "(IZ)Z" } : Jvm.MethodName) prog_1_method_90_code (3 : Nat) (Option.some Jvm.ClassFile.FieldType.boolean)) ∈ lw_all := lw_g (lw_at lw_m6 229 rfl) rfl
theorem q1554 : (Jvm.Cond.instanceMethod ({ cls := "RoofRegatta", name := "cross", desc := "(I)I" } : Jvm.MethodName)) ∈ lw_all := lw_g (lw_at lw_m6 231 rfl) rfl
theorem q1555 : (Jvm.Cond.selects "RoofRegatta" ({ cls := "RoofRegatta", name := "cross", desc := "(I)I" } : Jvm.MethodName) ({ cls := "RoofRegatta", name := "cross", desc := "(I)I" } : Jvm.MethodName)) ∈ lw_all := lw_g (lw_at lw_m6 232 rfl) rfl
theorem q1556 : (Jvm.Cond.code ({ cls := "RoofRegatta", name := "cross", desc := "(I)I" } : Jvm.MethodName) prog_1_method_91_code (2 : Nat) (Option.some Jvm.ClassFile.FieldType.int)) ∈ lw_all := lw_g (lw_at lw_m6 233 rfl) rfl
theorem q1558 : (Jvm.Cond.instanceMethod ({ cls := "RoofRegatta", name := "raise", desc := "(I)Z" } : Jvm.MethodName)) ∈ lw_all := lw_g (lw_at lw_m6 235 rfl) rfl
theorem q1559 : (Jvm.Cond.selects "RoofRegatta" ({ cls := "RoofRegatta", name := "raise", desc := "(I)Z" } : Jvm.MethodName) ({ cls := "RoofRegatta", name := "raise", desc := "(I)Z" } : Jvm.MethodName)) ∈ lw_all := lw_g (lw_at lw_m6 236 rfl) rfl
theorem q1560 : (Jvm.Cond.code ({ cls := "RoofRegatta", name := "raise", desc := "(I)Z" } : Jvm.MethodName) prog_1_method_92_code (3 : Nat) (Option.some Jvm.ClassFile.FieldType.boolean)) ∈ lw_all := lw_g (lw_at lw_m6 237 rfl) rfl
theorem q1562 : (Jvm.Cond.instanceMethod ({ cls := "RoofRegatta", name := "undo", desc := "()Z" } : Jvm.MethodName)) ∈ lw_all := lw_g (lw_at lw_m6 239 rfl) rfl
theorem q1563 : (Jvm.Cond.selects "RoofRegatta" ({ cls := "RoofRegatta", name := "undo", desc := "()Z" } : Jvm.MethodName) ({ cls := "RoofRegatta", name := "undo", desc := "()Z" } : Jvm.MethodName)) ∈ lw_all := lw_g (lw_at lw_m7 0 rfl) rfl
theorem q1564 : (Jvm.Cond.code ({ cls := "RoofRegatta", name := "undo", desc := "()Z" } : Jvm.MethodName) prog_1_method_93_code (1 : Nat) (Option.some Jvm.ClassFile.FieldType.boolean)) ∈ lw_all := lw_g (lw_at lw_m7 1 rfl) rfl
theorem q1565 : (Jvm.Cond.methodLink "RoofRegatta" (391 : Nat) ({ cls := "java/util/ArrayList", name := "isEmpty", desc := "()Z" } : Jvm.MethodName)) ∈ lw_all := lw_g (lw_at lw_m7 2 rfl) rfl
theorem q1567 : (Jvm.Cond.instanceMethod ({ cls := "RoofRegatta", name := "image", desc := "()I" } : Jvm.MethodName)) ∈ lw_all := lw_g (lw_at lw_m7 4 rfl) rfl
theorem q1568 : (Jvm.Cond.selects "RoofRegatta" ({ cls := "RoofRegatta", name := "image", desc := "()I" } : Jvm.MethodName) ({ cls := "RoofRegatta", name := "image", desc := "()I" } : Jvm.MethodName)) ∈ lw_all := lw_g (lw_at lw_m7 5 rfl) rfl
theorem q1569 : (Jvm.Cond.code ({ cls := "RoofRegatta", name := "image", desc := "()I" } : Jvm.MethodName) prog_1_method_94_code (1 : Nat) (Option.some Jvm.ClassFile.FieldType.int)) ∈ lw_all := lw_g (lw_at lw_m7 6 rfl) rfl
theorem q1571 : (Jvm.Cond.instanceMethod ({ cls := "RoofRegatta", name := "back", desc := "(I)Z" } : Jvm.MethodName)) ∈ lw_all := lw_g (lw_at lw_m7 8 rfl) rfl
theorem q1572 : (Jvm.Cond.selects "RoofRegatta" ({ cls := "RoofRegatta", name := "back", desc := "(I)Z" } : Jvm.MethodName) ({ cls := "RoofRegatta", name := "back", desc := "(I)Z" } : Jvm.MethodName)) ∈ lw_all := lw_g (lw_at lw_m7 9 rfl) rfl
theorem q1573 : (Jvm.Cond.code ({ cls := "RoofRegatta", name := "back", desc := "(I)Z" } : Jvm.MethodName) prog_1_method_95_code (2 : Nat) (Option.some Jvm.ClassFile.FieldType.boolean)) ∈ lw_all := lw_g (lw_at lw_m7 10 rfl) rfl
theorem q1575 : (Jvm.Cond.instanceMethod ({ cls := "RoofRegatta", name := "size", desc := "(I)I" } : Jvm.MethodName)) ∈ lw_all := lw_g (lw_at lw_m7 12 rfl) rfl
theorem q1576 : (Jvm.Cond.selects "RoofRegatta" ({ cls := "RoofRegatta", name := "size", desc := "(I)I" } : Jvm.MethodName) ({ cls := "RoofRegatta", name := "size", desc := "(I)I" } : Jvm.MethodName)) ∈ lw_all := lw_g (lw_at lw_m7 13 rfl) rfl
theorem q1577 : (Jvm.Cond.code ({ cls := "RoofRegatta", name := "size", desc := "(I)I" } : Jvm.MethodName) prog_1_method_97_code (2 : Nat) (Option.some Jvm.ClassFile.FieldType.int)) ∈ lw_all := lw_g (lw_at lw_m7 14 rfl) rfl
theorem q1579 : (Jvm.Cond.instanceMethod ({ cls := "RoofRegatta", name := "trouble", desc := "()I" } : Jvm.MethodName)) ∈ lw_all := lw_g (lw_at lw_m7 16 rfl) rfl
theorem q1580 : (Jvm.Cond.selects "RoofRegatta" ({ cls := "RoofRegatta", name := "trouble", desc := "()I" } : Jvm.MethodName) ({ cls := "RoofRegatta", name := "trouble", desc := "()I" } : Jvm.MethodName)) ∈ lw_all := lw_g (lw_at lw_m7 17 rfl) rfl
theorem q1581 : (Jvm.Cond.code ({ cls := "RoofRegatta", name := "trouble", desc := "()I" } : Jvm.MethodName) prog_1_method_98_code (1 : Nat) (Option.some Jvm.ClassFile.FieldType.int)) ∈ lw_all := lw_g (lw_at lw_m7 18 rfl) rfl
theorem q1587 : (Jvm.Cond.instanceMethod ({ cls := "RoofRegatta", name := "led", desc := "(I)I" } : Jvm.MethodName)) ∈ lw_all := lw_g (lw_at lw_m7 24 rfl) rfl
theorem q1588 : (Jvm.Cond.selects "RoofRegatta" ({ cls := "RoofRegatta", name := "led", desc := "(I)I" } : Jvm.MethodName) ({ cls := "RoofRegatta", name := "led", desc := "(I)I" } : Jvm.MethodName)) ∈ lw_all := lw_g (lw_at lw_m7 25 rfl) rfl
theorem q1589 : (Jvm.Cond.code ({ cls := "RoofRegatta", name := "led", desc := "(I)I" } : Jvm.MethodName) prog_1_method_96_code (4 : Nat) (Option.some Jvm.ClassFile.FieldType.int)) ∈ lw_all := lw_g (lw_at lw_m7 26 rfl) rfl
theorem q1590 : (Jvm.Cond.classLink "RoofRegatta" (394 : Nat) "java/util/NoSuchElementException") ∈ lw_all := lw_g (lw_at lw_m7 27 rfl) rfl
theorem q1629 : (Jvm.Cond.methodLink "RoofRegatta" (396 : Nat) ({ cls := "java/util/NoSuchElementException", name := "<init>", desc := "()V" } : Jvm.MethodName)) ∈ lw_all := lw_g (lw_at lw_m7 66 rfl) rfl
theorem q2359 : (Jvm.Cond.castable "RoofRegatta" "java/lang/Object") ∈ lw_tbl := lw_at lw_m10 76 rfl
theorem in_X1 : ∀ w ∈ wsX10, w ∈ lw_all := lw_in wsX10 [210, 212, 214, 216, 218, 220, 222, 224, 226, 228, 230, 232, 234, 236, 238, 240, 242, 244, 246] (by decide +kernel) (by decide +kernel)
