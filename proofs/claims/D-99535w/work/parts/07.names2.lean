/-! RoofRegattaModel -/
set_option maxRecDepth 100000
def RX2 : String := "RoofRegattaModel"
def TX2 : u_T := fun k => match k with
  | 0 => ("RoofRegattaModel", "thrown", "I", false)
  | 1 => ("RoofRegattaModel", "tape", "[I", true)
  | 2 => ("RoofRegattaModel", "taped", "I", false)
  | 3 => ("RoofRegattaModel", "size", "I", false)
  | 4 => ("RoofRegattaModel", "at", "I", false)
  | 5 => ("RoofRegattaModel", "end", "I", false)
  | 6 => ("RoofRegattaModel", "token", "I", false)
  | 7 => ("RoofRegattaModel", "whole", "I", false)
  | 8 => ("RoofRegattaModel", "nameSize", "I", false)
  | 9 => ("RoofRegattaModel", "fault", "I", false)
  | 10 => ("RoofRegattaModel", "place", "I", false)
  | 11 => ("RoofRegattaModel", "trouble", "I", false)
  | 12 => ("RoofRegattaModel", "letters", "[I", true)
  | 13 => ("RoofRegattaModel", "failed", "Z", false)
  | 14 => ("RoofRegattaModel", "hasRegatta", "Z", false)
  | 15 => ("RoofRegattaModel", "\x72", "[I", true)
  | 16 => ("RoofRegattaModel", "fresh", "[I", true)
  | 17 => ("RoofRegattaModel", "st", "[I", true)
  | 18 => ("RoofRegattaModel", "undone", "[I", true)
  | 19 => ("RoofRegattaModel", "kept", "[I", true)
  | 20 => ("RoofRegattaModel", "undos", "I", false)
  | 21 => ("RoofRegattaModel", "images", "I", false)
  | 22 => ("RoofRegattaModel", "rainy", "I", false)
  | 23 => ("RoofRegattaModel", "totals", "[I", true)
  | 24 => ("RoofRegattaModel", "ranks", "[I", true)
  | 25 => ("RoofRegattaModel", "outs", "I", false)
  | 26 => ("RoofRegattaModel", "trial", "[I", true)
  | 27 => ("RoofRegattaModel", "bestLoad", "[I", true)
  | 28 => ("RoofRegattaModel", "wanted", "I", false)
  | 29 => ("RoofRegattaModel", "bestKey", "I", false)
  | 30 => ("RoofRegattaModel", "bestMoved", "I", false)
  | 31 => ("RoofRegattaModel", "leastSum", "I", false)
  | 32 => ("RoofRegattaModel", "litMany", "[I", true)
  | 33 => ("RoofRegattaModel", "setMany", "I", false)
  | 34 => ("RoofRegattaModel", "someLit", "I", false)
  | 35 => ("RoofRegattaModel", "allLit", "I", false)
  | 36 => ("RoofRegattaModel", "allWeight", "J", false)
  | 37 => ("RoofRegattaModel", "rankWeight", "J", false)
  | 38 => ("RoofRegattaModel", "totalSum", "J", false)
  | 39 => ("RoofRegattaModel", "prizeSum", "J", false)
  | 40 => ("RoofRegattaModel", "won", "[I", true)
  | 41 => ("RoofRegattaModel", "leastEver", "I", false)
  | _ => ("RoofRegattaModel", "firstRest", "I", false)
def tyX2 : Nat → FieldType := fun k => match k with
  | 0 => .int
  | 1 => .array .int
  | 2 => .int
  | 3 => .int
  | 4 => .int
  | 5 => .int
  | 6 => .int
  | 7 => .int
  | 8 => .int
  | 9 => .int
  | 10 => .int
  | 11 => .int
  | 12 => .array .int
  | 13 => .boolean
  | 14 => .boolean
  | 15 => .array .int
  | 16 => .array .int
  | 17 => .array .int
  | 18 => .array .int
  | 19 => .array .int
  | 20 => .int
  | 21 => .int
  | 22 => .int
  | 23 => .array .int
  | 24 => .array .int
  | 25 => .int
  | 26 => .array .int
  | 27 => .array .int
  | 28 => .int
  | 29 => .int
  | 30 => .int
  | 31 => .int
  | 32 => .array .int
  | 33 => .int
  | 34 => .int
  | 35 => .int
  | 36 => .long
  | 37 => .long
  | 38 => .long
  | 39 => .long
  | 40 => .array .int
  | 41 => .int
  | _ => .int
abbrev wsX20 : List Cond := u_ws RX2 TX2 43
set_option maxRecDepth 100000 in
theorem nmX2 : ∀ a, a < 43 → ∀ b, b < 43 → a ≠ b → (TX2 a).2.1 ≠ (TX2 b).2.1 := by decide +kernel
set_option maxRecDepth 100000 in
theorem tyX2_ok : ∀ k, k < 43 → parseFieldDescriptor (TX2 k).2.2.1 = some (tyX2 k) := by decide +kernel
abbrev cX2_init : ByteArray := prog_15_method_1_code
def yX2_init : MethodName := ⟨RX2, "<init>", "()V"⟩
def dkwX2_init_4 : List UInt8 := [181, 0, 44, 42, 7, 188, 10, 181, 0, 47, 42, 7, 188, 10, 181, 0, 50, 177]
abbrev dktX2_init_4 : List UInt8 := dkwX2_init_4 ++ []
def dkwX2_init_3 : List UInt8 := [188, 10, 181, 0, 35, 42, 7, 188, 10, 181, 0, 38, 42, 16, 8, 188, 10, 181, 0, 41, 42, 8, 188, 10]
abbrev dktX2_init_3 : List UInt8 := dkwX2_init_3 ++ dktX2_init_4
def dkwX2_init_2 : List UInt8 := [188, 10, 181, 0, 26, 42, 17, 0, 128, 188, 10, 181, 0, 29, 42, 16, 24, 188, 10, 181, 0, 32, 42, 7]
abbrev dktX2_init_2 : List UInt8 := dkwX2_init_2 ++ dktX2_init_3
def dkwX2_init_1 : List UInt8 := [181, 0, 17, 42, 17, 0, 191, 188, 10, 181, 0, 20, 42, 17, 0, 191, 188, 10, 181, 0, 23, 42, 16, 8]
abbrev dktX2_init_1 : List UInt8 := dkwX2_init_1 ++ dktX2_init_2
def dkwX2_init_0 : List UInt8 := [42, 183, 0, 1, 42, 17, 3, 132, 188, 10, 181, 0, 7, 42, 2, 181, 0, 13, 42, 16, 8, 188, 10]
abbrev dktX2_init_0 : List UInt8 := dkwX2_init_0 ++ dktX2_init_1
theorem dksX2_init_0 : cX2_init.data.toList.drop 0 = dktX2_init_0 := by decide +kernel
theorem dksX2_init_1 : cX2_init.data.toList.drop 23 = dktX2_init_1 := dk_seg dksX2_init_0 23 rfl rfl
theorem dksX2_init_2 : cX2_init.data.toList.drop 47 = dktX2_init_2 := dk_seg dksX2_init_1 24 rfl rfl
theorem dksX2_init_3 : cX2_init.data.toList.drop 71 = dktX2_init_3 := dk_seg dksX2_init_2 24 rfl rfl
theorem dksX2_init_4 : cX2_init.data.toList.drop 95 = dktX2_init_4 := dk_seg dksX2_init_3 24 rfl rfl
theorem dX2_init_0 : decode cX2_init 0 = .ok (.aload_n 0, 1) := dk_42 (dk_at dksX2_init_0 0 rfl rfl)
theorem dX2_init_1 : decode cX2_init 1 = .ok (.invokespecial 1, 3) := dk_183 0 1 (dk_at dksX2_init_0 1 rfl rfl)
theorem dX2_init_4 : decode cX2_init 4 = .ok (.aload_n 0, 1) := dk_42 (dk_at dksX2_init_0 4 rfl rfl)
theorem dX2_init_5 : decode cX2_init 5 = .ok (.sipush 900, 3) := dk_17 3 132 (dk_at dksX2_init_0 5 rfl rfl)
theorem dX2_init_8 : decode cX2_init 8 = .ok (.newarray .int, 2) := dk_188_10 (dk_at dksX2_init_0 8 rfl rfl)
theorem dX2_init_10 : decode cX2_init 10 = .ok (.putfield 7, 3) := dk_181 0 7 (dk_at dksX2_init_0 10 rfl rfl)
theorem dX2_init_13 : decode cX2_init 13 = .ok (.aload_n 0, 1) := dk_42 (dk_at dksX2_init_0 13 rfl rfl)
theorem dX2_init_14 : decode cX2_init 14 = .ok (.iconst (-1), 1) := dk_2 (dk_at dksX2_init_0 14 rfl rfl)
theorem dX2_init_15 : decode cX2_init 15 = .ok (.putfield 13, 3) := dk_181 0 13 (dk_at dksX2_init_0 15 rfl rfl)
theorem dX2_init_18 : decode cX2_init 18 = .ok (.aload_n 0, 1) := dk_42 (dk_at dksX2_init_0 18 rfl rfl)
theorem dX2_init_19 : decode cX2_init 19 = .ok (.bipush 8, 2) := dk_16 8 (dk_at dksX2_init_0 19 rfl rfl)
theorem dX2_init_21 : decode cX2_init 21 = .ok (.newarray .int, 2) := dk_188_10 (dk_at dksX2_init_0 21 rfl rfl)
theorem dX2_init_23 : decode cX2_init 23 = .ok (.putfield 17, 3) := dk_181 0 17 (dk_at dksX2_init_1 0 rfl rfl)
theorem dX2_init_26 : decode cX2_init 26 = .ok (.aload_n 0, 1) := dk_42 (dk_at dksX2_init_1 3 rfl rfl)
theorem dX2_init_27 : decode cX2_init 27 = .ok (.sipush 191, 3) := dk_17 0 191 (dk_at dksX2_init_1 4 rfl rfl)
theorem dX2_init_30 : decode cX2_init 30 = .ok (.newarray .int, 2) := dk_188_10 (dk_at dksX2_init_1 7 rfl rfl)
theorem dX2_init_32 : decode cX2_init 32 = .ok (.putfield 20, 3) := dk_181 0 20 (dk_at dksX2_init_1 9 rfl rfl)
theorem dX2_init_35 : decode cX2_init 35 = .ok (.aload_n 0, 1) := dk_42 (dk_at dksX2_init_1 12 rfl rfl)
theorem dX2_init_36 : decode cX2_init 36 = .ok (.sipush 191, 3) := dk_17 0 191 (dk_at dksX2_init_1 13 rfl rfl)
theorem dX2_init_39 : decode cX2_init 39 = .ok (.newarray .int, 2) := dk_188_10 (dk_at dksX2_init_1 16 rfl rfl)
theorem dX2_init_41 : decode cX2_init 41 = .ok (.putfield 23, 3) := dk_181 0 23 (dk_at dksX2_init_1 18 rfl rfl)
theorem dX2_init_44 : decode cX2_init 44 = .ok (.aload_n 0, 1) := dk_42 (dk_at dksX2_init_1 21 rfl rfl)
theorem dX2_init_45 : decode cX2_init 45 = .ok (.bipush 8, 2) := dk_16 8 (dk_at dksX2_init_1 22 rfl rfl)
theorem dX2_init_47 : decode cX2_init 47 = .ok (.newarray .int, 2) := dk_188_10 (dk_at dksX2_init_2 0 rfl rfl)
theorem dX2_init_49 : decode cX2_init 49 = .ok (.putfield 26, 3) := dk_181 0 26 (dk_at dksX2_init_2 2 rfl rfl)
theorem dX2_init_52 : decode cX2_init 52 = .ok (.aload_n 0, 1) := dk_42 (dk_at dksX2_init_2 5 rfl rfl)
theorem dX2_init_53 : decode cX2_init 53 = .ok (.sipush 128, 3) := dk_17 0 128 (dk_at dksX2_init_2 6 rfl rfl)
theorem dX2_init_56 : decode cX2_init 56 = .ok (.newarray .int, 2) := dk_188_10 (dk_at dksX2_init_2 9 rfl rfl)
theorem dX2_init_58 : decode cX2_init 58 = .ok (.putfield 29, 3) := dk_181 0 29 (dk_at dksX2_init_2 11 rfl rfl)
theorem dX2_init_61 : decode cX2_init 61 = .ok (.aload_n 0, 1) := dk_42 (dk_at dksX2_init_2 14 rfl rfl)
theorem dX2_init_62 : decode cX2_init 62 = .ok (.bipush 24, 2) := dk_16 24 (dk_at dksX2_init_2 15 rfl rfl)
theorem dX2_init_64 : decode cX2_init 64 = .ok (.newarray .int, 2) := dk_188_10 (dk_at dksX2_init_2 17 rfl rfl)
theorem dX2_init_66 : decode cX2_init 66 = .ok (.putfield 32, 3) := dk_181 0 32 (dk_at dksX2_init_2 19 rfl rfl)
theorem dX2_init_69 : decode cX2_init 69 = .ok (.aload_n 0, 1) := dk_42 (dk_at dksX2_init_2 22 rfl rfl)
theorem dX2_init_70 : decode cX2_init 70 = .ok (.iconst 4, 1) := dk_7 (dk_at dksX2_init_2 23 rfl rfl)
theorem dX2_init_71 : decode cX2_init 71 = .ok (.newarray .int, 2) := dk_188_10 (dk_at dksX2_init_3 0 rfl rfl)
theorem dX2_init_73 : decode cX2_init 73 = .ok (.putfield 35, 3) := dk_181 0 35 (dk_at dksX2_init_3 2 rfl rfl)
theorem dX2_init_76 : decode cX2_init 76 = .ok (.aload_n 0, 1) := dk_42 (dk_at dksX2_init_3 5 rfl rfl)
theorem dX2_init_77 : decode cX2_init 77 = .ok (.iconst 4, 1) := dk_7 (dk_at dksX2_init_3 6 rfl rfl)
theorem dX2_init_78 : decode cX2_init 78 = .ok (.newarray .int, 2) := dk_188_10 (dk_at dksX2_init_3 7 rfl rfl)
theorem dX2_init_80 : decode cX2_init 80 = .ok (.putfield 38, 3) := dk_181 0 38 (dk_at dksX2_init_3 9 rfl rfl)
theorem dX2_init_83 : decode cX2_init 83 = .ok (.aload_n 0, 1) := dk_42 (dk_at dksX2_init_3 12 rfl rfl)
theorem dX2_init_84 : decode cX2_init 84 = .ok (.bipush 8, 2) := dk_16 8 (dk_at dksX2_init_3 13 rfl rfl)
theorem dX2_init_86 : decode cX2_init 86 = .ok (.newarray .int, 2) := dk_188_10 (dk_at dksX2_init_3 15 rfl rfl)
theorem dX2_init_88 : decode cX2_init 88 = .ok (.putfield 41, 3) := dk_181 0 41 (dk_at dksX2_init_3 17 rfl rfl)
theorem dX2_init_91 : decode cX2_init 91 = .ok (.aload_n 0, 1) := dk_42 (dk_at dksX2_init_3 20 rfl rfl)
theorem dX2_init_92 : decode cX2_init 92 = .ok (.iconst 5, 1) := dk_8 (dk_at dksX2_init_3 21 rfl rfl)
theorem dX2_init_93 : decode cX2_init 93 = .ok (.newarray .int, 2) := dk_188_10 (dk_at dksX2_init_3 22 rfl rfl)
theorem dX2_init_95 : decode cX2_init 95 = .ok (.putfield 44, 3) := dk_181 0 44 (dk_at dksX2_init_4 0 rfl rfl)
theorem dX2_init_98 : decode cX2_init 98 = .ok (.aload_n 0, 1) := dk_42 (dk_at dksX2_init_4 3 rfl rfl)
theorem dX2_init_99 : decode cX2_init 99 = .ok (.iconst 4, 1) := dk_7 (dk_at dksX2_init_4 4 rfl rfl)
theorem dX2_init_100 : decode cX2_init 100 = .ok (.newarray .int, 2) := dk_188_10 (dk_at dksX2_init_4 5 rfl rfl)
theorem dX2_init_102 : decode cX2_init 102 = .ok (.putfield 47, 3) := dk_181 0 47 (dk_at dksX2_init_4 7 rfl rfl)
theorem dX2_init_105 : decode cX2_init 105 = .ok (.aload_n 0, 1) := dk_42 (dk_at dksX2_init_4 10 rfl rfl)
theorem dX2_init_106 : decode cX2_init 106 = .ok (.iconst 4, 1) := dk_7 (dk_at dksX2_init_4 11 rfl rfl)
theorem dX2_init_107 : decode cX2_init 107 = .ok (.newarray .int, 2) := dk_188_10 (dk_at dksX2_init_4 12 rfl rfl)
theorem dX2_init_109 : decode cX2_init 109 = .ok (.putfield 50, 3) := dk_181 0 50 (dk_at dksX2_init_4 14 rfl rfl)
theorem dX2_init_112 : decode cX2_init 112 = .ok (.return_, 1) := dk_177 (dk_at dksX2_init_4 17 rfl rfl)
abbrev cX2_thrown : ByteArray := prog_15_method_2_code
def yX2_thrown : MethodName := ⟨RX2, "thrown", "()I"⟩
theorem dX2_thrown_0 : decode cX2_thrown 0 = .ok (.aload_n 0, 1) := by decide +kernel
theorem dX2_thrown_1 : decode cX2_thrown 1 = .ok (.getfield 53, 3) := by decide +kernel
theorem dX2_thrown_4 : decode cX2_thrown 4 = .ok (.ireturn, 1) := by decide +kernel
abbrev cX2_feed : ByteArray := prog_15_method_11_code
def yX2_feed : MethodName := ⟨RX2, "feed", "(IIIII)I"⟩
def dkwX2_feed_5 : List UInt8 := [167, 255, 162, 42, 180, 0, 59, 172]
abbrev dktX2_feed_5 : List UInt8 := dkwX2_feed_5 ++ []
def dkwX2_feed_4 : List UInt8 := [112, 104, 100, 122, 17, 0, 255, 126, 79, 42, 89, 180, 0, 59, 4, 96, 181, 0, 59, 132, 6, 1]
abbrev dktX2_feed_4 : List UInt8 := dkwX2_feed_4 ++ dktX2_feed_5
def dkwX2_feed_3 : List UInt8 := [167, 0, 5, 21, 5, 54, 7, 42, 180, 0, 7, 42, 180, 0, 59, 21, 7, 16, 24, 16, 8, 21, 6, 7]
abbrev dktX2_feed_3 : List UInt8 := dkwX2_feed_3 ++ dktX2_feed_4
def dkwX2_feed_2 : List UInt8 := [28, 167, 0, 28, 21, 6, 16, 12, 162, 0, 7, 29, 167, 0, 17, 21, 6, 16, 16, 162, 0, 8, 21, 4]
abbrev dktX2_feed_2 : List UInt8 := dkwX2_feed_2 ++ dktX2_feed_3
def dkwX2_feed_1 : List UInt8 := [21, 6, 16, 20, 162, 0, 93, 21, 6, 7, 162, 0, 7, 27, 167, 0, 39, 21, 6, 16, 8, 162, 0, 7]
abbrev dktX2_feed_1 : List UInt8 := dkwX2_feed_1 ++ dktX2_feed_2
def dkwX2_feed_0 : List UInt8 := [42, 3, 181, 0, 53, 42, 180, 0, 59, 16, 20, 96, 17, 3, 132, 164, 0, 5, 2, 172, 3, 54, 6]
abbrev dktX2_feed_0 : List UInt8 := dkwX2_feed_0 ++ dktX2_feed_1
theorem dksX2_feed_0 : cX2_feed.data.toList.drop 0 = dktX2_feed_0 := by decide +kernel
theorem dksX2_feed_1 : cX2_feed.data.toList.drop 23 = dktX2_feed_1 := dk_seg dksX2_feed_0 23 rfl rfl
theorem dksX2_feed_2 : cX2_feed.data.toList.drop 47 = dktX2_feed_2 := dk_seg dksX2_feed_1 24 rfl rfl
theorem dksX2_feed_3 : cX2_feed.data.toList.drop 71 = dktX2_feed_3 := dk_seg dksX2_feed_2 24 rfl rfl
theorem dksX2_feed_4 : cX2_feed.data.toList.drop 95 = dktX2_feed_4 := dk_seg dksX2_feed_3 24 rfl rfl
theorem dksX2_feed_5 : cX2_feed.data.toList.drop 117 = dktX2_feed_5 := dk_seg dksX2_feed_4 22 rfl rfl
theorem dX2_feed_0 : decode cX2_feed 0 = .ok (.aload_n 0, 1) := dk_42 (dk_at dksX2_feed_0 0 rfl rfl)
theorem dX2_feed_1 : decode cX2_feed 1 = .ok (.iconst 0, 1) := dk_3 (dk_at dksX2_feed_0 1 rfl rfl)
theorem dX2_feed_2 : decode cX2_feed 2 = .ok (.putfield 53, 3) := dk_181 0 53 (dk_at dksX2_feed_0 2 rfl rfl)
theorem dX2_feed_5 : decode cX2_feed 5 = .ok (.aload_n 0, 1) := dk_42 (dk_at dksX2_feed_0 5 rfl rfl)
theorem dX2_feed_6 : decode cX2_feed 6 = .ok (.getfield 59, 3) := dk_180 0 59 (dk_at dksX2_feed_0 6 rfl rfl)
theorem dX2_feed_9 : decode cX2_feed 9 = .ok (.bipush 20, 2) := dk_16 20 (dk_at dksX2_feed_0 9 rfl rfl)
theorem dX2_feed_11 : decode cX2_feed 11 = .ok (.iadd, 1) := dk_96 (dk_at dksX2_feed_0 11 rfl rfl)
theorem dX2_feed_12 : decode cX2_feed 12 = .ok (.sipush 900, 3) := dk_17 3 132 (dk_at dksX2_feed_0 12 rfl rfl)
theorem dX2_feed_15 : decode cX2_feed 15 = .ok (.if_icmp .le 5, 3) := dk_164 0 5 (dk_at dksX2_feed_0 15 rfl rfl)
theorem dX2_feed_18 : decode cX2_feed 18 = .ok (.iconst (-1), 1) := dk_2 (dk_at dksX2_feed_0 18 rfl rfl)
theorem dX2_feed_19 : decode cX2_feed 19 = .ok (.ireturn, 1) := dk_172 (dk_at dksX2_feed_0 19 rfl rfl)
theorem dX2_feed_20 : decode cX2_feed 20 = .ok (.iconst 0, 1) := dk_3 (dk_at dksX2_feed_0 20 rfl rfl)
theorem dX2_feed_21 : decode cX2_feed 21 = .ok (.istore 6, 2) := dk_54 6 (dk_at dksX2_feed_0 21 rfl rfl)
theorem dX2_feed_23 : decode cX2_feed 23 = .ok (.iload 6, 2) := dk_21 6 (dk_at dksX2_feed_1 0 rfl rfl)
theorem dX2_feed_25 : decode cX2_feed 25 = .ok (.bipush 20, 2) := dk_16 20 (dk_at dksX2_feed_1 2 rfl rfl)
theorem dX2_feed_27 : decode cX2_feed 27 = .ok (.if_icmp .ge 93, 3) := dk_162 0 93 (dk_at dksX2_feed_1 4 rfl rfl)
theorem dX2_feed_30 : decode cX2_feed 30 = .ok (.iload 6, 2) := dk_21 6 (dk_at dksX2_feed_1 7 rfl rfl)
theorem dX2_feed_32 : decode cX2_feed 32 = .ok (.iconst 4, 1) := dk_7 (dk_at dksX2_feed_1 9 rfl rfl)
theorem dX2_feed_33 : decode cX2_feed 33 = .ok (.if_icmp .ge 7, 3) := dk_162 0 7 (dk_at dksX2_feed_1 10 rfl rfl)
theorem dX2_feed_36 : decode cX2_feed 36 = .ok (.iload_n 1, 1) := dk_27 (dk_at dksX2_feed_1 13 rfl rfl)
theorem dX2_feed_37 : decode cX2_feed 37 = .ok (.goto 39, 3) := dk_167 0 39 (dk_at dksX2_feed_1 14 rfl rfl)
theorem dX2_feed_40 : decode cX2_feed 40 = .ok (.iload 6, 2) := dk_21 6 (dk_at dksX2_feed_1 17 rfl rfl)
theorem dX2_feed_42 : decode cX2_feed 42 = .ok (.bipush 8, 2) := dk_16 8 (dk_at dksX2_feed_1 19 rfl rfl)
theorem dX2_feed_44 : decode cX2_feed 44 = .ok (.if_icmp .ge 7, 3) := dk_162 0 7 (dk_at dksX2_feed_1 21 rfl rfl)
theorem dX2_feed_47 : decode cX2_feed 47 = .ok (.iload_n 2, 1) := dk_28 (dk_at dksX2_feed_2 0 rfl rfl)
theorem dX2_feed_48 : decode cX2_feed 48 = .ok (.goto 28, 3) := dk_167 0 28 (dk_at dksX2_feed_2 1 rfl rfl)
theorem dX2_feed_51 : decode cX2_feed 51 = .ok (.iload 6, 2) := dk_21 6 (dk_at dksX2_feed_2 4 rfl rfl)
theorem dX2_feed_53 : decode cX2_feed 53 = .ok (.bipush 12, 2) := dk_16 12 (dk_at dksX2_feed_2 6 rfl rfl)
theorem dX2_feed_55 : decode cX2_feed 55 = .ok (.if_icmp .ge 7, 3) := dk_162 0 7 (dk_at dksX2_feed_2 8 rfl rfl)
theorem dX2_feed_58 : decode cX2_feed 58 = .ok (.iload_n 3, 1) := dk_29 (dk_at dksX2_feed_2 11 rfl rfl)
theorem dX2_feed_59 : decode cX2_feed 59 = .ok (.goto 17, 3) := dk_167 0 17 (dk_at dksX2_feed_2 12 rfl rfl)
theorem dX2_feed_62 : decode cX2_feed 62 = .ok (.iload 6, 2) := dk_21 6 (dk_at dksX2_feed_2 15 rfl rfl)
theorem dX2_feed_64 : decode cX2_feed 64 = .ok (.bipush 16, 2) := dk_16 16 (dk_at dksX2_feed_2 17 rfl rfl)
theorem dX2_feed_66 : decode cX2_feed 66 = .ok (.if_icmp .ge 8, 3) := dk_162 0 8 (dk_at dksX2_feed_2 19 rfl rfl)
theorem dX2_feed_69 : decode cX2_feed 69 = .ok (.iload 4, 2) := dk_21 4 (dk_at dksX2_feed_2 22 rfl rfl)
theorem dX2_feed_71 : decode cX2_feed 71 = .ok (.goto 5, 3) := dk_167 0 5 (dk_at dksX2_feed_3 0 rfl rfl)
theorem dX2_feed_74 : decode cX2_feed 74 = .ok (.iload 5, 2) := dk_21 5 (dk_at dksX2_feed_3 3 rfl rfl)
theorem dX2_feed_76 : decode cX2_feed 76 = .ok (.istore 7, 2) := dk_54 7 (dk_at dksX2_feed_3 5 rfl rfl)
theorem dX2_feed_78 : decode cX2_feed 78 = .ok (.aload_n 0, 1) := dk_42 (dk_at dksX2_feed_3 7 rfl rfl)
theorem dX2_feed_79 : decode cX2_feed 79 = .ok (.getfield 7, 3) := dk_180 0 7 (dk_at dksX2_feed_3 8 rfl rfl)
theorem dX2_feed_82 : decode cX2_feed 82 = .ok (.aload_n 0, 1) := dk_42 (dk_at dksX2_feed_3 11 rfl rfl)
theorem dX2_feed_83 : decode cX2_feed 83 = .ok (.getfield 59, 3) := dk_180 0 59 (dk_at dksX2_feed_3 12 rfl rfl)
theorem dX2_feed_86 : decode cX2_feed 86 = .ok (.iload 7, 2) := dk_21 7 (dk_at dksX2_feed_3 15 rfl rfl)
theorem dX2_feed_88 : decode cX2_feed 88 = .ok (.bipush 24, 2) := dk_16 24 (dk_at dksX2_feed_3 17 rfl rfl)
theorem dX2_feed_90 : decode cX2_feed 90 = .ok (.bipush 8, 2) := dk_16 8 (dk_at dksX2_feed_3 19 rfl rfl)
theorem dX2_feed_92 : decode cX2_feed 92 = .ok (.iload 6, 2) := dk_21 6 (dk_at dksX2_feed_3 21 rfl rfl)
theorem dX2_feed_94 : decode cX2_feed 94 = .ok (.iconst 4, 1) := dk_7 (dk_at dksX2_feed_3 23 rfl rfl)
theorem dX2_feed_95 : decode cX2_feed 95 = .ok (.irem, 1) := dk_112 (dk_at dksX2_feed_4 0 rfl rfl)
theorem dX2_feed_96 : decode cX2_feed 96 = .ok (.imul, 1) := dk_104 (dk_at dksX2_feed_4 1 rfl rfl)
theorem dX2_feed_97 : decode cX2_feed 97 = .ok (.isub, 1) := dk_100 (dk_at dksX2_feed_4 2 rfl rfl)
theorem dX2_feed_98 : decode cX2_feed 98 = .ok (.ishr, 1) := dk_122 (dk_at dksX2_feed_4 3 rfl rfl)
theorem dX2_feed_99 : decode cX2_feed 99 = .ok (.sipush 255, 3) := dk_17 0 255 (dk_at dksX2_feed_4 4 rfl rfl)
theorem dX2_feed_102 : decode cX2_feed 102 = .ok (.iand, 1) := dk_126 (dk_at dksX2_feed_4 7 rfl rfl)
theorem dX2_feed_103 : decode cX2_feed 103 = .ok (.iastore, 1) := dk_79 (dk_at dksX2_feed_4 8 rfl rfl)
theorem dX2_feed_104 : decode cX2_feed 104 = .ok (.aload_n 0, 1) := dk_42 (dk_at dksX2_feed_4 9 rfl rfl)
theorem dX2_feed_105 : decode cX2_feed 105 = .ok (.dup, 1) := dk_89 (dk_at dksX2_feed_4 10 rfl rfl)
theorem dX2_feed_106 : decode cX2_feed 106 = .ok (.getfield 59, 3) := dk_180 0 59 (dk_at dksX2_feed_4 11 rfl rfl)
theorem dX2_feed_109 : decode cX2_feed 109 = .ok (.iconst 1, 1) := dk_4 (dk_at dksX2_feed_4 14 rfl rfl)
theorem dX2_feed_110 : decode cX2_feed 110 = .ok (.iadd, 1) := dk_96 (dk_at dksX2_feed_4 15 rfl rfl)
theorem dX2_feed_111 : decode cX2_feed 111 = .ok (.putfield 59, 3) := dk_181 0 59 (dk_at dksX2_feed_4 16 rfl rfl)
theorem dX2_feed_114 : decode cX2_feed 114 = .ok (.iinc 6 1, 3) := dk_132 6 1 (dk_at dksX2_feed_4 19 rfl rfl)
theorem dX2_feed_117 : decode cX2_feed 117 = .ok (.goto (-94), 3) := dk_167 255 162 (dk_at dksX2_feed_5 0 rfl rfl)
theorem dX2_feed_120 : decode cX2_feed 120 = .ok (.aload_n 0, 1) := dk_42 (dk_at dksX2_feed_5 3 rfl rfl)
theorem dX2_feed_121 : decode cX2_feed 121 = .ok (.getfield 59, 3) := dk_180 0 59 (dk_at dksX2_feed_5 4 rfl rfl)
theorem dX2_feed_124 : decode cX2_feed 124 = .ok (.ireturn, 1) := dk_172 (dk_at dksX2_feed_5 7 rfl rfl)
abbrev cX2_regatta : ByteArray := prog_15_method_30_code
def yX2_regatta : MethodName := ⟨RX2, "regatta", "(I)I"⟩
def dkwX2_regatta_14 : List UInt8 := [180, 0, 20, 16, 6, 46, 172]
abbrev dktX2_regatta_14 : List UInt8 := dkwX2_regatta_14 ++ []
def dkwX2_regatta_13 : List UInt8 := [180, 0, 20, 3, 46, 79, 42, 4, 181, 0, 176, 42, 3, 181, 0, 179, 42, 3, 181, 0, 182, 42]
abbrev dktX2_regatta_13 : List UInt8 := dkwX2_regatta_13 ++ dktX2_regatta_14
def dkwX2_regatta_12 : List UInt8 := [104, 96, 4, 96, 46, 28, 120, 128, 79, 132, 2, 1, 167, 255, 218, 42, 180, 0, 26, 16, 7, 42]
abbrev dktX2_regatta_12 : List UInt8 := dkwX2_regatta_12 ++ dktX2_regatta_13
def dkwX2_regatta_11 : List UInt8 := [180, 0, 20, 16, 6, 46, 162, 0, 33, 42, 180, 0, 26, 8, 92, 46, 42, 180, 0, 20, 16, 19, 7, 28]
abbrev dktX2_regatta_11 : List UInt8 := dkwX2_regatta_11 ++ dktX2_regatta_12
def dkwX2_regatta_10 : List UInt8 := [180, 0, 20, 16, 35, 7, 28, 104, 96, 5, 96, 46, 79, 132, 2, 1, 167, 255, 223, 3, 61, 28, 42]
abbrev dktX2_regatta_10 : List UInt8 := dkwX2_regatta_10 ++ dktX2_regatta_11
def dkwX2_regatta_9 : List UInt8 := [167, 255, 240, 3, 61, 28, 42, 180, 0, 20, 16, 7, 46, 162, 0, 28, 42, 180, 0, 26, 28, 42]
abbrev dktX2_regatta_9 : List UInt8 := dkwX2_regatta_9 ++ dktX2_regatta_10
def dkwX2_regatta_8 : List UInt8 := [17, 0, 191, 184, 0, 172, 3, 61, 28, 16, 8, 162, 0, 16, 42, 180, 0, 26, 28, 3, 79, 132, 2, 1]
abbrev dktX2_regatta_8 : List UInt8 := dkwX2_regatta_8 ++ dktX2_regatta_9
def dkwX2_regatta_7 : List UInt8 := [180, 0, 91, 153, 0, 9, 42, 7, 182, 0, 166, 172, 42, 180, 0, 23, 3, 42, 180, 0, 20, 3]
abbrev dktX2_regatta_7 : List UInt8 := dkwX2_regatta_7 ++ dktX2_regatta_8
def dkwX2_regatta_6 : List UInt8 := [153, 0, 13, 42, 180, 0, 23, 16, 6, 46, 154, 0, 13, 42, 16, 6, 42, 180, 0, 72, 182, 0, 118, 42]
abbrev dktX2_regatta_6 : List UInt8 := dkwX2_regatta_6 ++ dktX2_regatta_7
def dkwX2_regatta_5 : List UInt8 := [42, 4, 42, 180, 0, 72, 182, 0, 118, 42, 180, 0, 91, 154, 0, 32, 42, 180, 0, 23, 3, 46]
abbrev dktX2_regatta_5 : List UInt8 := dkwX2_regatta_5 ++ dktX2_regatta_6
def dkwX2_regatta_4 : List UInt8 := [182, 0, 112, 42, 182, 0, 169, 167, 255, 232, 42, 180, 0, 91, 154, 0, 19, 42, 180, 0, 81, 153, 0, 12]
abbrev dktX2_regatta_4 : List UInt8 := dkwX2_regatta_4 ++ dktX2_regatta_5
def dkwX2_regatta_3 : List UInt8 := [182, 0, 112, 42, 182, 0, 169, 42, 180, 0, 91, 154, 0, 23, 42, 180, 0, 81, 16, 59, 160, 0, 14, 42]
abbrev dktX2_regatta_3 : List UInt8 := dkwX2_regatta_3 ++ dktX2_regatta_4
def dkwX2_regatta_2 : List UInt8 := [180, 0, 23, 28, 3, 79, 132, 2, 1, 167, 255, 239, 42, 27, 181, 0, 62, 42, 3, 181, 0, 65, 42]
abbrev dktX2_regatta_2 : List UInt8 := dkwX2_regatta_2 ++ dktX2_regatta_3
def dkwX2_regatta_1 : List UInt8 := [181, 0, 59, 42, 3, 181, 0, 95, 42, 3, 181, 0, 91, 3, 61, 28, 17, 0, 191, 162, 0, 16, 42]
abbrev dktX2_regatta_1 : List UInt8 := dkwX2_regatta_1 ++ dktX2_regatta_2
def dkwX2_regatta_0 : List UInt8 := [42, 182, 0, 163, 27, 3, 42, 180, 0, 59, 184, 0, 144, 154, 0, 9, 42, 5, 182, 0, 166, 172, 42, 3]
abbrev dktX2_regatta_0 : List UInt8 := dkwX2_regatta_0 ++ dktX2_regatta_1
theorem dksX2_regatta_0 : cX2_regatta.data.toList.drop 0 = dktX2_regatta_0 := by decide +kernel
theorem dksX2_regatta_1 : cX2_regatta.data.toList.drop 24 = dktX2_regatta_1 := dk_seg dksX2_regatta_0 24 rfl rfl
theorem dksX2_regatta_2 : cX2_regatta.data.toList.drop 47 = dktX2_regatta_2 := dk_seg dksX2_regatta_1 23 rfl rfl
theorem dksX2_regatta_3 : cX2_regatta.data.toList.drop 70 = dktX2_regatta_3 := dk_seg dksX2_regatta_2 23 rfl rfl
theorem dksX2_regatta_4 : cX2_regatta.data.toList.drop 94 = dktX2_regatta_4 := dk_seg dksX2_regatta_3 24 rfl rfl
theorem dksX2_regatta_5 : cX2_regatta.data.toList.drop 118 = dktX2_regatta_5 := dk_seg dksX2_regatta_4 24 rfl rfl
theorem dksX2_regatta_6 : cX2_regatta.data.toList.drop 140 = dktX2_regatta_6 := dk_seg dksX2_regatta_5 22 rfl rfl
theorem dksX2_regatta_7 : cX2_regatta.data.toList.drop 164 = dktX2_regatta_7 := dk_seg dksX2_regatta_6 24 rfl rfl
theorem dksX2_regatta_8 : cX2_regatta.data.toList.drop 186 = dktX2_regatta_8 := dk_seg dksX2_regatta_7 22 rfl rfl
theorem dksX2_regatta_9 : cX2_regatta.data.toList.drop 210 = dktX2_regatta_9 := dk_seg dksX2_regatta_8 24 rfl rfl
theorem dksX2_regatta_10 : cX2_regatta.data.toList.drop 232 = dktX2_regatta_10 := dk_seg dksX2_regatta_9 22 rfl rfl
theorem dksX2_regatta_11 : cX2_regatta.data.toList.drop 255 = dktX2_regatta_11 := dk_seg dksX2_regatta_10 23 rfl rfl
theorem dksX2_regatta_12 : cX2_regatta.data.toList.drop 279 = dktX2_regatta_12 := dk_seg dksX2_regatta_11 24 rfl rfl
theorem dksX2_regatta_13 : cX2_regatta.data.toList.drop 301 = dktX2_regatta_13 := dk_seg dksX2_regatta_12 22 rfl rfl
theorem dksX2_regatta_14 : cX2_regatta.data.toList.drop 323 = dktX2_regatta_14 := dk_seg dksX2_regatta_13 22 rfl rfl
theorem dX2_regatta_0 : decode cX2_regatta 0 = .ok (.aload_n 0, 1) := dk_42 (dk_at dksX2_regatta_0 0 rfl rfl)
theorem dX2_regatta_1 : decode cX2_regatta 1 = .ok (.invokevirtual 163, 3) := dk_182 0 163 (dk_at dksX2_regatta_0 1 rfl rfl)
theorem dX2_regatta_4 : decode cX2_regatta 4 = .ok (.iload_n 1, 1) := dk_27 (dk_at dksX2_regatta_0 4 rfl rfl)
theorem dX2_regatta_5 : decode cX2_regatta 5 = .ok (.iconst 0, 1) := dk_3 (dk_at dksX2_regatta_0 5 rfl rfl)
theorem dX2_regatta_6 : decode cX2_regatta 6 = .ok (.aload_n 0, 1) := dk_42 (dk_at dksX2_regatta_0 6 rfl rfl)
theorem dX2_regatta_7 : decode cX2_regatta 7 = .ok (.getfield 59, 3) := dk_180 0 59 (dk_at dksX2_regatta_0 7 rfl rfl)
theorem dX2_regatta_10 : decode cX2_regatta 10 = .ok (.invokestatic 144, 3) := dk_184 0 144 (dk_at dksX2_regatta_0 10 rfl rfl)
theorem dX2_regatta_13 : decode cX2_regatta 13 = .ok (.ifCond .ne 9, 3) := dk_154 0 9 (dk_at dksX2_regatta_0 13 rfl rfl)
theorem dX2_regatta_16 : decode cX2_regatta 16 = .ok (.aload_n 0, 1) := dk_42 (dk_at dksX2_regatta_0 16 rfl rfl)
theorem dX2_regatta_17 : decode cX2_regatta 17 = .ok (.iconst 2, 1) := dk_5 (dk_at dksX2_regatta_0 17 rfl rfl)
theorem dX2_regatta_18 : decode cX2_regatta 18 = .ok (.invokevirtual 166, 3) := dk_182 0 166 (dk_at dksX2_regatta_0 18 rfl rfl)
theorem dX2_regatta_21 : decode cX2_regatta 21 = .ok (.ireturn, 1) := dk_172 (dk_at dksX2_regatta_0 21 rfl rfl)
theorem dX2_regatta_22 : decode cX2_regatta 22 = .ok (.aload_n 0, 1) := dk_42 (dk_at dksX2_regatta_0 22 rfl rfl)
theorem dX2_regatta_23 : decode cX2_regatta 23 = .ok (.iconst 0, 1) := dk_3 (dk_at dksX2_regatta_0 23 rfl rfl)
theorem dX2_regatta_24 : decode cX2_regatta 24 = .ok (.putfield 59, 3) := dk_181 0 59 (dk_at dksX2_regatta_1 0 rfl rfl)
theorem dX2_regatta_27 : decode cX2_regatta 27 = .ok (.aload_n 0, 1) := dk_42 (dk_at dksX2_regatta_1 3 rfl rfl)
theorem dX2_regatta_28 : decode cX2_regatta 28 = .ok (.iconst 0, 1) := dk_3 (dk_at dksX2_regatta_1 4 rfl rfl)
theorem dX2_regatta_29 : decode cX2_regatta 29 = .ok (.putfield 95, 3) := dk_181 0 95 (dk_at dksX2_regatta_1 5 rfl rfl)
theorem dX2_regatta_32 : decode cX2_regatta 32 = .ok (.aload_n 0, 1) := dk_42 (dk_at dksX2_regatta_1 8 rfl rfl)
theorem dX2_regatta_33 : decode cX2_regatta 33 = .ok (.iconst 0, 1) := dk_3 (dk_at dksX2_regatta_1 9 rfl rfl)
theorem dX2_regatta_34 : decode cX2_regatta 34 = .ok (.putfield 91, 3) := dk_181 0 91 (dk_at dksX2_regatta_1 10 rfl rfl)
theorem dX2_regatta_37 : decode cX2_regatta 37 = .ok (.iconst 0, 1) := dk_3 (dk_at dksX2_regatta_1 13 rfl rfl)
theorem dX2_regatta_38 : decode cX2_regatta 38 = .ok (.istore_n 2, 1) := dk_61 (dk_at dksX2_regatta_1 14 rfl rfl)
theorem dX2_regatta_39 : decode cX2_regatta 39 = .ok (.iload_n 2, 1) := dk_28 (dk_at dksX2_regatta_1 15 rfl rfl)
theorem dX2_regatta_40 : decode cX2_regatta 40 = .ok (.sipush 191, 3) := dk_17 0 191 (dk_at dksX2_regatta_1 16 rfl rfl)
theorem dX2_regatta_43 : decode cX2_regatta 43 = .ok (.if_icmp .ge 16, 3) := dk_162 0 16 (dk_at dksX2_regatta_1 19 rfl rfl)
theorem dX2_regatta_46 : decode cX2_regatta 46 = .ok (.aload_n 0, 1) := dk_42 (dk_at dksX2_regatta_1 22 rfl rfl)
theorem dX2_regatta_47 : decode cX2_regatta 47 = .ok (.getfield 23, 3) := dk_180 0 23 (dk_at dksX2_regatta_2 0 rfl rfl)
theorem dX2_regatta_50 : decode cX2_regatta 50 = .ok (.iload_n 2, 1) := dk_28 (dk_at dksX2_regatta_2 3 rfl rfl)
theorem dX2_regatta_51 : decode cX2_regatta 51 = .ok (.iconst 0, 1) := dk_3 (dk_at dksX2_regatta_2 4 rfl rfl)
theorem dX2_regatta_52 : decode cX2_regatta 52 = .ok (.iastore, 1) := dk_79 (dk_at dksX2_regatta_2 5 rfl rfl)
theorem dX2_regatta_53 : decode cX2_regatta 53 = .ok (.iinc 2 1, 3) := dk_132 2 1 (dk_at dksX2_regatta_2 6 rfl rfl)
theorem dX2_regatta_56 : decode cX2_regatta 56 = .ok (.goto (-17), 3) := dk_167 255 239 (dk_at dksX2_regatta_2 9 rfl rfl)
theorem dX2_regatta_59 : decode cX2_regatta 59 = .ok (.aload_n 0, 1) := dk_42 (dk_at dksX2_regatta_2 12 rfl rfl)
theorem dX2_regatta_60 : decode cX2_regatta 60 = .ok (.iload_n 1, 1) := dk_27 (dk_at dksX2_regatta_2 13 rfl rfl)
theorem dX2_regatta_61 : decode cX2_regatta 61 = .ok (.putfield 62, 3) := dk_181 0 62 (dk_at dksX2_regatta_2 14 rfl rfl)
theorem dX2_regatta_64 : decode cX2_regatta 64 = .ok (.aload_n 0, 1) := dk_42 (dk_at dksX2_regatta_2 17 rfl rfl)
theorem dX2_regatta_65 : decode cX2_regatta 65 = .ok (.iconst 0, 1) := dk_3 (dk_at dksX2_regatta_2 18 rfl rfl)
theorem dX2_regatta_66 : decode cX2_regatta 66 = .ok (.putfield 65, 3) := dk_181 0 65 (dk_at dksX2_regatta_2 19 rfl rfl)
theorem dX2_regatta_69 : decode cX2_regatta 69 = .ok (.aload_n 0, 1) := dk_42 (dk_at dksX2_regatta_2 22 rfl rfl)
theorem dX2_regatta_70 : decode cX2_regatta 70 = .ok (.invokevirtual 112, 3) := dk_182 0 112 (dk_at dksX2_regatta_3 0 rfl rfl)
theorem dX2_regatta_73 : decode cX2_regatta 73 = .ok (.aload_n 0, 1) := dk_42 (dk_at dksX2_regatta_3 3 rfl rfl)
theorem dX2_regatta_74 : decode cX2_regatta 74 = .ok (.invokevirtual 169, 3) := dk_182 0 169 (dk_at dksX2_regatta_3 4 rfl rfl)
theorem dX2_regatta_77 : decode cX2_regatta 77 = .ok (.aload_n 0, 1) := dk_42 (dk_at dksX2_regatta_3 7 rfl rfl)
theorem dX2_regatta_78 : decode cX2_regatta 78 = .ok (.getfield 91, 3) := dk_180 0 91 (dk_at dksX2_regatta_3 8 rfl rfl)
theorem dX2_regatta_81 : decode cX2_regatta 81 = .ok (.ifCond .ne 23, 3) := dk_154 0 23 (dk_at dksX2_regatta_3 11 rfl rfl)
theorem dX2_regatta_84 : decode cX2_regatta 84 = .ok (.aload_n 0, 1) := dk_42 (dk_at dksX2_regatta_3 14 rfl rfl)
theorem dX2_regatta_85 : decode cX2_regatta 85 = .ok (.getfield 81, 3) := dk_180 0 81 (dk_at dksX2_regatta_3 15 rfl rfl)
theorem dX2_regatta_88 : decode cX2_regatta 88 = .ok (.bipush 59, 2) := dk_16 59 (dk_at dksX2_regatta_3 18 rfl rfl)
theorem dX2_regatta_90 : decode cX2_regatta 90 = .ok (.if_icmp .ne 14, 3) := dk_160 0 14 (dk_at dksX2_regatta_3 20 rfl rfl)
theorem dX2_regatta_93 : decode cX2_regatta 93 = .ok (.aload_n 0, 1) := dk_42 (dk_at dksX2_regatta_3 23 rfl rfl)
theorem dX2_regatta_94 : decode cX2_regatta 94 = .ok (.invokevirtual 112, 3) := dk_182 0 112 (dk_at dksX2_regatta_4 0 rfl rfl)
theorem dX2_regatta_97 : decode cX2_regatta 97 = .ok (.aload_n 0, 1) := dk_42 (dk_at dksX2_regatta_4 3 rfl rfl)
theorem dX2_regatta_98 : decode cX2_regatta 98 = .ok (.invokevirtual 169, 3) := dk_182 0 169 (dk_at dksX2_regatta_4 4 rfl rfl)
theorem dX2_regatta_101 : decode cX2_regatta 101 = .ok (.goto (-24), 3) := dk_167 255 232 (dk_at dksX2_regatta_4 7 rfl rfl)
theorem dX2_regatta_104 : decode cX2_regatta 104 = .ok (.aload_n 0, 1) := dk_42 (dk_at dksX2_regatta_4 10 rfl rfl)
theorem dX2_regatta_105 : decode cX2_regatta 105 = .ok (.getfield 91, 3) := dk_180 0 91 (dk_at dksX2_regatta_4 11 rfl rfl)
theorem dX2_regatta_108 : decode cX2_regatta 108 = .ok (.ifCond .ne 19, 3) := dk_154 0 19 (dk_at dksX2_regatta_4 14 rfl rfl)
theorem dX2_regatta_111 : decode cX2_regatta 111 = .ok (.aload_n 0, 1) := dk_42 (dk_at dksX2_regatta_4 17 rfl rfl)
theorem dX2_regatta_112 : decode cX2_regatta 112 = .ok (.getfield 81, 3) := dk_180 0 81 (dk_at dksX2_regatta_4 18 rfl rfl)
theorem dX2_regatta_115 : decode cX2_regatta 115 = .ok (.ifCond .eq 12, 3) := dk_153 0 12 (dk_at dksX2_regatta_4 21 rfl rfl)
theorem dX2_regatta_118 : decode cX2_regatta 118 = .ok (.aload_n 0, 1) := dk_42 (dk_at dksX2_regatta_5 0 rfl rfl)
theorem dX2_regatta_119 : decode cX2_regatta 119 = .ok (.iconst 1, 1) := dk_4 (dk_at dksX2_regatta_5 1 rfl rfl)
theorem dX2_regatta_120 : decode cX2_regatta 120 = .ok (.aload_n 0, 1) := dk_42 (dk_at dksX2_regatta_5 2 rfl rfl)
theorem dX2_regatta_121 : decode cX2_regatta 121 = .ok (.getfield 72, 3) := dk_180 0 72 (dk_at dksX2_regatta_5 3 rfl rfl)
theorem dX2_regatta_124 : decode cX2_regatta 124 = .ok (.invokevirtual 118, 3) := dk_182 0 118 (dk_at dksX2_regatta_5 6 rfl rfl)
theorem dX2_regatta_127 : decode cX2_regatta 127 = .ok (.aload_n 0, 1) := dk_42 (dk_at dksX2_regatta_5 9 rfl rfl)
theorem dX2_regatta_128 : decode cX2_regatta 128 = .ok (.getfield 91, 3) := dk_180 0 91 (dk_at dksX2_regatta_5 10 rfl rfl)
theorem dX2_regatta_131 : decode cX2_regatta 131 = .ok (.ifCond .ne 32, 3) := dk_154 0 32 (dk_at dksX2_regatta_5 13 rfl rfl)
theorem dX2_regatta_134 : decode cX2_regatta 134 = .ok (.aload_n 0, 1) := dk_42 (dk_at dksX2_regatta_5 16 rfl rfl)
theorem dX2_regatta_135 : decode cX2_regatta 135 = .ok (.getfield 23, 3) := dk_180 0 23 (dk_at dksX2_regatta_5 17 rfl rfl)
theorem dX2_regatta_138 : decode cX2_regatta 138 = .ok (.iconst 0, 1) := dk_3 (dk_at dksX2_regatta_5 20 rfl rfl)
theorem dX2_regatta_139 : decode cX2_regatta 139 = .ok (.iaload, 1) := dk_46 (dk_at dksX2_regatta_5 21 rfl rfl)
theorem dX2_regatta_140 : decode cX2_regatta 140 = .ok (.ifCond .eq 13, 3) := dk_153 0 13 (dk_at dksX2_regatta_6 0 rfl rfl)
theorem dX2_regatta_143 : decode cX2_regatta 143 = .ok (.aload_n 0, 1) := dk_42 (dk_at dksX2_regatta_6 3 rfl rfl)
theorem dX2_regatta_144 : decode cX2_regatta 144 = .ok (.getfield 23, 3) := dk_180 0 23 (dk_at dksX2_regatta_6 4 rfl rfl)
theorem dX2_regatta_147 : decode cX2_regatta 147 = .ok (.bipush 6, 2) := dk_16 6 (dk_at dksX2_regatta_6 7 rfl rfl)
theorem dX2_regatta_149 : decode cX2_regatta 149 = .ok (.iaload, 1) := dk_46 (dk_at dksX2_regatta_6 9 rfl rfl)
theorem dX2_regatta_150 : decode cX2_regatta 150 = .ok (.ifCond .ne 13, 3) := dk_154 0 13 (dk_at dksX2_regatta_6 10 rfl rfl)
theorem dX2_regatta_153 : decode cX2_regatta 153 = .ok (.aload_n 0, 1) := dk_42 (dk_at dksX2_regatta_6 13 rfl rfl)
theorem dX2_regatta_154 : decode cX2_regatta 154 = .ok (.bipush 6, 2) := dk_16 6 (dk_at dksX2_regatta_6 14 rfl rfl)
theorem dX2_regatta_156 : decode cX2_regatta 156 = .ok (.aload_n 0, 1) := dk_42 (dk_at dksX2_regatta_6 16 rfl rfl)
theorem dX2_regatta_157 : decode cX2_regatta 157 = .ok (.getfield 72, 3) := dk_180 0 72 (dk_at dksX2_regatta_6 17 rfl rfl)
theorem dX2_regatta_160 : decode cX2_regatta 160 = .ok (.invokevirtual 118, 3) := dk_182 0 118 (dk_at dksX2_regatta_6 20 rfl rfl)
theorem dX2_regatta_163 : decode cX2_regatta 163 = .ok (.aload_n 0, 1) := dk_42 (dk_at dksX2_regatta_6 23 rfl rfl)
theorem dX2_regatta_164 : decode cX2_regatta 164 = .ok (.getfield 91, 3) := dk_180 0 91 (dk_at dksX2_regatta_7 0 rfl rfl)
theorem dX2_regatta_167 : decode cX2_regatta 167 = .ok (.ifCond .eq 9, 3) := dk_153 0 9 (dk_at dksX2_regatta_7 3 rfl rfl)
theorem dX2_regatta_170 : decode cX2_regatta 170 = .ok (.aload_n 0, 1) := dk_42 (dk_at dksX2_regatta_7 6 rfl rfl)
theorem dX2_regatta_171 : decode cX2_regatta 171 = .ok (.iconst 4, 1) := dk_7 (dk_at dksX2_regatta_7 7 rfl rfl)
theorem dX2_regatta_172 : decode cX2_regatta 172 = .ok (.invokevirtual 166, 3) := dk_182 0 166 (dk_at dksX2_regatta_7 8 rfl rfl)
theorem dX2_regatta_175 : decode cX2_regatta 175 = .ok (.ireturn, 1) := dk_172 (dk_at dksX2_regatta_7 11 rfl rfl)
theorem dX2_regatta_176 : decode cX2_regatta 176 = .ok (.aload_n 0, 1) := dk_42 (dk_at dksX2_regatta_7 12 rfl rfl)
theorem dX2_regatta_177 : decode cX2_regatta 177 = .ok (.getfield 23, 3) := dk_180 0 23 (dk_at dksX2_regatta_7 13 rfl rfl)
theorem dX2_regatta_180 : decode cX2_regatta 180 = .ok (.iconst 0, 1) := dk_3 (dk_at dksX2_regatta_7 16 rfl rfl)
theorem dX2_regatta_181 : decode cX2_regatta 181 = .ok (.aload_n 0, 1) := dk_42 (dk_at dksX2_regatta_7 17 rfl rfl)
theorem dX2_regatta_182 : decode cX2_regatta 182 = .ok (.getfield 20, 3) := dk_180 0 20 (dk_at dksX2_regatta_7 18 rfl rfl)
theorem dX2_regatta_185 : decode cX2_regatta 185 = .ok (.iconst 0, 1) := dk_3 (dk_at dksX2_regatta_7 21 rfl rfl)
theorem dX2_regatta_186 : decode cX2_regatta 186 = .ok (.sipush 191, 3) := dk_17 0 191 (dk_at dksX2_regatta_8 0 rfl rfl)
theorem dX2_regatta_189 : decode cX2_regatta 189 = .ok (.invokestatic 172, 3) := dk_184 0 172 (dk_at dksX2_regatta_8 3 rfl rfl)
theorem dX2_regatta_192 : decode cX2_regatta 192 = .ok (.iconst 0, 1) := dk_3 (dk_at dksX2_regatta_8 6 rfl rfl)
theorem dX2_regatta_193 : decode cX2_regatta 193 = .ok (.istore_n 2, 1) := dk_61 (dk_at dksX2_regatta_8 7 rfl rfl)
theorem dX2_regatta_194 : decode cX2_regatta 194 = .ok (.iload_n 2, 1) := dk_28 (dk_at dksX2_regatta_8 8 rfl rfl)
theorem dX2_regatta_195 : decode cX2_regatta 195 = .ok (.bipush 8, 2) := dk_16 8 (dk_at dksX2_regatta_8 9 rfl rfl)
theorem dX2_regatta_197 : decode cX2_regatta 197 = .ok (.if_icmp .ge 16, 3) := dk_162 0 16 (dk_at dksX2_regatta_8 11 rfl rfl)
theorem dX2_regatta_200 : decode cX2_regatta 200 = .ok (.aload_n 0, 1) := dk_42 (dk_at dksX2_regatta_8 14 rfl rfl)
theorem dX2_regatta_201 : decode cX2_regatta 201 = .ok (.getfield 26, 3) := dk_180 0 26 (dk_at dksX2_regatta_8 15 rfl rfl)
theorem dX2_regatta_204 : decode cX2_regatta 204 = .ok (.iload_n 2, 1) := dk_28 (dk_at dksX2_regatta_8 18 rfl rfl)
theorem dX2_regatta_205 : decode cX2_regatta 205 = .ok (.iconst 0, 1) := dk_3 (dk_at dksX2_regatta_8 19 rfl rfl)
theorem dX2_regatta_206 : decode cX2_regatta 206 = .ok (.iastore, 1) := dk_79 (dk_at dksX2_regatta_8 20 rfl rfl)
theorem dX2_regatta_207 : decode cX2_regatta 207 = .ok (.iinc 2 1, 3) := dk_132 2 1 (dk_at dksX2_regatta_8 21 rfl rfl)
theorem dX2_regatta_210 : decode cX2_regatta 210 = .ok (.goto (-16), 3) := dk_167 255 240 (dk_at dksX2_regatta_9 0 rfl rfl)
theorem dX2_regatta_213 : decode cX2_regatta 213 = .ok (.iconst 0, 1) := dk_3 (dk_at dksX2_regatta_9 3 rfl rfl)
theorem dX2_regatta_214 : decode cX2_regatta 214 = .ok (.istore_n 2, 1) := dk_61 (dk_at dksX2_regatta_9 4 rfl rfl)
theorem dX2_regatta_215 : decode cX2_regatta 215 = .ok (.iload_n 2, 1) := dk_28 (dk_at dksX2_regatta_9 5 rfl rfl)
theorem dX2_regatta_216 : decode cX2_regatta 216 = .ok (.aload_n 0, 1) := dk_42 (dk_at dksX2_regatta_9 6 rfl rfl)
theorem dX2_regatta_217 : decode cX2_regatta 217 = .ok (.getfield 20, 3) := dk_180 0 20 (dk_at dksX2_regatta_9 7 rfl rfl)
theorem dX2_regatta_220 : decode cX2_regatta 220 = .ok (.bipush 7, 2) := dk_16 7 (dk_at dksX2_regatta_9 10 rfl rfl)
theorem dX2_regatta_222 : decode cX2_regatta 222 = .ok (.iaload, 1) := dk_46 (dk_at dksX2_regatta_9 12 rfl rfl)
theorem dX2_regatta_223 : decode cX2_regatta 223 = .ok (.if_icmp .ge 28, 3) := dk_162 0 28 (dk_at dksX2_regatta_9 13 rfl rfl)
theorem dX2_regatta_226 : decode cX2_regatta 226 = .ok (.aload_n 0, 1) := dk_42 (dk_at dksX2_regatta_9 16 rfl rfl)
theorem dX2_regatta_227 : decode cX2_regatta 227 = .ok (.getfield 26, 3) := dk_180 0 26 (dk_at dksX2_regatta_9 17 rfl rfl)
theorem dX2_regatta_230 : decode cX2_regatta 230 = .ok (.iload_n 2, 1) := dk_28 (dk_at dksX2_regatta_9 20 rfl rfl)
theorem dX2_regatta_231 : decode cX2_regatta 231 = .ok (.aload_n 0, 1) := dk_42 (dk_at dksX2_regatta_9 21 rfl rfl)
theorem dX2_regatta_232 : decode cX2_regatta 232 = .ok (.getfield 20, 3) := dk_180 0 20 (dk_at dksX2_regatta_10 0 rfl rfl)
theorem dX2_regatta_235 : decode cX2_regatta 235 = .ok (.bipush 35, 2) := dk_16 35 (dk_at dksX2_regatta_10 3 rfl rfl)
theorem dX2_regatta_237 : decode cX2_regatta 237 = .ok (.iconst 4, 1) := dk_7 (dk_at dksX2_regatta_10 5 rfl rfl)
theorem dX2_regatta_238 : decode cX2_regatta 238 = .ok (.iload_n 2, 1) := dk_28 (dk_at dksX2_regatta_10 6 rfl rfl)
theorem dX2_regatta_239 : decode cX2_regatta 239 = .ok (.imul, 1) := dk_104 (dk_at dksX2_regatta_10 7 rfl rfl)
theorem dX2_regatta_240 : decode cX2_regatta 240 = .ok (.iadd, 1) := dk_96 (dk_at dksX2_regatta_10 8 rfl rfl)
theorem dX2_regatta_241 : decode cX2_regatta 241 = .ok (.iconst 2, 1) := dk_5 (dk_at dksX2_regatta_10 9 rfl rfl)
theorem dX2_regatta_242 : decode cX2_regatta 242 = .ok (.iadd, 1) := dk_96 (dk_at dksX2_regatta_10 10 rfl rfl)
theorem dX2_regatta_243 : decode cX2_regatta 243 = .ok (.iaload, 1) := dk_46 (dk_at dksX2_regatta_10 11 rfl rfl)
theorem dX2_regatta_244 : decode cX2_regatta 244 = .ok (.iastore, 1) := dk_79 (dk_at dksX2_regatta_10 12 rfl rfl)
theorem dX2_regatta_245 : decode cX2_regatta 245 = .ok (.iinc 2 1, 3) := dk_132 2 1 (dk_at dksX2_regatta_10 13 rfl rfl)
theorem dX2_regatta_248 : decode cX2_regatta 248 = .ok (.goto (-33), 3) := dk_167 255 223 (dk_at dksX2_regatta_10 16 rfl rfl)
theorem dX2_regatta_251 : decode cX2_regatta 251 = .ok (.iconst 0, 1) := dk_3 (dk_at dksX2_regatta_10 19 rfl rfl)
theorem dX2_regatta_252 : decode cX2_regatta 252 = .ok (.istore_n 2, 1) := dk_61 (dk_at dksX2_regatta_10 20 rfl rfl)
theorem dX2_regatta_253 : decode cX2_regatta 253 = .ok (.iload_n 2, 1) := dk_28 (dk_at dksX2_regatta_10 21 rfl rfl)
theorem dX2_regatta_254 : decode cX2_regatta 254 = .ok (.aload_n 0, 1) := dk_42 (dk_at dksX2_regatta_10 22 rfl rfl)
theorem dX2_regatta_255 : decode cX2_regatta 255 = .ok (.getfield 20, 3) := dk_180 0 20 (dk_at dksX2_regatta_11 0 rfl rfl)
theorem dX2_regatta_258 : decode cX2_regatta 258 = .ok (.bipush 6, 2) := dk_16 6 (dk_at dksX2_regatta_11 3 rfl rfl)
theorem dX2_regatta_260 : decode cX2_regatta 260 = .ok (.iaload, 1) := dk_46 (dk_at dksX2_regatta_11 5 rfl rfl)
theorem dX2_regatta_261 : decode cX2_regatta 261 = .ok (.if_icmp .ge 33, 3) := dk_162 0 33 (dk_at dksX2_regatta_11 6 rfl rfl)
theorem dX2_regatta_264 : decode cX2_regatta 264 = .ok (.aload_n 0, 1) := dk_42 (dk_at dksX2_regatta_11 9 rfl rfl)
theorem dX2_regatta_265 : decode cX2_regatta 265 = .ok (.getfield 26, 3) := dk_180 0 26 (dk_at dksX2_regatta_11 10 rfl rfl)
theorem dX2_regatta_268 : decode cX2_regatta 268 = .ok (.iconst 5, 1) := dk_8 (dk_at dksX2_regatta_11 13 rfl rfl)
theorem dX2_regatta_269 : decode cX2_regatta 269 = .ok (.dup2, 1) := dk_92 (dk_at dksX2_regatta_11 14 rfl rfl)
theorem dX2_regatta_270 : decode cX2_regatta 270 = .ok (.iaload, 1) := dk_46 (dk_at dksX2_regatta_11 15 rfl rfl)
theorem dX2_regatta_271 : decode cX2_regatta 271 = .ok (.aload_n 0, 1) := dk_42 (dk_at dksX2_regatta_11 16 rfl rfl)
theorem dX2_regatta_272 : decode cX2_regatta 272 = .ok (.getfield 20, 3) := dk_180 0 20 (dk_at dksX2_regatta_11 17 rfl rfl)
theorem dX2_regatta_275 : decode cX2_regatta 275 = .ok (.bipush 19, 2) := dk_16 19 (dk_at dksX2_regatta_11 20 rfl rfl)
theorem dX2_regatta_277 : decode cX2_regatta 277 = .ok (.iconst 4, 1) := dk_7 (dk_at dksX2_regatta_11 22 rfl rfl)
theorem dX2_regatta_278 : decode cX2_regatta 278 = .ok (.iload_n 2, 1) := dk_28 (dk_at dksX2_regatta_11 23 rfl rfl)
theorem dX2_regatta_279 : decode cX2_regatta 279 = .ok (.imul, 1) := dk_104 (dk_at dksX2_regatta_12 0 rfl rfl)
theorem dX2_regatta_280 : decode cX2_regatta 280 = .ok (.iadd, 1) := dk_96 (dk_at dksX2_regatta_12 1 rfl rfl)
theorem dX2_regatta_281 : decode cX2_regatta 281 = .ok (.iconst 1, 1) := dk_4 (dk_at dksX2_regatta_12 2 rfl rfl)
theorem dX2_regatta_282 : decode cX2_regatta 282 = .ok (.iadd, 1) := dk_96 (dk_at dksX2_regatta_12 3 rfl rfl)
theorem dX2_regatta_283 : decode cX2_regatta 283 = .ok (.iaload, 1) := dk_46 (dk_at dksX2_regatta_12 4 rfl rfl)
theorem dX2_regatta_284 : decode cX2_regatta 284 = .ok (.iload_n 2, 1) := dk_28 (dk_at dksX2_regatta_12 5 rfl rfl)
theorem dX2_regatta_285 : decode cX2_regatta 285 = .ok (.ishl, 1) := dk_120 (dk_at dksX2_regatta_12 6 rfl rfl)
theorem dX2_regatta_286 : decode cX2_regatta 286 = .ok (.ior, 1) := dk_128 (dk_at dksX2_regatta_12 7 rfl rfl)
theorem dX2_regatta_287 : decode cX2_regatta 287 = .ok (.iastore, 1) := dk_79 (dk_at dksX2_regatta_12 8 rfl rfl)
theorem dX2_regatta_288 : decode cX2_regatta 288 = .ok (.iinc 2 1, 3) := dk_132 2 1 (dk_at dksX2_regatta_12 9 rfl rfl)
theorem dX2_regatta_291 : decode cX2_regatta 291 = .ok (.goto (-38), 3) := dk_167 255 218 (dk_at dksX2_regatta_12 12 rfl rfl)
theorem dX2_regatta_294 : decode cX2_regatta 294 = .ok (.aload_n 0, 1) := dk_42 (dk_at dksX2_regatta_12 15 rfl rfl)
theorem dX2_regatta_295 : decode cX2_regatta 295 = .ok (.getfield 26, 3) := dk_180 0 26 (dk_at dksX2_regatta_12 16 rfl rfl)
theorem dX2_regatta_298 : decode cX2_regatta 298 = .ok (.bipush 7, 2) := dk_16 7 (dk_at dksX2_regatta_12 19 rfl rfl)
theorem dX2_regatta_300 : decode cX2_regatta 300 = .ok (.aload_n 0, 1) := dk_42 (dk_at dksX2_regatta_12 21 rfl rfl)
theorem dX2_regatta_301 : decode cX2_regatta 301 = .ok (.getfield 20, 3) := dk_180 0 20 (dk_at dksX2_regatta_13 0 rfl rfl)
theorem dX2_regatta_304 : decode cX2_regatta 304 = .ok (.iconst 0, 1) := dk_3 (dk_at dksX2_regatta_13 3 rfl rfl)
theorem dX2_regatta_305 : decode cX2_regatta 305 = .ok (.iaload, 1) := dk_46 (dk_at dksX2_regatta_13 4 rfl rfl)
theorem dX2_regatta_306 : decode cX2_regatta 306 = .ok (.iastore, 1) := dk_79 (dk_at dksX2_regatta_13 5 rfl rfl)
theorem dX2_regatta_307 : decode cX2_regatta 307 = .ok (.aload_n 0, 1) := dk_42 (dk_at dksX2_regatta_13 6 rfl rfl)
theorem dX2_regatta_308 : decode cX2_regatta 308 = .ok (.iconst 1, 1) := dk_4 (dk_at dksX2_regatta_13 7 rfl rfl)
theorem dX2_regatta_309 : decode cX2_regatta 309 = .ok (.putfield 176, 3) := dk_181 0 176 (dk_at dksX2_regatta_13 8 rfl rfl)
theorem dX2_regatta_312 : decode cX2_regatta 312 = .ok (.aload_n 0, 1) := dk_42 (dk_at dksX2_regatta_13 11 rfl rfl)
theorem dX2_regatta_313 : decode cX2_regatta 313 = .ok (.iconst 0, 1) := dk_3 (dk_at dksX2_regatta_13 12 rfl rfl)
theorem dX2_regatta_314 : decode cX2_regatta 314 = .ok (.putfield 179, 3) := dk_181 0 179 (dk_at dksX2_regatta_13 13 rfl rfl)
theorem dX2_regatta_317 : decode cX2_regatta 317 = .ok (.aload_n 0, 1) := dk_42 (dk_at dksX2_regatta_13 16 rfl rfl)
theorem dX2_regatta_318 : decode cX2_regatta 318 = .ok (.iconst 0, 1) := dk_3 (dk_at dksX2_regatta_13 17 rfl rfl)
theorem dX2_regatta_319 : decode cX2_regatta 319 = .ok (.putfield 182, 3) := dk_181 0 182 (dk_at dksX2_regatta_13 18 rfl rfl)
theorem dX2_regatta_322 : decode cX2_regatta 322 = .ok (.aload_n 0, 1) := dk_42 (dk_at dksX2_regatta_13 21 rfl rfl)
theorem dX2_regatta_323 : decode cX2_regatta 323 = .ok (.getfield 20, 3) := dk_180 0 20 (dk_at dksX2_regatta_14 0 rfl rfl)
theorem dX2_regatta_326 : decode cX2_regatta 326 = .ok (.bipush 6, 2) := dk_16 6 (dk_at dksX2_regatta_14 3 rfl rfl)
theorem dX2_regatta_328 : decode cX2_regatta 328 = .ok (.iaload, 1) := dk_46 (dk_at dksX2_regatta_14 5 rfl rfl)
theorem dX2_regatta_329 : decode cX2_regatta 329 = .ok (.ireturn, 1) := dk_172 (dk_at dksX2_regatta_14 6 rfl rfl)
abbrev cX2_good : ByteArray := prog_15_method_3_code
def yX2_good : MethodName := ⟨RX2, "good", "()V"⟩
def dkwX2_good_0 : List UInt8 := [42, 3, 181, 0, 53, 42, 3, 181, 0, 56, 177]
abbrev dktX2_good_0 : List UInt8 := dkwX2_good_0 ++ []
theorem dksX2_good_0 : cX2_good.data.toList.drop 0 = dktX2_good_0 := by decide +kernel
theorem dX2_good_0 : decode cX2_good 0 = .ok (.aload_n 0, 1) := dk_42 (dk_at dksX2_good_0 0 rfl rfl)
theorem dX2_good_1 : decode cX2_good 1 = .ok (.iconst 0, 1) := dk_3 (dk_at dksX2_good_0 1 rfl rfl)
theorem dX2_good_2 : decode cX2_good 2 = .ok (.putfield 53, 3) := dk_181 0 53 (dk_at dksX2_good_0 2 rfl rfl)
theorem dX2_good_5 : decode cX2_good 5 = .ok (.aload_n 0, 1) := dk_42 (dk_at dksX2_good_0 5 rfl rfl)
theorem dX2_good_6 : decode cX2_good 6 = .ok (.iconst 0, 1) := dk_3 (dk_at dksX2_good_0 6 rfl rfl)
theorem dX2_good_7 : decode cX2_good 7 = .ok (.putfield 56, 3) := dk_181 0 56 (dk_at dksX2_good_0 7 rfl rfl)
theorem dX2_good_10 : decode cX2_good 10 = .ok (.return_, 1) := dk_177 (dk_at dksX2_good_0 10 rfl rfl)
abbrev cX2_in : ByteArray := prog_15_method_6_code
def yX2_in : MethodName := ⟨RX2, "in", "(III)Z"⟩
def dkwX2_in_0 : List UInt8 := [26, 27, 161, 0, 12, 26, 28, 163, 0, 7, 4, 167, 0, 4, 3, 172]
abbrev dktX2_in_0 : List UInt8 := dkwX2_in_0 ++ []
theorem dksX2_in_0 : cX2_in.data.toList.drop 0 = dktX2_in_0 := by decide +kernel
theorem dX2_in_0 : decode cX2_in 0 = .ok (.iload_n 0, 1) := dk_26 (dk_at dksX2_in_0 0 rfl rfl)
theorem dX2_in_1 : decode cX2_in 1 = .ok (.iload_n 1, 1) := dk_27 (dk_at dksX2_in_0 1 rfl rfl)
theorem dX2_in_2 : decode cX2_in 2 = .ok (.if_icmp .lt 12, 3) := dk_161 0 12 (dk_at dksX2_in_0 2 rfl rfl)
theorem dX2_in_5 : decode cX2_in 5 = .ok (.iload_n 0, 1) := dk_26 (dk_at dksX2_in_0 5 rfl rfl)
theorem dX2_in_6 : decode cX2_in 6 = .ok (.iload_n 2, 1) := dk_28 (dk_at dksX2_in_0 6 rfl rfl)
theorem dX2_in_7 : decode cX2_in 7 = .ok (.if_icmp .gt 7, 3) := dk_163 0 7 (dk_at dksX2_in_0 7 rfl rfl)
theorem dX2_in_10 : decode cX2_in 10 = .ok (.iconst 1, 1) := dk_4 (dk_at dksX2_in_0 10 rfl rfl)
theorem dX2_in_11 : decode cX2_in 11 = .ok (.goto 4, 3) := dk_167 0 4 (dk_at dksX2_in_0 11 rfl rfl)
theorem dX2_in_14 : decode cX2_in 14 = .ok (.iconst 0, 1) := dk_3 (dk_at dksX2_in_0 14 rfl rfl)
theorem dX2_in_15 : decode cX2_in 15 = .ok (.ireturn, 1) := dk_172 (dk_at dksX2_in_0 15 rfl rfl)
abbrev cX2_no : ByteArray := prog_15_method_4_code
def yX2_no : MethodName := ⟨RX2, "no", "(I)I"⟩
def dkwX2_no_0 : List UInt8 := [42, 27, 181, 0, 56, 2, 172]
abbrev dktX2_no_0 : List UInt8 := dkwX2_no_0 ++ []
theorem dksX2_no_0 : cX2_no.data.toList.drop 0 = dktX2_no_0 := by decide +kernel
theorem dX2_no_0 : decode cX2_no 0 = .ok (.aload_n 0, 1) := dk_42 (dk_at dksX2_no_0 0 rfl rfl)
theorem dX2_no_1 : decode cX2_no 1 = .ok (.iload_n 1, 1) := dk_27 (dk_at dksX2_no_0 1 rfl rfl)
theorem dX2_no_2 : decode cX2_no 2 = .ok (.putfield 56, 3) := dk_181 0 56 (dk_at dksX2_no_0 2 rfl rfl)
theorem dX2_no_5 : decode cX2_no 5 = .ok (.iconst (-1), 1) := dk_2 (dk_at dksX2_no_0 5 rfl rfl)
theorem dX2_no_6 : decode cX2_no 6 = .ok (.ireturn, 1) := dk_172 (dk_at dksX2_no_0 6 rfl rfl)
abbrev cX2_next : ByteArray := prog_15_method_15_code
def yX2_next : MethodName := ⟨RX2, "next", "()V"⟩
def dkwX2_next_10 : List UInt8 := [160, 0, 7, 28, 167, 0, 4, 4, 181, 0, 81, 177]
abbrev dktX2_next_10 : List UInt8 := dkwX2_next_10 ++ []
def dkwX2_next_9 : List UInt8 := [4, 167, 0, 4, 6, 181, 0, 81, 167, 0, 25, 42, 27, 4, 96, 181, 0, 65, 42, 28, 16, 59]
abbrev dktX2_next_9 : List UInt8 := dkwX2_next_9 ++ dktX2_next_10
def dkwX2_next_8 : List UInt8 := [100, 181, 0, 78, 132, 3, 1, 132, 1, 1, 167, 255, 214, 42, 27, 181, 0, 65, 42, 29, 6, 164, 0, 7]
abbrev dktX2_next_8 : List UInt8 := dkwX2_next_8 ++ dktX2_next_9
def dkwX2_next_7 : List UInt8 := [153, 0, 37, 29, 6, 162, 0, 23, 42, 16, 10, 42, 180, 0, 78, 104, 42, 27, 182, 0, 68, 96, 16, 48]
abbrev dktX2_next_7 : List UInt8 := dkwX2_next_7 ++ dktX2_next_8
def dkwX2_next_6 : List UInt8 := [181, 0, 81, 167, 0, 101, 28, 184, 0, 88, 153, 0, 72, 3, 62, 42, 27, 182, 0, 68, 184, 0, 88]
abbrev dktX2_next_6 : List UInt8 := dkwX2_next_6 ++ dktX2_next_7
def dkwX2_next_5 : List UInt8 := [167, 255, 209, 42, 27, 181, 0, 65, 42, 42, 180, 0, 75, 16, 8, 164, 0, 7, 4, 167, 0, 4, 5]
abbrev dktX2_next_5 : List UInt8 := dkwX2_next_5 ++ dktX2_next_6
def dkwX2_next_4 : List UInt8 := [180, 0, 75, 42, 27, 182, 0, 68, 79, 42, 89, 180, 0, 75, 4, 96, 181, 0, 75, 132, 1, 1]
abbrev dktX2_next_4 : List UInt8 := dkwX2_next_4 ++ dktX2_next_5
def dkwX2_next_3 : List UInt8 := [182, 0, 68, 184, 0, 84, 153, 0, 42, 42, 180, 0, 75, 16, 8, 162, 0, 17, 42, 180, 0, 17, 42]
abbrev dktX2_next_3 : List UInt8 := dkwX2_next_3 ++ dktX2_next_4
def dkwX2_next_2 : List UInt8 := [42, 3, 181, 0, 81, 42, 27, 181, 0, 65, 167, 0, 184, 28, 184, 0, 84, 153, 0, 79, 42, 27]
abbrev dktX2_next_2 : List UInt8 := dkwX2_next_2 ++ dktX2_next_3
def dkwX2_next_1 : List UInt8 := [181, 0, 72, 42, 27, 182, 0, 68, 61, 42, 3, 181, 0, 75, 42, 3, 181, 0, 78, 28, 2, 160, 0, 16]
abbrev dktX2_next_1 : List UInt8 := dkwX2_next_1 ++ dktX2_next_2
def dkwX2_next_0 : List UInt8 := [42, 180, 0, 65, 60, 42, 27, 182, 0, 68, 16, 32, 160, 0, 9, 132, 1, 1, 167, 255, 243, 42, 27]
abbrev dktX2_next_0 : List UInt8 := dkwX2_next_0 ++ dktX2_next_1
theorem dksX2_next_0 : cX2_next.data.toList.drop 0 = dktX2_next_0 := by decide +kernel
theorem dksX2_next_1 : cX2_next.data.toList.drop 23 = dktX2_next_1 := dk_seg dksX2_next_0 23 rfl rfl
theorem dksX2_next_2 : cX2_next.data.toList.drop 47 = dktX2_next_2 := dk_seg dksX2_next_1 24 rfl rfl
theorem dksX2_next_3 : cX2_next.data.toList.drop 69 = dktX2_next_3 := dk_seg dksX2_next_2 22 rfl rfl
theorem dksX2_next_4 : cX2_next.data.toList.drop 92 = dktX2_next_4 := dk_seg dksX2_next_3 23 rfl rfl
theorem dksX2_next_5 : cX2_next.data.toList.drop 114 = dktX2_next_5 := dk_seg dksX2_next_4 22 rfl rfl
theorem dksX2_next_6 : cX2_next.data.toList.drop 137 = dktX2_next_6 := dk_seg dksX2_next_5 23 rfl rfl
theorem dksX2_next_7 : cX2_next.data.toList.drop 160 = dktX2_next_7 := dk_seg dksX2_next_6 23 rfl rfl
theorem dksX2_next_8 : cX2_next.data.toList.drop 184 = dktX2_next_8 := dk_seg dksX2_next_7 24 rfl rfl
theorem dksX2_next_9 : cX2_next.data.toList.drop 208 = dktX2_next_9 := dk_seg dksX2_next_8 24 rfl rfl
theorem dksX2_next_10 : cX2_next.data.toList.drop 230 = dktX2_next_10 := dk_seg dksX2_next_9 22 rfl rfl
theorem dX2_next_0 : decode cX2_next 0 = .ok (.aload_n 0, 1) := dk_42 (dk_at dksX2_next_0 0 rfl rfl)
theorem dX2_next_1 : decode cX2_next 1 = .ok (.getfield 65, 3) := dk_180 0 65 (dk_at dksX2_next_0 1 rfl rfl)
theorem dX2_next_4 : decode cX2_next 4 = .ok (.istore_n 1, 1) := dk_60 (dk_at dksX2_next_0 4 rfl rfl)
theorem dX2_next_5 : decode cX2_next 5 = .ok (.aload_n 0, 1) := dk_42 (dk_at dksX2_next_0 5 rfl rfl)
theorem dX2_next_6 : decode cX2_next 6 = .ok (.iload_n 1, 1) := dk_27 (dk_at dksX2_next_0 6 rfl rfl)
theorem dX2_next_7 : decode cX2_next 7 = .ok (.invokevirtual 68, 3) := dk_182 0 68 (dk_at dksX2_next_0 7 rfl rfl)
theorem dX2_next_10 : decode cX2_next 10 = .ok (.bipush 32, 2) := dk_16 32 (dk_at dksX2_next_0 10 rfl rfl)
theorem dX2_next_12 : decode cX2_next 12 = .ok (.if_icmp .ne 9, 3) := dk_160 0 9 (dk_at dksX2_next_0 12 rfl rfl)
theorem dX2_next_15 : decode cX2_next 15 = .ok (.iinc 1 1, 3) := dk_132 1 1 (dk_at dksX2_next_0 15 rfl rfl)
theorem dX2_next_18 : decode cX2_next 18 = .ok (.goto (-13), 3) := dk_167 255 243 (dk_at dksX2_next_0 18 rfl rfl)
theorem dX2_next_21 : decode cX2_next 21 = .ok (.aload_n 0, 1) := dk_42 (dk_at dksX2_next_0 21 rfl rfl)
theorem dX2_next_22 : decode cX2_next 22 = .ok (.iload_n 1, 1) := dk_27 (dk_at dksX2_next_0 22 rfl rfl)
theorem dX2_next_23 : decode cX2_next 23 = .ok (.putfield 72, 3) := dk_181 0 72 (dk_at dksX2_next_1 0 rfl rfl)
theorem dX2_next_26 : decode cX2_next 26 = .ok (.aload_n 0, 1) := dk_42 (dk_at dksX2_next_1 3 rfl rfl)
theorem dX2_next_27 : decode cX2_next 27 = .ok (.iload_n 1, 1) := dk_27 (dk_at dksX2_next_1 4 rfl rfl)
theorem dX2_next_28 : decode cX2_next 28 = .ok (.invokevirtual 68, 3) := dk_182 0 68 (dk_at dksX2_next_1 5 rfl rfl)
theorem dX2_next_31 : decode cX2_next 31 = .ok (.istore_n 2, 1) := dk_61 (dk_at dksX2_next_1 8 rfl rfl)
theorem dX2_next_32 : decode cX2_next 32 = .ok (.aload_n 0, 1) := dk_42 (dk_at dksX2_next_1 9 rfl rfl)
theorem dX2_next_33 : decode cX2_next 33 = .ok (.iconst 0, 1) := dk_3 (dk_at dksX2_next_1 10 rfl rfl)
theorem dX2_next_34 : decode cX2_next 34 = .ok (.putfield 75, 3) := dk_181 0 75 (dk_at dksX2_next_1 11 rfl rfl)
theorem dX2_next_37 : decode cX2_next 37 = .ok (.aload_n 0, 1) := dk_42 (dk_at dksX2_next_1 14 rfl rfl)
theorem dX2_next_38 : decode cX2_next 38 = .ok (.iconst 0, 1) := dk_3 (dk_at dksX2_next_1 15 rfl rfl)
theorem dX2_next_39 : decode cX2_next 39 = .ok (.putfield 78, 3) := dk_181 0 78 (dk_at dksX2_next_1 16 rfl rfl)
theorem dX2_next_42 : decode cX2_next 42 = .ok (.iload_n 2, 1) := dk_28 (dk_at dksX2_next_1 19 rfl rfl)
theorem dX2_next_43 : decode cX2_next 43 = .ok (.iconst (-1), 1) := dk_2 (dk_at dksX2_next_1 20 rfl rfl)
theorem dX2_next_44 : decode cX2_next 44 = .ok (.if_icmp .ne 16, 3) := dk_160 0 16 (dk_at dksX2_next_1 21 rfl rfl)
theorem dX2_next_47 : decode cX2_next 47 = .ok (.aload_n 0, 1) := dk_42 (dk_at dksX2_next_2 0 rfl rfl)
theorem dX2_next_48 : decode cX2_next 48 = .ok (.iconst 0, 1) := dk_3 (dk_at dksX2_next_2 1 rfl rfl)
theorem dX2_next_49 : decode cX2_next 49 = .ok (.putfield 81, 3) := dk_181 0 81 (dk_at dksX2_next_2 2 rfl rfl)
theorem dX2_next_52 : decode cX2_next 52 = .ok (.aload_n 0, 1) := dk_42 (dk_at dksX2_next_2 5 rfl rfl)
theorem dX2_next_53 : decode cX2_next 53 = .ok (.iload_n 1, 1) := dk_27 (dk_at dksX2_next_2 6 rfl rfl)
theorem dX2_next_54 : decode cX2_next 54 = .ok (.putfield 65, 3) := dk_181 0 65 (dk_at dksX2_next_2 7 rfl rfl)
theorem dX2_next_57 : decode cX2_next 57 = .ok (.goto 184, 3) := dk_167 0 184 (dk_at dksX2_next_2 10 rfl rfl)
theorem dX2_next_60 : decode cX2_next 60 = .ok (.iload_n 2, 1) := dk_28 (dk_at dksX2_next_2 13 rfl rfl)
theorem dX2_next_61 : decode cX2_next 61 = .ok (.invokestatic 84, 3) := dk_184 0 84 (dk_at dksX2_next_2 14 rfl rfl)
theorem dX2_next_64 : decode cX2_next 64 = .ok (.ifCond .eq 79, 3) := dk_153 0 79 (dk_at dksX2_next_2 17 rfl rfl)
theorem dX2_next_67 : decode cX2_next 67 = .ok (.aload_n 0, 1) := dk_42 (dk_at dksX2_next_2 20 rfl rfl)
theorem dX2_next_68 : decode cX2_next 68 = .ok (.iload_n 1, 1) := dk_27 (dk_at dksX2_next_2 21 rfl rfl)
theorem dX2_next_69 : decode cX2_next 69 = .ok (.invokevirtual 68, 3) := dk_182 0 68 (dk_at dksX2_next_3 0 rfl rfl)
theorem dX2_next_72 : decode cX2_next 72 = .ok (.invokestatic 84, 3) := dk_184 0 84 (dk_at dksX2_next_3 3 rfl rfl)
theorem dX2_next_75 : decode cX2_next 75 = .ok (.ifCond .eq 42, 3) := dk_153 0 42 (dk_at dksX2_next_3 6 rfl rfl)
theorem dX2_next_78 : decode cX2_next 78 = .ok (.aload_n 0, 1) := dk_42 (dk_at dksX2_next_3 9 rfl rfl)
theorem dX2_next_79 : decode cX2_next 79 = .ok (.getfield 75, 3) := dk_180 0 75 (dk_at dksX2_next_3 10 rfl rfl)
theorem dX2_next_82 : decode cX2_next 82 = .ok (.bipush 8, 2) := dk_16 8 (dk_at dksX2_next_3 13 rfl rfl)
theorem dX2_next_84 : decode cX2_next 84 = .ok (.if_icmp .ge 17, 3) := dk_162 0 17 (dk_at dksX2_next_3 15 rfl rfl)
theorem dX2_next_87 : decode cX2_next 87 = .ok (.aload_n 0, 1) := dk_42 (dk_at dksX2_next_3 18 rfl rfl)
theorem dX2_next_88 : decode cX2_next 88 = .ok (.getfield 17, 3) := dk_180 0 17 (dk_at dksX2_next_3 19 rfl rfl)
theorem dX2_next_91 : decode cX2_next 91 = .ok (.aload_n 0, 1) := dk_42 (dk_at dksX2_next_3 22 rfl rfl)
theorem dX2_next_92 : decode cX2_next 92 = .ok (.getfield 75, 3) := dk_180 0 75 (dk_at dksX2_next_4 0 rfl rfl)
theorem dX2_next_95 : decode cX2_next 95 = .ok (.aload_n 0, 1) := dk_42 (dk_at dksX2_next_4 3 rfl rfl)
theorem dX2_next_96 : decode cX2_next 96 = .ok (.iload_n 1, 1) := dk_27 (dk_at dksX2_next_4 4 rfl rfl)
theorem dX2_next_97 : decode cX2_next 97 = .ok (.invokevirtual 68, 3) := dk_182 0 68 (dk_at dksX2_next_4 5 rfl rfl)
theorem dX2_next_100 : decode cX2_next 100 = .ok (.iastore, 1) := dk_79 (dk_at dksX2_next_4 8 rfl rfl)
theorem dX2_next_101 : decode cX2_next 101 = .ok (.aload_n 0, 1) := dk_42 (dk_at dksX2_next_4 9 rfl rfl)
theorem dX2_next_102 : decode cX2_next 102 = .ok (.dup, 1) := dk_89 (dk_at dksX2_next_4 10 rfl rfl)
theorem dX2_next_103 : decode cX2_next 103 = .ok (.getfield 75, 3) := dk_180 0 75 (dk_at dksX2_next_4 11 rfl rfl)
theorem dX2_next_106 : decode cX2_next 106 = .ok (.iconst 1, 1) := dk_4 (dk_at dksX2_next_4 14 rfl rfl)
theorem dX2_next_107 : decode cX2_next 107 = .ok (.iadd, 1) := dk_96 (dk_at dksX2_next_4 15 rfl rfl)
theorem dX2_next_108 : decode cX2_next 108 = .ok (.putfield 75, 3) := dk_181 0 75 (dk_at dksX2_next_4 16 rfl rfl)
theorem dX2_next_111 : decode cX2_next 111 = .ok (.iinc 1 1, 3) := dk_132 1 1 (dk_at dksX2_next_4 19 rfl rfl)
theorem dX2_next_114 : decode cX2_next 114 = .ok (.goto (-47), 3) := dk_167 255 209 (dk_at dksX2_next_5 0 rfl rfl)
theorem dX2_next_117 : decode cX2_next 117 = .ok (.aload_n 0, 1) := dk_42 (dk_at dksX2_next_5 3 rfl rfl)
theorem dX2_next_118 : decode cX2_next 118 = .ok (.iload_n 1, 1) := dk_27 (dk_at dksX2_next_5 4 rfl rfl)
theorem dX2_next_119 : decode cX2_next 119 = .ok (.putfield 65, 3) := dk_181 0 65 (dk_at dksX2_next_5 5 rfl rfl)
theorem dX2_next_122 : decode cX2_next 122 = .ok (.aload_n 0, 1) := dk_42 (dk_at dksX2_next_5 8 rfl rfl)
theorem dX2_next_123 : decode cX2_next 123 = .ok (.aload_n 0, 1) := dk_42 (dk_at dksX2_next_5 9 rfl rfl)
theorem dX2_next_124 : decode cX2_next 124 = .ok (.getfield 75, 3) := dk_180 0 75 (dk_at dksX2_next_5 10 rfl rfl)
theorem dX2_next_127 : decode cX2_next 127 = .ok (.bipush 8, 2) := dk_16 8 (dk_at dksX2_next_5 13 rfl rfl)
theorem dX2_next_129 : decode cX2_next 129 = .ok (.if_icmp .le 7, 3) := dk_164 0 7 (dk_at dksX2_next_5 15 rfl rfl)
theorem dX2_next_132 : decode cX2_next 132 = .ok (.iconst 1, 1) := dk_4 (dk_at dksX2_next_5 18 rfl rfl)
theorem dX2_next_133 : decode cX2_next 133 = .ok (.goto 4, 3) := dk_167 0 4 (dk_at dksX2_next_5 19 rfl rfl)
theorem dX2_next_136 : decode cX2_next 136 = .ok (.iconst 2, 1) := dk_5 (dk_at dksX2_next_5 22 rfl rfl)
theorem dX2_next_137 : decode cX2_next 137 = .ok (.putfield 81, 3) := dk_181 0 81 (dk_at dksX2_next_6 0 rfl rfl)
theorem dX2_next_140 : decode cX2_next 140 = .ok (.goto 101, 3) := dk_167 0 101 (dk_at dksX2_next_6 3 rfl rfl)
theorem dX2_next_143 : decode cX2_next 143 = .ok (.iload_n 2, 1) := dk_28 (dk_at dksX2_next_6 6 rfl rfl)
theorem dX2_next_144 : decode cX2_next 144 = .ok (.invokestatic 88, 3) := dk_184 0 88 (dk_at dksX2_next_6 7 rfl rfl)
theorem dX2_next_147 : decode cX2_next 147 = .ok (.ifCond .eq 72, 3) := dk_153 0 72 (dk_at dksX2_next_6 10 rfl rfl)
theorem dX2_next_150 : decode cX2_next 150 = .ok (.iconst 0, 1) := dk_3 (dk_at dksX2_next_6 13 rfl rfl)
theorem dX2_next_151 : decode cX2_next 151 = .ok (.istore_n 3, 1) := dk_62 (dk_at dksX2_next_6 14 rfl rfl)
theorem dX2_next_152 : decode cX2_next 152 = .ok (.aload_n 0, 1) := dk_42 (dk_at dksX2_next_6 15 rfl rfl)
theorem dX2_next_153 : decode cX2_next 153 = .ok (.iload_n 1, 1) := dk_27 (dk_at dksX2_next_6 16 rfl rfl)
theorem dX2_next_154 : decode cX2_next 154 = .ok (.invokevirtual 68, 3) := dk_182 0 68 (dk_at dksX2_next_6 17 rfl rfl)
theorem dX2_next_157 : decode cX2_next 157 = .ok (.invokestatic 88, 3) := dk_184 0 88 (dk_at dksX2_next_6 20 rfl rfl)
theorem dX2_next_160 : decode cX2_next 160 = .ok (.ifCond .eq 37, 3) := dk_153 0 37 (dk_at dksX2_next_7 0 rfl rfl)
theorem dX2_next_163 : decode cX2_next 163 = .ok (.iload_n 3, 1) := dk_29 (dk_at dksX2_next_7 3 rfl rfl)
theorem dX2_next_164 : decode cX2_next 164 = .ok (.iconst 3, 1) := dk_6 (dk_at dksX2_next_7 4 rfl rfl)
theorem dX2_next_165 : decode cX2_next 165 = .ok (.if_icmp .ge 23, 3) := dk_162 0 23 (dk_at dksX2_next_7 5 rfl rfl)
theorem dX2_next_168 : decode cX2_next 168 = .ok (.aload_n 0, 1) := dk_42 (dk_at dksX2_next_7 8 rfl rfl)
theorem dX2_next_169 : decode cX2_next 169 = .ok (.bipush 10, 2) := dk_16 10 (dk_at dksX2_next_7 9 rfl rfl)
theorem dX2_next_171 : decode cX2_next 171 = .ok (.aload_n 0, 1) := dk_42 (dk_at dksX2_next_7 11 rfl rfl)
theorem dX2_next_172 : decode cX2_next 172 = .ok (.getfield 78, 3) := dk_180 0 78 (dk_at dksX2_next_7 12 rfl rfl)
theorem dX2_next_175 : decode cX2_next 175 = .ok (.imul, 1) := dk_104 (dk_at dksX2_next_7 15 rfl rfl)
theorem dX2_next_176 : decode cX2_next 176 = .ok (.aload_n 0, 1) := dk_42 (dk_at dksX2_next_7 16 rfl rfl)
theorem dX2_next_177 : decode cX2_next 177 = .ok (.iload_n 1, 1) := dk_27 (dk_at dksX2_next_7 17 rfl rfl)
theorem dX2_next_178 : decode cX2_next 178 = .ok (.invokevirtual 68, 3) := dk_182 0 68 (dk_at dksX2_next_7 18 rfl rfl)
theorem dX2_next_181 : decode cX2_next 181 = .ok (.iadd, 1) := dk_96 (dk_at dksX2_next_7 21 rfl rfl)
theorem dX2_next_182 : decode cX2_next 182 = .ok (.bipush 48, 2) := dk_16 48 (dk_at dksX2_next_7 22 rfl rfl)
theorem dX2_next_184 : decode cX2_next 184 = .ok (.isub, 1) := dk_100 (dk_at dksX2_next_8 0 rfl rfl)
theorem dX2_next_185 : decode cX2_next 185 = .ok (.putfield 78, 3) := dk_181 0 78 (dk_at dksX2_next_8 1 rfl rfl)
theorem dX2_next_188 : decode cX2_next 188 = .ok (.iinc 3 1, 3) := dk_132 3 1 (dk_at dksX2_next_8 4 rfl rfl)
theorem dX2_next_191 : decode cX2_next 191 = .ok (.iinc 1 1, 3) := dk_132 1 1 (dk_at dksX2_next_8 7 rfl rfl)
theorem dX2_next_194 : decode cX2_next 194 = .ok (.goto (-42), 3) := dk_167 255 214 (dk_at dksX2_next_8 10 rfl rfl)
theorem dX2_next_197 : decode cX2_next 197 = .ok (.aload_n 0, 1) := dk_42 (dk_at dksX2_next_8 13 rfl rfl)
theorem dX2_next_198 : decode cX2_next 198 = .ok (.iload_n 1, 1) := dk_27 (dk_at dksX2_next_8 14 rfl rfl)
theorem dX2_next_199 : decode cX2_next 199 = .ok (.putfield 65, 3) := dk_181 0 65 (dk_at dksX2_next_8 15 rfl rfl)
theorem dX2_next_202 : decode cX2_next 202 = .ok (.aload_n 0, 1) := dk_42 (dk_at dksX2_next_8 18 rfl rfl)
theorem dX2_next_203 : decode cX2_next 203 = .ok (.iload_n 3, 1) := dk_29 (dk_at dksX2_next_8 19 rfl rfl)
theorem dX2_next_204 : decode cX2_next 204 = .ok (.iconst 3, 1) := dk_6 (dk_at dksX2_next_8 20 rfl rfl)
theorem dX2_next_205 : decode cX2_next 205 = .ok (.if_icmp .le 7, 3) := dk_164 0 7 (dk_at dksX2_next_8 21 rfl rfl)
theorem dX2_next_208 : decode cX2_next 208 = .ok (.iconst 1, 1) := dk_4 (dk_at dksX2_next_9 0 rfl rfl)
theorem dX2_next_209 : decode cX2_next 209 = .ok (.goto 4, 3) := dk_167 0 4 (dk_at dksX2_next_9 1 rfl rfl)
theorem dX2_next_212 : decode cX2_next 212 = .ok (.iconst 3, 1) := dk_6 (dk_at dksX2_next_9 4 rfl rfl)
theorem dX2_next_213 : decode cX2_next 213 = .ok (.putfield 81, 3) := dk_181 0 81 (dk_at dksX2_next_9 5 rfl rfl)
theorem dX2_next_216 : decode cX2_next 216 = .ok (.goto 25, 3) := dk_167 0 25 (dk_at dksX2_next_9 8 rfl rfl)
theorem dX2_next_219 : decode cX2_next 219 = .ok (.aload_n 0, 1) := dk_42 (dk_at dksX2_next_9 11 rfl rfl)
theorem dX2_next_220 : decode cX2_next 220 = .ok (.iload_n 1, 1) := dk_27 (dk_at dksX2_next_9 12 rfl rfl)
theorem dX2_next_221 : decode cX2_next 221 = .ok (.iconst 1, 1) := dk_4 (dk_at dksX2_next_9 13 rfl rfl)
theorem dX2_next_222 : decode cX2_next 222 = .ok (.iadd, 1) := dk_96 (dk_at dksX2_next_9 14 rfl rfl)
theorem dX2_next_223 : decode cX2_next 223 = .ok (.putfield 65, 3) := dk_181 0 65 (dk_at dksX2_next_9 15 rfl rfl)
theorem dX2_next_226 : decode cX2_next 226 = .ok (.aload_n 0, 1) := dk_42 (dk_at dksX2_next_9 18 rfl rfl)
theorem dX2_next_227 : decode cX2_next 227 = .ok (.iload_n 2, 1) := dk_28 (dk_at dksX2_next_9 19 rfl rfl)
theorem dX2_next_228 : decode cX2_next 228 = .ok (.bipush 59, 2) := dk_16 59 (dk_at dksX2_next_9 20 rfl rfl)
theorem dX2_next_230 : decode cX2_next 230 = .ok (.if_icmp .ne 7, 3) := dk_160 0 7 (dk_at dksX2_next_10 0 rfl rfl)
theorem dX2_next_233 : decode cX2_next 233 = .ok (.iload_n 2, 1) := dk_28 (dk_at dksX2_next_10 3 rfl rfl)
theorem dX2_next_234 : decode cX2_next 234 = .ok (.goto 4, 3) := dk_167 0 4 (dk_at dksX2_next_10 4 rfl rfl)
theorem dX2_next_237 : decode cX2_next 237 = .ok (.iconst 1, 1) := dk_4 (dk_at dksX2_next_10 7 rfl rfl)
theorem dX2_next_238 : decode cX2_next 238 = .ok (.putfield 81, 3) := dk_181 0 81 (dk_at dksX2_next_10 8 rfl rfl)
theorem dX2_next_241 : decode cX2_next 241 = .ok (.return_, 1) := dk_177 (dk_at dksX2_next_10 11 rfl rfl)
abbrev cX2_see : ByteArray := prog_15_method_12_code
def yX2_see : MethodName := ⟨RX2, "see", "(I)I"⟩
def dkwX2_see_0 : List UInt8 := [27, 42, 180, 0, 62, 162, 0, 12, 42, 180, 0, 7, 27, 46, 167, 0, 4, 2, 172]
abbrev dktX2_see_0 : List UInt8 := dkwX2_see_0 ++ []
theorem dksX2_see_0 : cX2_see.data.toList.drop 0 = dktX2_see_0 := by decide +kernel
theorem dX2_see_0 : decode cX2_see 0 = .ok (.iload_n 1, 1) := dk_27 (dk_at dksX2_see_0 0 rfl rfl)
theorem dX2_see_1 : decode cX2_see 1 = .ok (.aload_n 0, 1) := dk_42 (dk_at dksX2_see_0 1 rfl rfl)
theorem dX2_see_2 : decode cX2_see 2 = .ok (.getfield 62, 3) := dk_180 0 62 (dk_at dksX2_see_0 2 rfl rfl)
theorem dX2_see_5 : decode cX2_see 5 = .ok (.if_icmp .ge 12, 3) := dk_162 0 12 (dk_at dksX2_see_0 5 rfl rfl)
theorem dX2_see_8 : decode cX2_see 8 = .ok (.aload_n 0, 1) := dk_42 (dk_at dksX2_see_0 8 rfl rfl)
theorem dX2_see_9 : decode cX2_see 9 = .ok (.getfield 7, 3) := dk_180 0 7 (dk_at dksX2_see_0 9 rfl rfl)
theorem dX2_see_12 : decode cX2_see 12 = .ok (.iload_n 1, 1) := dk_27 (dk_at dksX2_see_0 12 rfl rfl)
theorem dX2_see_13 : decode cX2_see 13 = .ok (.iaload, 1) := dk_46 (dk_at dksX2_see_0 13 rfl rfl)
theorem dX2_see_14 : decode cX2_see 14 = .ok (.goto 4, 3) := dk_167 0 4 (dk_at dksX2_see_0 14 rfl rfl)
theorem dX2_see_17 : decode cX2_see 17 = .ok (.iconst (-1), 1) := dk_2 (dk_at dksX2_see_0 17 rfl rfl)
theorem dX2_see_18 : decode cX2_see 18 = .ok (.ireturn, 1) := dk_172 (dk_at dksX2_see_0 18 rfl rfl)
abbrev cX2_isSmall : ByteArray := prog_15_method_13_code
def yX2_isSmall : MethodName := ⟨RX2, "isSmall", "(I)Z"⟩
def dkwX2_isSmall_0 : List UInt8 := [26, 16, 97, 161, 0, 13, 26, 16, 122, 163, 0, 7, 4, 167, 0, 4, 3, 172]
abbrev dktX2_isSmall_0 : List UInt8 := dkwX2_isSmall_0 ++ []
theorem dksX2_isSmall_0 : cX2_isSmall.data.toList.drop 0 = dktX2_isSmall_0 := by decide +kernel
theorem dX2_isSmall_0 : decode cX2_isSmall 0 = .ok (.iload_n 0, 1) := dk_26 (dk_at dksX2_isSmall_0 0 rfl rfl)
theorem dX2_isSmall_1 : decode cX2_isSmall 1 = .ok (.bipush 97, 2) := dk_16 97 (dk_at dksX2_isSmall_0 1 rfl rfl)
theorem dX2_isSmall_3 : decode cX2_isSmall 3 = .ok (.if_icmp .lt 13, 3) := dk_161 0 13 (dk_at dksX2_isSmall_0 3 rfl rfl)
theorem dX2_isSmall_6 : decode cX2_isSmall 6 = .ok (.iload_n 0, 1) := dk_26 (dk_at dksX2_isSmall_0 6 rfl rfl)
theorem dX2_isSmall_7 : decode cX2_isSmall 7 = .ok (.bipush 122, 2) := dk_16 122 (dk_at dksX2_isSmall_0 7 rfl rfl)
theorem dX2_isSmall_9 : decode cX2_isSmall 9 = .ok (.if_icmp .gt 7, 3) := dk_163 0 7 (dk_at dksX2_isSmall_0 9 rfl rfl)
theorem dX2_isSmall_12 : decode cX2_isSmall 12 = .ok (.iconst 1, 1) := dk_4 (dk_at dksX2_isSmall_0 12 rfl rfl)
theorem dX2_isSmall_13 : decode cX2_isSmall 13 = .ok (.goto 4, 3) := dk_167 0 4 (dk_at dksX2_isSmall_0 13 rfl rfl)
theorem dX2_isSmall_16 : decode cX2_isSmall 16 = .ok (.iconst 0, 1) := dk_3 (dk_at dksX2_isSmall_0 16 rfl rfl)
theorem dX2_isSmall_17 : decode cX2_isSmall 17 = .ok (.ireturn, 1) := dk_172 (dk_at dksX2_isSmall_0 17 rfl rfl)
abbrev cX2_isDigit : ByteArray := prog_15_method_14_code
def yX2_isDigit : MethodName := ⟨RX2, "isDigit", "(I)Z"⟩
def dkwX2_isDigit_0 : List UInt8 := [26, 16, 48, 161, 0, 13, 26, 16, 57, 163, 0, 7, 4, 167, 0, 4, 3, 172]
abbrev dktX2_isDigit_0 : List UInt8 := dkwX2_isDigit_0 ++ []
theorem dksX2_isDigit_0 : cX2_isDigit.data.toList.drop 0 = dktX2_isDigit_0 := by decide +kernel
theorem dX2_isDigit_0 : decode cX2_isDigit 0 = .ok (.iload_n 0, 1) := dk_26 (dk_at dksX2_isDigit_0 0 rfl rfl)
theorem dX2_isDigit_1 : decode cX2_isDigit 1 = .ok (.bipush 48, 2) := dk_16 48 (dk_at dksX2_isDigit_0 1 rfl rfl)
theorem dX2_isDigit_3 : decode cX2_isDigit 3 = .ok (.if_icmp .lt 13, 3) := dk_161 0 13 (dk_at dksX2_isDigit_0 3 rfl rfl)
theorem dX2_isDigit_6 : decode cX2_isDigit 6 = .ok (.iload_n 0, 1) := dk_26 (dk_at dksX2_isDigit_0 6 rfl rfl)
theorem dX2_isDigit_7 : decode cX2_isDigit 7 = .ok (.bipush 57, 2) := dk_16 57 (dk_at dksX2_isDigit_0 7 rfl rfl)
theorem dX2_isDigit_9 : decode cX2_isDigit 9 = .ok (.if_icmp .gt 7, 3) := dk_163 0 7 (dk_at dksX2_isDigit_0 9 rfl rfl)
theorem dX2_isDigit_12 : decode cX2_isDigit 12 = .ok (.iconst 1, 1) := dk_4 (dk_at dksX2_isDigit_0 12 rfl rfl)
theorem dX2_isDigit_13 : decode cX2_isDigit 13 = .ok (.goto 4, 3) := dk_167 0 4 (dk_at dksX2_isDigit_0 13 rfl rfl)
theorem dX2_isDigit_16 : decode cX2_isDigit 16 = .ok (.iconst 0, 1) := dk_3 (dk_at dksX2_isDigit_0 16 rfl rfl)
theorem dX2_isDigit_17 : decode cX2_isDigit 17 = .ok (.ireturn, 1) := dk_172 (dk_at dksX2_isDigit_0 17 rfl rfl)
abbrev cX2_readLine : ByteArray := prog_15_method_32_code
def yX2_readLine : MethodName := ⟨RX2, "readLine", "()V"⟩
def dkwX2_readLine_9 : List UInt8 := [3, 182, 0, 188, 153, 0, 10, 42, 182, 0, 210, 167, 0, 12, 42, 4, 42, 180, 0, 72, 182, 0, 118, 177]
abbrev dktX2_readLine_9 : List UInt8 := dkwX2_readLine_9 ++ []
def dkwX2_readLine_8 : List UInt8 := [182, 0, 207, 167, 0, 44, 42, 18, 136, 42, 180, 0, 23, 16, 10, 46, 8, 162, 0, 7, 4, 167, 0, 4]
abbrev dktX2_readLine_8 : List UInt8 := dkwX2_readLine_8 ++ dktX2_readLine_9
def dkwX2_readLine_7 : List UInt8 := [42, 180, 0, 23, 16, 9, 46, 7, 162, 0, 7, 4, 167, 0, 4, 3, 182, 0, 188, 153, 0, 10, 42]
abbrev dktX2_readLine_7 : List UInt8 := dkwX2_readLine_7 ++ dktX2_readLine_8
def dkwX2_readLine_6 : List UInt8 := [162, 0, 7, 4, 167, 0, 4, 3, 182, 0, 188, 153, 0, 10, 42, 182, 0, 204, 167, 0, 76, 42, 18, 134]
abbrev dktX2_readLine_6 : List UInt8 := dkwX2_readLine_6 ++ dktX2_readLine_7
def dkwX2_readLine_5 : List UInt8 := [153, 0, 10, 42, 182, 0, 201, 167, 0, 109, 42, 18, 132, 42, 180, 0, 23, 16, 8, 46, 16, 6]
abbrev dktX2_readLine_5 : List UInt8 := dkwX2_readLine_5 ++ dktX2_readLine_6
def dkwX2_readLine_4 : List UInt8 := [167, 0, 4, 3, 182, 0, 188, 153, 0, 10, 42, 182, 0, 198, 167, 0, 126, 42, 18, 130, 4, 182, 0, 188]
abbrev dktX2_readLine_4 : List UInt8 := dkwX2_readLine_4 ++ dktX2_readLine_5
def dkwX2_readLine_3 : List UInt8 := [42, 182, 0, 195, 167, 0, 158, 42, 18, 128, 42, 180, 0, 23, 16, 7, 46, 8, 162, 0, 7, 4]
abbrev dktX2_readLine_3 : List UInt8 := dkwX2_readLine_3 ++ dktX2_readLine_4
def dkwX2_readLine_2 : List UInt8 := [18, 126, 42, 180, 0, 23, 16, 6, 46, 7, 162, 0, 7, 4, 167, 0, 4, 3, 182, 0, 188, 153, 0, 10]
abbrev dktX2_readLine_2 : List UInt8 := dkwX2_readLine_2 ++ dktX2_readLine_3
def dkwX2_readLine_1 : List UInt8 := [46, 7, 162, 0, 7, 4, 167, 0, 4, 3, 182, 0, 188, 153, 0, 10, 42, 182, 0, 192, 167, 0, 190, 42]
abbrev dktX2_readLine_1 : List UInt8 := dkwX2_readLine_1 ++ dktX2_readLine_2
def dkwX2_readLine_0 : List UInt8 := [42, 18, 122, 182, 0, 108, 153, 0, 10, 42, 182, 0, 185, 167, 0, 221, 42, 18, 124, 42, 180, 0, 23, 8]
abbrev dktX2_readLine_0 : List UInt8 := dkwX2_readLine_0 ++ dktX2_readLine_1
theorem dksX2_readLine_0 : cX2_readLine.data.toList.drop 0 = dktX2_readLine_0 := by decide +kernel
theorem dksX2_readLine_1 : cX2_readLine.data.toList.drop 24 = dktX2_readLine_1 := dk_seg dksX2_readLine_0 24 rfl rfl
theorem dksX2_readLine_2 : cX2_readLine.data.toList.drop 48 = dktX2_readLine_2 := dk_seg dksX2_readLine_1 24 rfl rfl
theorem dksX2_readLine_3 : cX2_readLine.data.toList.drop 72 = dktX2_readLine_3 := dk_seg dksX2_readLine_2 24 rfl rfl
theorem dksX2_readLine_4 : cX2_readLine.data.toList.drop 94 = dktX2_readLine_4 := dk_seg dksX2_readLine_3 22 rfl rfl
theorem dksX2_readLine_5 : cX2_readLine.data.toList.drop 118 = dktX2_readLine_5 := dk_seg dksX2_readLine_4 24 rfl rfl
theorem dksX2_readLine_6 : cX2_readLine.data.toList.drop 140 = dktX2_readLine_6 := dk_seg dksX2_readLine_5 22 rfl rfl
theorem dksX2_readLine_7 : cX2_readLine.data.toList.drop 164 = dktX2_readLine_7 := dk_seg dksX2_readLine_6 24 rfl rfl
theorem dksX2_readLine_8 : cX2_readLine.data.toList.drop 187 = dktX2_readLine_8 := dk_seg dksX2_readLine_7 23 rfl rfl
theorem dksX2_readLine_9 : cX2_readLine.data.toList.drop 211 = dktX2_readLine_9 := dk_seg dksX2_readLine_8 24 rfl rfl
theorem dX2_readLine_0 : decode cX2_readLine 0 = .ok (.aload_n 0, 1) := dk_42 (dk_at dksX2_readLine_0 0 rfl rfl)
theorem dX2_readLine_1 : decode cX2_readLine 1 = .ok (.ldc 122, 2) := dk_18 122 (dk_at dksX2_readLine_0 1 rfl rfl)
theorem dX2_readLine_3 : decode cX2_readLine 3 = .ok (.invokevirtual 108, 3) := dk_182 0 108 (dk_at dksX2_readLine_0 3 rfl rfl)
theorem dX2_readLine_6 : decode cX2_readLine 6 = .ok (.ifCond .eq 10, 3) := dk_153 0 10 (dk_at dksX2_readLine_0 6 rfl rfl)
theorem dX2_readLine_9 : decode cX2_readLine 9 = .ok (.aload_n 0, 1) := dk_42 (dk_at dksX2_readLine_0 9 rfl rfl)
theorem dX2_readLine_10 : decode cX2_readLine 10 = .ok (.invokevirtual 185, 3) := dk_182 0 185 (dk_at dksX2_readLine_0 10 rfl rfl)
theorem dX2_readLine_13 : decode cX2_readLine 13 = .ok (.goto 221, 3) := dk_167 0 221 (dk_at dksX2_readLine_0 13 rfl rfl)
theorem dX2_readLine_16 : decode cX2_readLine 16 = .ok (.aload_n 0, 1) := dk_42 (dk_at dksX2_readLine_0 16 rfl rfl)
theorem dX2_readLine_17 : decode cX2_readLine 17 = .ok (.ldc 124, 2) := dk_18 124 (dk_at dksX2_readLine_0 17 rfl rfl)
theorem dX2_readLine_19 : decode cX2_readLine 19 = .ok (.aload_n 0, 1) := dk_42 (dk_at dksX2_readLine_0 19 rfl rfl)
theorem dX2_readLine_20 : decode cX2_readLine 20 = .ok (.getfield 23, 3) := dk_180 0 23 (dk_at dksX2_readLine_0 20 rfl rfl)
theorem dX2_readLine_23 : decode cX2_readLine 23 = .ok (.iconst 5, 1) := dk_8 (dk_at dksX2_readLine_0 23 rfl rfl)
theorem dX2_readLine_24 : decode cX2_readLine 24 = .ok (.iaload, 1) := dk_46 (dk_at dksX2_readLine_1 0 rfl rfl)
theorem dX2_readLine_25 : decode cX2_readLine 25 = .ok (.iconst 4, 1) := dk_7 (dk_at dksX2_readLine_1 1 rfl rfl)
theorem dX2_readLine_26 : decode cX2_readLine 26 = .ok (.if_icmp .ge 7, 3) := dk_162 0 7 (dk_at dksX2_readLine_1 2 rfl rfl)
theorem dX2_readLine_29 : decode cX2_readLine 29 = .ok (.iconst 1, 1) := dk_4 (dk_at dksX2_readLine_1 5 rfl rfl)
theorem dX2_readLine_30 : decode cX2_readLine 30 = .ok (.goto 4, 3) := dk_167 0 4 (dk_at dksX2_readLine_1 6 rfl rfl)
theorem dX2_readLine_33 : decode cX2_readLine 33 = .ok (.iconst 0, 1) := dk_3 (dk_at dksX2_readLine_1 9 rfl rfl)
theorem dX2_readLine_34 : decode cX2_readLine 34 = .ok (.invokevirtual 188, 3) := dk_182 0 188 (dk_at dksX2_readLine_1 10 rfl rfl)
theorem dX2_readLine_37 : decode cX2_readLine 37 = .ok (.ifCond .eq 10, 3) := dk_153 0 10 (dk_at dksX2_readLine_1 13 rfl rfl)
theorem dX2_readLine_40 : decode cX2_readLine 40 = .ok (.aload_n 0, 1) := dk_42 (dk_at dksX2_readLine_1 16 rfl rfl)
theorem dX2_readLine_41 : decode cX2_readLine 41 = .ok (.invokevirtual 192, 3) := dk_182 0 192 (dk_at dksX2_readLine_1 17 rfl rfl)
theorem dX2_readLine_44 : decode cX2_readLine 44 = .ok (.goto 190, 3) := dk_167 0 190 (dk_at dksX2_readLine_1 20 rfl rfl)
theorem dX2_readLine_47 : decode cX2_readLine 47 = .ok (.aload_n 0, 1) := dk_42 (dk_at dksX2_readLine_1 23 rfl rfl)
theorem dX2_readLine_48 : decode cX2_readLine 48 = .ok (.ldc 126, 2) := dk_18 126 (dk_at dksX2_readLine_2 0 rfl rfl)
theorem dX2_readLine_50 : decode cX2_readLine 50 = .ok (.aload_n 0, 1) := dk_42 (dk_at dksX2_readLine_2 2 rfl rfl)
theorem dX2_readLine_51 : decode cX2_readLine 51 = .ok (.getfield 23, 3) := dk_180 0 23 (dk_at dksX2_readLine_2 3 rfl rfl)
theorem dX2_readLine_54 : decode cX2_readLine 54 = .ok (.bipush 6, 2) := dk_16 6 (dk_at dksX2_readLine_2 6 rfl rfl)
theorem dX2_readLine_56 : decode cX2_readLine 56 = .ok (.iaload, 1) := dk_46 (dk_at dksX2_readLine_2 8 rfl rfl)
theorem dX2_readLine_57 : decode cX2_readLine 57 = .ok (.iconst 4, 1) := dk_7 (dk_at dksX2_readLine_2 9 rfl rfl)
theorem dX2_readLine_58 : decode cX2_readLine 58 = .ok (.if_icmp .ge 7, 3) := dk_162 0 7 (dk_at dksX2_readLine_2 10 rfl rfl)
theorem dX2_readLine_61 : decode cX2_readLine 61 = .ok (.iconst 1, 1) := dk_4 (dk_at dksX2_readLine_2 13 rfl rfl)
theorem dX2_readLine_62 : decode cX2_readLine 62 = .ok (.goto 4, 3) := dk_167 0 4 (dk_at dksX2_readLine_2 14 rfl rfl)
theorem dX2_readLine_65 : decode cX2_readLine 65 = .ok (.iconst 0, 1) := dk_3 (dk_at dksX2_readLine_2 17 rfl rfl)
theorem dX2_readLine_66 : decode cX2_readLine 66 = .ok (.invokevirtual 188, 3) := dk_182 0 188 (dk_at dksX2_readLine_2 18 rfl rfl)
theorem dX2_readLine_69 : decode cX2_readLine 69 = .ok (.ifCond .eq 10, 3) := dk_153 0 10 (dk_at dksX2_readLine_2 21 rfl rfl)
theorem dX2_readLine_72 : decode cX2_readLine 72 = .ok (.aload_n 0, 1) := dk_42 (dk_at dksX2_readLine_3 0 rfl rfl)
theorem dX2_readLine_73 : decode cX2_readLine 73 = .ok (.invokevirtual 195, 3) := dk_182 0 195 (dk_at dksX2_readLine_3 1 rfl rfl)
theorem dX2_readLine_76 : decode cX2_readLine 76 = .ok (.goto 158, 3) := dk_167 0 158 (dk_at dksX2_readLine_3 4 rfl rfl)
theorem dX2_readLine_79 : decode cX2_readLine 79 = .ok (.aload_n 0, 1) := dk_42 (dk_at dksX2_readLine_3 7 rfl rfl)
theorem dX2_readLine_80 : decode cX2_readLine 80 = .ok (.ldc 128, 2) := dk_18 128 (dk_at dksX2_readLine_3 8 rfl rfl)
theorem dX2_readLine_82 : decode cX2_readLine 82 = .ok (.aload_n 0, 1) := dk_42 (dk_at dksX2_readLine_3 10 rfl rfl)
theorem dX2_readLine_83 : decode cX2_readLine 83 = .ok (.getfield 23, 3) := dk_180 0 23 (dk_at dksX2_readLine_3 11 rfl rfl)
theorem dX2_readLine_86 : decode cX2_readLine 86 = .ok (.bipush 7, 2) := dk_16 7 (dk_at dksX2_readLine_3 14 rfl rfl)
theorem dX2_readLine_88 : decode cX2_readLine 88 = .ok (.iaload, 1) := dk_46 (dk_at dksX2_readLine_3 16 rfl rfl)
theorem dX2_readLine_89 : decode cX2_readLine 89 = .ok (.iconst 5, 1) := dk_8 (dk_at dksX2_readLine_3 17 rfl rfl)
theorem dX2_readLine_90 : decode cX2_readLine 90 = .ok (.if_icmp .ge 7, 3) := dk_162 0 7 (dk_at dksX2_readLine_3 18 rfl rfl)
theorem dX2_readLine_93 : decode cX2_readLine 93 = .ok (.iconst 1, 1) := dk_4 (dk_at dksX2_readLine_3 21 rfl rfl)
theorem dX2_readLine_94 : decode cX2_readLine 94 = .ok (.goto 4, 3) := dk_167 0 4 (dk_at dksX2_readLine_4 0 rfl rfl)
theorem dX2_readLine_97 : decode cX2_readLine 97 = .ok (.iconst 0, 1) := dk_3 (dk_at dksX2_readLine_4 3 rfl rfl)
theorem dX2_readLine_98 : decode cX2_readLine 98 = .ok (.invokevirtual 188, 3) := dk_182 0 188 (dk_at dksX2_readLine_4 4 rfl rfl)
theorem dX2_readLine_101 : decode cX2_readLine 101 = .ok (.ifCond .eq 10, 3) := dk_153 0 10 (dk_at dksX2_readLine_4 7 rfl rfl)
theorem dX2_readLine_104 : decode cX2_readLine 104 = .ok (.aload_n 0, 1) := dk_42 (dk_at dksX2_readLine_4 10 rfl rfl)
theorem dX2_readLine_105 : decode cX2_readLine 105 = .ok (.invokevirtual 198, 3) := dk_182 0 198 (dk_at dksX2_readLine_4 11 rfl rfl)
theorem dX2_readLine_108 : decode cX2_readLine 108 = .ok (.goto 126, 3) := dk_167 0 126 (dk_at dksX2_readLine_4 14 rfl rfl)
theorem dX2_readLine_111 : decode cX2_readLine 111 = .ok (.aload_n 0, 1) := dk_42 (dk_at dksX2_readLine_4 17 rfl rfl)
theorem dX2_readLine_112 : decode cX2_readLine 112 = .ok (.ldc 130, 2) := dk_18 130 (dk_at dksX2_readLine_4 18 rfl rfl)
theorem dX2_readLine_114 : decode cX2_readLine 114 = .ok (.iconst 1, 1) := dk_4 (dk_at dksX2_readLine_4 20 rfl rfl)
theorem dX2_readLine_115 : decode cX2_readLine 115 = .ok (.invokevirtual 188, 3) := dk_182 0 188 (dk_at dksX2_readLine_4 21 rfl rfl)
theorem dX2_readLine_118 : decode cX2_readLine 118 = .ok (.ifCond .eq 10, 3) := dk_153 0 10 (dk_at dksX2_readLine_5 0 rfl rfl)
theorem dX2_readLine_121 : decode cX2_readLine 121 = .ok (.aload_n 0, 1) := dk_42 (dk_at dksX2_readLine_5 3 rfl rfl)
theorem dX2_readLine_122 : decode cX2_readLine 122 = .ok (.invokevirtual 201, 3) := dk_182 0 201 (dk_at dksX2_readLine_5 4 rfl rfl)
theorem dX2_readLine_125 : decode cX2_readLine 125 = .ok (.goto 109, 3) := dk_167 0 109 (dk_at dksX2_readLine_5 7 rfl rfl)
theorem dX2_readLine_128 : decode cX2_readLine 128 = .ok (.aload_n 0, 1) := dk_42 (dk_at dksX2_readLine_5 10 rfl rfl)
theorem dX2_readLine_129 : decode cX2_readLine 129 = .ok (.ldc 132, 2) := dk_18 132 (dk_at dksX2_readLine_5 11 rfl rfl)
theorem dX2_readLine_131 : decode cX2_readLine 131 = .ok (.aload_n 0, 1) := dk_42 (dk_at dksX2_readLine_5 13 rfl rfl)
theorem dX2_readLine_132 : decode cX2_readLine 132 = .ok (.getfield 23, 3) := dk_180 0 23 (dk_at dksX2_readLine_5 14 rfl rfl)
theorem dX2_readLine_135 : decode cX2_readLine 135 = .ok (.bipush 8, 2) := dk_16 8 (dk_at dksX2_readLine_5 17 rfl rfl)
theorem dX2_readLine_137 : decode cX2_readLine 137 = .ok (.iaload, 1) := dk_46 (dk_at dksX2_readLine_5 19 rfl rfl)
theorem dX2_readLine_138 : decode cX2_readLine 138 = .ok (.bipush 6, 2) := dk_16 6 (dk_at dksX2_readLine_5 20 rfl rfl)
theorem dX2_readLine_140 : decode cX2_readLine 140 = .ok (.if_icmp .ge 7, 3) := dk_162 0 7 (dk_at dksX2_readLine_6 0 rfl rfl)
theorem dX2_readLine_143 : decode cX2_readLine 143 = .ok (.iconst 1, 1) := dk_4 (dk_at dksX2_readLine_6 3 rfl rfl)
theorem dX2_readLine_144 : decode cX2_readLine 144 = .ok (.goto 4, 3) := dk_167 0 4 (dk_at dksX2_readLine_6 4 rfl rfl)
theorem dX2_readLine_147 : decode cX2_readLine 147 = .ok (.iconst 0, 1) := dk_3 (dk_at dksX2_readLine_6 7 rfl rfl)
theorem dX2_readLine_148 : decode cX2_readLine 148 = .ok (.invokevirtual 188, 3) := dk_182 0 188 (dk_at dksX2_readLine_6 8 rfl rfl)
theorem dX2_readLine_151 : decode cX2_readLine 151 = .ok (.ifCond .eq 10, 3) := dk_153 0 10 (dk_at dksX2_readLine_6 11 rfl rfl)
theorem dX2_readLine_154 : decode cX2_readLine 154 = .ok (.aload_n 0, 1) := dk_42 (dk_at dksX2_readLine_6 14 rfl rfl)
theorem dX2_readLine_155 : decode cX2_readLine 155 = .ok (.invokevirtual 204, 3) := dk_182 0 204 (dk_at dksX2_readLine_6 15 rfl rfl)
theorem dX2_readLine_158 : decode cX2_readLine 158 = .ok (.goto 76, 3) := dk_167 0 76 (dk_at dksX2_readLine_6 18 rfl rfl)
theorem dX2_readLine_161 : decode cX2_readLine 161 = .ok (.aload_n 0, 1) := dk_42 (dk_at dksX2_readLine_6 21 rfl rfl)
theorem dX2_readLine_162 : decode cX2_readLine 162 = .ok (.ldc 134, 2) := dk_18 134 (dk_at dksX2_readLine_6 22 rfl rfl)
theorem dX2_readLine_164 : decode cX2_readLine 164 = .ok (.aload_n 0, 1) := dk_42 (dk_at dksX2_readLine_7 0 rfl rfl)
theorem dX2_readLine_165 : decode cX2_readLine 165 = .ok (.getfield 23, 3) := dk_180 0 23 (dk_at dksX2_readLine_7 1 rfl rfl)
theorem dX2_readLine_168 : decode cX2_readLine 168 = .ok (.bipush 9, 2) := dk_16 9 (dk_at dksX2_readLine_7 4 rfl rfl)
theorem dX2_readLine_170 : decode cX2_readLine 170 = .ok (.iaload, 1) := dk_46 (dk_at dksX2_readLine_7 6 rfl rfl)
theorem dX2_readLine_171 : decode cX2_readLine 171 = .ok (.iconst 4, 1) := dk_7 (dk_at dksX2_readLine_7 7 rfl rfl)
theorem dX2_readLine_172 : decode cX2_readLine 172 = .ok (.if_icmp .ge 7, 3) := dk_162 0 7 (dk_at dksX2_readLine_7 8 rfl rfl)
theorem dX2_readLine_175 : decode cX2_readLine 175 = .ok (.iconst 1, 1) := dk_4 (dk_at dksX2_readLine_7 11 rfl rfl)
theorem dX2_readLine_176 : decode cX2_readLine 176 = .ok (.goto 4, 3) := dk_167 0 4 (dk_at dksX2_readLine_7 12 rfl rfl)
theorem dX2_readLine_179 : decode cX2_readLine 179 = .ok (.iconst 0, 1) := dk_3 (dk_at dksX2_readLine_7 15 rfl rfl)
theorem dX2_readLine_180 : decode cX2_readLine 180 = .ok (.invokevirtual 188, 3) := dk_182 0 188 (dk_at dksX2_readLine_7 16 rfl rfl)
theorem dX2_readLine_183 : decode cX2_readLine 183 = .ok (.ifCond .eq 10, 3) := dk_153 0 10 (dk_at dksX2_readLine_7 19 rfl rfl)
theorem dX2_readLine_186 : decode cX2_readLine 186 = .ok (.aload_n 0, 1) := dk_42 (dk_at dksX2_readLine_7 22 rfl rfl)
theorem dX2_readLine_187 : decode cX2_readLine 187 = .ok (.invokevirtual 207, 3) := dk_182 0 207 (dk_at dksX2_readLine_8 0 rfl rfl)
theorem dX2_readLine_190 : decode cX2_readLine 190 = .ok (.goto 44, 3) := dk_167 0 44 (dk_at dksX2_readLine_8 3 rfl rfl)
theorem dX2_readLine_193 : decode cX2_readLine 193 = .ok (.aload_n 0, 1) := dk_42 (dk_at dksX2_readLine_8 6 rfl rfl)
theorem dX2_readLine_194 : decode cX2_readLine 194 = .ok (.ldc 136, 2) := dk_18 136 (dk_at dksX2_readLine_8 7 rfl rfl)
theorem dX2_readLine_196 : decode cX2_readLine 196 = .ok (.aload_n 0, 1) := dk_42 (dk_at dksX2_readLine_8 9 rfl rfl)
theorem dX2_readLine_197 : decode cX2_readLine 197 = .ok (.getfield 23, 3) := dk_180 0 23 (dk_at dksX2_readLine_8 10 rfl rfl)
theorem dX2_readLine_200 : decode cX2_readLine 200 = .ok (.bipush 10, 2) := dk_16 10 (dk_at dksX2_readLine_8 13 rfl rfl)
theorem dX2_readLine_202 : decode cX2_readLine 202 = .ok (.iaload, 1) := dk_46 (dk_at dksX2_readLine_8 15 rfl rfl)
theorem dX2_readLine_203 : decode cX2_readLine 203 = .ok (.iconst 5, 1) := dk_8 (dk_at dksX2_readLine_8 16 rfl rfl)
theorem dX2_readLine_204 : decode cX2_readLine 204 = .ok (.if_icmp .ge 7, 3) := dk_162 0 7 (dk_at dksX2_readLine_8 17 rfl rfl)
theorem dX2_readLine_207 : decode cX2_readLine 207 = .ok (.iconst 1, 1) := dk_4 (dk_at dksX2_readLine_8 20 rfl rfl)
theorem dX2_readLine_208 : decode cX2_readLine 208 = .ok (.goto 4, 3) := dk_167 0 4 (dk_at dksX2_readLine_8 21 rfl rfl)
theorem dX2_readLine_211 : decode cX2_readLine 211 = .ok (.iconst 0, 1) := dk_3 (dk_at dksX2_readLine_9 0 rfl rfl)
theorem dX2_readLine_212 : decode cX2_readLine 212 = .ok (.invokevirtual 188, 3) := dk_182 0 188 (dk_at dksX2_readLine_9 1 rfl rfl)
theorem dX2_readLine_215 : decode cX2_readLine 215 = .ok (.ifCond .eq 10, 3) := dk_153 0 10 (dk_at dksX2_readLine_9 4 rfl rfl)
theorem dX2_readLine_218 : decode cX2_readLine 218 = .ok (.aload_n 0, 1) := dk_42 (dk_at dksX2_readLine_9 7 rfl rfl)
theorem dX2_readLine_219 : decode cX2_readLine 219 = .ok (.invokevirtual 210, 3) := dk_182 0 210 (dk_at dksX2_readLine_9 8 rfl rfl)
theorem dX2_readLine_222 : decode cX2_readLine 222 = .ok (.goto 12, 3) := dk_167 0 12 (dk_at dksX2_readLine_9 11 rfl rfl)
theorem dX2_readLine_225 : decode cX2_readLine 225 = .ok (.aload_n 0, 1) := dk_42 (dk_at dksX2_readLine_9 14 rfl rfl)
theorem dX2_readLine_226 : decode cX2_readLine 226 = .ok (.iconst 1, 1) := dk_4 (dk_at dksX2_readLine_9 15 rfl rfl)
theorem dX2_readLine_227 : decode cX2_readLine 227 = .ok (.aload_n 0, 1) := dk_42 (dk_at dksX2_readLine_9 16 rfl rfl)
theorem dX2_readLine_228 : decode cX2_readLine 228 = .ok (.getfield 72, 3) := dk_180 0 72 (dk_at dksX2_readLine_9 17 rfl rfl)
theorem dX2_readLine_231 : decode cX2_readLine 231 = .ok (.invokevirtual 118, 3) := dk_182 0 118 (dk_at dksX2_readLine_9 20 rfl rfl)
theorem dX2_readLine_234 : decode cX2_readLine 234 = .ok (.return_, 1) := dk_177 (dk_at dksX2_readLine_9 23 rfl rfl)
abbrev cX2_isWord : ByteArray := prog_15_method_17_code
def yX2_isWord : MethodName := ⟨RX2, "isWord", "(Ljava/lang/String;)Z"⟩
def dkwX2_isWord_3 : List UInt8 := [167, 255, 221, 28, 172]
abbrev dktX2_isWord_3 : List UInt8 := dkwX2_isWord_3 ++ []
def dkwX2_isWord_2 : List UInt8 := [180, 0, 17, 29, 46, 43, 29, 182, 0, 104, 160, 0, 7, 4, 167, 0, 4, 3, 61, 132, 3, 1]
abbrev dktX2_isWord_2 : List UInt8 := dkwX2_isWord_2 ++ dktX2_isWord_3
def dkwX2_isWord_1 : List UInt8 := [159, 0, 5, 3, 172, 4, 61, 3, 62, 29, 42, 180, 0, 75, 162, 0, 33, 28, 153, 0, 21, 42]
abbrev dktX2_isWord_1 : List UInt8 := dkwX2_isWord_1 ++ dktX2_isWord_2
def dkwX2_isWord_0 : List UInt8 := [42, 180, 0, 91, 154, 0, 22, 42, 180, 0, 81, 5, 160, 0, 14, 42, 180, 0, 75, 43, 182, 0, 98]
abbrev dktX2_isWord_0 : List UInt8 := dkwX2_isWord_0 ++ dktX2_isWord_1
theorem dksX2_isWord_0 : cX2_isWord.data.toList.drop 0 = dktX2_isWord_0 := by decide +kernel
theorem dksX2_isWord_1 : cX2_isWord.data.toList.drop 23 = dktX2_isWord_1 := dk_seg dksX2_isWord_0 23 rfl rfl
theorem dksX2_isWord_2 : cX2_isWord.data.toList.drop 45 = dktX2_isWord_2 := dk_seg dksX2_isWord_1 22 rfl rfl
theorem dksX2_isWord_3 : cX2_isWord.data.toList.drop 67 = dktX2_isWord_3 := dk_seg dksX2_isWord_2 22 rfl rfl
theorem dX2_isWord_0 : decode cX2_isWord 0 = .ok (.aload_n 0, 1) := dk_42 (dk_at dksX2_isWord_0 0 rfl rfl)
theorem dX2_isWord_1 : decode cX2_isWord 1 = .ok (.getfield 91, 3) := dk_180 0 91 (dk_at dksX2_isWord_0 1 rfl rfl)
theorem dX2_isWord_4 : decode cX2_isWord 4 = .ok (.ifCond .ne 22, 3) := dk_154 0 22 (dk_at dksX2_isWord_0 4 rfl rfl)
theorem dX2_isWord_7 : decode cX2_isWord 7 = .ok (.aload_n 0, 1) := dk_42 (dk_at dksX2_isWord_0 7 rfl rfl)
theorem dX2_isWord_8 : decode cX2_isWord 8 = .ok (.getfield 81, 3) := dk_180 0 81 (dk_at dksX2_isWord_0 8 rfl rfl)
theorem dX2_isWord_11 : decode cX2_isWord 11 = .ok (.iconst 2, 1) := dk_5 (dk_at dksX2_isWord_0 11 rfl rfl)
theorem dX2_isWord_12 : decode cX2_isWord 12 = .ok (.if_icmp .ne 14, 3) := dk_160 0 14 (dk_at dksX2_isWord_0 12 rfl rfl)
theorem dX2_isWord_15 : decode cX2_isWord 15 = .ok (.aload_n 0, 1) := dk_42 (dk_at dksX2_isWord_0 15 rfl rfl)
theorem dX2_isWord_16 : decode cX2_isWord 16 = .ok (.getfield 75, 3) := dk_180 0 75 (dk_at dksX2_isWord_0 16 rfl rfl)
theorem dX2_isWord_19 : decode cX2_isWord 19 = .ok (.aload_n 1, 1) := dk_43 (dk_at dksX2_isWord_0 19 rfl rfl)
theorem dX2_isWord_20 : decode cX2_isWord 20 = .ok (.invokevirtual 98, 3) := dk_182 0 98 (dk_at dksX2_isWord_0 20 rfl rfl)
theorem dX2_isWord_23 : decode cX2_isWord 23 = .ok (.if_icmp .eq 5, 3) := dk_159 0 5 (dk_at dksX2_isWord_1 0 rfl rfl)
theorem dX2_isWord_26 : decode cX2_isWord 26 = .ok (.iconst 0, 1) := dk_3 (dk_at dksX2_isWord_1 3 rfl rfl)
theorem dX2_isWord_27 : decode cX2_isWord 27 = .ok (.ireturn, 1) := dk_172 (dk_at dksX2_isWord_1 4 rfl rfl)
theorem dX2_isWord_28 : decode cX2_isWord 28 = .ok (.iconst 1, 1) := dk_4 (dk_at dksX2_isWord_1 5 rfl rfl)
theorem dX2_isWord_29 : decode cX2_isWord 29 = .ok (.istore_n 2, 1) := dk_61 (dk_at dksX2_isWord_1 6 rfl rfl)
theorem dX2_isWord_30 : decode cX2_isWord 30 = .ok (.iconst 0, 1) := dk_3 (dk_at dksX2_isWord_1 7 rfl rfl)
theorem dX2_isWord_31 : decode cX2_isWord 31 = .ok (.istore_n 3, 1) := dk_62 (dk_at dksX2_isWord_1 8 rfl rfl)
theorem dX2_isWord_32 : decode cX2_isWord 32 = .ok (.iload_n 3, 1) := dk_29 (dk_at dksX2_isWord_1 9 rfl rfl)
theorem dX2_isWord_33 : decode cX2_isWord 33 = .ok (.aload_n 0, 1) := dk_42 (dk_at dksX2_isWord_1 10 rfl rfl)
theorem dX2_isWord_34 : decode cX2_isWord 34 = .ok (.getfield 75, 3) := dk_180 0 75 (dk_at dksX2_isWord_1 11 rfl rfl)
theorem dX2_isWord_37 : decode cX2_isWord 37 = .ok (.if_icmp .ge 33, 3) := dk_162 0 33 (dk_at dksX2_isWord_1 14 rfl rfl)
theorem dX2_isWord_40 : decode cX2_isWord 40 = .ok (.iload_n 2, 1) := dk_28 (dk_at dksX2_isWord_1 17 rfl rfl)
theorem dX2_isWord_41 : decode cX2_isWord 41 = .ok (.ifCond .eq 21, 3) := dk_153 0 21 (dk_at dksX2_isWord_1 18 rfl rfl)
theorem dX2_isWord_44 : decode cX2_isWord 44 = .ok (.aload_n 0, 1) := dk_42 (dk_at dksX2_isWord_1 21 rfl rfl)
theorem dX2_isWord_45 : decode cX2_isWord 45 = .ok (.getfield 17, 3) := dk_180 0 17 (dk_at dksX2_isWord_2 0 rfl rfl)
theorem dX2_isWord_48 : decode cX2_isWord 48 = .ok (.iload_n 3, 1) := dk_29 (dk_at dksX2_isWord_2 3 rfl rfl)
theorem dX2_isWord_49 : decode cX2_isWord 49 = .ok (.iaload, 1) := dk_46 (dk_at dksX2_isWord_2 4 rfl rfl)
theorem dX2_isWord_50 : decode cX2_isWord 50 = .ok (.aload_n 1, 1) := dk_43 (dk_at dksX2_isWord_2 5 rfl rfl)
theorem dX2_isWord_51 : decode cX2_isWord 51 = .ok (.iload_n 3, 1) := dk_29 (dk_at dksX2_isWord_2 6 rfl rfl)
theorem dX2_isWord_52 : decode cX2_isWord 52 = .ok (.invokevirtual 104, 3) := dk_182 0 104 (dk_at dksX2_isWord_2 7 rfl rfl)
theorem dX2_isWord_55 : decode cX2_isWord 55 = .ok (.if_icmp .ne 7, 3) := dk_160 0 7 (dk_at dksX2_isWord_2 10 rfl rfl)
theorem dX2_isWord_58 : decode cX2_isWord 58 = .ok (.iconst 1, 1) := dk_4 (dk_at dksX2_isWord_2 13 rfl rfl)
theorem dX2_isWord_59 : decode cX2_isWord 59 = .ok (.goto 4, 3) := dk_167 0 4 (dk_at dksX2_isWord_2 14 rfl rfl)
theorem dX2_isWord_62 : decode cX2_isWord 62 = .ok (.iconst 0, 1) := dk_3 (dk_at dksX2_isWord_2 17 rfl rfl)
theorem dX2_isWord_63 : decode cX2_isWord 63 = .ok (.istore_n 2, 1) := dk_61 (dk_at dksX2_isWord_2 18 rfl rfl)
theorem dX2_isWord_64 : decode cX2_isWord 64 = .ok (.iinc 3 1, 3) := dk_132 3 1 (dk_at dksX2_isWord_2 19 rfl rfl)
theorem dX2_isWord_67 : decode cX2_isWord 67 = .ok (.goto (-35), 3) := dk_167 255 221 (dk_at dksX2_isWord_3 0 rfl rfl)
theorem dX2_isWord_70 : decode cX2_isWord 70 = .ok (.iload_n 2, 1) := dk_28 (dk_at dksX2_isWord_3 3 rfl rfl)
theorem dX2_isWord_71 : decode cX2_isWord 71 = .ok (.ireturn, 1) := dk_172 (dk_at dksX2_isWord_3 4 rfl rfl)
abbrev cX2_regattaLine : ByteArray := prog_15_method_33_code
def yX2_regattaLine : MethodName := ⟨RX2, "regattaLine", "()V"⟩
def dkwX2_regattaLine_4 : List UInt8 := [16, 9, 182, 0, 215, 79, 42, 180, 0, 91, 154, 0, 10, 42, 180, 0, 23, 3, 27, 79, 177]
abbrev dktX2_regattaLine_4 : List UInt8 := dkwX2_regattaLine_4 ++ []
def dkwX2_regattaLine_3 : List UInt8 := [42, 180, 0, 23, 6, 42, 18, 223, 3, 16, 100, 182, 0, 215, 79, 42, 180, 0, 23, 7, 42, 18, 225, 3]
abbrev dktX2_regattaLine_3 : List UInt8 := dkwX2_regattaLine_3 ++ dktX2_regattaLine_4
def dkwX2_regattaLine_2 : List UInt8 := [18, 219, 4, 16, 6, 182, 0, 215, 79, 42, 180, 0, 23, 5, 42, 18, 221, 3, 16, 30, 182, 0, 215, 79]
abbrev dktX2_regattaLine_2 : List UInt8 := dkwX2_regattaLine_2 ++ dktX2_regattaLine_3
def dkwX2_regattaLine_1 : List UInt8 := [153, 0, 4, 177, 42, 182, 0, 112, 42, 18, 213, 4, 16, 20, 182, 0, 215, 60, 42, 180, 0, 23, 4, 42]
abbrev dktX2_regattaLine_1 : List UInt8 := dkwX2_regattaLine_1 ++ dktX2_regattaLine_2
def dkwX2_regattaLine_0 : List UInt8 := [42, 180, 0, 23, 3, 46, 158, 0, 12, 42, 6, 42, 180, 0, 72, 182, 0, 118, 42, 180, 0, 91]
abbrev dktX2_regattaLine_0 : List UInt8 := dkwX2_regattaLine_0 ++ dktX2_regattaLine_1
theorem dksX2_regattaLine_0 : cX2_regattaLine.data.toList.drop 0 = dktX2_regattaLine_0 := by decide +kernel
theorem dksX2_regattaLine_1 : cX2_regattaLine.data.toList.drop 22 = dktX2_regattaLine_1 := dk_seg dksX2_regattaLine_0 22 rfl rfl
theorem dksX2_regattaLine_2 : cX2_regattaLine.data.toList.drop 46 = dktX2_regattaLine_2 := dk_seg dksX2_regattaLine_1 24 rfl rfl
theorem dksX2_regattaLine_3 : cX2_regattaLine.data.toList.drop 70 = dktX2_regattaLine_3 := dk_seg dksX2_regattaLine_2 24 rfl rfl
theorem dksX2_regattaLine_4 : cX2_regattaLine.data.toList.drop 94 = dktX2_regattaLine_4 := dk_seg dksX2_regattaLine_3 24 rfl rfl
theorem dX2_regattaLine_0 : decode cX2_regattaLine 0 = .ok (.aload_n 0, 1) := dk_42 (dk_at dksX2_regattaLine_0 0 rfl rfl)
theorem dX2_regattaLine_1 : decode cX2_regattaLine 1 = .ok (.getfield 23, 3) := dk_180 0 23 (dk_at dksX2_regattaLine_0 1 rfl rfl)
theorem dX2_regattaLine_4 : decode cX2_regattaLine 4 = .ok (.iconst 0, 1) := dk_3 (dk_at dksX2_regattaLine_0 4 rfl rfl)
theorem dX2_regattaLine_5 : decode cX2_regattaLine 5 = .ok (.iaload, 1) := dk_46 (dk_at dksX2_regattaLine_0 5 rfl rfl)
theorem dX2_regattaLine_6 : decode cX2_regattaLine 6 = .ok (.ifCond .le 12, 3) := dk_158 0 12 (dk_at dksX2_regattaLine_0 6 rfl rfl)
theorem dX2_regattaLine_9 : decode cX2_regattaLine 9 = .ok (.aload_n 0, 1) := dk_42 (dk_at dksX2_regattaLine_0 9 rfl rfl)
theorem dX2_regattaLine_10 : decode cX2_regattaLine 10 = .ok (.iconst 3, 1) := dk_6 (dk_at dksX2_regattaLine_0 10 rfl rfl)
theorem dX2_regattaLine_11 : decode cX2_regattaLine 11 = .ok (.aload_n 0, 1) := dk_42 (dk_at dksX2_regattaLine_0 11 rfl rfl)
theorem dX2_regattaLine_12 : decode cX2_regattaLine 12 = .ok (.getfield 72, 3) := dk_180 0 72 (dk_at dksX2_regattaLine_0 12 rfl rfl)
theorem dX2_regattaLine_15 : decode cX2_regattaLine 15 = .ok (.invokevirtual 118, 3) := dk_182 0 118 (dk_at dksX2_regattaLine_0 15 rfl rfl)
theorem dX2_regattaLine_18 : decode cX2_regattaLine 18 = .ok (.aload_n 0, 1) := dk_42 (dk_at dksX2_regattaLine_0 18 rfl rfl)
theorem dX2_regattaLine_19 : decode cX2_regattaLine 19 = .ok (.getfield 91, 3) := dk_180 0 91 (dk_at dksX2_regattaLine_0 19 rfl rfl)
theorem dX2_regattaLine_22 : decode cX2_regattaLine 22 = .ok (.ifCond .eq 4, 3) := dk_153 0 4 (dk_at dksX2_regattaLine_1 0 rfl rfl)
theorem dX2_regattaLine_25 : decode cX2_regattaLine 25 = .ok (.return_, 1) := dk_177 (dk_at dksX2_regattaLine_1 3 rfl rfl)
theorem dX2_regattaLine_26 : decode cX2_regattaLine 26 = .ok (.aload_n 0, 1) := dk_42 (dk_at dksX2_regattaLine_1 4 rfl rfl)
theorem dX2_regattaLine_27 : decode cX2_regattaLine 27 = .ok (.invokevirtual 112, 3) := dk_182 0 112 (dk_at dksX2_regattaLine_1 5 rfl rfl)
theorem dX2_regattaLine_30 : decode cX2_regattaLine 30 = .ok (.aload_n 0, 1) := dk_42 (dk_at dksX2_regattaLine_1 8 rfl rfl)
theorem dX2_regattaLine_31 : decode cX2_regattaLine 31 = .ok (.ldc 213, 2) := dk_18 213 (dk_at dksX2_regattaLine_1 9 rfl rfl)
theorem dX2_regattaLine_33 : decode cX2_regattaLine 33 = .ok (.iconst 1, 1) := dk_4 (dk_at dksX2_regattaLine_1 11 rfl rfl)
theorem dX2_regattaLine_34 : decode cX2_regattaLine 34 = .ok (.bipush 20, 2) := dk_16 20 (dk_at dksX2_regattaLine_1 12 rfl rfl)
theorem dX2_regattaLine_36 : decode cX2_regattaLine 36 = .ok (.invokevirtual 215, 3) := dk_182 0 215 (dk_at dksX2_regattaLine_1 14 rfl rfl)
theorem dX2_regattaLine_39 : decode cX2_regattaLine 39 = .ok (.istore_n 1, 1) := dk_60 (dk_at dksX2_regattaLine_1 17 rfl rfl)
theorem dX2_regattaLine_40 : decode cX2_regattaLine 40 = .ok (.aload_n 0, 1) := dk_42 (dk_at dksX2_regattaLine_1 18 rfl rfl)
theorem dX2_regattaLine_41 : decode cX2_regattaLine 41 = .ok (.getfield 23, 3) := dk_180 0 23 (dk_at dksX2_regattaLine_1 19 rfl rfl)
theorem dX2_regattaLine_44 : decode cX2_regattaLine 44 = .ok (.iconst 1, 1) := dk_4 (dk_at dksX2_regattaLine_1 22 rfl rfl)
theorem dX2_regattaLine_45 : decode cX2_regattaLine 45 = .ok (.aload_n 0, 1) := dk_42 (dk_at dksX2_regattaLine_1 23 rfl rfl)
theorem dX2_regattaLine_46 : decode cX2_regattaLine 46 = .ok (.ldc 219, 2) := dk_18 219 (dk_at dksX2_regattaLine_2 0 rfl rfl)
theorem dX2_regattaLine_48 : decode cX2_regattaLine 48 = .ok (.iconst 1, 1) := dk_4 (dk_at dksX2_regattaLine_2 2 rfl rfl)
theorem dX2_regattaLine_49 : decode cX2_regattaLine 49 = .ok (.bipush 6, 2) := dk_16 6 (dk_at dksX2_regattaLine_2 3 rfl rfl)
theorem dX2_regattaLine_51 : decode cX2_regattaLine 51 = .ok (.invokevirtual 215, 3) := dk_182 0 215 (dk_at dksX2_regattaLine_2 5 rfl rfl)
theorem dX2_regattaLine_54 : decode cX2_regattaLine 54 = .ok (.iastore, 1) := dk_79 (dk_at dksX2_regattaLine_2 8 rfl rfl)
theorem dX2_regattaLine_55 : decode cX2_regattaLine 55 = .ok (.aload_n 0, 1) := dk_42 (dk_at dksX2_regattaLine_2 9 rfl rfl)
theorem dX2_regattaLine_56 : decode cX2_regattaLine 56 = .ok (.getfield 23, 3) := dk_180 0 23 (dk_at dksX2_regattaLine_2 10 rfl rfl)
theorem dX2_regattaLine_59 : decode cX2_regattaLine 59 = .ok (.iconst 2, 1) := dk_5 (dk_at dksX2_regattaLine_2 13 rfl rfl)
theorem dX2_regattaLine_60 : decode cX2_regattaLine 60 = .ok (.aload_n 0, 1) := dk_42 (dk_at dksX2_regattaLine_2 14 rfl rfl)
theorem dX2_regattaLine_61 : decode cX2_regattaLine 61 = .ok (.ldc 221, 2) := dk_18 221 (dk_at dksX2_regattaLine_2 15 rfl rfl)
theorem dX2_regattaLine_63 : decode cX2_regattaLine 63 = .ok (.iconst 0, 1) := dk_3 (dk_at dksX2_regattaLine_2 17 rfl rfl)
theorem dX2_regattaLine_64 : decode cX2_regattaLine 64 = .ok (.bipush 30, 2) := dk_16 30 (dk_at dksX2_regattaLine_2 18 rfl rfl)
theorem dX2_regattaLine_66 : decode cX2_regattaLine 66 = .ok (.invokevirtual 215, 3) := dk_182 0 215 (dk_at dksX2_regattaLine_2 20 rfl rfl)
theorem dX2_regattaLine_69 : decode cX2_regattaLine 69 = .ok (.iastore, 1) := dk_79 (dk_at dksX2_regattaLine_2 23 rfl rfl)
theorem dX2_regattaLine_70 : decode cX2_regattaLine 70 = .ok (.aload_n 0, 1) := dk_42 (dk_at dksX2_regattaLine_3 0 rfl rfl)
theorem dX2_regattaLine_71 : decode cX2_regattaLine 71 = .ok (.getfield 23, 3) := dk_180 0 23 (dk_at dksX2_regattaLine_3 1 rfl rfl)
theorem dX2_regattaLine_74 : decode cX2_regattaLine 74 = .ok (.iconst 3, 1) := dk_6 (dk_at dksX2_regattaLine_3 4 rfl rfl)
theorem dX2_regattaLine_75 : decode cX2_regattaLine 75 = .ok (.aload_n 0, 1) := dk_42 (dk_at dksX2_regattaLine_3 5 rfl rfl)
theorem dX2_regattaLine_76 : decode cX2_regattaLine 76 = .ok (.ldc 223, 2) := dk_18 223 (dk_at dksX2_regattaLine_3 6 rfl rfl)
theorem dX2_regattaLine_78 : decode cX2_regattaLine 78 = .ok (.iconst 0, 1) := dk_3 (dk_at dksX2_regattaLine_3 8 rfl rfl)
theorem dX2_regattaLine_79 : decode cX2_regattaLine 79 = .ok (.bipush 100, 2) := dk_16 100 (dk_at dksX2_regattaLine_3 9 rfl rfl)
theorem dX2_regattaLine_81 : decode cX2_regattaLine 81 = .ok (.invokevirtual 215, 3) := dk_182 0 215 (dk_at dksX2_regattaLine_3 11 rfl rfl)
theorem dX2_regattaLine_84 : decode cX2_regattaLine 84 = .ok (.iastore, 1) := dk_79 (dk_at dksX2_regattaLine_3 14 rfl rfl)
theorem dX2_regattaLine_85 : decode cX2_regattaLine 85 = .ok (.aload_n 0, 1) := dk_42 (dk_at dksX2_regattaLine_3 15 rfl rfl)
theorem dX2_regattaLine_86 : decode cX2_regattaLine 86 = .ok (.getfield 23, 3) := dk_180 0 23 (dk_at dksX2_regattaLine_3 16 rfl rfl)
theorem dX2_regattaLine_89 : decode cX2_regattaLine 89 = .ok (.iconst 4, 1) := dk_7 (dk_at dksX2_regattaLine_3 19 rfl rfl)
theorem dX2_regattaLine_90 : decode cX2_regattaLine 90 = .ok (.aload_n 0, 1) := dk_42 (dk_at dksX2_regattaLine_3 20 rfl rfl)
theorem dX2_regattaLine_91 : decode cX2_regattaLine 91 = .ok (.ldc 225, 2) := dk_18 225 (dk_at dksX2_regattaLine_3 21 rfl rfl)
theorem dX2_regattaLine_93 : decode cX2_regattaLine 93 = .ok (.iconst 0, 1) := dk_3 (dk_at dksX2_regattaLine_3 23 rfl rfl)
theorem dX2_regattaLine_94 : decode cX2_regattaLine 94 = .ok (.bipush 9, 2) := dk_16 9 (dk_at dksX2_regattaLine_4 0 rfl rfl)
theorem dX2_regattaLine_96 : decode cX2_regattaLine 96 = .ok (.invokevirtual 215, 3) := dk_182 0 215 (dk_at dksX2_regattaLine_4 2 rfl rfl)
theorem dX2_regattaLine_99 : decode cX2_regattaLine 99 = .ok (.iastore, 1) := dk_79 (dk_at dksX2_regattaLine_4 5 rfl rfl)
theorem dX2_regattaLine_100 : decode cX2_regattaLine 100 = .ok (.aload_n 0, 1) := dk_42 (dk_at dksX2_regattaLine_4 6 rfl rfl)
theorem dX2_regattaLine_101 : decode cX2_regattaLine 101 = .ok (.getfield 91, 3) := dk_180 0 91 (dk_at dksX2_regattaLine_4 7 rfl rfl)
theorem dX2_regattaLine_104 : decode cX2_regattaLine 104 = .ok (.ifCond .ne 10, 3) := dk_154 0 10 (dk_at dksX2_regattaLine_4 10 rfl rfl)
theorem dX2_regattaLine_107 : decode cX2_regattaLine 107 = .ok (.aload_n 0, 1) := dk_42 (dk_at dksX2_regattaLine_4 13 rfl rfl)
theorem dX2_regattaLine_108 : decode cX2_regattaLine 108 = .ok (.getfield 23, 3) := dk_180 0 23 (dk_at dksX2_regattaLine_4 14 rfl rfl)
theorem dX2_regattaLine_111 : decode cX2_regattaLine 111 = .ok (.iconst 0, 1) := dk_3 (dk_at dksX2_regattaLine_4 17 rfl rfl)
theorem dX2_regattaLine_112 : decode cX2_regattaLine 112 = .ok (.iload_n 1, 1) := dk_27 (dk_at dksX2_regattaLine_4 18 rfl rfl)
theorem dX2_regattaLine_113 : decode cX2_regattaLine 113 = .ok (.iastore, 1) := dk_79 (dk_at dksX2_regattaLine_4 19 rfl rfl)
theorem dX2_regattaLine_114 : decode cX2_regattaLine 114 = .ok (.return_, 1) := dk_177 (dk_at dksX2_regattaLine_4 20 rfl rfl)
abbrev cX2_wrong : ByteArray := prog_15_method_16_code
def yX2_wrong : MethodName := ⟨RX2, "wrong", "(II)V"⟩
def dkwX2_wrong_0 : List UInt8 := [42, 180, 0, 91, 153, 0, 4, 177, 42, 4, 181, 0, 91, 42, 27, 181, 0, 95, 42, 28, 181, 0, 13, 177]
abbrev dktX2_wrong_0 : List UInt8 := dkwX2_wrong_0 ++ []
theorem dksX2_wrong_0 : cX2_wrong.data.toList.drop 0 = dktX2_wrong_0 := by decide +kernel
theorem dX2_wrong_0 : decode cX2_wrong 0 = .ok (.aload_n 0, 1) := dk_42 (dk_at dksX2_wrong_0 0 rfl rfl)
theorem dX2_wrong_1 : decode cX2_wrong 1 = .ok (.getfield 91, 3) := dk_180 0 91 (dk_at dksX2_wrong_0 1 rfl rfl)
theorem dX2_wrong_4 : decode cX2_wrong 4 = .ok (.ifCond .eq 4, 3) := dk_153 0 4 (dk_at dksX2_wrong_0 4 rfl rfl)
theorem dX2_wrong_7 : decode cX2_wrong 7 = .ok (.return_, 1) := dk_177 (dk_at dksX2_wrong_0 7 rfl rfl)
theorem dX2_wrong_8 : decode cX2_wrong 8 = .ok (.aload_n 0, 1) := dk_42 (dk_at dksX2_wrong_0 8 rfl rfl)
theorem dX2_wrong_9 : decode cX2_wrong 9 = .ok (.iconst 1, 1) := dk_4 (dk_at dksX2_wrong_0 9 rfl rfl)
theorem dX2_wrong_10 : decode cX2_wrong 10 = .ok (.putfield 91, 3) := dk_181 0 91 (dk_at dksX2_wrong_0 10 rfl rfl)
theorem dX2_wrong_13 : decode cX2_wrong 13 = .ok (.aload_n 0, 1) := dk_42 (dk_at dksX2_wrong_0 13 rfl rfl)
theorem dX2_wrong_14 : decode cX2_wrong 14 = .ok (.iload_n 1, 1) := dk_27 (dk_at dksX2_wrong_0 14 rfl rfl)
theorem dX2_wrong_15 : decode cX2_wrong 15 = .ok (.putfield 95, 3) := dk_181 0 95 (dk_at dksX2_wrong_0 15 rfl rfl)
theorem dX2_wrong_18 : decode cX2_wrong 18 = .ok (.aload_n 0, 1) := dk_42 (dk_at dksX2_wrong_0 18 rfl rfl)
theorem dX2_wrong_19 : decode cX2_wrong 19 = .ok (.iload_n 2, 1) := dk_28 (dk_at dksX2_wrong_0 19 rfl rfl)
theorem dX2_wrong_20 : decode cX2_wrong 20 = .ok (.putfield 13, 3) := dk_181 0 13 (dk_at dksX2_wrong_0 20 rfl rfl)
theorem dX2_wrong_23 : decode cX2_wrong 23 = .ok (.return_, 1) := dk_177 (dk_at dksX2_wrong_0 23 rfl rfl)
abbrev cX2_after : ByteArray := prog_15_method_28_code
def yX2_after : MethodName := ⟨RX2, "after", "(Ljava/lang/String;II)I"⟩
def dkwX2_after_0 : List UInt8 := [42, 43, 182, 0, 152, 42, 28, 29, 182, 0, 156, 172]
abbrev dktX2_after_0 : List UInt8 := dkwX2_after_0 ++ []
theorem dksX2_after_0 : cX2_after.data.toList.drop 0 = dktX2_after_0 := by decide +kernel
theorem dX2_after_0 : decode cX2_after 0 = .ok (.aload_n 0, 1) := dk_42 (dk_at dksX2_after_0 0 rfl rfl)
theorem dX2_after_1 : decode cX2_after 1 = .ok (.aload_n 1, 1) := dk_43 (dk_at dksX2_after_0 1 rfl rfl)
theorem dX2_after_2 : decode cX2_after 2 = .ok (.invokevirtual 152, 3) := dk_182 0 152 (dk_at dksX2_after_0 2 rfl rfl)
theorem dX2_after_5 : decode cX2_after 5 = .ok (.aload_n 0, 1) := dk_42 (dk_at dksX2_after_0 5 rfl rfl)
theorem dX2_after_6 : decode cX2_after 6 = .ok (.iload_n 2, 1) := dk_28 (dk_at dksX2_after_0 6 rfl rfl)
theorem dX2_after_7 : decode cX2_after 7 = .ok (.iload_n 3, 1) := dk_29 (dk_at dksX2_after_0 7 rfl rfl)
theorem dX2_after_8 : decode cX2_after 8 = .ok (.invokevirtual 156, 3) := dk_182 0 156 (dk_at dksX2_after_0 8 rfl rfl)
theorem dX2_after_11 : decode cX2_after 11 = .ok (.ireturn, 1) := dk_172 (dk_at dksX2_after_0 11 rfl rfl)
abbrev cX2_must : ByteArray := prog_15_method_19_code
def yX2_must : MethodName := ⟨RX2, "must", "(Ljava/lang/String;)V"⟩
def dkwX2_must_1 : List UInt8 := [177]
abbrev dktX2_must_1 : List UInt8 := dkwX2_must_1 ++ []
def dkwX2_must_0 : List UInt8 := [42, 180, 0, 91, 154, 0, 20, 42, 43, 182, 0, 115, 154, 0, 12, 42, 4, 42, 180, 0, 72, 182, 0, 118]
abbrev dktX2_must_0 : List UInt8 := dkwX2_must_0 ++ dktX2_must_1
theorem dksX2_must_0 : cX2_must.data.toList.drop 0 = dktX2_must_0 := by decide +kernel
theorem dksX2_must_1 : cX2_must.data.toList.drop 24 = dktX2_must_1 := dk_seg dksX2_must_0 24 rfl rfl
theorem dX2_must_0 : decode cX2_must 0 = .ok (.aload_n 0, 1) := dk_42 (dk_at dksX2_must_0 0 rfl rfl)
theorem dX2_must_1 : decode cX2_must 1 = .ok (.getfield 91, 3) := dk_180 0 91 (dk_at dksX2_must_0 1 rfl rfl)
theorem dX2_must_4 : decode cX2_must 4 = .ok (.ifCond .ne 20, 3) := dk_154 0 20 (dk_at dksX2_must_0 4 rfl rfl)
theorem dX2_must_7 : decode cX2_must 7 = .ok (.aload_n 0, 1) := dk_42 (dk_at dksX2_must_0 7 rfl rfl)
theorem dX2_must_8 : decode cX2_must 8 = .ok (.aload_n 1, 1) := dk_43 (dk_at dksX2_must_0 8 rfl rfl)
theorem dX2_must_9 : decode cX2_must 9 = .ok (.invokevirtual 115, 3) := dk_182 0 115 (dk_at dksX2_must_0 9 rfl rfl)
theorem dX2_must_12 : decode cX2_must 12 = .ok (.ifCond .ne 12, 3) := dk_154 0 12 (dk_at dksX2_must_0 12 rfl rfl)
theorem dX2_must_15 : decode cX2_must 15 = .ok (.aload_n 0, 1) := dk_42 (dk_at dksX2_must_0 15 rfl rfl)
theorem dX2_must_16 : decode cX2_must 16 = .ok (.iconst 1, 1) := dk_4 (dk_at dksX2_must_0 16 rfl rfl)
theorem dX2_must_17 : decode cX2_must 17 = .ok (.aload_n 0, 1) := dk_42 (dk_at dksX2_must_0 17 rfl rfl)
theorem dX2_must_18 : decode cX2_must 18 = .ok (.getfield 72, 3) := dk_180 0 72 (dk_at dksX2_must_0 18 rfl rfl)
theorem dX2_must_21 : decode cX2_must 21 = .ok (.invokevirtual 118, 3) := dk_182 0 118 (dk_at dksX2_must_0 21 rfl rfl)
theorem dX2_must_24 : decode cX2_must 24 = .ok (.return_, 1) := dk_177 (dk_at dksX2_must_1 0 rfl rfl)
abbrev cX2_takesWord : ByteArray := prog_15_method_18_code
def yX2_takesWord : MethodName := ⟨RX2, "takesWord", "(Ljava/lang/String;)Z"⟩
def dkwX2_takesWord_0 : List UInt8 := [42, 43, 182, 0, 108, 154, 0, 5, 3, 172, 42, 182, 0, 112, 4, 172]
abbrev dktX2_takesWord_0 : List UInt8 := dkwX2_takesWord_0 ++ []
theorem dksX2_takesWord_0 : cX2_takesWord.data.toList.drop 0 = dktX2_takesWord_0 := by decide +kernel
theorem dX2_takesWord_0 : decode cX2_takesWord 0 = .ok (.aload_n 0, 1) := dk_42 (dk_at dksX2_takesWord_0 0 rfl rfl)
theorem dX2_takesWord_1 : decode cX2_takesWord 1 = .ok (.aload_n 1, 1) := dk_43 (dk_at dksX2_takesWord_0 1 rfl rfl)
theorem dX2_takesWord_2 : decode cX2_takesWord 2 = .ok (.invokevirtual 108, 3) := dk_182 0 108 (dk_at dksX2_takesWord_0 2 rfl rfl)
theorem dX2_takesWord_5 : decode cX2_takesWord 5 = .ok (.ifCond .ne 5, 3) := dk_154 0 5 (dk_at dksX2_takesWord_0 5 rfl rfl)
theorem dX2_takesWord_8 : decode cX2_takesWord 8 = .ok (.iconst 0, 1) := dk_3 (dk_at dksX2_takesWord_0 8 rfl rfl)
theorem dX2_takesWord_9 : decode cX2_takesWord 9 = .ok (.ireturn, 1) := dk_172 (dk_at dksX2_takesWord_0 9 rfl rfl)
theorem dX2_takesWord_10 : decode cX2_takesWord 10 = .ok (.aload_n 0, 1) := dk_42 (dk_at dksX2_takesWord_0 10 rfl rfl)
theorem dX2_takesWord_11 : decode cX2_takesWord 11 = .ok (.invokevirtual 112, 3) := dk_182 0 112 (dk_at dksX2_takesWord_0 11 rfl rfl)
theorem dX2_takesWord_14 : decode cX2_takesWord 14 = .ok (.iconst 1, 1) := dk_4 (dk_at dksX2_takesWord_0 14 rfl rfl)
theorem dX2_takesWord_15 : decode cX2_takesWord 15 = .ok (.ireturn, 1) := dk_172 (dk_at dksX2_takesWord_0 15 rfl rfl)
abbrev cX2_number : ByteArray := prog_15_method_27_code
def yX2_number : MethodName := ⟨RX2, "number", "(II)I"⟩
def dkwX2_number_2 : List UInt8 := [182, 0, 118, 42, 180, 0, 91, 153, 0, 5, 27, 172, 42, 180, 0, 78, 62, 42, 182, 0, 112, 29, 172]
abbrev dktX2_number_2 : List UInt8 := dkwX2_number_2 ++ []
def dkwX2_number_1 : List UInt8 := [182, 0, 118, 167, 0, 24, 42, 180, 0, 78, 27, 28, 184, 0, 144, 154, 0, 12, 42, 7, 42, 180, 0, 72]
abbrev dktX2_number_1 : List UInt8 := dkwX2_number_1 ++ dktX2_number_2
def dkwX2_number_0 : List UInt8 := [42, 180, 0, 91, 153, 0, 5, 27, 172, 42, 180, 0, 81, 6, 159, 0, 15, 42, 4, 42, 180, 0, 72]
abbrev dktX2_number_0 : List UInt8 := dkwX2_number_0 ++ dktX2_number_1
theorem dksX2_number_0 : cX2_number.data.toList.drop 0 = dktX2_number_0 := by decide +kernel
theorem dksX2_number_1 : cX2_number.data.toList.drop 23 = dktX2_number_1 := dk_seg dksX2_number_0 23 rfl rfl
theorem dksX2_number_2 : cX2_number.data.toList.drop 47 = dktX2_number_2 := dk_seg dksX2_number_1 24 rfl rfl
theorem dX2_number_0 : decode cX2_number 0 = .ok (.aload_n 0, 1) := dk_42 (dk_at dksX2_number_0 0 rfl rfl)
theorem dX2_number_1 : decode cX2_number 1 = .ok (.getfield 91, 3) := dk_180 0 91 (dk_at dksX2_number_0 1 rfl rfl)
theorem dX2_number_4 : decode cX2_number 4 = .ok (.ifCond .eq 5, 3) := dk_153 0 5 (dk_at dksX2_number_0 4 rfl rfl)
theorem dX2_number_7 : decode cX2_number 7 = .ok (.iload_n 1, 1) := dk_27 (dk_at dksX2_number_0 7 rfl rfl)
theorem dX2_number_8 : decode cX2_number 8 = .ok (.ireturn, 1) := dk_172 (dk_at dksX2_number_0 8 rfl rfl)
theorem dX2_number_9 : decode cX2_number 9 = .ok (.aload_n 0, 1) := dk_42 (dk_at dksX2_number_0 9 rfl rfl)
theorem dX2_number_10 : decode cX2_number 10 = .ok (.getfield 81, 3) := dk_180 0 81 (dk_at dksX2_number_0 10 rfl rfl)
theorem dX2_number_13 : decode cX2_number 13 = .ok (.iconst 3, 1) := dk_6 (dk_at dksX2_number_0 13 rfl rfl)
theorem dX2_number_14 : decode cX2_number 14 = .ok (.if_icmp .eq 15, 3) := dk_159 0 15 (dk_at dksX2_number_0 14 rfl rfl)
theorem dX2_number_17 : decode cX2_number 17 = .ok (.aload_n 0, 1) := dk_42 (dk_at dksX2_number_0 17 rfl rfl)
theorem dX2_number_18 : decode cX2_number 18 = .ok (.iconst 1, 1) := dk_4 (dk_at dksX2_number_0 18 rfl rfl)
theorem dX2_number_19 : decode cX2_number 19 = .ok (.aload_n 0, 1) := dk_42 (dk_at dksX2_number_0 19 rfl rfl)
theorem dX2_number_20 : decode cX2_number 20 = .ok (.getfield 72, 3) := dk_180 0 72 (dk_at dksX2_number_0 20 rfl rfl)
theorem dX2_number_23 : decode cX2_number 23 = .ok (.invokevirtual 118, 3) := dk_182 0 118 (dk_at dksX2_number_1 0 rfl rfl)
theorem dX2_number_26 : decode cX2_number 26 = .ok (.goto 24, 3) := dk_167 0 24 (dk_at dksX2_number_1 3 rfl rfl)
theorem dX2_number_29 : decode cX2_number 29 = .ok (.aload_n 0, 1) := dk_42 (dk_at dksX2_number_1 6 rfl rfl)
theorem dX2_number_30 : decode cX2_number 30 = .ok (.getfield 78, 3) := dk_180 0 78 (dk_at dksX2_number_1 7 rfl rfl)
theorem dX2_number_33 : decode cX2_number 33 = .ok (.iload_n 1, 1) := dk_27 (dk_at dksX2_number_1 10 rfl rfl)
theorem dX2_number_34 : decode cX2_number 34 = .ok (.iload_n 2, 1) := dk_28 (dk_at dksX2_number_1 11 rfl rfl)
theorem dX2_number_35 : decode cX2_number 35 = .ok (.invokestatic 144, 3) := dk_184 0 144 (dk_at dksX2_number_1 12 rfl rfl)
theorem dX2_number_38 : decode cX2_number 38 = .ok (.ifCond .ne 12, 3) := dk_154 0 12 (dk_at dksX2_number_1 15 rfl rfl)
theorem dX2_number_41 : decode cX2_number 41 = .ok (.aload_n 0, 1) := dk_42 (dk_at dksX2_number_1 18 rfl rfl)
theorem dX2_number_42 : decode cX2_number 42 = .ok (.iconst 4, 1) := dk_7 (dk_at dksX2_number_1 19 rfl rfl)
theorem dX2_number_43 : decode cX2_number 43 = .ok (.aload_n 0, 1) := dk_42 (dk_at dksX2_number_1 20 rfl rfl)
theorem dX2_number_44 : decode cX2_number 44 = .ok (.getfield 72, 3) := dk_180 0 72 (dk_at dksX2_number_1 21 rfl rfl)
theorem dX2_number_47 : decode cX2_number 47 = .ok (.invokevirtual 118, 3) := dk_182 0 118 (dk_at dksX2_number_2 0 rfl rfl)
theorem dX2_number_50 : decode cX2_number 50 = .ok (.aload_n 0, 1) := dk_42 (dk_at dksX2_number_2 3 rfl rfl)
theorem dX2_number_51 : decode cX2_number 51 = .ok (.getfield 91, 3) := dk_180 0 91 (dk_at dksX2_number_2 4 rfl rfl)
theorem dX2_number_54 : decode cX2_number 54 = .ok (.ifCond .eq 5, 3) := dk_153 0 5 (dk_at dksX2_number_2 7 rfl rfl)
theorem dX2_number_57 : decode cX2_number 57 = .ok (.iload_n 1, 1) := dk_27 (dk_at dksX2_number_2 10 rfl rfl)
theorem dX2_number_58 : decode cX2_number 58 = .ok (.ireturn, 1) := dk_172 (dk_at dksX2_number_2 11 rfl rfl)
theorem dX2_number_59 : decode cX2_number 59 = .ok (.aload_n 0, 1) := dk_42 (dk_at dksX2_number_2 12 rfl rfl)
theorem dX2_number_60 : decode cX2_number 60 = .ok (.getfield 78, 3) := dk_180 0 78 (dk_at dksX2_number_2 13 rfl rfl)
theorem dX2_number_63 : decode cX2_number 63 = .ok (.istore_n 3, 1) := dk_62 (dk_at dksX2_number_2 16 rfl rfl)
theorem dX2_number_64 : decode cX2_number 64 = .ok (.aload_n 0, 1) := dk_42 (dk_at dksX2_number_2 17 rfl rfl)
theorem dX2_number_65 : decode cX2_number 65 = .ok (.invokevirtual 112, 3) := dk_182 0 112 (dk_at dksX2_number_2 18 rfl rfl)
theorem dX2_number_68 : decode cX2_number 68 = .ok (.iload_n 3, 1) := dk_29 (dk_at dksX2_number_2 21 rfl rfl)
theorem dX2_number_69 : decode cX2_number 69 = .ok (.ireturn, 1) := dk_172 (dk_at dksX2_number_2 22 rfl rfl)
abbrev cX2_begins : ByteArray := prog_15_method_31_code
def yX2_begins : MethodName := ⟨RX2, "begins", "(Ljava/lang/String;Z)Z"⟩
def dkwX2_begins_2 : List UInt8 := [154, 0, 7, 42, 182, 0, 112, 4, 172]
abbrev dktX2_begins_2 : List UInt8 := dkwX2_begins_2 ++ []
def dkwX2_begins_1 : List UInt8 := [180, 0, 23, 3, 46, 154, 0, 13, 42, 16, 6, 42, 180, 0, 72, 182, 0, 118, 42, 180, 0, 91]
abbrev dktX2_begins_1 : List UInt8 := dkwX2_begins_1 ++ dktX2_begins_2
def dkwX2_begins_0 : List UInt8 := [42, 43, 182, 0, 108, 154, 0, 5, 3, 172, 28, 154, 0, 12, 42, 8, 42, 180, 0, 72, 182, 0, 118, 42]
abbrev dktX2_begins_0 : List UInt8 := dkwX2_begins_0 ++ dktX2_begins_1
theorem dksX2_begins_0 : cX2_begins.data.toList.drop 0 = dktX2_begins_0 := by decide +kernel
theorem dksX2_begins_1 : cX2_begins.data.toList.drop 24 = dktX2_begins_1 := dk_seg dksX2_begins_0 24 rfl rfl
theorem dksX2_begins_2 : cX2_begins.data.toList.drop 46 = dktX2_begins_2 := dk_seg dksX2_begins_1 22 rfl rfl
theorem dX2_begins_0 : decode cX2_begins 0 = .ok (.aload_n 0, 1) := dk_42 (dk_at dksX2_begins_0 0 rfl rfl)
theorem dX2_begins_1 : decode cX2_begins 1 = .ok (.aload_n 1, 1) := dk_43 (dk_at dksX2_begins_0 1 rfl rfl)
theorem dX2_begins_2 : decode cX2_begins 2 = .ok (.invokevirtual 108, 3) := dk_182 0 108 (dk_at dksX2_begins_0 2 rfl rfl)
theorem dX2_begins_5 : decode cX2_begins 5 = .ok (.ifCond .ne 5, 3) := dk_154 0 5 (dk_at dksX2_begins_0 5 rfl rfl)
theorem dX2_begins_8 : decode cX2_begins 8 = .ok (.iconst 0, 1) := dk_3 (dk_at dksX2_begins_0 8 rfl rfl)
theorem dX2_begins_9 : decode cX2_begins 9 = .ok (.ireturn, 1) := dk_172 (dk_at dksX2_begins_0 9 rfl rfl)
theorem dX2_begins_10 : decode cX2_begins 10 = .ok (.iload_n 2, 1) := dk_28 (dk_at dksX2_begins_0 10 rfl rfl)
theorem dX2_begins_11 : decode cX2_begins 11 = .ok (.ifCond .ne 12, 3) := dk_154 0 12 (dk_at dksX2_begins_0 11 rfl rfl)
theorem dX2_begins_14 : decode cX2_begins 14 = .ok (.aload_n 0, 1) := dk_42 (dk_at dksX2_begins_0 14 rfl rfl)
theorem dX2_begins_15 : decode cX2_begins 15 = .ok (.iconst 5, 1) := dk_8 (dk_at dksX2_begins_0 15 rfl rfl)
theorem dX2_begins_16 : decode cX2_begins 16 = .ok (.aload_n 0, 1) := dk_42 (dk_at dksX2_begins_0 16 rfl rfl)
theorem dX2_begins_17 : decode cX2_begins 17 = .ok (.getfield 72, 3) := dk_180 0 72 (dk_at dksX2_begins_0 17 rfl rfl)
theorem dX2_begins_20 : decode cX2_begins 20 = .ok (.invokevirtual 118, 3) := dk_182 0 118 (dk_at dksX2_begins_0 20 rfl rfl)
theorem dX2_begins_23 : decode cX2_begins 23 = .ok (.aload_n 0, 1) := dk_42 (dk_at dksX2_begins_0 23 rfl rfl)
theorem dX2_begins_24 : decode cX2_begins 24 = .ok (.getfield 23, 3) := dk_180 0 23 (dk_at dksX2_begins_1 0 rfl rfl)
theorem dX2_begins_27 : decode cX2_begins 27 = .ok (.iconst 0, 1) := dk_3 (dk_at dksX2_begins_1 3 rfl rfl)
theorem dX2_begins_28 : decode cX2_begins 28 = .ok (.iaload, 1) := dk_46 (dk_at dksX2_begins_1 4 rfl rfl)
theorem dX2_begins_29 : decode cX2_begins 29 = .ok (.ifCond .ne 13, 3) := dk_154 0 13 (dk_at dksX2_begins_1 5 rfl rfl)
theorem dX2_begins_32 : decode cX2_begins 32 = .ok (.aload_n 0, 1) := dk_42 (dk_at dksX2_begins_1 8 rfl rfl)
theorem dX2_begins_33 : decode cX2_begins 33 = .ok (.bipush 6, 2) := dk_16 6 (dk_at dksX2_begins_1 9 rfl rfl)
theorem dX2_begins_35 : decode cX2_begins 35 = .ok (.aload_n 0, 1) := dk_42 (dk_at dksX2_begins_1 11 rfl rfl)
theorem dX2_begins_36 : decode cX2_begins 36 = .ok (.getfield 72, 3) := dk_180 0 72 (dk_at dksX2_begins_1 12 rfl rfl)
theorem dX2_begins_39 : decode cX2_begins 39 = .ok (.invokevirtual 118, 3) := dk_182 0 118 (dk_at dksX2_begins_1 15 rfl rfl)
theorem dX2_begins_42 : decode cX2_begins 42 = .ok (.aload_n 0, 1) := dk_42 (dk_at dksX2_begins_1 18 rfl rfl)
theorem dX2_begins_43 : decode cX2_begins 43 = .ok (.getfield 91, 3) := dk_180 0 91 (dk_at dksX2_begins_1 19 rfl rfl)
theorem dX2_begins_46 : decode cX2_begins 46 = .ok (.ifCond .ne 7, 3) := dk_154 0 7 (dk_at dksX2_begins_2 0 rfl rfl)
theorem dX2_begins_49 : decode cX2_begins 49 = .ok (.aload_n 0, 1) := dk_42 (dk_at dksX2_begins_2 3 rfl rfl)
theorem dX2_begins_50 : decode cX2_begins 50 = .ok (.invokevirtual 112, 3) := dk_182 0 112 (dk_at dksX2_begins_2 4 rfl rfl)
theorem dX2_begins_53 : decode cX2_begins 53 = .ok (.iconst 1, 1) := dk_4 (dk_at dksX2_begins_2 7 rfl rfl)
theorem dX2_begins_54 : decode cX2_begins 54 = .ok (.ireturn, 1) := dk_172 (dk_at dksX2_begins_2 8 rfl rfl)
abbrev cX2_bendLine : ByteArray := prog_15_method_34_code
def yX2_bendLine : MethodName := ⟨RX2, "bendLine", "()V"⟩
def dkwX2_bendLine_3 : List UInt8 := [92, 46, 4, 96, 79, 177]
abbrev dktX2_bendLine_3 : List UInt8 := dkwX2_bendLine_3 ++ []
def dkwX2_bendLine_2 : List UInt8 := [42, 180, 0, 23, 27, 4, 96, 42, 182, 0, 233, 79, 42, 180, 0, 91, 154, 0, 13, 42, 180, 0, 23, 8]
abbrev dktX2_bendLine_2 : List UInt8 := dkwX2_bendLine_2 ++ dktX2_bendLine_3
def dkwX2_bendLine_1 : List UInt8 := [180, 0, 23, 8, 46, 96, 182, 0, 227, 42, 180, 0, 23, 27, 42, 18, 231, 4, 16, 30, 182, 0, 215, 79]
abbrev dktX2_bendLine_1 : List UInt8 := dkwX2_bendLine_1 ++ dktX2_bendLine_2
def dkwX2_bendLine_0 : List UInt8 := [42, 180, 0, 91, 153, 0, 4, 177, 16, 11, 5, 42, 180, 0, 23, 8, 46, 104, 96, 60, 42, 7, 42]
abbrev dktX2_bendLine_0 : List UInt8 := dkwX2_bendLine_0 ++ dktX2_bendLine_1
theorem dksX2_bendLine_0 : cX2_bendLine.data.toList.drop 0 = dktX2_bendLine_0 := by decide +kernel
theorem dksX2_bendLine_1 : cX2_bendLine.data.toList.drop 23 = dktX2_bendLine_1 := dk_seg dksX2_bendLine_0 23 rfl rfl
theorem dksX2_bendLine_2 : cX2_bendLine.data.toList.drop 47 = dktX2_bendLine_2 := dk_seg dksX2_bendLine_1 24 rfl rfl
theorem dksX2_bendLine_3 : cX2_bendLine.data.toList.drop 71 = dktX2_bendLine_3 := dk_seg dksX2_bendLine_2 24 rfl rfl
theorem dX2_bendLine_0 : decode cX2_bendLine 0 = .ok (.aload_n 0, 1) := dk_42 (dk_at dksX2_bendLine_0 0 rfl rfl)
theorem dX2_bendLine_1 : decode cX2_bendLine 1 = .ok (.getfield 91, 3) := dk_180 0 91 (dk_at dksX2_bendLine_0 1 rfl rfl)
theorem dX2_bendLine_4 : decode cX2_bendLine 4 = .ok (.ifCond .eq 4, 3) := dk_153 0 4 (dk_at dksX2_bendLine_0 4 rfl rfl)
theorem dX2_bendLine_7 : decode cX2_bendLine 7 = .ok (.return_, 1) := dk_177 (dk_at dksX2_bendLine_0 7 rfl rfl)
theorem dX2_bendLine_8 : decode cX2_bendLine 8 = .ok (.bipush 11, 2) := dk_16 11 (dk_at dksX2_bendLine_0 8 rfl rfl)
theorem dX2_bendLine_10 : decode cX2_bendLine 10 = .ok (.iconst 2, 1) := dk_5 (dk_at dksX2_bendLine_0 10 rfl rfl)
theorem dX2_bendLine_11 : decode cX2_bendLine 11 = .ok (.aload_n 0, 1) := dk_42 (dk_at dksX2_bendLine_0 11 rfl rfl)
theorem dX2_bendLine_12 : decode cX2_bendLine 12 = .ok (.getfield 23, 3) := dk_180 0 23 (dk_at dksX2_bendLine_0 12 rfl rfl)
theorem dX2_bendLine_15 : decode cX2_bendLine 15 = .ok (.iconst 5, 1) := dk_8 (dk_at dksX2_bendLine_0 15 rfl rfl)
theorem dX2_bendLine_16 : decode cX2_bendLine 16 = .ok (.iaload, 1) := dk_46 (dk_at dksX2_bendLine_0 16 rfl rfl)
theorem dX2_bendLine_17 : decode cX2_bendLine 17 = .ok (.imul, 1) := dk_104 (dk_at dksX2_bendLine_0 17 rfl rfl)
theorem dX2_bendLine_18 : decode cX2_bendLine 18 = .ok (.iadd, 1) := dk_96 (dk_at dksX2_bendLine_0 18 rfl rfl)
theorem dX2_bendLine_19 : decode cX2_bendLine 19 = .ok (.istore_n 1, 1) := dk_60 (dk_at dksX2_bendLine_0 19 rfl rfl)
theorem dX2_bendLine_20 : decode cX2_bendLine 20 = .ok (.aload_n 0, 1) := dk_42 (dk_at dksX2_bendLine_0 20 rfl rfl)
theorem dX2_bendLine_21 : decode cX2_bendLine 21 = .ok (.iconst 4, 1) := dk_7 (dk_at dksX2_bendLine_0 21 rfl rfl)
theorem dX2_bendLine_22 : decode cX2_bendLine 22 = .ok (.aload_n 0, 1) := dk_42 (dk_at dksX2_bendLine_0 22 rfl rfl)
theorem dX2_bendLine_23 : decode cX2_bendLine 23 = .ok (.getfield 23, 3) := dk_180 0 23 (dk_at dksX2_bendLine_1 0 rfl rfl)
theorem dX2_bendLine_26 : decode cX2_bendLine 26 = .ok (.iconst 5, 1) := dk_8 (dk_at dksX2_bendLine_1 3 rfl rfl)
theorem dX2_bendLine_27 : decode cX2_bendLine 27 = .ok (.iaload, 1) := dk_46 (dk_at dksX2_bendLine_1 4 rfl rfl)
theorem dX2_bendLine_28 : decode cX2_bendLine 28 = .ok (.iadd, 1) := dk_96 (dk_at dksX2_bendLine_1 5 rfl rfl)
theorem dX2_bendLine_29 : decode cX2_bendLine 29 = .ok (.invokevirtual 227, 3) := dk_182 0 227 (dk_at dksX2_bendLine_1 6 rfl rfl)
theorem dX2_bendLine_32 : decode cX2_bendLine 32 = .ok (.aload_n 0, 1) := dk_42 (dk_at dksX2_bendLine_1 9 rfl rfl)
theorem dX2_bendLine_33 : decode cX2_bendLine 33 = .ok (.getfield 23, 3) := dk_180 0 23 (dk_at dksX2_bendLine_1 10 rfl rfl)
theorem dX2_bendLine_36 : decode cX2_bendLine 36 = .ok (.iload_n 1, 1) := dk_27 (dk_at dksX2_bendLine_1 13 rfl rfl)
theorem dX2_bendLine_37 : decode cX2_bendLine 37 = .ok (.aload_n 0, 1) := dk_42 (dk_at dksX2_bendLine_1 14 rfl rfl)
theorem dX2_bendLine_38 : decode cX2_bendLine 38 = .ok (.ldc 231, 2) := dk_18 231 (dk_at dksX2_bendLine_1 15 rfl rfl)
theorem dX2_bendLine_40 : decode cX2_bendLine 40 = .ok (.iconst 1, 1) := dk_4 (dk_at dksX2_bendLine_1 17 rfl rfl)
theorem dX2_bendLine_41 : decode cX2_bendLine 41 = .ok (.bipush 30, 2) := dk_16 30 (dk_at dksX2_bendLine_1 18 rfl rfl)
theorem dX2_bendLine_43 : decode cX2_bendLine 43 = .ok (.invokevirtual 215, 3) := dk_182 0 215 (dk_at dksX2_bendLine_1 20 rfl rfl)
theorem dX2_bendLine_46 : decode cX2_bendLine 46 = .ok (.iastore, 1) := dk_79 (dk_at dksX2_bendLine_1 23 rfl rfl)
theorem dX2_bendLine_47 : decode cX2_bendLine 47 = .ok (.aload_n 0, 1) := dk_42 (dk_at dksX2_bendLine_2 0 rfl rfl)
theorem dX2_bendLine_48 : decode cX2_bendLine 48 = .ok (.getfield 23, 3) := dk_180 0 23 (dk_at dksX2_bendLine_2 1 rfl rfl)
theorem dX2_bendLine_51 : decode cX2_bendLine 51 = .ok (.iload_n 1, 1) := dk_27 (dk_at dksX2_bendLine_2 4 rfl rfl)
theorem dX2_bendLine_52 : decode cX2_bendLine 52 = .ok (.iconst 1, 1) := dk_4 (dk_at dksX2_bendLine_2 5 rfl rfl)
theorem dX2_bendLine_53 : decode cX2_bendLine 53 = .ok (.iadd, 1) := dk_96 (dk_at dksX2_bendLine_2 6 rfl rfl)
theorem dX2_bendLine_54 : decode cX2_bendLine 54 = .ok (.aload_n 0, 1) := dk_42 (dk_at dksX2_bendLine_2 7 rfl rfl)
theorem dX2_bendLine_55 : decode cX2_bendLine 55 = .ok (.invokevirtual 233, 3) := dk_182 0 233 (dk_at dksX2_bendLine_2 8 rfl rfl)
theorem dX2_bendLine_58 : decode cX2_bendLine 58 = .ok (.iastore, 1) := dk_79 (dk_at dksX2_bendLine_2 11 rfl rfl)
theorem dX2_bendLine_59 : decode cX2_bendLine 59 = .ok (.aload_n 0, 1) := dk_42 (dk_at dksX2_bendLine_2 12 rfl rfl)
theorem dX2_bendLine_60 : decode cX2_bendLine 60 = .ok (.getfield 91, 3) := dk_180 0 91 (dk_at dksX2_bendLine_2 13 rfl rfl)
theorem dX2_bendLine_63 : decode cX2_bendLine 63 = .ok (.ifCond .ne 13, 3) := dk_154 0 13 (dk_at dksX2_bendLine_2 16 rfl rfl)
theorem dX2_bendLine_66 : decode cX2_bendLine 66 = .ok (.aload_n 0, 1) := dk_42 (dk_at dksX2_bendLine_2 19 rfl rfl)
theorem dX2_bendLine_67 : decode cX2_bendLine 67 = .ok (.getfield 23, 3) := dk_180 0 23 (dk_at dksX2_bendLine_2 20 rfl rfl)
theorem dX2_bendLine_70 : decode cX2_bendLine 70 = .ok (.iconst 5, 1) := dk_8 (dk_at dksX2_bendLine_2 23 rfl rfl)
theorem dX2_bendLine_71 : decode cX2_bendLine 71 = .ok (.dup2, 1) := dk_92 (dk_at dksX2_bendLine_3 0 rfl rfl)
theorem dX2_bendLine_72 : decode cX2_bendLine 72 = .ok (.iaload, 1) := dk_46 (dk_at dksX2_bendLine_3 1 rfl rfl)
theorem dX2_bendLine_73 : decode cX2_bendLine 73 = .ok (.iconst 1, 1) := dk_4 (dk_at dksX2_bendLine_3 2 rfl rfl)
theorem dX2_bendLine_74 : decode cX2_bendLine 74 = .ok (.iadd, 1) := dk_96 (dk_at dksX2_bendLine_3 3 rfl rfl)
theorem dX2_bendLine_75 : decode cX2_bendLine 75 = .ok (.iastore, 1) := dk_79 (dk_at dksX2_bendLine_3 4 rfl rfl)
theorem dX2_bendLine_76 : decode cX2_bendLine 76 = .ok (.return_, 1) := dk_177 (dk_at dksX2_bendLine_3 5 rfl rfl)
abbrev cX2_newName : ByteArray := prog_15_method_22_code
def yX2_newName : MethodName := ⟨RX2, "newName", "(I)V"⟩
def dkwX2_newName_4 : List UInt8 := [182, 0, 112, 177]
abbrev dktX2_newName_4 : List UInt8 := dkwX2_newName_4 ++ []
def dkwX2_newName_3 : List UInt8 := [46, 79, 132, 2, 1, 167, 255, 225, 42, 180, 0, 23, 16, 74, 27, 96, 42, 180, 0, 75, 79, 42]
abbrev dktX2_newName_3 : List UInt8 := dkwX2_newName_3 ++ dktX2_newName_4
def dkwX2_newName_2 : List UInt8 := [180, 0, 75, 162, 0, 29, 42, 180, 0, 23, 16, 87, 16, 8, 27, 104, 96, 28, 96, 42, 180, 0, 17, 28]
abbrev dktX2_newName_2 : List UInt8 := dkwX2_newName_2 ++ dktX2_newName_3
def dkwX2_newName_1 : List UInt8 := [155, 0, 12, 42, 6, 42, 180, 0, 72, 182, 0, 118, 42, 180, 0, 91, 153, 0, 4, 177, 3, 61, 28, 42]
abbrev dktX2_newName_1 : List UInt8 := dkwX2_newName_1 ++ dktX2_newName_2
def dkwX2_newName_0 : List UInt8 := [42, 180, 0, 91, 153, 0, 4, 177, 42, 182, 0, 138, 42, 180, 0, 91, 154, 0, 19, 42, 182, 0, 141]
abbrev dktX2_newName_0 : List UInt8 := dkwX2_newName_0 ++ dktX2_newName_1
theorem dksX2_newName_0 : cX2_newName.data.toList.drop 0 = dktX2_newName_0 := by decide +kernel
theorem dksX2_newName_1 : cX2_newName.data.toList.drop 23 = dktX2_newName_1 := dk_seg dksX2_newName_0 23 rfl rfl
theorem dksX2_newName_2 : cX2_newName.data.toList.drop 47 = dktX2_newName_2 := dk_seg dksX2_newName_1 24 rfl rfl
theorem dksX2_newName_3 : cX2_newName.data.toList.drop 71 = dktX2_newName_3 := dk_seg dksX2_newName_2 24 rfl rfl
theorem dksX2_newName_4 : cX2_newName.data.toList.drop 93 = dktX2_newName_4 := dk_seg dksX2_newName_3 22 rfl rfl
theorem dX2_newName_0 : decode cX2_newName 0 = .ok (.aload_n 0, 1) := dk_42 (dk_at dksX2_newName_0 0 rfl rfl)
theorem dX2_newName_1 : decode cX2_newName 1 = .ok (.getfield 91, 3) := dk_180 0 91 (dk_at dksX2_newName_0 1 rfl rfl)
theorem dX2_newName_4 : decode cX2_newName 4 = .ok (.ifCond .eq 4, 3) := dk_153 0 4 (dk_at dksX2_newName_0 4 rfl rfl)
theorem dX2_newName_7 : decode cX2_newName 7 = .ok (.return_, 1) := dk_177 (dk_at dksX2_newName_0 7 rfl rfl)
theorem dX2_newName_8 : decode cX2_newName 8 = .ok (.aload_n 0, 1) := dk_42 (dk_at dksX2_newName_0 8 rfl rfl)
theorem dX2_newName_9 : decode cX2_newName 9 = .ok (.invokevirtual 138, 3) := dk_182 0 138 (dk_at dksX2_newName_0 9 rfl rfl)
theorem dX2_newName_12 : decode cX2_newName 12 = .ok (.aload_n 0, 1) := dk_42 (dk_at dksX2_newName_0 12 rfl rfl)
theorem dX2_newName_13 : decode cX2_newName 13 = .ok (.getfield 91, 3) := dk_180 0 91 (dk_at dksX2_newName_0 13 rfl rfl)
theorem dX2_newName_16 : decode cX2_newName 16 = .ok (.ifCond .ne 19, 3) := dk_154 0 19 (dk_at dksX2_newName_0 16 rfl rfl)
theorem dX2_newName_19 : decode cX2_newName 19 = .ok (.aload_n 0, 1) := dk_42 (dk_at dksX2_newName_0 19 rfl rfl)
theorem dX2_newName_20 : decode cX2_newName 20 = .ok (.invokevirtual 141, 3) := dk_182 0 141 (dk_at dksX2_newName_0 20 rfl rfl)
theorem dX2_newName_23 : decode cX2_newName 23 = .ok (.ifCond .lt 12, 3) := dk_155 0 12 (dk_at dksX2_newName_1 0 rfl rfl)
theorem dX2_newName_26 : decode cX2_newName 26 = .ok (.aload_n 0, 1) := dk_42 (dk_at dksX2_newName_1 3 rfl rfl)
theorem dX2_newName_27 : decode cX2_newName 27 = .ok (.iconst 3, 1) := dk_6 (dk_at dksX2_newName_1 4 rfl rfl)
theorem dX2_newName_28 : decode cX2_newName 28 = .ok (.aload_n 0, 1) := dk_42 (dk_at dksX2_newName_1 5 rfl rfl)
theorem dX2_newName_29 : decode cX2_newName 29 = .ok (.getfield 72, 3) := dk_180 0 72 (dk_at dksX2_newName_1 6 rfl rfl)
theorem dX2_newName_32 : decode cX2_newName 32 = .ok (.invokevirtual 118, 3) := dk_182 0 118 (dk_at dksX2_newName_1 9 rfl rfl)
theorem dX2_newName_35 : decode cX2_newName 35 = .ok (.aload_n 0, 1) := dk_42 (dk_at dksX2_newName_1 12 rfl rfl)
theorem dX2_newName_36 : decode cX2_newName 36 = .ok (.getfield 91, 3) := dk_180 0 91 (dk_at dksX2_newName_1 13 rfl rfl)
theorem dX2_newName_39 : decode cX2_newName 39 = .ok (.ifCond .eq 4, 3) := dk_153 0 4 (dk_at dksX2_newName_1 16 rfl rfl)
theorem dX2_newName_42 : decode cX2_newName 42 = .ok (.return_, 1) := dk_177 (dk_at dksX2_newName_1 19 rfl rfl)
theorem dX2_newName_43 : decode cX2_newName 43 = .ok (.iconst 0, 1) := dk_3 (dk_at dksX2_newName_1 20 rfl rfl)
theorem dX2_newName_44 : decode cX2_newName 44 = .ok (.istore_n 2, 1) := dk_61 (dk_at dksX2_newName_1 21 rfl rfl)
theorem dX2_newName_45 : decode cX2_newName 45 = .ok (.iload_n 2, 1) := dk_28 (dk_at dksX2_newName_1 22 rfl rfl)
theorem dX2_newName_46 : decode cX2_newName 46 = .ok (.aload_n 0, 1) := dk_42 (dk_at dksX2_newName_1 23 rfl rfl)
theorem dX2_newName_47 : decode cX2_newName 47 = .ok (.getfield 75, 3) := dk_180 0 75 (dk_at dksX2_newName_2 0 rfl rfl)
theorem dX2_newName_50 : decode cX2_newName 50 = .ok (.if_icmp .ge 29, 3) := dk_162 0 29 (dk_at dksX2_newName_2 3 rfl rfl)
theorem dX2_newName_53 : decode cX2_newName 53 = .ok (.aload_n 0, 1) := dk_42 (dk_at dksX2_newName_2 6 rfl rfl)
theorem dX2_newName_54 : decode cX2_newName 54 = .ok (.getfield 23, 3) := dk_180 0 23 (dk_at dksX2_newName_2 7 rfl rfl)
theorem dX2_newName_57 : decode cX2_newName 57 = .ok (.bipush 87, 2) := dk_16 87 (dk_at dksX2_newName_2 10 rfl rfl)
theorem dX2_newName_59 : decode cX2_newName 59 = .ok (.bipush 8, 2) := dk_16 8 (dk_at dksX2_newName_2 12 rfl rfl)
theorem dX2_newName_61 : decode cX2_newName 61 = .ok (.iload_n 1, 1) := dk_27 (dk_at dksX2_newName_2 14 rfl rfl)
theorem dX2_newName_62 : decode cX2_newName 62 = .ok (.imul, 1) := dk_104 (dk_at dksX2_newName_2 15 rfl rfl)
theorem dX2_newName_63 : decode cX2_newName 63 = .ok (.iadd, 1) := dk_96 (dk_at dksX2_newName_2 16 rfl rfl)
theorem dX2_newName_64 : decode cX2_newName 64 = .ok (.iload_n 2, 1) := dk_28 (dk_at dksX2_newName_2 17 rfl rfl)
theorem dX2_newName_65 : decode cX2_newName 65 = .ok (.iadd, 1) := dk_96 (dk_at dksX2_newName_2 18 rfl rfl)
theorem dX2_newName_66 : decode cX2_newName 66 = .ok (.aload_n 0, 1) := dk_42 (dk_at dksX2_newName_2 19 rfl rfl)
theorem dX2_newName_67 : decode cX2_newName 67 = .ok (.getfield 17, 3) := dk_180 0 17 (dk_at dksX2_newName_2 20 rfl rfl)
theorem dX2_newName_70 : decode cX2_newName 70 = .ok (.iload_n 2, 1) := dk_28 (dk_at dksX2_newName_2 23 rfl rfl)
theorem dX2_newName_71 : decode cX2_newName 71 = .ok (.iaload, 1) := dk_46 (dk_at dksX2_newName_3 0 rfl rfl)
theorem dX2_newName_72 : decode cX2_newName 72 = .ok (.iastore, 1) := dk_79 (dk_at dksX2_newName_3 1 rfl rfl)
theorem dX2_newName_73 : decode cX2_newName 73 = .ok (.iinc 2 1, 3) := dk_132 2 1 (dk_at dksX2_newName_3 2 rfl rfl)
theorem dX2_newName_76 : decode cX2_newName 76 = .ok (.goto (-31), 3) := dk_167 255 225 (dk_at dksX2_newName_3 5 rfl rfl)
theorem dX2_newName_79 : decode cX2_newName 79 = .ok (.aload_n 0, 1) := dk_42 (dk_at dksX2_newName_3 8 rfl rfl)
theorem dX2_newName_80 : decode cX2_newName 80 = .ok (.getfield 23, 3) := dk_180 0 23 (dk_at dksX2_newName_3 9 rfl rfl)
theorem dX2_newName_83 : decode cX2_newName 83 = .ok (.bipush 74, 2) := dk_16 74 (dk_at dksX2_newName_3 12 rfl rfl)
theorem dX2_newName_85 : decode cX2_newName 85 = .ok (.iload_n 1, 1) := dk_27 (dk_at dksX2_newName_3 14 rfl rfl)
theorem dX2_newName_86 : decode cX2_newName 86 = .ok (.iadd, 1) := dk_96 (dk_at dksX2_newName_3 15 rfl rfl)
theorem dX2_newName_87 : decode cX2_newName 87 = .ok (.aload_n 0, 1) := dk_42 (dk_at dksX2_newName_3 16 rfl rfl)
theorem dX2_newName_88 : decode cX2_newName 88 = .ok (.getfield 75, 3) := dk_180 0 75 (dk_at dksX2_newName_3 17 rfl rfl)
theorem dX2_newName_91 : decode cX2_newName 91 = .ok (.iastore, 1) := dk_79 (dk_at dksX2_newName_3 20 rfl rfl)
theorem dX2_newName_92 : decode cX2_newName 92 = .ok (.aload_n 0, 1) := dk_42 (dk_at dksX2_newName_3 21 rfl rfl)
theorem dX2_newName_93 : decode cX2_newName 93 = .ok (.invokevirtual 112, 3) := dk_182 0 112 (dk_at dksX2_newName_4 0 rfl rfl)
theorem dX2_newName_96 : decode cX2_newName 96 = .ok (.return_, 1) := dk_177 (dk_at dksX2_newName_4 3 rfl rfl)
abbrev cX2_mustName : ByteArray := prog_15_method_20_code
def yX2_mustName : MethodName := ⟨RX2, "mustName", "()V"⟩
def dkwX2_mustName_3 : List UInt8 := [42, 18, 136, 182, 0, 108, 153, 0, 12, 42, 4, 42, 180, 0, 72, 182, 0, 118, 177]
abbrev dktX2_mustName_3 : List UInt8 := dkwX2_mustName_3 ++ []
def dkwX2_mustName_2 : List UInt8 := [182, 0, 108, 154, 0, 30, 42, 18, 132, 182, 0, 108, 154, 0, 21, 42, 18, 134, 182, 0, 108, 154, 0, 12]
abbrev dktX2_mustName_2 : List UInt8 := dkwX2_mustName_2 ++ dktX2_mustName_3
def dkwX2_mustName_1 : List UInt8 := [154, 0, 57, 42, 18, 126, 182, 0, 108, 154, 0, 48, 42, 18, 128, 182, 0, 108, 154, 0, 39, 42, 18, 130]
abbrev dktX2_mustName_1 : List UInt8 := dkwX2_mustName_1 ++ dktX2_mustName_2
def dkwX2_mustName_0 : List UInt8 := [42, 180, 0, 81, 5, 160, 0, 75, 42, 18, 122, 182, 0, 108, 154, 0, 66, 42, 18, 124, 182, 0, 108]
abbrev dktX2_mustName_0 : List UInt8 := dkwX2_mustName_0 ++ dktX2_mustName_1
theorem dksX2_mustName_0 : cX2_mustName.data.toList.drop 0 = dktX2_mustName_0 := by decide +kernel
theorem dksX2_mustName_1 : cX2_mustName.data.toList.drop 23 = dktX2_mustName_1 := dk_seg dksX2_mustName_0 23 rfl rfl
theorem dksX2_mustName_2 : cX2_mustName.data.toList.drop 47 = dktX2_mustName_2 := dk_seg dksX2_mustName_1 24 rfl rfl
theorem dksX2_mustName_3 : cX2_mustName.data.toList.drop 71 = dktX2_mustName_3 := dk_seg dksX2_mustName_2 24 rfl rfl
theorem dX2_mustName_0 : decode cX2_mustName 0 = .ok (.aload_n 0, 1) := dk_42 (dk_at dksX2_mustName_0 0 rfl rfl)
theorem dX2_mustName_1 : decode cX2_mustName 1 = .ok (.getfield 81, 3) := dk_180 0 81 (dk_at dksX2_mustName_0 1 rfl rfl)
theorem dX2_mustName_4 : decode cX2_mustName 4 = .ok (.iconst 2, 1) := dk_5 (dk_at dksX2_mustName_0 4 rfl rfl)
theorem dX2_mustName_5 : decode cX2_mustName 5 = .ok (.if_icmp .ne 75, 3) := dk_160 0 75 (dk_at dksX2_mustName_0 5 rfl rfl)
theorem dX2_mustName_8 : decode cX2_mustName 8 = .ok (.aload_n 0, 1) := dk_42 (dk_at dksX2_mustName_0 8 rfl rfl)
theorem dX2_mustName_9 : decode cX2_mustName 9 = .ok (.ldc 122, 2) := dk_18 122 (dk_at dksX2_mustName_0 9 rfl rfl)
theorem dX2_mustName_11 : decode cX2_mustName 11 = .ok (.invokevirtual 108, 3) := dk_182 0 108 (dk_at dksX2_mustName_0 11 rfl rfl)
theorem dX2_mustName_14 : decode cX2_mustName 14 = .ok (.ifCond .ne 66, 3) := dk_154 0 66 (dk_at dksX2_mustName_0 14 rfl rfl)
theorem dX2_mustName_17 : decode cX2_mustName 17 = .ok (.aload_n 0, 1) := dk_42 (dk_at dksX2_mustName_0 17 rfl rfl)
theorem dX2_mustName_18 : decode cX2_mustName 18 = .ok (.ldc 124, 2) := dk_18 124 (dk_at dksX2_mustName_0 18 rfl rfl)
theorem dX2_mustName_20 : decode cX2_mustName 20 = .ok (.invokevirtual 108, 3) := dk_182 0 108 (dk_at dksX2_mustName_0 20 rfl rfl)
theorem dX2_mustName_23 : decode cX2_mustName 23 = .ok (.ifCond .ne 57, 3) := dk_154 0 57 (dk_at dksX2_mustName_1 0 rfl rfl)
theorem dX2_mustName_26 : decode cX2_mustName 26 = .ok (.aload_n 0, 1) := dk_42 (dk_at dksX2_mustName_1 3 rfl rfl)
theorem dX2_mustName_27 : decode cX2_mustName 27 = .ok (.ldc 126, 2) := dk_18 126 (dk_at dksX2_mustName_1 4 rfl rfl)
theorem dX2_mustName_29 : decode cX2_mustName 29 = .ok (.invokevirtual 108, 3) := dk_182 0 108 (dk_at dksX2_mustName_1 6 rfl rfl)
theorem dX2_mustName_32 : decode cX2_mustName 32 = .ok (.ifCond .ne 48, 3) := dk_154 0 48 (dk_at dksX2_mustName_1 9 rfl rfl)
theorem dX2_mustName_35 : decode cX2_mustName 35 = .ok (.aload_n 0, 1) := dk_42 (dk_at dksX2_mustName_1 12 rfl rfl)
theorem dX2_mustName_36 : decode cX2_mustName 36 = .ok (.ldc 128, 2) := dk_18 128 (dk_at dksX2_mustName_1 13 rfl rfl)
theorem dX2_mustName_38 : decode cX2_mustName 38 = .ok (.invokevirtual 108, 3) := dk_182 0 108 (dk_at dksX2_mustName_1 15 rfl rfl)
theorem dX2_mustName_41 : decode cX2_mustName 41 = .ok (.ifCond .ne 39, 3) := dk_154 0 39 (dk_at dksX2_mustName_1 18 rfl rfl)
theorem dX2_mustName_44 : decode cX2_mustName 44 = .ok (.aload_n 0, 1) := dk_42 (dk_at dksX2_mustName_1 21 rfl rfl)
theorem dX2_mustName_45 : decode cX2_mustName 45 = .ok (.ldc 130, 2) := dk_18 130 (dk_at dksX2_mustName_1 22 rfl rfl)
theorem dX2_mustName_47 : decode cX2_mustName 47 = .ok (.invokevirtual 108, 3) := dk_182 0 108 (dk_at dksX2_mustName_2 0 rfl rfl)
theorem dX2_mustName_50 : decode cX2_mustName 50 = .ok (.ifCond .ne 30, 3) := dk_154 0 30 (dk_at dksX2_mustName_2 3 rfl rfl)
theorem dX2_mustName_53 : decode cX2_mustName 53 = .ok (.aload_n 0, 1) := dk_42 (dk_at dksX2_mustName_2 6 rfl rfl)
theorem dX2_mustName_54 : decode cX2_mustName 54 = .ok (.ldc 132, 2) := dk_18 132 (dk_at dksX2_mustName_2 7 rfl rfl)
theorem dX2_mustName_56 : decode cX2_mustName 56 = .ok (.invokevirtual 108, 3) := dk_182 0 108 (dk_at dksX2_mustName_2 9 rfl rfl)
theorem dX2_mustName_59 : decode cX2_mustName 59 = .ok (.ifCond .ne 21, 3) := dk_154 0 21 (dk_at dksX2_mustName_2 12 rfl rfl)
theorem dX2_mustName_62 : decode cX2_mustName 62 = .ok (.aload_n 0, 1) := dk_42 (dk_at dksX2_mustName_2 15 rfl rfl)
theorem dX2_mustName_63 : decode cX2_mustName 63 = .ok (.ldc 134, 2) := dk_18 134 (dk_at dksX2_mustName_2 16 rfl rfl)
theorem dX2_mustName_65 : decode cX2_mustName 65 = .ok (.invokevirtual 108, 3) := dk_182 0 108 (dk_at dksX2_mustName_2 18 rfl rfl)
theorem dX2_mustName_68 : decode cX2_mustName 68 = .ok (.ifCond .ne 12, 3) := dk_154 0 12 (dk_at dksX2_mustName_2 21 rfl rfl)
theorem dX2_mustName_71 : decode cX2_mustName 71 = .ok (.aload_n 0, 1) := dk_42 (dk_at dksX2_mustName_3 0 rfl rfl)
theorem dX2_mustName_72 : decode cX2_mustName 72 = .ok (.ldc 136, 2) := dk_18 136 (dk_at dksX2_mustName_3 1 rfl rfl)
theorem dX2_mustName_74 : decode cX2_mustName 74 = .ok (.invokevirtual 108, 3) := dk_182 0 108 (dk_at dksX2_mustName_3 3 rfl rfl)
theorem dX2_mustName_77 : decode cX2_mustName 77 = .ok (.ifCond .eq 12, 3) := dk_153 0 12 (dk_at dksX2_mustName_3 6 rfl rfl)
theorem dX2_mustName_80 : decode cX2_mustName 80 = .ok (.aload_n 0, 1) := dk_42 (dk_at dksX2_mustName_3 9 rfl rfl)
theorem dX2_mustName_81 : decode cX2_mustName 81 = .ok (.iconst 1, 1) := dk_4 (dk_at dksX2_mustName_3 10 rfl rfl)
theorem dX2_mustName_82 : decode cX2_mustName 82 = .ok (.aload_n 0, 1) := dk_42 (dk_at dksX2_mustName_3 11 rfl rfl)
theorem dX2_mustName_83 : decode cX2_mustName 83 = .ok (.getfield 72, 3) := dk_180 0 72 (dk_at dksX2_mustName_3 12 rfl rfl)
theorem dX2_mustName_86 : decode cX2_mustName 86 = .ok (.invokevirtual 118, 3) := dk_182 0 118 (dk_at dksX2_mustName_3 15 rfl rfl)
theorem dX2_mustName_89 : decode cX2_mustName 89 = .ok (.return_, 1) := dk_177 (dk_at dksX2_mustName_3 18 rfl rfl)
abbrev cX2_find : ByteArray := prog_15_method_21_code
def yX2_find : MethodName := ⟨RX2, "find", "()I"⟩
def dkwX2_find_4 : List UInt8 := [153, 0, 5, 27, 172, 132, 1, 1, 167, 255, 158, 2, 172]
abbrev dktX2_find_4 : List UInt8 := dkwX2_find_4 ++ []
def dkwX2_find_3 : List UInt8 := [42, 180, 0, 17, 29, 46, 160, 0, 7, 4, 167, 0, 4, 3, 61, 132, 3, 1, 167, 255, 212, 28]
abbrev dktX2_find_3 : List UInt8 := dkwX2_find_3 ++ dktX2_find_4
def dkwX2_find_2 : List UInt8 := [180, 0, 75, 162, 0, 42, 28, 153, 0, 38, 42, 180, 0, 23, 16, 87, 16, 8, 27, 104, 96, 29, 96, 46]
abbrev dktX2_find_2 : List UInt8 := dkwX2_find_2 ++ dktX2_find_3
def dkwX2_find_1 : List UInt8 := [16, 74, 27, 96, 46, 42, 180, 0, 75, 160, 0, 7, 4, 167, 0, 4, 3, 61, 3, 62, 29, 42]
abbrev dktX2_find_1 : List UInt8 := dkwX2_find_1 ++ dktX2_find_2
def dkwX2_find_0 : List UInt8 := [3, 60, 27, 16, 13, 162, 0, 98, 42, 180, 0, 23, 16, 74, 27, 96, 46, 158, 0, 23, 42, 180, 0, 23]
abbrev dktX2_find_0 : List UInt8 := dkwX2_find_0 ++ dktX2_find_1
theorem dksX2_find_0 : cX2_find.data.toList.drop 0 = dktX2_find_0 := by decide +kernel
theorem dksX2_find_1 : cX2_find.data.toList.drop 24 = dktX2_find_1 := dk_seg dksX2_find_0 24 rfl rfl
theorem dksX2_find_2 : cX2_find.data.toList.drop 46 = dktX2_find_2 := dk_seg dksX2_find_1 22 rfl rfl
theorem dksX2_find_3 : cX2_find.data.toList.drop 70 = dktX2_find_3 := dk_seg dksX2_find_2 24 rfl rfl
theorem dksX2_find_4 : cX2_find.data.toList.drop 92 = dktX2_find_4 := dk_seg dksX2_find_3 22 rfl rfl
theorem dX2_find_0 : decode cX2_find 0 = .ok (.iconst 0, 1) := dk_3 (dk_at dksX2_find_0 0 rfl rfl)
theorem dX2_find_1 : decode cX2_find 1 = .ok (.istore_n 1, 1) := dk_60 (dk_at dksX2_find_0 1 rfl rfl)
theorem dX2_find_2 : decode cX2_find 2 = .ok (.iload_n 1, 1) := dk_27 (dk_at dksX2_find_0 2 rfl rfl)
theorem dX2_find_3 : decode cX2_find 3 = .ok (.bipush 13, 2) := dk_16 13 (dk_at dksX2_find_0 3 rfl rfl)
theorem dX2_find_5 : decode cX2_find 5 = .ok (.if_icmp .ge 98, 3) := dk_162 0 98 (dk_at dksX2_find_0 5 rfl rfl)
theorem dX2_find_8 : decode cX2_find 8 = .ok (.aload_n 0, 1) := dk_42 (dk_at dksX2_find_0 8 rfl rfl)
theorem dX2_find_9 : decode cX2_find 9 = .ok (.getfield 23, 3) := dk_180 0 23 (dk_at dksX2_find_0 9 rfl rfl)
theorem dX2_find_12 : decode cX2_find 12 = .ok (.bipush 74, 2) := dk_16 74 (dk_at dksX2_find_0 12 rfl rfl)
theorem dX2_find_14 : decode cX2_find 14 = .ok (.iload_n 1, 1) := dk_27 (dk_at dksX2_find_0 14 rfl rfl)
theorem dX2_find_15 : decode cX2_find 15 = .ok (.iadd, 1) := dk_96 (dk_at dksX2_find_0 15 rfl rfl)
theorem dX2_find_16 : decode cX2_find 16 = .ok (.iaload, 1) := dk_46 (dk_at dksX2_find_0 16 rfl rfl)
theorem dX2_find_17 : decode cX2_find 17 = .ok (.ifCond .le 23, 3) := dk_158 0 23 (dk_at dksX2_find_0 17 rfl rfl)
theorem dX2_find_20 : decode cX2_find 20 = .ok (.aload_n 0, 1) := dk_42 (dk_at dksX2_find_0 20 rfl rfl)
theorem dX2_find_21 : decode cX2_find 21 = .ok (.getfield 23, 3) := dk_180 0 23 (dk_at dksX2_find_0 21 rfl rfl)
theorem dX2_find_24 : decode cX2_find 24 = .ok (.bipush 74, 2) := dk_16 74 (dk_at dksX2_find_1 0 rfl rfl)
theorem dX2_find_26 : decode cX2_find 26 = .ok (.iload_n 1, 1) := dk_27 (dk_at dksX2_find_1 2 rfl rfl)
theorem dX2_find_27 : decode cX2_find 27 = .ok (.iadd, 1) := dk_96 (dk_at dksX2_find_1 3 rfl rfl)
theorem dX2_find_28 : decode cX2_find 28 = .ok (.iaload, 1) := dk_46 (dk_at dksX2_find_1 4 rfl rfl)
theorem dX2_find_29 : decode cX2_find 29 = .ok (.aload_n 0, 1) := dk_42 (dk_at dksX2_find_1 5 rfl rfl)
theorem dX2_find_30 : decode cX2_find 30 = .ok (.getfield 75, 3) := dk_180 0 75 (dk_at dksX2_find_1 6 rfl rfl)
theorem dX2_find_33 : decode cX2_find 33 = .ok (.if_icmp .ne 7, 3) := dk_160 0 7 (dk_at dksX2_find_1 9 rfl rfl)
theorem dX2_find_36 : decode cX2_find 36 = .ok (.iconst 1, 1) := dk_4 (dk_at dksX2_find_1 12 rfl rfl)
theorem dX2_find_37 : decode cX2_find 37 = .ok (.goto 4, 3) := dk_167 0 4 (dk_at dksX2_find_1 13 rfl rfl)
theorem dX2_find_40 : decode cX2_find 40 = .ok (.iconst 0, 1) := dk_3 (dk_at dksX2_find_1 16 rfl rfl)
theorem dX2_find_41 : decode cX2_find 41 = .ok (.istore_n 2, 1) := dk_61 (dk_at dksX2_find_1 17 rfl rfl)
theorem dX2_find_42 : decode cX2_find 42 = .ok (.iconst 0, 1) := dk_3 (dk_at dksX2_find_1 18 rfl rfl)
theorem dX2_find_43 : decode cX2_find 43 = .ok (.istore_n 3, 1) := dk_62 (dk_at dksX2_find_1 19 rfl rfl)
theorem dX2_find_44 : decode cX2_find 44 = .ok (.iload_n 3, 1) := dk_29 (dk_at dksX2_find_1 20 rfl rfl)
theorem dX2_find_45 : decode cX2_find 45 = .ok (.aload_n 0, 1) := dk_42 (dk_at dksX2_find_1 21 rfl rfl)
theorem dX2_find_46 : decode cX2_find 46 = .ok (.getfield 75, 3) := dk_180 0 75 (dk_at dksX2_find_2 0 rfl rfl)
theorem dX2_find_49 : decode cX2_find 49 = .ok (.if_icmp .ge 42, 3) := dk_162 0 42 (dk_at dksX2_find_2 3 rfl rfl)
theorem dX2_find_52 : decode cX2_find 52 = .ok (.iload_n 2, 1) := dk_28 (dk_at dksX2_find_2 6 rfl rfl)
theorem dX2_find_53 : decode cX2_find 53 = .ok (.ifCond .eq 38, 3) := dk_153 0 38 (dk_at dksX2_find_2 7 rfl rfl)
theorem dX2_find_56 : decode cX2_find 56 = .ok (.aload_n 0, 1) := dk_42 (dk_at dksX2_find_2 10 rfl rfl)
theorem dX2_find_57 : decode cX2_find 57 = .ok (.getfield 23, 3) := dk_180 0 23 (dk_at dksX2_find_2 11 rfl rfl)
theorem dX2_find_60 : decode cX2_find 60 = .ok (.bipush 87, 2) := dk_16 87 (dk_at dksX2_find_2 14 rfl rfl)
theorem dX2_find_62 : decode cX2_find 62 = .ok (.bipush 8, 2) := dk_16 8 (dk_at dksX2_find_2 16 rfl rfl)
theorem dX2_find_64 : decode cX2_find 64 = .ok (.iload_n 1, 1) := dk_27 (dk_at dksX2_find_2 18 rfl rfl)
theorem dX2_find_65 : decode cX2_find 65 = .ok (.imul, 1) := dk_104 (dk_at dksX2_find_2 19 rfl rfl)
theorem dX2_find_66 : decode cX2_find 66 = .ok (.iadd, 1) := dk_96 (dk_at dksX2_find_2 20 rfl rfl)
theorem dX2_find_67 : decode cX2_find 67 = .ok (.iload_n 3, 1) := dk_29 (dk_at dksX2_find_2 21 rfl rfl)
theorem dX2_find_68 : decode cX2_find 68 = .ok (.iadd, 1) := dk_96 (dk_at dksX2_find_2 22 rfl rfl)
theorem dX2_find_69 : decode cX2_find 69 = .ok (.iaload, 1) := dk_46 (dk_at dksX2_find_2 23 rfl rfl)
theorem dX2_find_70 : decode cX2_find 70 = .ok (.aload_n 0, 1) := dk_42 (dk_at dksX2_find_3 0 rfl rfl)
theorem dX2_find_71 : decode cX2_find 71 = .ok (.getfield 17, 3) := dk_180 0 17 (dk_at dksX2_find_3 1 rfl rfl)
theorem dX2_find_74 : decode cX2_find 74 = .ok (.iload_n 3, 1) := dk_29 (dk_at dksX2_find_3 4 rfl rfl)
theorem dX2_find_75 : decode cX2_find 75 = .ok (.iaload, 1) := dk_46 (dk_at dksX2_find_3 5 rfl rfl)
theorem dX2_find_76 : decode cX2_find 76 = .ok (.if_icmp .ne 7, 3) := dk_160 0 7 (dk_at dksX2_find_3 6 rfl rfl)
theorem dX2_find_79 : decode cX2_find 79 = .ok (.iconst 1, 1) := dk_4 (dk_at dksX2_find_3 9 rfl rfl)
theorem dX2_find_80 : decode cX2_find 80 = .ok (.goto 4, 3) := dk_167 0 4 (dk_at dksX2_find_3 10 rfl rfl)
theorem dX2_find_83 : decode cX2_find 83 = .ok (.iconst 0, 1) := dk_3 (dk_at dksX2_find_3 13 rfl rfl)
theorem dX2_find_84 : decode cX2_find 84 = .ok (.istore_n 2, 1) := dk_61 (dk_at dksX2_find_3 14 rfl rfl)
theorem dX2_find_85 : decode cX2_find 85 = .ok (.iinc 3 1, 3) := dk_132 3 1 (dk_at dksX2_find_3 15 rfl rfl)
theorem dX2_find_88 : decode cX2_find 88 = .ok (.goto (-44), 3) := dk_167 255 212 (dk_at dksX2_find_3 18 rfl rfl)
theorem dX2_find_91 : decode cX2_find 91 = .ok (.iload_n 2, 1) := dk_28 (dk_at dksX2_find_3 21 rfl rfl)
theorem dX2_find_92 : decode cX2_find 92 = .ok (.ifCond .eq 5, 3) := dk_153 0 5 (dk_at dksX2_find_4 0 rfl rfl)
theorem dX2_find_95 : decode cX2_find 95 = .ok (.iload_n 1, 1) := dk_27 (dk_at dksX2_find_4 3 rfl rfl)
theorem dX2_find_96 : decode cX2_find 96 = .ok (.ireturn, 1) := dk_172 (dk_at dksX2_find_4 4 rfl rfl)
theorem dX2_find_97 : decode cX2_find 97 = .ok (.iinc 1 1, 3) := dk_132 1 1 (dk_at dksX2_find_4 5 rfl rfl)
theorem dX2_find_100 : decode cX2_find 100 = .ok (.goto (-98), 3) := dk_167 255 158 (dk_at dksX2_find_4 8 rfl rfl)
theorem dX2_find_103 : decode cX2_find 103 = .ok (.iconst (-1), 1) := dk_2 (dk_at dksX2_find_4 11 rfl rfl)
theorem dX2_find_104 : decode cX2_find 104 = .ok (.ireturn, 1) := dk_172 (dk_at dksX2_find_4 12 rfl rfl)
abbrev cX2_side : ByteArray := prog_15_method_29_code
def yX2_side : MethodName := ⟨RX2, "side", "()I"⟩
def dkwX2_side_0 : List UInt8 := [42, 18, 159, 182, 0, 115, 153, 0, 5, 3, 172, 42, 18, 161, 182, 0, 152, 4, 172]
abbrev dktX2_side_0 : List UInt8 := dkwX2_side_0 ++ []
theorem dksX2_side_0 : cX2_side.data.toList.drop 0 = dktX2_side_0 := by decide +kernel
theorem dX2_side_0 : decode cX2_side 0 = .ok (.aload_n 0, 1) := dk_42 (dk_at dksX2_side_0 0 rfl rfl)
theorem dX2_side_1 : decode cX2_side 1 = .ok (.ldc 159, 2) := dk_18 159 (dk_at dksX2_side_0 1 rfl rfl)
theorem dX2_side_3 : decode cX2_side 3 = .ok (.invokevirtual 115, 3) := dk_182 0 115 (dk_at dksX2_side_0 3 rfl rfl)
theorem dX2_side_6 : decode cX2_side 6 = .ok (.ifCond .eq 5, 3) := dk_153 0 5 (dk_at dksX2_side_0 6 rfl rfl)
theorem dX2_side_9 : decode cX2_side 9 = .ok (.iconst 0, 1) := dk_3 (dk_at dksX2_side_0 9 rfl rfl)
theorem dX2_side_10 : decode cX2_side 10 = .ok (.ireturn, 1) := dk_172 (dk_at dksX2_side_0 10 rfl rfl)
theorem dX2_side_11 : decode cX2_side 11 = .ok (.aload_n 0, 1) := dk_42 (dk_at dksX2_side_0 11 rfl rfl)
theorem dX2_side_12 : decode cX2_side 12 = .ok (.ldc 161, 2) := dk_18 161 (dk_at dksX2_side_0 12 rfl rfl)
theorem dX2_side_14 : decode cX2_side 14 = .ok (.invokevirtual 152, 3) := dk_182 0 152 (dk_at dksX2_side_0 14 rfl rfl)
theorem dX2_side_17 : decode cX2_side 17 = .ok (.iconst 1, 1) := dk_4 (dk_at dksX2_side_0 17 rfl rfl)
theorem dX2_side_18 : decode cX2_side 18 = .ok (.ireturn, 1) := dk_172 (dk_at dksX2_side_0 18 rfl rfl)
abbrev cX2_houseLine : ByteArray := prog_15_method_35_code
def yX2_houseLine : MethodName := ⟨RX2, "houseLine", "()V"⟩
def dkwX2_houseLine_7 : List UInt8 := [42, 180, 0, 91, 154, 0, 14, 42, 180, 0, 23, 16, 6, 92, 46, 4, 96, 79, 177]
abbrev dktX2_houseLine_7 : List UInt8 := dkwX2_houseLine_7 ++ []
def dkwX2_houseLine_6 : List UInt8 := [3, 16, 50, 182, 0, 215, 79, 42, 180, 0, 23, 27, 6, 96, 42, 18, 246, 4, 16, 6, 182, 0, 215, 79]
abbrev dktX2_houseLine_6 : List UInt8 := dkwX2_houseLine_6 ++ dktX2_houseLine_7
def dkwX2_houseLine_5 : List UInt8 := [28, 79, 42, 180, 0, 23, 27, 4, 96, 42, 182, 0, 233, 79, 42, 180, 0, 23, 27, 5, 96, 42, 18, 244]
abbrev dktX2_houseLine_5 : List UInt8 := dkwX2_houseLine_5 ++ dktX2_houseLine_6
def dkwX2_houseLine_4 : List UInt8 := [42, 180, 0, 72, 182, 0, 118, 42, 180, 0, 91, 153, 0, 4, 177, 42, 182, 0, 112, 42, 180, 0, 23, 27]
abbrev dktX2_houseLine_4 : List UInt8 := dkwX2_houseLine_4 ++ dktX2_houseLine_5
def dkwX2_houseLine_3 : List UInt8 := [167, 0, 17, 42, 18, 242, 182, 0, 108, 153, 0, 7, 6, 167, 0, 4, 2, 61, 28, 156, 0, 12, 42, 4]
abbrev dktX2_houseLine_3 : List UInt8 := dkwX2_houseLine_3 ++ dktX2_houseLine_4
def dkwX2_houseLine_2 : List UInt8 := [18, 238, 182, 0, 108, 153, 0, 7, 4, 167, 0, 30, 42, 18, 240, 182, 0, 108, 153, 0, 7, 5]
abbrev dktX2_houseLine_2 : List UInt8 := dkwX2_houseLine_2 ++ dktX2_houseLine_3
def dkwX2_houseLine_1 : List UInt8 := [180, 0, 23, 16, 6, 46, 182, 0, 227, 42, 18, 236, 182, 0, 108, 153, 0, 7, 3, 167, 0, 43, 42]
abbrev dktX2_houseLine_1 : List UInt8 := dkwX2_houseLine_1 ++ dktX2_houseLine_2
def dkwX2_houseLine_0 : List UInt8 := [42, 180, 0, 91, 153, 0, 4, 177, 16, 19, 7, 42, 180, 0, 23, 16, 6, 46, 104, 96, 60, 42, 42]
abbrev dktX2_houseLine_0 : List UInt8 := dkwX2_houseLine_0 ++ dktX2_houseLine_1
theorem dksX2_houseLine_0 : cX2_houseLine.data.toList.drop 0 = dktX2_houseLine_0 := by decide +kernel
theorem dksX2_houseLine_1 : cX2_houseLine.data.toList.drop 23 = dktX2_houseLine_1 := dk_seg dksX2_houseLine_0 23 rfl rfl
theorem dksX2_houseLine_2 : cX2_houseLine.data.toList.drop 46 = dktX2_houseLine_2 := dk_seg dksX2_houseLine_1 23 rfl rfl
theorem dksX2_houseLine_3 : cX2_houseLine.data.toList.drop 68 = dktX2_houseLine_3 := dk_seg dksX2_houseLine_2 22 rfl rfl
theorem dksX2_houseLine_4 : cX2_houseLine.data.toList.drop 92 = dktX2_houseLine_4 := dk_seg dksX2_houseLine_3 24 rfl rfl
theorem dksX2_houseLine_5 : cX2_houseLine.data.toList.drop 116 = dktX2_houseLine_5 := dk_seg dksX2_houseLine_4 24 rfl rfl
theorem dksX2_houseLine_6 : cX2_houseLine.data.toList.drop 140 = dktX2_houseLine_6 := dk_seg dksX2_houseLine_5 24 rfl rfl
theorem dksX2_houseLine_7 : cX2_houseLine.data.toList.drop 164 = dktX2_houseLine_7 := dk_seg dksX2_houseLine_6 24 rfl rfl
theorem dX2_houseLine_0 : decode cX2_houseLine 0 = .ok (.aload_n 0, 1) := dk_42 (dk_at dksX2_houseLine_0 0 rfl rfl)
theorem dX2_houseLine_1 : decode cX2_houseLine 1 = .ok (.getfield 91, 3) := dk_180 0 91 (dk_at dksX2_houseLine_0 1 rfl rfl)
theorem dX2_houseLine_4 : decode cX2_houseLine 4 = .ok (.ifCond .eq 4, 3) := dk_153 0 4 (dk_at dksX2_houseLine_0 4 rfl rfl)
theorem dX2_houseLine_7 : decode cX2_houseLine 7 = .ok (.return_, 1) := dk_177 (dk_at dksX2_houseLine_0 7 rfl rfl)
theorem dX2_houseLine_8 : decode cX2_houseLine 8 = .ok (.bipush 19, 2) := dk_16 19 (dk_at dksX2_houseLine_0 8 rfl rfl)
theorem dX2_houseLine_10 : decode cX2_houseLine 10 = .ok (.iconst 4, 1) := dk_7 (dk_at dksX2_houseLine_0 10 rfl rfl)
theorem dX2_houseLine_11 : decode cX2_houseLine 11 = .ok (.aload_n 0, 1) := dk_42 (dk_at dksX2_houseLine_0 11 rfl rfl)
theorem dX2_houseLine_12 : decode cX2_houseLine 12 = .ok (.getfield 23, 3) := dk_180 0 23 (dk_at dksX2_houseLine_0 12 rfl rfl)
theorem dX2_houseLine_15 : decode cX2_houseLine 15 = .ok (.bipush 6, 2) := dk_16 6 (dk_at dksX2_houseLine_0 15 rfl rfl)
theorem dX2_houseLine_17 : decode cX2_houseLine 17 = .ok (.iaload, 1) := dk_46 (dk_at dksX2_houseLine_0 17 rfl rfl)
theorem dX2_houseLine_18 : decode cX2_houseLine 18 = .ok (.imul, 1) := dk_104 (dk_at dksX2_houseLine_0 18 rfl rfl)
theorem dX2_houseLine_19 : decode cX2_houseLine 19 = .ok (.iadd, 1) := dk_96 (dk_at dksX2_houseLine_0 19 rfl rfl)
theorem dX2_houseLine_20 : decode cX2_houseLine 20 = .ok (.istore_n 1, 1) := dk_60 (dk_at dksX2_houseLine_0 20 rfl rfl)
theorem dX2_houseLine_21 : decode cX2_houseLine 21 = .ok (.aload_n 0, 1) := dk_42 (dk_at dksX2_houseLine_0 21 rfl rfl)
theorem dX2_houseLine_22 : decode cX2_houseLine 22 = .ok (.aload_n 0, 1) := dk_42 (dk_at dksX2_houseLine_0 22 rfl rfl)
theorem dX2_houseLine_23 : decode cX2_houseLine 23 = .ok (.getfield 23, 3) := dk_180 0 23 (dk_at dksX2_houseLine_1 0 rfl rfl)
theorem dX2_houseLine_26 : decode cX2_houseLine 26 = .ok (.bipush 6, 2) := dk_16 6 (dk_at dksX2_houseLine_1 3 rfl rfl)
theorem dX2_houseLine_28 : decode cX2_houseLine 28 = .ok (.iaload, 1) := dk_46 (dk_at dksX2_houseLine_1 5 rfl rfl)
theorem dX2_houseLine_29 : decode cX2_houseLine 29 = .ok (.invokevirtual 227, 3) := dk_182 0 227 (dk_at dksX2_houseLine_1 6 rfl rfl)
theorem dX2_houseLine_32 : decode cX2_houseLine 32 = .ok (.aload_n 0, 1) := dk_42 (dk_at dksX2_houseLine_1 9 rfl rfl)
theorem dX2_houseLine_33 : decode cX2_houseLine 33 = .ok (.ldc 236, 2) := dk_18 236 (dk_at dksX2_houseLine_1 10 rfl rfl)
theorem dX2_houseLine_35 : decode cX2_houseLine 35 = .ok (.invokevirtual 108, 3) := dk_182 0 108 (dk_at dksX2_houseLine_1 12 rfl rfl)
theorem dX2_houseLine_38 : decode cX2_houseLine 38 = .ok (.ifCond .eq 7, 3) := dk_153 0 7 (dk_at dksX2_houseLine_1 15 rfl rfl)
theorem dX2_houseLine_41 : decode cX2_houseLine 41 = .ok (.iconst 0, 1) := dk_3 (dk_at dksX2_houseLine_1 18 rfl rfl)
theorem dX2_houseLine_42 : decode cX2_houseLine 42 = .ok (.goto 43, 3) := dk_167 0 43 (dk_at dksX2_houseLine_1 19 rfl rfl)
theorem dX2_houseLine_45 : decode cX2_houseLine 45 = .ok (.aload_n 0, 1) := dk_42 (dk_at dksX2_houseLine_1 22 rfl rfl)
theorem dX2_houseLine_46 : decode cX2_houseLine 46 = .ok (.ldc 238, 2) := dk_18 238 (dk_at dksX2_houseLine_2 0 rfl rfl)
theorem dX2_houseLine_48 : decode cX2_houseLine 48 = .ok (.invokevirtual 108, 3) := dk_182 0 108 (dk_at dksX2_houseLine_2 2 rfl rfl)
theorem dX2_houseLine_51 : decode cX2_houseLine 51 = .ok (.ifCond .eq 7, 3) := dk_153 0 7 (dk_at dksX2_houseLine_2 5 rfl rfl)
theorem dX2_houseLine_54 : decode cX2_houseLine 54 = .ok (.iconst 1, 1) := dk_4 (dk_at dksX2_houseLine_2 8 rfl rfl)
theorem dX2_houseLine_55 : decode cX2_houseLine 55 = .ok (.goto 30, 3) := dk_167 0 30 (dk_at dksX2_houseLine_2 9 rfl rfl)
theorem dX2_houseLine_58 : decode cX2_houseLine 58 = .ok (.aload_n 0, 1) := dk_42 (dk_at dksX2_houseLine_2 12 rfl rfl)
theorem dX2_houseLine_59 : decode cX2_houseLine 59 = .ok (.ldc 240, 2) := dk_18 240 (dk_at dksX2_houseLine_2 13 rfl rfl)
theorem dX2_houseLine_61 : decode cX2_houseLine 61 = .ok (.invokevirtual 108, 3) := dk_182 0 108 (dk_at dksX2_houseLine_2 15 rfl rfl)
theorem dX2_houseLine_64 : decode cX2_houseLine 64 = .ok (.ifCond .eq 7, 3) := dk_153 0 7 (dk_at dksX2_houseLine_2 18 rfl rfl)
theorem dX2_houseLine_67 : decode cX2_houseLine 67 = .ok (.iconst 2, 1) := dk_5 (dk_at dksX2_houseLine_2 21 rfl rfl)
theorem dX2_houseLine_68 : decode cX2_houseLine 68 = .ok (.goto 17, 3) := dk_167 0 17 (dk_at dksX2_houseLine_3 0 rfl rfl)
theorem dX2_houseLine_71 : decode cX2_houseLine 71 = .ok (.aload_n 0, 1) := dk_42 (dk_at dksX2_houseLine_3 3 rfl rfl)
theorem dX2_houseLine_72 : decode cX2_houseLine 72 = .ok (.ldc 242, 2) := dk_18 242 (dk_at dksX2_houseLine_3 4 rfl rfl)
theorem dX2_houseLine_74 : decode cX2_houseLine 74 = .ok (.invokevirtual 108, 3) := dk_182 0 108 (dk_at dksX2_houseLine_3 6 rfl rfl)
theorem dX2_houseLine_77 : decode cX2_houseLine 77 = .ok (.ifCond .eq 7, 3) := dk_153 0 7 (dk_at dksX2_houseLine_3 9 rfl rfl)
theorem dX2_houseLine_80 : decode cX2_houseLine 80 = .ok (.iconst 3, 1) := dk_6 (dk_at dksX2_houseLine_3 12 rfl rfl)
theorem dX2_houseLine_81 : decode cX2_houseLine 81 = .ok (.goto 4, 3) := dk_167 0 4 (dk_at dksX2_houseLine_3 13 rfl rfl)
theorem dX2_houseLine_84 : decode cX2_houseLine 84 = .ok (.iconst (-1), 1) := dk_2 (dk_at dksX2_houseLine_3 16 rfl rfl)
theorem dX2_houseLine_85 : decode cX2_houseLine 85 = .ok (.istore_n 2, 1) := dk_61 (dk_at dksX2_houseLine_3 17 rfl rfl)
theorem dX2_houseLine_86 : decode cX2_houseLine 86 = .ok (.iload_n 2, 1) := dk_28 (dk_at dksX2_houseLine_3 18 rfl rfl)
theorem dX2_houseLine_87 : decode cX2_houseLine 87 = .ok (.ifCond .ge 12, 3) := dk_156 0 12 (dk_at dksX2_houseLine_3 19 rfl rfl)
theorem dX2_houseLine_90 : decode cX2_houseLine 90 = .ok (.aload_n 0, 1) := dk_42 (dk_at dksX2_houseLine_3 22 rfl rfl)
theorem dX2_houseLine_91 : decode cX2_houseLine 91 = .ok (.iconst 1, 1) := dk_4 (dk_at dksX2_houseLine_3 23 rfl rfl)
theorem dX2_houseLine_92 : decode cX2_houseLine 92 = .ok (.aload_n 0, 1) := dk_42 (dk_at dksX2_houseLine_4 0 rfl rfl)
theorem dX2_houseLine_93 : decode cX2_houseLine 93 = .ok (.getfield 72, 3) := dk_180 0 72 (dk_at dksX2_houseLine_4 1 rfl rfl)
theorem dX2_houseLine_96 : decode cX2_houseLine 96 = .ok (.invokevirtual 118, 3) := dk_182 0 118 (dk_at dksX2_houseLine_4 4 rfl rfl)
theorem dX2_houseLine_99 : decode cX2_houseLine 99 = .ok (.aload_n 0, 1) := dk_42 (dk_at dksX2_houseLine_4 7 rfl rfl)
theorem dX2_houseLine_100 : decode cX2_houseLine 100 = .ok (.getfield 91, 3) := dk_180 0 91 (dk_at dksX2_houseLine_4 8 rfl rfl)
theorem dX2_houseLine_103 : decode cX2_houseLine 103 = .ok (.ifCond .eq 4, 3) := dk_153 0 4 (dk_at dksX2_houseLine_4 11 rfl rfl)
theorem dX2_houseLine_106 : decode cX2_houseLine 106 = .ok (.return_, 1) := dk_177 (dk_at dksX2_houseLine_4 14 rfl rfl)
theorem dX2_houseLine_107 : decode cX2_houseLine 107 = .ok (.aload_n 0, 1) := dk_42 (dk_at dksX2_houseLine_4 15 rfl rfl)
theorem dX2_houseLine_108 : decode cX2_houseLine 108 = .ok (.invokevirtual 112, 3) := dk_182 0 112 (dk_at dksX2_houseLine_4 16 rfl rfl)
theorem dX2_houseLine_111 : decode cX2_houseLine 111 = .ok (.aload_n 0, 1) := dk_42 (dk_at dksX2_houseLine_4 19 rfl rfl)
theorem dX2_houseLine_112 : decode cX2_houseLine 112 = .ok (.getfield 23, 3) := dk_180 0 23 (dk_at dksX2_houseLine_4 20 rfl rfl)
theorem dX2_houseLine_115 : decode cX2_houseLine 115 = .ok (.iload_n 1, 1) := dk_27 (dk_at dksX2_houseLine_4 23 rfl rfl)
theorem dX2_houseLine_116 : decode cX2_houseLine 116 = .ok (.iload_n 2, 1) := dk_28 (dk_at dksX2_houseLine_5 0 rfl rfl)
theorem dX2_houseLine_117 : decode cX2_houseLine 117 = .ok (.iastore, 1) := dk_79 (dk_at dksX2_houseLine_5 1 rfl rfl)
theorem dX2_houseLine_118 : decode cX2_houseLine 118 = .ok (.aload_n 0, 1) := dk_42 (dk_at dksX2_houseLine_5 2 rfl rfl)
theorem dX2_houseLine_119 : decode cX2_houseLine 119 = .ok (.getfield 23, 3) := dk_180 0 23 (dk_at dksX2_houseLine_5 3 rfl rfl)
theorem dX2_houseLine_122 : decode cX2_houseLine 122 = .ok (.iload_n 1, 1) := dk_27 (dk_at dksX2_houseLine_5 6 rfl rfl)
theorem dX2_houseLine_123 : decode cX2_houseLine 123 = .ok (.iconst 1, 1) := dk_4 (dk_at dksX2_houseLine_5 7 rfl rfl)
theorem dX2_houseLine_124 : decode cX2_houseLine 124 = .ok (.iadd, 1) := dk_96 (dk_at dksX2_houseLine_5 8 rfl rfl)
theorem dX2_houseLine_125 : decode cX2_houseLine 125 = .ok (.aload_n 0, 1) := dk_42 (dk_at dksX2_houseLine_5 9 rfl rfl)
theorem dX2_houseLine_126 : decode cX2_houseLine 126 = .ok (.invokevirtual 233, 3) := dk_182 0 233 (dk_at dksX2_houseLine_5 10 rfl rfl)
theorem dX2_houseLine_129 : decode cX2_houseLine 129 = .ok (.iastore, 1) := dk_79 (dk_at dksX2_houseLine_5 13 rfl rfl)
theorem dX2_houseLine_130 : decode cX2_houseLine 130 = .ok (.aload_n 0, 1) := dk_42 (dk_at dksX2_houseLine_5 14 rfl rfl)
theorem dX2_houseLine_131 : decode cX2_houseLine 131 = .ok (.getfield 23, 3) := dk_180 0 23 (dk_at dksX2_houseLine_5 15 rfl rfl)
theorem dX2_houseLine_134 : decode cX2_houseLine 134 = .ok (.iload_n 1, 1) := dk_27 (dk_at dksX2_houseLine_5 18 rfl rfl)
theorem dX2_houseLine_135 : decode cX2_houseLine 135 = .ok (.iconst 2, 1) := dk_5 (dk_at dksX2_houseLine_5 19 rfl rfl)
theorem dX2_houseLine_136 : decode cX2_houseLine 136 = .ok (.iadd, 1) := dk_96 (dk_at dksX2_houseLine_5 20 rfl rfl)
theorem dX2_houseLine_137 : decode cX2_houseLine 137 = .ok (.aload_n 0, 1) := dk_42 (dk_at dksX2_houseLine_5 21 rfl rfl)
theorem dX2_houseLine_138 : decode cX2_houseLine 138 = .ok (.ldc 244, 2) := dk_18 244 (dk_at dksX2_houseLine_5 22 rfl rfl)
theorem dX2_houseLine_140 : decode cX2_houseLine 140 = .ok (.iconst 0, 1) := dk_3 (dk_at dksX2_houseLine_6 0 rfl rfl)
theorem dX2_houseLine_141 : decode cX2_houseLine 141 = .ok (.bipush 50, 2) := dk_16 50 (dk_at dksX2_houseLine_6 1 rfl rfl)
theorem dX2_houseLine_143 : decode cX2_houseLine 143 = .ok (.invokevirtual 215, 3) := dk_182 0 215 (dk_at dksX2_houseLine_6 3 rfl rfl)
theorem dX2_houseLine_146 : decode cX2_houseLine 146 = .ok (.iastore, 1) := dk_79 (dk_at dksX2_houseLine_6 6 rfl rfl)
theorem dX2_houseLine_147 : decode cX2_houseLine 147 = .ok (.aload_n 0, 1) := dk_42 (dk_at dksX2_houseLine_6 7 rfl rfl)
theorem dX2_houseLine_148 : decode cX2_houseLine 148 = .ok (.getfield 23, 3) := dk_180 0 23 (dk_at dksX2_houseLine_6 8 rfl rfl)
theorem dX2_houseLine_151 : decode cX2_houseLine 151 = .ok (.iload_n 1, 1) := dk_27 (dk_at dksX2_houseLine_6 11 rfl rfl)
theorem dX2_houseLine_152 : decode cX2_houseLine 152 = .ok (.iconst 3, 1) := dk_6 (dk_at dksX2_houseLine_6 12 rfl rfl)
theorem dX2_houseLine_153 : decode cX2_houseLine 153 = .ok (.iadd, 1) := dk_96 (dk_at dksX2_houseLine_6 13 rfl rfl)
theorem dX2_houseLine_154 : decode cX2_houseLine 154 = .ok (.aload_n 0, 1) := dk_42 (dk_at dksX2_houseLine_6 14 rfl rfl)
theorem dX2_houseLine_155 : decode cX2_houseLine 155 = .ok (.ldc 246, 2) := dk_18 246 (dk_at dksX2_houseLine_6 15 rfl rfl)
theorem dX2_houseLine_157 : decode cX2_houseLine 157 = .ok (.iconst 1, 1) := dk_4 (dk_at dksX2_houseLine_6 17 rfl rfl)
theorem dX2_houseLine_158 : decode cX2_houseLine 158 = .ok (.bipush 6, 2) := dk_16 6 (dk_at dksX2_houseLine_6 18 rfl rfl)
theorem dX2_houseLine_160 : decode cX2_houseLine 160 = .ok (.invokevirtual 215, 3) := dk_182 0 215 (dk_at dksX2_houseLine_6 20 rfl rfl)
theorem dX2_houseLine_163 : decode cX2_houseLine 163 = .ok (.iastore, 1) := dk_79 (dk_at dksX2_houseLine_6 23 rfl rfl)
theorem dX2_houseLine_164 : decode cX2_houseLine 164 = .ok (.aload_n 0, 1) := dk_42 (dk_at dksX2_houseLine_7 0 rfl rfl)
theorem dX2_houseLine_165 : decode cX2_houseLine 165 = .ok (.getfield 91, 3) := dk_180 0 91 (dk_at dksX2_houseLine_7 1 rfl rfl)
theorem dX2_houseLine_168 : decode cX2_houseLine 168 = .ok (.ifCond .ne 14, 3) := dk_154 0 14 (dk_at dksX2_houseLine_7 4 rfl rfl)
theorem dX2_houseLine_171 : decode cX2_houseLine 171 = .ok (.aload_n 0, 1) := dk_42 (dk_at dksX2_houseLine_7 7 rfl rfl)
theorem dX2_houseLine_172 : decode cX2_houseLine 172 = .ok (.getfield 23, 3) := dk_180 0 23 (dk_at dksX2_houseLine_7 8 rfl rfl)
theorem dX2_houseLine_175 : decode cX2_houseLine 175 = .ok (.bipush 6, 2) := dk_16 6 (dk_at dksX2_houseLine_7 11 rfl rfl)
theorem dX2_houseLine_177 : decode cX2_houseLine 177 = .ok (.dup2, 1) := dk_92 (dk_at dksX2_houseLine_7 13 rfl rfl)
theorem dX2_houseLine_178 : decode cX2_houseLine 178 = .ok (.iaload, 1) := dk_46 (dk_at dksX2_houseLine_7 14 rfl rfl)
theorem dX2_houseLine_179 : decode cX2_houseLine 179 = .ok (.iconst 1, 1) := dk_4 (dk_at dksX2_houseLine_7 15 rfl rfl)
theorem dX2_houseLine_180 : decode cX2_houseLine 180 = .ok (.iadd, 1) := dk_96 (dk_at dksX2_houseLine_7 16 rfl rfl)
theorem dX2_houseLine_181 : decode cX2_houseLine 181 = .ok (.iastore, 1) := dk_79 (dk_at dksX2_houseLine_7 17 rfl rfl)
theorem dX2_houseLine_182 : decode cX2_houseLine 182 = .ok (.return_, 1) := dk_177 (dk_at dksX2_houseLine_7 18 rfl rfl)
abbrev cX2_lodgerLine : ByteArray := prog_15_method_36_code
def yX2_lodgerLine : MethodName := ⟨RX2, "lodgerLine", "()V"⟩
def dkwX2_lodgerLine_3 : List UInt8 := [180, 0, 91, 154, 0, 14, 42, 180, 0, 23, 16, 7, 92, 46, 4, 96, 79, 177]
abbrev dktX2_lodgerLine_3 : List UInt8 := dkwX2_lodgerLine_3 ++ []
def dkwX2_lodgerLine_2 : List UInt8 := [182, 0, 215, 79, 42, 180, 0, 23, 27, 4, 96, 42, 18, 250, 3, 16, 9, 182, 0, 215, 79, 42]
abbrev dktX2_lodgerLine_2 : List UInt8 := dkwX2_lodgerLine_2 ++ dktX2_lodgerLine_3
def dkwX2_lodgerLine_1 : List UInt8 := [42, 180, 0, 23, 16, 7, 46, 96, 182, 0, 227, 42, 180, 0, 23, 27, 42, 18, 248, 3, 16, 30]
abbrev dktX2_lodgerLine_1 : List UInt8 := dkwX2_lodgerLine_1 ++ dktX2_lodgerLine_2
def dkwX2_lodgerLine_0 : List UInt8 := [42, 180, 0, 91, 153, 0, 4, 177, 16, 35, 7, 42, 180, 0, 23, 16, 7, 46, 104, 96, 60, 42, 16, 8]
abbrev dktX2_lodgerLine_0 : List UInt8 := dkwX2_lodgerLine_0 ++ dktX2_lodgerLine_1
theorem dksX2_lodgerLine_0 : cX2_lodgerLine.data.toList.drop 0 = dktX2_lodgerLine_0 := by decide +kernel
theorem dksX2_lodgerLine_1 : cX2_lodgerLine.data.toList.drop 24 = dktX2_lodgerLine_1 := dk_seg dksX2_lodgerLine_0 24 rfl rfl
theorem dksX2_lodgerLine_2 : cX2_lodgerLine.data.toList.drop 46 = dktX2_lodgerLine_2 := dk_seg dksX2_lodgerLine_1 22 rfl rfl
theorem dksX2_lodgerLine_3 : cX2_lodgerLine.data.toList.drop 68 = dktX2_lodgerLine_3 := dk_seg dksX2_lodgerLine_2 22 rfl rfl
theorem dX2_lodgerLine_0 : decode cX2_lodgerLine 0 = .ok (.aload_n 0, 1) := dk_42 (dk_at dksX2_lodgerLine_0 0 rfl rfl)
theorem dX2_lodgerLine_1 : decode cX2_lodgerLine 1 = .ok (.getfield 91, 3) := dk_180 0 91 (dk_at dksX2_lodgerLine_0 1 rfl rfl)
theorem dX2_lodgerLine_4 : decode cX2_lodgerLine 4 = .ok (.ifCond .eq 4, 3) := dk_153 0 4 (dk_at dksX2_lodgerLine_0 4 rfl rfl)
theorem dX2_lodgerLine_7 : decode cX2_lodgerLine 7 = .ok (.return_, 1) := dk_177 (dk_at dksX2_lodgerLine_0 7 rfl rfl)
theorem dX2_lodgerLine_8 : decode cX2_lodgerLine 8 = .ok (.bipush 35, 2) := dk_16 35 (dk_at dksX2_lodgerLine_0 8 rfl rfl)
theorem dX2_lodgerLine_10 : decode cX2_lodgerLine 10 = .ok (.iconst 4, 1) := dk_7 (dk_at dksX2_lodgerLine_0 10 rfl rfl)
theorem dX2_lodgerLine_11 : decode cX2_lodgerLine 11 = .ok (.aload_n 0, 1) := dk_42 (dk_at dksX2_lodgerLine_0 11 rfl rfl)
theorem dX2_lodgerLine_12 : decode cX2_lodgerLine 12 = .ok (.getfield 23, 3) := dk_180 0 23 (dk_at dksX2_lodgerLine_0 12 rfl rfl)
theorem dX2_lodgerLine_15 : decode cX2_lodgerLine 15 = .ok (.bipush 7, 2) := dk_16 7 (dk_at dksX2_lodgerLine_0 15 rfl rfl)
theorem dX2_lodgerLine_17 : decode cX2_lodgerLine 17 = .ok (.iaload, 1) := dk_46 (dk_at dksX2_lodgerLine_0 17 rfl rfl)
theorem dX2_lodgerLine_18 : decode cX2_lodgerLine 18 = .ok (.imul, 1) := dk_104 (dk_at dksX2_lodgerLine_0 18 rfl rfl)
theorem dX2_lodgerLine_19 : decode cX2_lodgerLine 19 = .ok (.iadd, 1) := dk_96 (dk_at dksX2_lodgerLine_0 19 rfl rfl)
theorem dX2_lodgerLine_20 : decode cX2_lodgerLine 20 = .ok (.istore_n 1, 1) := dk_60 (dk_at dksX2_lodgerLine_0 20 rfl rfl)
theorem dX2_lodgerLine_21 : decode cX2_lodgerLine 21 = .ok (.aload_n 0, 1) := dk_42 (dk_at dksX2_lodgerLine_0 21 rfl rfl)
theorem dX2_lodgerLine_22 : decode cX2_lodgerLine 22 = .ok (.bipush 8, 2) := dk_16 8 (dk_at dksX2_lodgerLine_0 22 rfl rfl)
theorem dX2_lodgerLine_24 : decode cX2_lodgerLine 24 = .ok (.aload_n 0, 1) := dk_42 (dk_at dksX2_lodgerLine_1 0 rfl rfl)
theorem dX2_lodgerLine_25 : decode cX2_lodgerLine 25 = .ok (.getfield 23, 3) := dk_180 0 23 (dk_at dksX2_lodgerLine_1 1 rfl rfl)
theorem dX2_lodgerLine_28 : decode cX2_lodgerLine 28 = .ok (.bipush 7, 2) := dk_16 7 (dk_at dksX2_lodgerLine_1 4 rfl rfl)
theorem dX2_lodgerLine_30 : decode cX2_lodgerLine 30 = .ok (.iaload, 1) := dk_46 (dk_at dksX2_lodgerLine_1 6 rfl rfl)
theorem dX2_lodgerLine_31 : decode cX2_lodgerLine 31 = .ok (.iadd, 1) := dk_96 (dk_at dksX2_lodgerLine_1 7 rfl rfl)
theorem dX2_lodgerLine_32 : decode cX2_lodgerLine 32 = .ok (.invokevirtual 227, 3) := dk_182 0 227 (dk_at dksX2_lodgerLine_1 8 rfl rfl)
theorem dX2_lodgerLine_35 : decode cX2_lodgerLine 35 = .ok (.aload_n 0, 1) := dk_42 (dk_at dksX2_lodgerLine_1 11 rfl rfl)
theorem dX2_lodgerLine_36 : decode cX2_lodgerLine 36 = .ok (.getfield 23, 3) := dk_180 0 23 (dk_at dksX2_lodgerLine_1 12 rfl rfl)
theorem dX2_lodgerLine_39 : decode cX2_lodgerLine 39 = .ok (.iload_n 1, 1) := dk_27 (dk_at dksX2_lodgerLine_1 15 rfl rfl)
theorem dX2_lodgerLine_40 : decode cX2_lodgerLine 40 = .ok (.aload_n 0, 1) := dk_42 (dk_at dksX2_lodgerLine_1 16 rfl rfl)
theorem dX2_lodgerLine_41 : decode cX2_lodgerLine 41 = .ok (.ldc 248, 2) := dk_18 248 (dk_at dksX2_lodgerLine_1 17 rfl rfl)
theorem dX2_lodgerLine_43 : decode cX2_lodgerLine 43 = .ok (.iconst 0, 1) := dk_3 (dk_at dksX2_lodgerLine_1 19 rfl rfl)
theorem dX2_lodgerLine_44 : decode cX2_lodgerLine 44 = .ok (.bipush 30, 2) := dk_16 30 (dk_at dksX2_lodgerLine_1 20 rfl rfl)
theorem dX2_lodgerLine_46 : decode cX2_lodgerLine 46 = .ok (.invokevirtual 215, 3) := dk_182 0 215 (dk_at dksX2_lodgerLine_2 0 rfl rfl)
theorem dX2_lodgerLine_49 : decode cX2_lodgerLine 49 = .ok (.iastore, 1) := dk_79 (dk_at dksX2_lodgerLine_2 3 rfl rfl)
theorem dX2_lodgerLine_50 : decode cX2_lodgerLine 50 = .ok (.aload_n 0, 1) := dk_42 (dk_at dksX2_lodgerLine_2 4 rfl rfl)
theorem dX2_lodgerLine_51 : decode cX2_lodgerLine 51 = .ok (.getfield 23, 3) := dk_180 0 23 (dk_at dksX2_lodgerLine_2 5 rfl rfl)
theorem dX2_lodgerLine_54 : decode cX2_lodgerLine 54 = .ok (.iload_n 1, 1) := dk_27 (dk_at dksX2_lodgerLine_2 8 rfl rfl)
theorem dX2_lodgerLine_55 : decode cX2_lodgerLine 55 = .ok (.iconst 1, 1) := dk_4 (dk_at dksX2_lodgerLine_2 9 rfl rfl)
theorem dX2_lodgerLine_56 : decode cX2_lodgerLine 56 = .ok (.iadd, 1) := dk_96 (dk_at dksX2_lodgerLine_2 10 rfl rfl)
theorem dX2_lodgerLine_57 : decode cX2_lodgerLine 57 = .ok (.aload_n 0, 1) := dk_42 (dk_at dksX2_lodgerLine_2 11 rfl rfl)
theorem dX2_lodgerLine_58 : decode cX2_lodgerLine 58 = .ok (.ldc 250, 2) := dk_18 250 (dk_at dksX2_lodgerLine_2 12 rfl rfl)
theorem dX2_lodgerLine_60 : decode cX2_lodgerLine 60 = .ok (.iconst 0, 1) := dk_3 (dk_at dksX2_lodgerLine_2 14 rfl rfl)
theorem dX2_lodgerLine_61 : decode cX2_lodgerLine 61 = .ok (.bipush 9, 2) := dk_16 9 (dk_at dksX2_lodgerLine_2 15 rfl rfl)
theorem dX2_lodgerLine_63 : decode cX2_lodgerLine 63 = .ok (.invokevirtual 215, 3) := dk_182 0 215 (dk_at dksX2_lodgerLine_2 17 rfl rfl)
theorem dX2_lodgerLine_66 : decode cX2_lodgerLine 66 = .ok (.iastore, 1) := dk_79 (dk_at dksX2_lodgerLine_2 20 rfl rfl)
theorem dX2_lodgerLine_67 : decode cX2_lodgerLine 67 = .ok (.aload_n 0, 1) := dk_42 (dk_at dksX2_lodgerLine_2 21 rfl rfl)
theorem dX2_lodgerLine_68 : decode cX2_lodgerLine 68 = .ok (.getfield 91, 3) := dk_180 0 91 (dk_at dksX2_lodgerLine_3 0 rfl rfl)
theorem dX2_lodgerLine_71 : decode cX2_lodgerLine 71 = .ok (.ifCond .ne 14, 3) := dk_154 0 14 (dk_at dksX2_lodgerLine_3 3 rfl rfl)
theorem dX2_lodgerLine_74 : decode cX2_lodgerLine 74 = .ok (.aload_n 0, 1) := dk_42 (dk_at dksX2_lodgerLine_3 6 rfl rfl)
theorem dX2_lodgerLine_75 : decode cX2_lodgerLine 75 = .ok (.getfield 23, 3) := dk_180 0 23 (dk_at dksX2_lodgerLine_3 7 rfl rfl)
theorem dX2_lodgerLine_78 : decode cX2_lodgerLine 78 = .ok (.bipush 7, 2) := dk_16 7 (dk_at dksX2_lodgerLine_3 10 rfl rfl)
theorem dX2_lodgerLine_80 : decode cX2_lodgerLine 80 = .ok (.dup2, 1) := dk_92 (dk_at dksX2_lodgerLine_3 12 rfl rfl)
theorem dX2_lodgerLine_81 : decode cX2_lodgerLine 81 = .ok (.iaload, 1) := dk_46 (dk_at dksX2_lodgerLine_3 13 rfl rfl)
theorem dX2_lodgerLine_82 : decode cX2_lodgerLine 82 = .ok (.iconst 1, 1) := dk_4 (dk_at dksX2_lodgerLine_3 14 rfl rfl)
theorem dX2_lodgerLine_83 : decode cX2_lodgerLine 83 = .ok (.iadd, 1) := dk_96 (dk_at dksX2_lodgerLine_3 15 rfl rfl)
theorem dX2_lodgerLine_84 : decode cX2_lodgerLine 84 = .ok (.iastore, 1) := dk_79 (dk_at dksX2_lodgerLine_3 16 rfl rfl)
theorem dX2_lodgerLine_85 : decode cX2_lodgerLine 85 = .ok (.return_, 1) := dk_177 (dk_at dksX2_lodgerLine_3 17 rfl rfl)
abbrev cX2_aboardLine : ByteArray := prog_15_method_37_code
def yX2_aboardLine : MethodName := ⟨RX2, "aboardLine", "()V"⟩
def dkwX2_aboardLine_6 : List UInt8 := [42, 180, 0, 23, 16, 35, 7, 27, 104, 96, 5, 96, 28, 4, 96, 79, 177]
abbrev dktX2_aboardLine_6 : List UInt8 := dkwX2_aboardLine_6 ++ []
def dkwX2_aboardLine_5 : List UInt8 := [161, 0, 13, 42, 16, 7, 42, 180, 0, 72, 182, 0, 118, 42, 182, 0, 255, 42, 180, 0, 91, 154, 0, 19]
abbrev dktX2_aboardLine_5 : List UInt8 := dkwX2_aboardLine_5 ++ dktX2_aboardLine_6
def dkwX2_aboardLine_4 : List UInt8 := [167, 255, 213, 42, 180, 0, 91, 154, 0, 30, 29, 42, 180, 0, 23, 16, 19, 7, 28, 104, 96, 6, 96, 46]
abbrev dktX2_aboardLine_4 : List UInt8 := dkwX2_aboardLine_4 ++ dktX2_aboardLine_5
def dkwX2_aboardLine_3 : List UInt8 := [21, 4, 104, 96, 5, 96, 46, 28, 4, 96, 160, 0, 7, 4, 167, 0, 4, 3, 96, 62, 132, 4, 1]
abbrev dktX2_aboardLine_3 : List UInt8 := dkwX2_aboardLine_3 ++ dktX2_aboardLine_4
def dkwX2_aboardLine_2 : List UInt8 := [3, 54, 4, 21, 4, 42, 180, 0, 23, 16, 7, 46, 162, 0, 37, 29, 42, 180, 0, 23, 16, 35, 7]
abbrev dktX2_aboardLine_2 : List UInt8 := dkwX2_aboardLine_2 ++ dktX2_aboardLine_3
def dkwX2_aboardLine_1 : List UInt8 := [46, 158, 0, 12, 42, 6, 42, 180, 0, 72, 182, 0, 118, 42, 182, 0, 255, 42, 182, 1, 2, 61, 3, 62]
abbrev dktX2_aboardLine_1 : List UInt8 := dkwX2_aboardLine_1 ++ dktX2_aboardLine_2
def dkwX2_aboardLine_0 : List UInt8 := [42, 182, 0, 252, 60, 42, 180, 0, 91, 154, 0, 28, 42, 180, 0, 23, 16, 35, 7, 27, 104, 96, 5, 96]
abbrev dktX2_aboardLine_0 : List UInt8 := dkwX2_aboardLine_0 ++ dktX2_aboardLine_1
theorem dksX2_aboardLine_0 : cX2_aboardLine.data.toList.drop 0 = dktX2_aboardLine_0 := by decide +kernel
theorem dksX2_aboardLine_1 : cX2_aboardLine.data.toList.drop 24 = dktX2_aboardLine_1 := dk_seg dksX2_aboardLine_0 24 rfl rfl
theorem dksX2_aboardLine_2 : cX2_aboardLine.data.toList.drop 48 = dktX2_aboardLine_2 := dk_seg dksX2_aboardLine_1 24 rfl rfl
theorem dksX2_aboardLine_3 : cX2_aboardLine.data.toList.drop 71 = dktX2_aboardLine_3 := dk_seg dksX2_aboardLine_2 23 rfl rfl
theorem dksX2_aboardLine_4 : cX2_aboardLine.data.toList.drop 94 = dktX2_aboardLine_4 := dk_seg dksX2_aboardLine_3 23 rfl rfl
theorem dksX2_aboardLine_5 : cX2_aboardLine.data.toList.drop 118 = dktX2_aboardLine_5 := dk_seg dksX2_aboardLine_4 24 rfl rfl
theorem dksX2_aboardLine_6 : cX2_aboardLine.data.toList.drop 142 = dktX2_aboardLine_6 := dk_seg dksX2_aboardLine_5 24 rfl rfl
theorem dX2_aboardLine_0 : decode cX2_aboardLine 0 = .ok (.aload_n 0, 1) := dk_42 (dk_at dksX2_aboardLine_0 0 rfl rfl)
theorem dX2_aboardLine_1 : decode cX2_aboardLine 1 = .ok (.invokevirtual 252, 3) := dk_182 0 252 (dk_at dksX2_aboardLine_0 1 rfl rfl)
theorem dX2_aboardLine_4 : decode cX2_aboardLine 4 = .ok (.istore_n 1, 1) := dk_60 (dk_at dksX2_aboardLine_0 4 rfl rfl)
theorem dX2_aboardLine_5 : decode cX2_aboardLine 5 = .ok (.aload_n 0, 1) := dk_42 (dk_at dksX2_aboardLine_0 5 rfl rfl)
theorem dX2_aboardLine_6 : decode cX2_aboardLine 6 = .ok (.getfield 91, 3) := dk_180 0 91 (dk_at dksX2_aboardLine_0 6 rfl rfl)
theorem dX2_aboardLine_9 : decode cX2_aboardLine 9 = .ok (.ifCond .ne 28, 3) := dk_154 0 28 (dk_at dksX2_aboardLine_0 9 rfl rfl)
theorem dX2_aboardLine_12 : decode cX2_aboardLine 12 = .ok (.aload_n 0, 1) := dk_42 (dk_at dksX2_aboardLine_0 12 rfl rfl)
theorem dX2_aboardLine_13 : decode cX2_aboardLine 13 = .ok (.getfield 23, 3) := dk_180 0 23 (dk_at dksX2_aboardLine_0 13 rfl rfl)
theorem dX2_aboardLine_16 : decode cX2_aboardLine 16 = .ok (.bipush 35, 2) := dk_16 35 (dk_at dksX2_aboardLine_0 16 rfl rfl)
theorem dX2_aboardLine_18 : decode cX2_aboardLine 18 = .ok (.iconst 4, 1) := dk_7 (dk_at dksX2_aboardLine_0 18 rfl rfl)
theorem dX2_aboardLine_19 : decode cX2_aboardLine 19 = .ok (.iload_n 1, 1) := dk_27 (dk_at dksX2_aboardLine_0 19 rfl rfl)
theorem dX2_aboardLine_20 : decode cX2_aboardLine 20 = .ok (.imul, 1) := dk_104 (dk_at dksX2_aboardLine_0 20 rfl rfl)
theorem dX2_aboardLine_21 : decode cX2_aboardLine 21 = .ok (.iadd, 1) := dk_96 (dk_at dksX2_aboardLine_0 21 rfl rfl)
theorem dX2_aboardLine_22 : decode cX2_aboardLine 22 = .ok (.iconst 2, 1) := dk_5 (dk_at dksX2_aboardLine_0 22 rfl rfl)
theorem dX2_aboardLine_23 : decode cX2_aboardLine 23 = .ok (.iadd, 1) := dk_96 (dk_at dksX2_aboardLine_0 23 rfl rfl)
theorem dX2_aboardLine_24 : decode cX2_aboardLine 24 = .ok (.iaload, 1) := dk_46 (dk_at dksX2_aboardLine_1 0 rfl rfl)
theorem dX2_aboardLine_25 : decode cX2_aboardLine 25 = .ok (.ifCond .le 12, 3) := dk_158 0 12 (dk_at dksX2_aboardLine_1 1 rfl rfl)
theorem dX2_aboardLine_28 : decode cX2_aboardLine 28 = .ok (.aload_n 0, 1) := dk_42 (dk_at dksX2_aboardLine_1 4 rfl rfl)
theorem dX2_aboardLine_29 : decode cX2_aboardLine 29 = .ok (.iconst 3, 1) := dk_6 (dk_at dksX2_aboardLine_1 5 rfl rfl)
theorem dX2_aboardLine_30 : decode cX2_aboardLine 30 = .ok (.aload_n 0, 1) := dk_42 (dk_at dksX2_aboardLine_1 6 rfl rfl)
theorem dX2_aboardLine_31 : decode cX2_aboardLine 31 = .ok (.getfield 72, 3) := dk_180 0 72 (dk_at dksX2_aboardLine_1 7 rfl rfl)
theorem dX2_aboardLine_34 : decode cX2_aboardLine 34 = .ok (.invokevirtual 118, 3) := dk_182 0 118 (dk_at dksX2_aboardLine_1 10 rfl rfl)
theorem dX2_aboardLine_37 : decode cX2_aboardLine 37 = .ok (.aload_n 0, 1) := dk_42 (dk_at dksX2_aboardLine_1 13 rfl rfl)
theorem dX2_aboardLine_38 : decode cX2_aboardLine 38 = .ok (.invokevirtual 255, 3) := dk_182 0 255 (dk_at dksX2_aboardLine_1 14 rfl rfl)
theorem dX2_aboardLine_41 : decode cX2_aboardLine 41 = .ok (.aload_n 0, 1) := dk_42 (dk_at dksX2_aboardLine_1 17 rfl rfl)
theorem dX2_aboardLine_42 : decode cX2_aboardLine 42 = .ok (.invokevirtual 258, 3) := dk_182 1 2 (dk_at dksX2_aboardLine_1 18 rfl rfl)
theorem dX2_aboardLine_45 : decode cX2_aboardLine 45 = .ok (.istore_n 2, 1) := dk_61 (dk_at dksX2_aboardLine_1 21 rfl rfl)
theorem dX2_aboardLine_46 : decode cX2_aboardLine 46 = .ok (.iconst 0, 1) := dk_3 (dk_at dksX2_aboardLine_1 22 rfl rfl)
theorem dX2_aboardLine_47 : decode cX2_aboardLine 47 = .ok (.istore_n 3, 1) := dk_62 (dk_at dksX2_aboardLine_1 23 rfl rfl)
theorem dX2_aboardLine_48 : decode cX2_aboardLine 48 = .ok (.iconst 0, 1) := dk_3 (dk_at dksX2_aboardLine_2 0 rfl rfl)
theorem dX2_aboardLine_49 : decode cX2_aboardLine 49 = .ok (.istore 4, 2) := dk_54 4 (dk_at dksX2_aboardLine_2 1 rfl rfl)
theorem dX2_aboardLine_51 : decode cX2_aboardLine 51 = .ok (.iload 4, 2) := dk_21 4 (dk_at dksX2_aboardLine_2 3 rfl rfl)
theorem dX2_aboardLine_53 : decode cX2_aboardLine 53 = .ok (.aload_n 0, 1) := dk_42 (dk_at dksX2_aboardLine_2 5 rfl rfl)
theorem dX2_aboardLine_54 : decode cX2_aboardLine 54 = .ok (.getfield 23, 3) := dk_180 0 23 (dk_at dksX2_aboardLine_2 6 rfl rfl)
theorem dX2_aboardLine_57 : decode cX2_aboardLine 57 = .ok (.bipush 7, 2) := dk_16 7 (dk_at dksX2_aboardLine_2 9 rfl rfl)
theorem dX2_aboardLine_59 : decode cX2_aboardLine 59 = .ok (.iaload, 1) := dk_46 (dk_at dksX2_aboardLine_2 11 rfl rfl)
theorem dX2_aboardLine_60 : decode cX2_aboardLine 60 = .ok (.if_icmp .ge 37, 3) := dk_162 0 37 (dk_at dksX2_aboardLine_2 12 rfl rfl)
theorem dX2_aboardLine_63 : decode cX2_aboardLine 63 = .ok (.iload_n 3, 1) := dk_29 (dk_at dksX2_aboardLine_2 15 rfl rfl)
theorem dX2_aboardLine_64 : decode cX2_aboardLine 64 = .ok (.aload_n 0, 1) := dk_42 (dk_at dksX2_aboardLine_2 16 rfl rfl)
theorem dX2_aboardLine_65 : decode cX2_aboardLine 65 = .ok (.getfield 23, 3) := dk_180 0 23 (dk_at dksX2_aboardLine_2 17 rfl rfl)
theorem dX2_aboardLine_68 : decode cX2_aboardLine 68 = .ok (.bipush 35, 2) := dk_16 35 (dk_at dksX2_aboardLine_2 20 rfl rfl)
theorem dX2_aboardLine_70 : decode cX2_aboardLine 70 = .ok (.iconst 4, 1) := dk_7 (dk_at dksX2_aboardLine_2 22 rfl rfl)
theorem dX2_aboardLine_71 : decode cX2_aboardLine 71 = .ok (.iload 4, 2) := dk_21 4 (dk_at dksX2_aboardLine_3 0 rfl rfl)
theorem dX2_aboardLine_73 : decode cX2_aboardLine 73 = .ok (.imul, 1) := dk_104 (dk_at dksX2_aboardLine_3 2 rfl rfl)
theorem dX2_aboardLine_74 : decode cX2_aboardLine 74 = .ok (.iadd, 1) := dk_96 (dk_at dksX2_aboardLine_3 3 rfl rfl)
theorem dX2_aboardLine_75 : decode cX2_aboardLine 75 = .ok (.iconst 2, 1) := dk_5 (dk_at dksX2_aboardLine_3 4 rfl rfl)
theorem dX2_aboardLine_76 : decode cX2_aboardLine 76 = .ok (.iadd, 1) := dk_96 (dk_at dksX2_aboardLine_3 5 rfl rfl)
theorem dX2_aboardLine_77 : decode cX2_aboardLine 77 = .ok (.iaload, 1) := dk_46 (dk_at dksX2_aboardLine_3 6 rfl rfl)
theorem dX2_aboardLine_78 : decode cX2_aboardLine 78 = .ok (.iload_n 2, 1) := dk_28 (dk_at dksX2_aboardLine_3 7 rfl rfl)
theorem dX2_aboardLine_79 : decode cX2_aboardLine 79 = .ok (.iconst 1, 1) := dk_4 (dk_at dksX2_aboardLine_3 8 rfl rfl)
theorem dX2_aboardLine_80 : decode cX2_aboardLine 80 = .ok (.iadd, 1) := dk_96 (dk_at dksX2_aboardLine_3 9 rfl rfl)
theorem dX2_aboardLine_81 : decode cX2_aboardLine 81 = .ok (.if_icmp .ne 7, 3) := dk_160 0 7 (dk_at dksX2_aboardLine_3 10 rfl rfl)
theorem dX2_aboardLine_84 : decode cX2_aboardLine 84 = .ok (.iconst 1, 1) := dk_4 (dk_at dksX2_aboardLine_3 13 rfl rfl)
theorem dX2_aboardLine_85 : decode cX2_aboardLine 85 = .ok (.goto 4, 3) := dk_167 0 4 (dk_at dksX2_aboardLine_3 14 rfl rfl)
theorem dX2_aboardLine_88 : decode cX2_aboardLine 88 = .ok (.iconst 0, 1) := dk_3 (dk_at dksX2_aboardLine_3 17 rfl rfl)
theorem dX2_aboardLine_89 : decode cX2_aboardLine 89 = .ok (.iadd, 1) := dk_96 (dk_at dksX2_aboardLine_3 18 rfl rfl)
theorem dX2_aboardLine_90 : decode cX2_aboardLine 90 = .ok (.istore_n 3, 1) := dk_62 (dk_at dksX2_aboardLine_3 19 rfl rfl)
theorem dX2_aboardLine_91 : decode cX2_aboardLine 91 = .ok (.iinc 4 1, 3) := dk_132 4 1 (dk_at dksX2_aboardLine_3 20 rfl rfl)
theorem dX2_aboardLine_94 : decode cX2_aboardLine 94 = .ok (.goto (-43), 3) := dk_167 255 213 (dk_at dksX2_aboardLine_4 0 rfl rfl)
theorem dX2_aboardLine_97 : decode cX2_aboardLine 97 = .ok (.aload_n 0, 1) := dk_42 (dk_at dksX2_aboardLine_4 3 rfl rfl)
theorem dX2_aboardLine_98 : decode cX2_aboardLine 98 = .ok (.getfield 91, 3) := dk_180 0 91 (dk_at dksX2_aboardLine_4 4 rfl rfl)
theorem dX2_aboardLine_101 : decode cX2_aboardLine 101 = .ok (.ifCond .ne 30, 3) := dk_154 0 30 (dk_at dksX2_aboardLine_4 7 rfl rfl)
theorem dX2_aboardLine_104 : decode cX2_aboardLine 104 = .ok (.iload_n 3, 1) := dk_29 (dk_at dksX2_aboardLine_4 10 rfl rfl)
theorem dX2_aboardLine_105 : decode cX2_aboardLine 105 = .ok (.aload_n 0, 1) := dk_42 (dk_at dksX2_aboardLine_4 11 rfl rfl)
theorem dX2_aboardLine_106 : decode cX2_aboardLine 106 = .ok (.getfield 23, 3) := dk_180 0 23 (dk_at dksX2_aboardLine_4 12 rfl rfl)
theorem dX2_aboardLine_109 : decode cX2_aboardLine 109 = .ok (.bipush 19, 2) := dk_16 19 (dk_at dksX2_aboardLine_4 15 rfl rfl)
theorem dX2_aboardLine_111 : decode cX2_aboardLine 111 = .ok (.iconst 4, 1) := dk_7 (dk_at dksX2_aboardLine_4 17 rfl rfl)
theorem dX2_aboardLine_112 : decode cX2_aboardLine 112 = .ok (.iload_n 2, 1) := dk_28 (dk_at dksX2_aboardLine_4 18 rfl rfl)
theorem dX2_aboardLine_113 : decode cX2_aboardLine 113 = .ok (.imul, 1) := dk_104 (dk_at dksX2_aboardLine_4 19 rfl rfl)
theorem dX2_aboardLine_114 : decode cX2_aboardLine 114 = .ok (.iadd, 1) := dk_96 (dk_at dksX2_aboardLine_4 20 rfl rfl)
theorem dX2_aboardLine_115 : decode cX2_aboardLine 115 = .ok (.iconst 3, 1) := dk_6 (dk_at dksX2_aboardLine_4 21 rfl rfl)
theorem dX2_aboardLine_116 : decode cX2_aboardLine 116 = .ok (.iadd, 1) := dk_96 (dk_at dksX2_aboardLine_4 22 rfl rfl)
theorem dX2_aboardLine_117 : decode cX2_aboardLine 117 = .ok (.iaload, 1) := dk_46 (dk_at dksX2_aboardLine_4 23 rfl rfl)
theorem dX2_aboardLine_118 : decode cX2_aboardLine 118 = .ok (.if_icmp .lt 13, 3) := dk_161 0 13 (dk_at dksX2_aboardLine_5 0 rfl rfl)
theorem dX2_aboardLine_121 : decode cX2_aboardLine 121 = .ok (.aload_n 0, 1) := dk_42 (dk_at dksX2_aboardLine_5 3 rfl rfl)
theorem dX2_aboardLine_122 : decode cX2_aboardLine 122 = .ok (.bipush 7, 2) := dk_16 7 (dk_at dksX2_aboardLine_5 4 rfl rfl)
theorem dX2_aboardLine_124 : decode cX2_aboardLine 124 = .ok (.aload_n 0, 1) := dk_42 (dk_at dksX2_aboardLine_5 6 rfl rfl)
theorem dX2_aboardLine_125 : decode cX2_aboardLine 125 = .ok (.getfield 72, 3) := dk_180 0 72 (dk_at dksX2_aboardLine_5 7 rfl rfl)
theorem dX2_aboardLine_128 : decode cX2_aboardLine 128 = .ok (.invokevirtual 118, 3) := dk_182 0 118 (dk_at dksX2_aboardLine_5 10 rfl rfl)
theorem dX2_aboardLine_131 : decode cX2_aboardLine 131 = .ok (.aload_n 0, 1) := dk_42 (dk_at dksX2_aboardLine_5 13 rfl rfl)
theorem dX2_aboardLine_132 : decode cX2_aboardLine 132 = .ok (.invokevirtual 255, 3) := dk_182 0 255 (dk_at dksX2_aboardLine_5 14 rfl rfl)
theorem dX2_aboardLine_135 : decode cX2_aboardLine 135 = .ok (.aload_n 0, 1) := dk_42 (dk_at dksX2_aboardLine_5 17 rfl rfl)
theorem dX2_aboardLine_136 : decode cX2_aboardLine 136 = .ok (.getfield 91, 3) := dk_180 0 91 (dk_at dksX2_aboardLine_5 18 rfl rfl)
theorem dX2_aboardLine_139 : decode cX2_aboardLine 139 = .ok (.ifCond .ne 19, 3) := dk_154 0 19 (dk_at dksX2_aboardLine_5 21 rfl rfl)
theorem dX2_aboardLine_142 : decode cX2_aboardLine 142 = .ok (.aload_n 0, 1) := dk_42 (dk_at dksX2_aboardLine_6 0 rfl rfl)
theorem dX2_aboardLine_143 : decode cX2_aboardLine 143 = .ok (.getfield 23, 3) := dk_180 0 23 (dk_at dksX2_aboardLine_6 1 rfl rfl)
theorem dX2_aboardLine_146 : decode cX2_aboardLine 146 = .ok (.bipush 35, 2) := dk_16 35 (dk_at dksX2_aboardLine_6 4 rfl rfl)
theorem dX2_aboardLine_148 : decode cX2_aboardLine 148 = .ok (.iconst 4, 1) := dk_7 (dk_at dksX2_aboardLine_6 6 rfl rfl)
theorem dX2_aboardLine_149 : decode cX2_aboardLine 149 = .ok (.iload_n 1, 1) := dk_27 (dk_at dksX2_aboardLine_6 7 rfl rfl)
theorem dX2_aboardLine_150 : decode cX2_aboardLine 150 = .ok (.imul, 1) := dk_104 (dk_at dksX2_aboardLine_6 8 rfl rfl)
theorem dX2_aboardLine_151 : decode cX2_aboardLine 151 = .ok (.iadd, 1) := dk_96 (dk_at dksX2_aboardLine_6 9 rfl rfl)
theorem dX2_aboardLine_152 : decode cX2_aboardLine 152 = .ok (.iconst 2, 1) := dk_5 (dk_at dksX2_aboardLine_6 10 rfl rfl)
theorem dX2_aboardLine_153 : decode cX2_aboardLine 153 = .ok (.iadd, 1) := dk_96 (dk_at dksX2_aboardLine_6 11 rfl rfl)
theorem dX2_aboardLine_154 : decode cX2_aboardLine 154 = .ok (.iload_n 2, 1) := dk_28 (dk_at dksX2_aboardLine_6 12 rfl rfl)
theorem dX2_aboardLine_155 : decode cX2_aboardLine 155 = .ok (.iconst 1, 1) := dk_4 (dk_at dksX2_aboardLine_6 13 rfl rfl)
theorem dX2_aboardLine_156 : decode cX2_aboardLine 156 = .ok (.iadd, 1) := dk_96 (dk_at dksX2_aboardLine_6 14 rfl rfl)
theorem dX2_aboardLine_157 : decode cX2_aboardLine 157 = .ok (.iastore, 1) := dk_79 (dk_at dksX2_aboardLine_6 15 rfl rfl)
theorem dX2_aboardLine_158 : decode cX2_aboardLine 158 = .ok (.return_, 1) := dk_177 (dk_at dksX2_aboardLine_6 16 rfl rfl)
abbrev cX2_lodgerHere : ByteArray := prog_15_method_25_code
def yX2_lodgerHere : MethodName := ⟨RX2, "lodgerHere", "()I"⟩
def dkwX2_lodgerHere_0 : List UInt8 := [42, 16, 8, 16, 12, 182, 0, 148, 172]
abbrev dktX2_lodgerHere_0 : List UInt8 := dkwX2_lodgerHere_0 ++ []
theorem dksX2_lodgerHere_0 : cX2_lodgerHere.data.toList.drop 0 = dktX2_lodgerHere_0 := by decide +kernel
theorem dX2_lodgerHere_0 : decode cX2_lodgerHere 0 = .ok (.aload_n 0, 1) := dk_42 (dk_at dksX2_lodgerHere_0 0 rfl rfl)
theorem dX2_lodgerHere_1 : decode cX2_lodgerHere 1 = .ok (.bipush 8, 2) := dk_16 8 (dk_at dksX2_lodgerHere_0 1 rfl rfl)
theorem dX2_lodgerHere_3 : decode cX2_lodgerHere 3 = .ok (.bipush 12, 2) := dk_16 12 (dk_at dksX2_lodgerHere_0 3 rfl rfl)
theorem dX2_lodgerHere_5 : decode cX2_lodgerHere 5 = .ok (.invokevirtual 148, 3) := dk_182 0 148 (dk_at dksX2_lodgerHere_0 5 rfl rfl)
theorem dX2_lodgerHere_8 : decode cX2_lodgerHere 8 = .ok (.ireturn, 1) := dk_172 (dk_at dksX2_lodgerHere_0 8 rfl rfl)
abbrev cX2_named : ByteArray := prog_15_method_23_code
def yX2_named : MethodName := ⟨RX2, "named", "(II)I"⟩
def dkwX2_named_2 : List UInt8 := [180, 0, 91, 153, 0, 7, 3, 167, 0, 6, 29, 27, 100, 172]
abbrev dktX2_named_2 : List UInt8 := dkwX2_named_2 ++ []
def dkwX2_named_1 : List UInt8 := [182, 0, 141, 62, 29, 27, 28, 184, 0, 144, 154, 0, 12, 42, 5, 42, 180, 0, 72, 182, 0, 118, 42]
abbrev dktX2_named_1 : List UInt8 := dkwX2_named_1 ++ dktX2_named_2
def dkwX2_named_0 : List UInt8 := [42, 180, 0, 91, 153, 0, 5, 3, 172, 42, 182, 0, 138, 42, 180, 0, 91, 153, 0, 5, 3, 172, 42]
abbrev dktX2_named_0 : List UInt8 := dkwX2_named_0 ++ dktX2_named_1
theorem dksX2_named_0 : cX2_named.data.toList.drop 0 = dktX2_named_0 := by decide +kernel
theorem dksX2_named_1 : cX2_named.data.toList.drop 23 = dktX2_named_1 := dk_seg dksX2_named_0 23 rfl rfl
theorem dksX2_named_2 : cX2_named.data.toList.drop 46 = dktX2_named_2 := dk_seg dksX2_named_1 23 rfl rfl
theorem dX2_named_0 : decode cX2_named 0 = .ok (.aload_n 0, 1) := dk_42 (dk_at dksX2_named_0 0 rfl rfl)
theorem dX2_named_1 : decode cX2_named 1 = .ok (.getfield 91, 3) := dk_180 0 91 (dk_at dksX2_named_0 1 rfl rfl)
theorem dX2_named_4 : decode cX2_named 4 = .ok (.ifCond .eq 5, 3) := dk_153 0 5 (dk_at dksX2_named_0 4 rfl rfl)
theorem dX2_named_7 : decode cX2_named 7 = .ok (.iconst 0, 1) := dk_3 (dk_at dksX2_named_0 7 rfl rfl)
theorem dX2_named_8 : decode cX2_named 8 = .ok (.ireturn, 1) := dk_172 (dk_at dksX2_named_0 8 rfl rfl)
theorem dX2_named_9 : decode cX2_named 9 = .ok (.aload_n 0, 1) := dk_42 (dk_at dksX2_named_0 9 rfl rfl)
theorem dX2_named_10 : decode cX2_named 10 = .ok (.invokevirtual 138, 3) := dk_182 0 138 (dk_at dksX2_named_0 10 rfl rfl)
theorem dX2_named_13 : decode cX2_named 13 = .ok (.aload_n 0, 1) := dk_42 (dk_at dksX2_named_0 13 rfl rfl)
theorem dX2_named_14 : decode cX2_named 14 = .ok (.getfield 91, 3) := dk_180 0 91 (dk_at dksX2_named_0 14 rfl rfl)
theorem dX2_named_17 : decode cX2_named 17 = .ok (.ifCond .eq 5, 3) := dk_153 0 5 (dk_at dksX2_named_0 17 rfl rfl)
theorem dX2_named_20 : decode cX2_named 20 = .ok (.iconst 0, 1) := dk_3 (dk_at dksX2_named_0 20 rfl rfl)
theorem dX2_named_21 : decode cX2_named 21 = .ok (.ireturn, 1) := dk_172 (dk_at dksX2_named_0 21 rfl rfl)
theorem dX2_named_22 : decode cX2_named 22 = .ok (.aload_n 0, 1) := dk_42 (dk_at dksX2_named_0 22 rfl rfl)
theorem dX2_named_23 : decode cX2_named 23 = .ok (.invokevirtual 141, 3) := dk_182 0 141 (dk_at dksX2_named_1 0 rfl rfl)
theorem dX2_named_26 : decode cX2_named 26 = .ok (.istore_n 3, 1) := dk_62 (dk_at dksX2_named_1 3 rfl rfl)
theorem dX2_named_27 : decode cX2_named 27 = .ok (.iload_n 3, 1) := dk_29 (dk_at dksX2_named_1 4 rfl rfl)
theorem dX2_named_28 : decode cX2_named 28 = .ok (.iload_n 1, 1) := dk_27 (dk_at dksX2_named_1 5 rfl rfl)
theorem dX2_named_29 : decode cX2_named 29 = .ok (.iload_n 2, 1) := dk_28 (dk_at dksX2_named_1 6 rfl rfl)
theorem dX2_named_30 : decode cX2_named 30 = .ok (.invokestatic 144, 3) := dk_184 0 144 (dk_at dksX2_named_1 7 rfl rfl)
theorem dX2_named_33 : decode cX2_named 33 = .ok (.ifCond .ne 12, 3) := dk_154 0 12 (dk_at dksX2_named_1 10 rfl rfl)
theorem dX2_named_36 : decode cX2_named 36 = .ok (.aload_n 0, 1) := dk_42 (dk_at dksX2_named_1 13 rfl rfl)
theorem dX2_named_37 : decode cX2_named 37 = .ok (.iconst 2, 1) := dk_5 (dk_at dksX2_named_1 14 rfl rfl)
theorem dX2_named_38 : decode cX2_named 38 = .ok (.aload_n 0, 1) := dk_42 (dk_at dksX2_named_1 15 rfl rfl)
theorem dX2_named_39 : decode cX2_named 39 = .ok (.getfield 72, 3) := dk_180 0 72 (dk_at dksX2_named_1 16 rfl rfl)
theorem dX2_named_42 : decode cX2_named 42 = .ok (.invokevirtual 118, 3) := dk_182 0 118 (dk_at dksX2_named_1 19 rfl rfl)
theorem dX2_named_45 : decode cX2_named 45 = .ok (.aload_n 0, 1) := dk_42 (dk_at dksX2_named_1 22 rfl rfl)
theorem dX2_named_46 : decode cX2_named 46 = .ok (.getfield 91, 3) := dk_180 0 91 (dk_at dksX2_named_2 0 rfl rfl)
theorem dX2_named_49 : decode cX2_named 49 = .ok (.ifCond .eq 7, 3) := dk_153 0 7 (dk_at dksX2_named_2 3 rfl rfl)
theorem dX2_named_52 : decode cX2_named 52 = .ok (.iconst 0, 1) := dk_3 (dk_at dksX2_named_2 6 rfl rfl)
theorem dX2_named_53 : decode cX2_named 53 = .ok (.goto 6, 3) := dk_167 0 6 (dk_at dksX2_named_2 7 rfl rfl)
theorem dX2_named_56 : decode cX2_named 56 = .ok (.iload_n 3, 1) := dk_29 (dk_at dksX2_named_2 10 rfl rfl)
theorem dX2_named_57 : decode cX2_named 57 = .ok (.iload_n 1, 1) := dk_27 (dk_at dksX2_named_2 11 rfl rfl)
theorem dX2_named_58 : decode cX2_named 58 = .ok (.isub, 1) := dk_100 (dk_at dksX2_named_2 12 rfl rfl)
theorem dX2_named_59 : decode cX2_named 59 = .ok (.ireturn, 1) := dk_172 (dk_at dksX2_named_2 13 rfl rfl)
abbrev cX2_pass : ByteArray := prog_15_method_26_code
def yX2_pass : MethodName := ⟨RX2, "pass", "()V"⟩
def dkwX2_pass_0 : List UInt8 := [42, 180, 0, 91, 154, 0, 7, 42, 182, 0, 112, 177]
abbrev dktX2_pass_0 : List UInt8 := dkwX2_pass_0 ++ []
theorem dksX2_pass_0 : cX2_pass.data.toList.drop 0 = dktX2_pass_0 := by decide +kernel
theorem dX2_pass_0 : decode cX2_pass 0 = .ok (.aload_n 0, 1) := dk_42 (dk_at dksX2_pass_0 0 rfl rfl)
theorem dX2_pass_1 : decode cX2_pass 1 = .ok (.getfield 91, 3) := dk_180 0 91 (dk_at dksX2_pass_0 1 rfl rfl)
theorem dX2_pass_4 : decode cX2_pass 4 = .ok (.ifCond .ne 7, 3) := dk_154 0 7 (dk_at dksX2_pass_0 4 rfl rfl)
theorem dX2_pass_7 : decode cX2_pass 7 = .ok (.aload_n 0, 1) := dk_42 (dk_at dksX2_pass_0 7 rfl rfl)
theorem dX2_pass_8 : decode cX2_pass 8 = .ok (.invokevirtual 112, 3) := dk_182 0 112 (dk_at dksX2_pass_0 8 rfl rfl)
theorem dX2_pass_11 : decode cX2_pass 11 = .ok (.return_, 1) := dk_177 (dk_at dksX2_pass_0 11 rfl rfl)
abbrev cX2_houseHere : ByteArray := prog_15_method_24_code
def yX2_houseHere : MethodName := ⟨RX2, "houseHere", "()I"⟩
def dkwX2_houseHere_0 : List UInt8 := [42, 3, 6, 182, 0, 148, 172]
abbrev dktX2_houseHere_0 : List UInt8 := dkwX2_houseHere_0 ++ []
theorem dksX2_houseHere_0 : cX2_houseHere.data.toList.drop 0 = dktX2_houseHere_0 := by decide +kernel
theorem dX2_houseHere_0 : decode cX2_houseHere 0 = .ok (.aload_n 0, 1) := dk_42 (dk_at dksX2_houseHere_0 0 rfl rfl)
theorem dX2_houseHere_1 : decode cX2_houseHere 1 = .ok (.iconst 0, 1) := dk_3 (dk_at dksX2_houseHere_0 1 rfl rfl)
theorem dX2_houseHere_2 : decode cX2_houseHere 2 = .ok (.iconst 3, 1) := dk_6 (dk_at dksX2_houseHere_0 2 rfl rfl)
theorem dX2_houseHere_3 : decode cX2_houseHere 3 = .ok (.invokevirtual 148, 3) := dk_182 0 148 (dk_at dksX2_houseHere_0 3 rfl rfl)
theorem dX2_houseHere_6 : decode cX2_houseHere 6 = .ok (.ireturn, 1) := dk_172 (dk_at dksX2_houseHere_0 6 rfl rfl)
abbrev cX2_friendLine : ByteArray := prog_15_method_38_code
def yX2_friendLine : MethodName := ⟨RX2, "friendLine", "()V"⟩
def dkwX2_friendLine_4 : List UInt8 := [96, 6, 96, 92, 46, 4, 27, 120, 128, 79, 42, 180, 0, 23, 16, 8, 92, 46, 4, 96, 79, 177]
abbrev dktX2_friendLine_4 : List UInt8 := dkwX2_friendLine_4 ++ []
def dkwX2_friendLine_3 : List UInt8 := [16, 35, 7, 27, 104, 96, 6, 96, 92, 46, 4, 28, 120, 128, 79, 42, 180, 0, 23, 16, 35, 7, 28, 104]
abbrev dktX2_friendLine_3 : List UInt8 := dkwX2_friendLine_3 ++ dktX2_friendLine_4
def dkwX2_friendLine_2 : List UInt8 := [6, 42, 180, 0, 72, 182, 0, 118, 42, 182, 0, 255, 42, 180, 0, 91, 153, 0, 4, 177, 42, 180, 0, 23]
abbrev dktX2_friendLine_2 : List UInt8 := dkwX2_friendLine_2 ++ dktX2_friendLine_3
def dkwX2_friendLine_1 : List UInt8 := [159, 0, 23, 42, 180, 0, 23, 16, 35, 7, 27, 104, 96, 6, 96, 46, 28, 184, 1, 5, 153, 0, 12, 42]
abbrev dktX2_friendLine_1 : List UInt8 := dkwX2_friendLine_1 ++ dktX2_friendLine_2
def dkwX2_friendLine_0 : List UInt8 := [42, 182, 0, 252, 60, 42, 182, 0, 255, 42, 182, 0, 252, 61, 42, 180, 0, 91, 154, 0, 37, 27, 28]
abbrev dktX2_friendLine_0 : List UInt8 := dkwX2_friendLine_0 ++ dktX2_friendLine_1
theorem dksX2_friendLine_0 : cX2_friendLine.data.toList.drop 0 = dktX2_friendLine_0 := by decide +kernel
theorem dksX2_friendLine_1 : cX2_friendLine.data.toList.drop 23 = dktX2_friendLine_1 := dk_seg dksX2_friendLine_0 23 rfl rfl
theorem dksX2_friendLine_2 : cX2_friendLine.data.toList.drop 47 = dktX2_friendLine_2 := dk_seg dksX2_friendLine_1 24 rfl rfl
theorem dksX2_friendLine_3 : cX2_friendLine.data.toList.drop 71 = dktX2_friendLine_3 := dk_seg dksX2_friendLine_2 24 rfl rfl
theorem dksX2_friendLine_4 : cX2_friendLine.data.toList.drop 95 = dktX2_friendLine_4 := dk_seg dksX2_friendLine_3 24 rfl rfl
theorem dX2_friendLine_0 : decode cX2_friendLine 0 = .ok (.aload_n 0, 1) := dk_42 (dk_at dksX2_friendLine_0 0 rfl rfl)
theorem dX2_friendLine_1 : decode cX2_friendLine 1 = .ok (.invokevirtual 252, 3) := dk_182 0 252 (dk_at dksX2_friendLine_0 1 rfl rfl)
theorem dX2_friendLine_4 : decode cX2_friendLine 4 = .ok (.istore_n 1, 1) := dk_60 (dk_at dksX2_friendLine_0 4 rfl rfl)
theorem dX2_friendLine_5 : decode cX2_friendLine 5 = .ok (.aload_n 0, 1) := dk_42 (dk_at dksX2_friendLine_0 5 rfl rfl)
theorem dX2_friendLine_6 : decode cX2_friendLine 6 = .ok (.invokevirtual 255, 3) := dk_182 0 255 (dk_at dksX2_friendLine_0 6 rfl rfl)
theorem dX2_friendLine_9 : decode cX2_friendLine 9 = .ok (.aload_n 0, 1) := dk_42 (dk_at dksX2_friendLine_0 9 rfl rfl)
theorem dX2_friendLine_10 : decode cX2_friendLine 10 = .ok (.invokevirtual 252, 3) := dk_182 0 252 (dk_at dksX2_friendLine_0 10 rfl rfl)
theorem dX2_friendLine_13 : decode cX2_friendLine 13 = .ok (.istore_n 2, 1) := dk_61 (dk_at dksX2_friendLine_0 13 rfl rfl)
theorem dX2_friendLine_14 : decode cX2_friendLine 14 = .ok (.aload_n 0, 1) := dk_42 (dk_at dksX2_friendLine_0 14 rfl rfl)
theorem dX2_friendLine_15 : decode cX2_friendLine 15 = .ok (.getfield 91, 3) := dk_180 0 91 (dk_at dksX2_friendLine_0 15 rfl rfl)
theorem dX2_friendLine_18 : decode cX2_friendLine 18 = .ok (.ifCond .ne 37, 3) := dk_154 0 37 (dk_at dksX2_friendLine_0 18 rfl rfl)
theorem dX2_friendLine_21 : decode cX2_friendLine 21 = .ok (.iload_n 1, 1) := dk_27 (dk_at dksX2_friendLine_0 21 rfl rfl)
theorem dX2_friendLine_22 : decode cX2_friendLine 22 = .ok (.iload_n 2, 1) := dk_28 (dk_at dksX2_friendLine_0 22 rfl rfl)
theorem dX2_friendLine_23 : decode cX2_friendLine 23 = .ok (.if_icmp .eq 23, 3) := dk_159 0 23 (dk_at dksX2_friendLine_1 0 rfl rfl)
theorem dX2_friendLine_26 : decode cX2_friendLine 26 = .ok (.aload_n 0, 1) := dk_42 (dk_at dksX2_friendLine_1 3 rfl rfl)
theorem dX2_friendLine_27 : decode cX2_friendLine 27 = .ok (.getfield 23, 3) := dk_180 0 23 (dk_at dksX2_friendLine_1 4 rfl rfl)
theorem dX2_friendLine_30 : decode cX2_friendLine 30 = .ok (.bipush 35, 2) := dk_16 35 (dk_at dksX2_friendLine_1 7 rfl rfl)
theorem dX2_friendLine_32 : decode cX2_friendLine 32 = .ok (.iconst 4, 1) := dk_7 (dk_at dksX2_friendLine_1 9 rfl rfl)
theorem dX2_friendLine_33 : decode cX2_friendLine 33 = .ok (.iload_n 1, 1) := dk_27 (dk_at dksX2_friendLine_1 10 rfl rfl)
theorem dX2_friendLine_34 : decode cX2_friendLine 34 = .ok (.imul, 1) := dk_104 (dk_at dksX2_friendLine_1 11 rfl rfl)
theorem dX2_friendLine_35 : decode cX2_friendLine 35 = .ok (.iadd, 1) := dk_96 (dk_at dksX2_friendLine_1 12 rfl rfl)
theorem dX2_friendLine_36 : decode cX2_friendLine 36 = .ok (.iconst 3, 1) := dk_6 (dk_at dksX2_friendLine_1 13 rfl rfl)
theorem dX2_friendLine_37 : decode cX2_friendLine 37 = .ok (.iadd, 1) := dk_96 (dk_at dksX2_friendLine_1 14 rfl rfl)
theorem dX2_friendLine_38 : decode cX2_friendLine 38 = .ok (.iaload, 1) := dk_46 (dk_at dksX2_friendLine_1 15 rfl rfl)
theorem dX2_friendLine_39 : decode cX2_friendLine 39 = .ok (.iload_n 2, 1) := dk_28 (dk_at dksX2_friendLine_1 16 rfl rfl)
theorem dX2_friendLine_40 : decode cX2_friendLine 40 = .ok (.invokestatic 261, 3) := dk_184 1 5 (dk_at dksX2_friendLine_1 17 rfl rfl)
theorem dX2_friendLine_43 : decode cX2_friendLine 43 = .ok (.ifCond .eq 12, 3) := dk_153 0 12 (dk_at dksX2_friendLine_1 20 rfl rfl)
theorem dX2_friendLine_46 : decode cX2_friendLine 46 = .ok (.aload_n 0, 1) := dk_42 (dk_at dksX2_friendLine_1 23 rfl rfl)
theorem dX2_friendLine_47 : decode cX2_friendLine 47 = .ok (.iconst 3, 1) := dk_6 (dk_at dksX2_friendLine_2 0 rfl rfl)
theorem dX2_friendLine_48 : decode cX2_friendLine 48 = .ok (.aload_n 0, 1) := dk_42 (dk_at dksX2_friendLine_2 1 rfl rfl)
theorem dX2_friendLine_49 : decode cX2_friendLine 49 = .ok (.getfield 72, 3) := dk_180 0 72 (dk_at dksX2_friendLine_2 2 rfl rfl)
theorem dX2_friendLine_52 : decode cX2_friendLine 52 = .ok (.invokevirtual 118, 3) := dk_182 0 118 (dk_at dksX2_friendLine_2 5 rfl rfl)
theorem dX2_friendLine_55 : decode cX2_friendLine 55 = .ok (.aload_n 0, 1) := dk_42 (dk_at dksX2_friendLine_2 8 rfl rfl)
theorem dX2_friendLine_56 : decode cX2_friendLine 56 = .ok (.invokevirtual 255, 3) := dk_182 0 255 (dk_at dksX2_friendLine_2 9 rfl rfl)
theorem dX2_friendLine_59 : decode cX2_friendLine 59 = .ok (.aload_n 0, 1) := dk_42 (dk_at dksX2_friendLine_2 12 rfl rfl)
theorem dX2_friendLine_60 : decode cX2_friendLine 60 = .ok (.getfield 91, 3) := dk_180 0 91 (dk_at dksX2_friendLine_2 13 rfl rfl)
theorem dX2_friendLine_63 : decode cX2_friendLine 63 = .ok (.ifCond .eq 4, 3) := dk_153 0 4 (dk_at dksX2_friendLine_2 16 rfl rfl)
theorem dX2_friendLine_66 : decode cX2_friendLine 66 = .ok (.return_, 1) := dk_177 (dk_at dksX2_friendLine_2 19 rfl rfl)
theorem dX2_friendLine_67 : decode cX2_friendLine 67 = .ok (.aload_n 0, 1) := dk_42 (dk_at dksX2_friendLine_2 20 rfl rfl)
theorem dX2_friendLine_68 : decode cX2_friendLine 68 = .ok (.getfield 23, 3) := dk_180 0 23 (dk_at dksX2_friendLine_2 21 rfl rfl)
theorem dX2_friendLine_71 : decode cX2_friendLine 71 = .ok (.bipush 35, 2) := dk_16 35 (dk_at dksX2_friendLine_3 0 rfl rfl)
theorem dX2_friendLine_73 : decode cX2_friendLine 73 = .ok (.iconst 4, 1) := dk_7 (dk_at dksX2_friendLine_3 2 rfl rfl)
theorem dX2_friendLine_74 : decode cX2_friendLine 74 = .ok (.iload_n 1, 1) := dk_27 (dk_at dksX2_friendLine_3 3 rfl rfl)
theorem dX2_friendLine_75 : decode cX2_friendLine 75 = .ok (.imul, 1) := dk_104 (dk_at dksX2_friendLine_3 4 rfl rfl)
theorem dX2_friendLine_76 : decode cX2_friendLine 76 = .ok (.iadd, 1) := dk_96 (dk_at dksX2_friendLine_3 5 rfl rfl)
theorem dX2_friendLine_77 : decode cX2_friendLine 77 = .ok (.iconst 3, 1) := dk_6 (dk_at dksX2_friendLine_3 6 rfl rfl)
theorem dX2_friendLine_78 : decode cX2_friendLine 78 = .ok (.iadd, 1) := dk_96 (dk_at dksX2_friendLine_3 7 rfl rfl)
theorem dX2_friendLine_79 : decode cX2_friendLine 79 = .ok (.dup2, 1) := dk_92 (dk_at dksX2_friendLine_3 8 rfl rfl)
theorem dX2_friendLine_80 : decode cX2_friendLine 80 = .ok (.iaload, 1) := dk_46 (dk_at dksX2_friendLine_3 9 rfl rfl)
theorem dX2_friendLine_81 : decode cX2_friendLine 81 = .ok (.iconst 1, 1) := dk_4 (dk_at dksX2_friendLine_3 10 rfl rfl)
theorem dX2_friendLine_82 : decode cX2_friendLine 82 = .ok (.iload_n 2, 1) := dk_28 (dk_at dksX2_friendLine_3 11 rfl rfl)
theorem dX2_friendLine_83 : decode cX2_friendLine 83 = .ok (.ishl, 1) := dk_120 (dk_at dksX2_friendLine_3 12 rfl rfl)
theorem dX2_friendLine_84 : decode cX2_friendLine 84 = .ok (.ior, 1) := dk_128 (dk_at dksX2_friendLine_3 13 rfl rfl)
theorem dX2_friendLine_85 : decode cX2_friendLine 85 = .ok (.iastore, 1) := dk_79 (dk_at dksX2_friendLine_3 14 rfl rfl)
theorem dX2_friendLine_86 : decode cX2_friendLine 86 = .ok (.aload_n 0, 1) := dk_42 (dk_at dksX2_friendLine_3 15 rfl rfl)
theorem dX2_friendLine_87 : decode cX2_friendLine 87 = .ok (.getfield 23, 3) := dk_180 0 23 (dk_at dksX2_friendLine_3 16 rfl rfl)
theorem dX2_friendLine_90 : decode cX2_friendLine 90 = .ok (.bipush 35, 2) := dk_16 35 (dk_at dksX2_friendLine_3 19 rfl rfl)
theorem dX2_friendLine_92 : decode cX2_friendLine 92 = .ok (.iconst 4, 1) := dk_7 (dk_at dksX2_friendLine_3 21 rfl rfl)
theorem dX2_friendLine_93 : decode cX2_friendLine 93 = .ok (.iload_n 2, 1) := dk_28 (dk_at dksX2_friendLine_3 22 rfl rfl)
theorem dX2_friendLine_94 : decode cX2_friendLine 94 = .ok (.imul, 1) := dk_104 (dk_at dksX2_friendLine_3 23 rfl rfl)
theorem dX2_friendLine_95 : decode cX2_friendLine 95 = .ok (.iadd, 1) := dk_96 (dk_at dksX2_friendLine_4 0 rfl rfl)
theorem dX2_friendLine_96 : decode cX2_friendLine 96 = .ok (.iconst 3, 1) := dk_6 (dk_at dksX2_friendLine_4 1 rfl rfl)
theorem dX2_friendLine_97 : decode cX2_friendLine 97 = .ok (.iadd, 1) := dk_96 (dk_at dksX2_friendLine_4 2 rfl rfl)
theorem dX2_friendLine_98 : decode cX2_friendLine 98 = .ok (.dup2, 1) := dk_92 (dk_at dksX2_friendLine_4 3 rfl rfl)
theorem dX2_friendLine_99 : decode cX2_friendLine 99 = .ok (.iaload, 1) := dk_46 (dk_at dksX2_friendLine_4 4 rfl rfl)
theorem dX2_friendLine_100 : decode cX2_friendLine 100 = .ok (.iconst 1, 1) := dk_4 (dk_at dksX2_friendLine_4 5 rfl rfl)
theorem dX2_friendLine_101 : decode cX2_friendLine 101 = .ok (.iload_n 1, 1) := dk_27 (dk_at dksX2_friendLine_4 6 rfl rfl)
theorem dX2_friendLine_102 : decode cX2_friendLine 102 = .ok (.ishl, 1) := dk_120 (dk_at dksX2_friendLine_4 7 rfl rfl)
theorem dX2_friendLine_103 : decode cX2_friendLine 103 = .ok (.ior, 1) := dk_128 (dk_at dksX2_friendLine_4 8 rfl rfl)
theorem dX2_friendLine_104 : decode cX2_friendLine 104 = .ok (.iastore, 1) := dk_79 (dk_at dksX2_friendLine_4 9 rfl rfl)
theorem dX2_friendLine_105 : decode cX2_friendLine 105 = .ok (.aload_n 0, 1) := dk_42 (dk_at dksX2_friendLine_4 10 rfl rfl)
theorem dX2_friendLine_106 : decode cX2_friendLine 106 = .ok (.getfield 23, 3) := dk_180 0 23 (dk_at dksX2_friendLine_4 11 rfl rfl)
theorem dX2_friendLine_109 : decode cX2_friendLine 109 = .ok (.bipush 8, 2) := dk_16 8 (dk_at dksX2_friendLine_4 14 rfl rfl)
theorem dX2_friendLine_111 : decode cX2_friendLine 111 = .ok (.dup2, 1) := dk_92 (dk_at dksX2_friendLine_4 16 rfl rfl)
theorem dX2_friendLine_112 : decode cX2_friendLine 112 = .ok (.iaload, 1) := dk_46 (dk_at dksX2_friendLine_4 17 rfl rfl)
theorem dX2_friendLine_113 : decode cX2_friendLine 113 = .ok (.iconst 1, 1) := dk_4 (dk_at dksX2_friendLine_4 18 rfl rfl)
theorem dX2_friendLine_114 : decode cX2_friendLine 114 = .ok (.iadd, 1) := dk_96 (dk_at dksX2_friendLine_4 19 rfl rfl)
theorem dX2_friendLine_115 : decode cX2_friendLine 115 = .ok (.iastore, 1) := dk_79 (dk_at dksX2_friendLine_4 20 rfl rfl)
theorem dX2_friendLine_116 : decode cX2_friendLine 116 = .ok (.return_, 1) := dk_177 (dk_at dksX2_friendLine_4 21 rfl rfl)
abbrev cX2_hasBit : ByteArray := prog_15_method_7_code
def yX2_hasBit : MethodName := ⟨RX2, "hasBit", "(II)Z"⟩
def dkwX2_hasBit_0 : List UInt8 := [26, 27, 122, 4, 126, 4, 160, 0, 7, 4, 167, 0, 4, 3, 172]
abbrev dktX2_hasBit_0 : List UInt8 := dkwX2_hasBit_0 ++ []
theorem dksX2_hasBit_0 : cX2_hasBit.data.toList.drop 0 = dktX2_hasBit_0 := by decide +kernel
theorem dX2_hasBit_0 : decode cX2_hasBit 0 = .ok (.iload_n 0, 1) := dk_26 (dk_at dksX2_hasBit_0 0 rfl rfl)
theorem dX2_hasBit_1 : decode cX2_hasBit 1 = .ok (.iload_n 1, 1) := dk_27 (dk_at dksX2_hasBit_0 1 rfl rfl)
theorem dX2_hasBit_2 : decode cX2_hasBit 2 = .ok (.ishr, 1) := dk_122 (dk_at dksX2_hasBit_0 2 rfl rfl)
theorem dX2_hasBit_3 : decode cX2_hasBit 3 = .ok (.iconst 1, 1) := dk_4 (dk_at dksX2_hasBit_0 3 rfl rfl)
theorem dX2_hasBit_4 : decode cX2_hasBit 4 = .ok (.iand, 1) := dk_126 (dk_at dksX2_hasBit_0 4 rfl rfl)
theorem dX2_hasBit_5 : decode cX2_hasBit 5 = .ok (.iconst 1, 1) := dk_4 (dk_at dksX2_hasBit_0 5 rfl rfl)
theorem dX2_hasBit_6 : decode cX2_hasBit 6 = .ok (.if_icmp .ne 7, 3) := dk_160 0 7 (dk_at dksX2_hasBit_0 6 rfl rfl)
theorem dX2_hasBit_9 : decode cX2_hasBit 9 = .ok (.iconst 1, 1) := dk_4 (dk_at dksX2_hasBit_0 9 rfl rfl)
theorem dX2_hasBit_10 : decode cX2_hasBit 10 = .ok (.goto 4, 3) := dk_167 0 4 (dk_at dksX2_hasBit_0 10 rfl rfl)
theorem dX2_hasBit_13 : decode cX2_hasBit 13 = .ok (.iconst 0, 1) := dk_3 (dk_at dksX2_hasBit_0 13 rfl rfl)
theorem dX2_hasBit_14 : decode cX2_hasBit 14 = .ok (.ireturn, 1) := dk_172 (dk_at dksX2_hasBit_0 14 rfl rfl)
abbrev cX2_prizeLine : ByteArray := prog_15_method_39_code
def yX2_prizeLine : MethodName := ⟨RX2, "prizeLine", "()V"⟩
def dkwX2_prizeLine_1 : List UInt8 := [180, 0, 23, 16, 9, 46, 96, 27, 79, 42, 180, 0, 23, 16, 9, 92, 46, 4, 96, 79, 177]
abbrev dktX2_prizeLine_1 : List UInt8 := dkwX2_prizeLine_1 ++ []
def dkwX2_prizeLine_0 : List UInt8 := [42, 3, 16, 99, 182, 0, 156, 60, 42, 180, 0, 91, 153, 0, 4, 177, 42, 180, 0, 23, 16, 55, 42]
abbrev dktX2_prizeLine_0 : List UInt8 := dkwX2_prizeLine_0 ++ dktX2_prizeLine_1
theorem dksX2_prizeLine_0 : cX2_prizeLine.data.toList.drop 0 = dktX2_prizeLine_0 := by decide +kernel
theorem dksX2_prizeLine_1 : cX2_prizeLine.data.toList.drop 23 = dktX2_prizeLine_1 := dk_seg dksX2_prizeLine_0 23 rfl rfl
theorem dX2_prizeLine_0 : decode cX2_prizeLine 0 = .ok (.aload_n 0, 1) := dk_42 (dk_at dksX2_prizeLine_0 0 rfl rfl)
theorem dX2_prizeLine_1 : decode cX2_prizeLine 1 = .ok (.iconst 0, 1) := dk_3 (dk_at dksX2_prizeLine_0 1 rfl rfl)
theorem dX2_prizeLine_2 : decode cX2_prizeLine 2 = .ok (.bipush 99, 2) := dk_16 99 (dk_at dksX2_prizeLine_0 2 rfl rfl)
theorem dX2_prizeLine_4 : decode cX2_prizeLine 4 = .ok (.invokevirtual 156, 3) := dk_182 0 156 (dk_at dksX2_prizeLine_0 4 rfl rfl)
theorem dX2_prizeLine_7 : decode cX2_prizeLine 7 = .ok (.istore_n 1, 1) := dk_60 (dk_at dksX2_prizeLine_0 7 rfl rfl)
theorem dX2_prizeLine_8 : decode cX2_prizeLine 8 = .ok (.aload_n 0, 1) := dk_42 (dk_at dksX2_prizeLine_0 8 rfl rfl)
theorem dX2_prizeLine_9 : decode cX2_prizeLine 9 = .ok (.getfield 91, 3) := dk_180 0 91 (dk_at dksX2_prizeLine_0 9 rfl rfl)
theorem dX2_prizeLine_12 : decode cX2_prizeLine 12 = .ok (.ifCond .eq 4, 3) := dk_153 0 4 (dk_at dksX2_prizeLine_0 12 rfl rfl)
theorem dX2_prizeLine_15 : decode cX2_prizeLine 15 = .ok (.return_, 1) := dk_177 (dk_at dksX2_prizeLine_0 15 rfl rfl)
theorem dX2_prizeLine_16 : decode cX2_prizeLine 16 = .ok (.aload_n 0, 1) := dk_42 (dk_at dksX2_prizeLine_0 16 rfl rfl)
theorem dX2_prizeLine_17 : decode cX2_prizeLine 17 = .ok (.getfield 23, 3) := dk_180 0 23 (dk_at dksX2_prizeLine_0 17 rfl rfl)
theorem dX2_prizeLine_20 : decode cX2_prizeLine 20 = .ok (.bipush 55, 2) := dk_16 55 (dk_at dksX2_prizeLine_0 20 rfl rfl)
theorem dX2_prizeLine_22 : decode cX2_prizeLine 22 = .ok (.aload_n 0, 1) := dk_42 (dk_at dksX2_prizeLine_0 22 rfl rfl)
theorem dX2_prizeLine_23 : decode cX2_prizeLine 23 = .ok (.getfield 23, 3) := dk_180 0 23 (dk_at dksX2_prizeLine_1 0 rfl rfl)
theorem dX2_prizeLine_26 : decode cX2_prizeLine 26 = .ok (.bipush 9, 2) := dk_16 9 (dk_at dksX2_prizeLine_1 3 rfl rfl)
theorem dX2_prizeLine_28 : decode cX2_prizeLine 28 = .ok (.iaload, 1) := dk_46 (dk_at dksX2_prizeLine_1 5 rfl rfl)
theorem dX2_prizeLine_29 : decode cX2_prizeLine 29 = .ok (.iadd, 1) := dk_96 (dk_at dksX2_prizeLine_1 6 rfl rfl)
theorem dX2_prizeLine_30 : decode cX2_prizeLine 30 = .ok (.iload_n 1, 1) := dk_27 (dk_at dksX2_prizeLine_1 7 rfl rfl)
theorem dX2_prizeLine_31 : decode cX2_prizeLine 31 = .ok (.iastore, 1) := dk_79 (dk_at dksX2_prizeLine_1 8 rfl rfl)
theorem dX2_prizeLine_32 : decode cX2_prizeLine 32 = .ok (.aload_n 0, 1) := dk_42 (dk_at dksX2_prizeLine_1 9 rfl rfl)
theorem dX2_prizeLine_33 : decode cX2_prizeLine 33 = .ok (.getfield 23, 3) := dk_180 0 23 (dk_at dksX2_prizeLine_1 10 rfl rfl)
theorem dX2_prizeLine_36 : decode cX2_prizeLine 36 = .ok (.bipush 9, 2) := dk_16 9 (dk_at dksX2_prizeLine_1 13 rfl rfl)
theorem dX2_prizeLine_38 : decode cX2_prizeLine 38 = .ok (.dup2, 1) := dk_92 (dk_at dksX2_prizeLine_1 15 rfl rfl)
theorem dX2_prizeLine_39 : decode cX2_prizeLine 39 = .ok (.iaload, 1) := dk_46 (dk_at dksX2_prizeLine_1 16 rfl rfl)
theorem dX2_prizeLine_40 : decode cX2_prizeLine 40 = .ok (.iconst 1, 1) := dk_4 (dk_at dksX2_prizeLine_1 17 rfl rfl)
theorem dX2_prizeLine_41 : decode cX2_prizeLine 41 = .ok (.iadd, 1) := dk_96 (dk_at dksX2_prizeLine_1 18 rfl rfl)
theorem dX2_prizeLine_42 : decode cX2_prizeLine 42 = .ok (.iastore, 1) := dk_79 (dk_at dksX2_prizeLine_1 19 rfl rfl)
theorem dX2_prizeLine_43 : decode cX2_prizeLine 43 = .ok (.return_, 1) := dk_177 (dk_at dksX2_prizeLine_1 20 rfl rfl)
abbrev cX2_sawLine : ByteArray := prog_15_method_40_code
def yX2_sawLine : MethodName := ⟨RX2, "sawLine", "()V"⟩
def dkwX2_sawLine_4 : List UInt8 := [27, 5, 96, 21, 4, 79, 42, 180, 0, 23, 16, 10, 92, 46, 4, 96, 79, 177]
abbrev dktX2_sawLine_4 : List UInt8 := dkwX2_sawLine_4 ++ []
def dkwX2_sawLine_3 : List UInt8 := [153, 0, 4, 177, 42, 180, 0, 23, 27, 28, 79, 42, 180, 0, 23, 27, 4, 96, 29, 79, 42, 180, 0, 23]
abbrev dktX2_sawLine_3 : List UInt8 := dkwX2_sawLine_3 ++ dktX2_sawLine_4
def dkwX2_sawLine_2 : List UInt8 := [182, 0, 118, 42, 182, 0, 255, 42, 7, 16, 7, 182, 0, 148, 54, 4, 42, 182, 0, 255, 42, 180, 0, 91]
abbrev dktX2_sawLine_2 : List UInt8 := dkwX2_sawLine_2 ++ dktX2_sawLine_3
def dkwX2_sawLine_1 : List UInt8 := [182, 1, 2, 62, 42, 180, 0, 91, 154, 0, 17, 28, 29, 160, 0, 12, 42, 6, 42, 180, 0, 72]
abbrev dktX2_sawLine_1 : List UInt8 := dkwX2_sawLine_1 ++ dktX2_sawLine_2
def dkwX2_sawLine_0 : List UInt8 := [16, 59, 6, 42, 180, 0, 23, 16, 10, 46, 104, 96, 60, 42, 182, 1, 2, 61, 42, 182, 0, 255, 42]
abbrev dktX2_sawLine_0 : List UInt8 := dkwX2_sawLine_0 ++ dktX2_sawLine_1
theorem dksX2_sawLine_0 : cX2_sawLine.data.toList.drop 0 = dktX2_sawLine_0 := by decide +kernel
theorem dksX2_sawLine_1 : cX2_sawLine.data.toList.drop 23 = dktX2_sawLine_1 := dk_seg dksX2_sawLine_0 23 rfl rfl
theorem dksX2_sawLine_2 : cX2_sawLine.data.toList.drop 45 = dktX2_sawLine_2 := dk_seg dksX2_sawLine_1 22 rfl rfl
theorem dksX2_sawLine_3 : cX2_sawLine.data.toList.drop 69 = dktX2_sawLine_3 := dk_seg dksX2_sawLine_2 24 rfl rfl
theorem dksX2_sawLine_4 : cX2_sawLine.data.toList.drop 93 = dktX2_sawLine_4 := dk_seg dksX2_sawLine_3 24 rfl rfl
theorem dX2_sawLine_0 : decode cX2_sawLine 0 = .ok (.bipush 59, 2) := dk_16 59 (dk_at dksX2_sawLine_0 0 rfl rfl)
theorem dX2_sawLine_2 : decode cX2_sawLine 2 = .ok (.iconst 3, 1) := dk_6 (dk_at dksX2_sawLine_0 2 rfl rfl)
theorem dX2_sawLine_3 : decode cX2_sawLine 3 = .ok (.aload_n 0, 1) := dk_42 (dk_at dksX2_sawLine_0 3 rfl rfl)
theorem dX2_sawLine_4 : decode cX2_sawLine 4 = .ok (.getfield 23, 3) := dk_180 0 23 (dk_at dksX2_sawLine_0 4 rfl rfl)
theorem dX2_sawLine_7 : decode cX2_sawLine 7 = .ok (.bipush 10, 2) := dk_16 10 (dk_at dksX2_sawLine_0 7 rfl rfl)
theorem dX2_sawLine_9 : decode cX2_sawLine 9 = .ok (.iaload, 1) := dk_46 (dk_at dksX2_sawLine_0 9 rfl rfl)
theorem dX2_sawLine_10 : decode cX2_sawLine 10 = .ok (.imul, 1) := dk_104 (dk_at dksX2_sawLine_0 10 rfl rfl)
theorem dX2_sawLine_11 : decode cX2_sawLine 11 = .ok (.iadd, 1) := dk_96 (dk_at dksX2_sawLine_0 11 rfl rfl)
theorem dX2_sawLine_12 : decode cX2_sawLine 12 = .ok (.istore_n 1, 1) := dk_60 (dk_at dksX2_sawLine_0 12 rfl rfl)
theorem dX2_sawLine_13 : decode cX2_sawLine 13 = .ok (.aload_n 0, 1) := dk_42 (dk_at dksX2_sawLine_0 13 rfl rfl)
theorem dX2_sawLine_14 : decode cX2_sawLine 14 = .ok (.invokevirtual 258, 3) := dk_182 1 2 (dk_at dksX2_sawLine_0 14 rfl rfl)
theorem dX2_sawLine_17 : decode cX2_sawLine 17 = .ok (.istore_n 2, 1) := dk_61 (dk_at dksX2_sawLine_0 17 rfl rfl)
theorem dX2_sawLine_18 : decode cX2_sawLine 18 = .ok (.aload_n 0, 1) := dk_42 (dk_at dksX2_sawLine_0 18 rfl rfl)
theorem dX2_sawLine_19 : decode cX2_sawLine 19 = .ok (.invokevirtual 255, 3) := dk_182 0 255 (dk_at dksX2_sawLine_0 19 rfl rfl)
theorem dX2_sawLine_22 : decode cX2_sawLine 22 = .ok (.aload_n 0, 1) := dk_42 (dk_at dksX2_sawLine_0 22 rfl rfl)
theorem dX2_sawLine_23 : decode cX2_sawLine 23 = .ok (.invokevirtual 258, 3) := dk_182 1 2 (dk_at dksX2_sawLine_1 0 rfl rfl)
theorem dX2_sawLine_26 : decode cX2_sawLine 26 = .ok (.istore_n 3, 1) := dk_62 (dk_at dksX2_sawLine_1 3 rfl rfl)
theorem dX2_sawLine_27 : decode cX2_sawLine 27 = .ok (.aload_n 0, 1) := dk_42 (dk_at dksX2_sawLine_1 4 rfl rfl)
theorem dX2_sawLine_28 : decode cX2_sawLine 28 = .ok (.getfield 91, 3) := dk_180 0 91 (dk_at dksX2_sawLine_1 5 rfl rfl)
theorem dX2_sawLine_31 : decode cX2_sawLine 31 = .ok (.ifCond .ne 17, 3) := dk_154 0 17 (dk_at dksX2_sawLine_1 8 rfl rfl)
theorem dX2_sawLine_34 : decode cX2_sawLine 34 = .ok (.iload_n 2, 1) := dk_28 (dk_at dksX2_sawLine_1 11 rfl rfl)
theorem dX2_sawLine_35 : decode cX2_sawLine 35 = .ok (.iload_n 3, 1) := dk_29 (dk_at dksX2_sawLine_1 12 rfl rfl)
theorem dX2_sawLine_36 : decode cX2_sawLine 36 = .ok (.if_icmp .ne 12, 3) := dk_160 0 12 (dk_at dksX2_sawLine_1 13 rfl rfl)
theorem dX2_sawLine_39 : decode cX2_sawLine 39 = .ok (.aload_n 0, 1) := dk_42 (dk_at dksX2_sawLine_1 16 rfl rfl)
theorem dX2_sawLine_40 : decode cX2_sawLine 40 = .ok (.iconst 3, 1) := dk_6 (dk_at dksX2_sawLine_1 17 rfl rfl)
theorem dX2_sawLine_41 : decode cX2_sawLine 41 = .ok (.aload_n 0, 1) := dk_42 (dk_at dksX2_sawLine_1 18 rfl rfl)
theorem dX2_sawLine_42 : decode cX2_sawLine 42 = .ok (.getfield 72, 3) := dk_180 0 72 (dk_at dksX2_sawLine_1 19 rfl rfl)
theorem dX2_sawLine_45 : decode cX2_sawLine 45 = .ok (.invokevirtual 118, 3) := dk_182 0 118 (dk_at dksX2_sawLine_2 0 rfl rfl)
theorem dX2_sawLine_48 : decode cX2_sawLine 48 = .ok (.aload_n 0, 1) := dk_42 (dk_at dksX2_sawLine_2 3 rfl rfl)
theorem dX2_sawLine_49 : decode cX2_sawLine 49 = .ok (.invokevirtual 255, 3) := dk_182 0 255 (dk_at dksX2_sawLine_2 4 rfl rfl)
theorem dX2_sawLine_52 : decode cX2_sawLine 52 = .ok (.aload_n 0, 1) := dk_42 (dk_at dksX2_sawLine_2 7 rfl rfl)
theorem dX2_sawLine_53 : decode cX2_sawLine 53 = .ok (.iconst 4, 1) := dk_7 (dk_at dksX2_sawLine_2 8 rfl rfl)
theorem dX2_sawLine_54 : decode cX2_sawLine 54 = .ok (.bipush 7, 2) := dk_16 7 (dk_at dksX2_sawLine_2 9 rfl rfl)
theorem dX2_sawLine_56 : decode cX2_sawLine 56 = .ok (.invokevirtual 148, 3) := dk_182 0 148 (dk_at dksX2_sawLine_2 11 rfl rfl)
theorem dX2_sawLine_59 : decode cX2_sawLine 59 = .ok (.istore 4, 2) := dk_54 4 (dk_at dksX2_sawLine_2 14 rfl rfl)
theorem dX2_sawLine_61 : decode cX2_sawLine 61 = .ok (.aload_n 0, 1) := dk_42 (dk_at dksX2_sawLine_2 16 rfl rfl)
theorem dX2_sawLine_62 : decode cX2_sawLine 62 = .ok (.invokevirtual 255, 3) := dk_182 0 255 (dk_at dksX2_sawLine_2 17 rfl rfl)
theorem dX2_sawLine_65 : decode cX2_sawLine 65 = .ok (.aload_n 0, 1) := dk_42 (dk_at dksX2_sawLine_2 20 rfl rfl)
theorem dX2_sawLine_66 : decode cX2_sawLine 66 = .ok (.getfield 91, 3) := dk_180 0 91 (dk_at dksX2_sawLine_2 21 rfl rfl)
theorem dX2_sawLine_69 : decode cX2_sawLine 69 = .ok (.ifCond .eq 4, 3) := dk_153 0 4 (dk_at dksX2_sawLine_3 0 rfl rfl)
theorem dX2_sawLine_72 : decode cX2_sawLine 72 = .ok (.return_, 1) := dk_177 (dk_at dksX2_sawLine_3 3 rfl rfl)
theorem dX2_sawLine_73 : decode cX2_sawLine 73 = .ok (.aload_n 0, 1) := dk_42 (dk_at dksX2_sawLine_3 4 rfl rfl)
theorem dX2_sawLine_74 : decode cX2_sawLine 74 = .ok (.getfield 23, 3) := dk_180 0 23 (dk_at dksX2_sawLine_3 5 rfl rfl)
theorem dX2_sawLine_77 : decode cX2_sawLine 77 = .ok (.iload_n 1, 1) := dk_27 (dk_at dksX2_sawLine_3 8 rfl rfl)
theorem dX2_sawLine_78 : decode cX2_sawLine 78 = .ok (.iload_n 2, 1) := dk_28 (dk_at dksX2_sawLine_3 9 rfl rfl)
theorem dX2_sawLine_79 : decode cX2_sawLine 79 = .ok (.iastore, 1) := dk_79 (dk_at dksX2_sawLine_3 10 rfl rfl)
theorem dX2_sawLine_80 : decode cX2_sawLine 80 = .ok (.aload_n 0, 1) := dk_42 (dk_at dksX2_sawLine_3 11 rfl rfl)
theorem dX2_sawLine_81 : decode cX2_sawLine 81 = .ok (.getfield 23, 3) := dk_180 0 23 (dk_at dksX2_sawLine_3 12 rfl rfl)
theorem dX2_sawLine_84 : decode cX2_sawLine 84 = .ok (.iload_n 1, 1) := dk_27 (dk_at dksX2_sawLine_3 15 rfl rfl)
theorem dX2_sawLine_85 : decode cX2_sawLine 85 = .ok (.iconst 1, 1) := dk_4 (dk_at dksX2_sawLine_3 16 rfl rfl)
theorem dX2_sawLine_86 : decode cX2_sawLine 86 = .ok (.iadd, 1) := dk_96 (dk_at dksX2_sawLine_3 17 rfl rfl)
theorem dX2_sawLine_87 : decode cX2_sawLine 87 = .ok (.iload_n 3, 1) := dk_29 (dk_at dksX2_sawLine_3 18 rfl rfl)
theorem dX2_sawLine_88 : decode cX2_sawLine 88 = .ok (.iastore, 1) := dk_79 (dk_at dksX2_sawLine_3 19 rfl rfl)
theorem dX2_sawLine_89 : decode cX2_sawLine 89 = .ok (.aload_n 0, 1) := dk_42 (dk_at dksX2_sawLine_3 20 rfl rfl)
theorem dX2_sawLine_90 : decode cX2_sawLine 90 = .ok (.getfield 23, 3) := dk_180 0 23 (dk_at dksX2_sawLine_3 21 rfl rfl)
theorem dX2_sawLine_93 : decode cX2_sawLine 93 = .ok (.iload_n 1, 1) := dk_27 (dk_at dksX2_sawLine_4 0 rfl rfl)
theorem dX2_sawLine_94 : decode cX2_sawLine 94 = .ok (.iconst 2, 1) := dk_5 (dk_at dksX2_sawLine_4 1 rfl rfl)
theorem dX2_sawLine_95 : decode cX2_sawLine 95 = .ok (.iadd, 1) := dk_96 (dk_at dksX2_sawLine_4 2 rfl rfl)
theorem dX2_sawLine_96 : decode cX2_sawLine 96 = .ok (.iload 4, 2) := dk_21 4 (dk_at dksX2_sawLine_4 3 rfl rfl)
theorem dX2_sawLine_98 : decode cX2_sawLine 98 = .ok (.iastore, 1) := dk_79 (dk_at dksX2_sawLine_4 5 rfl rfl)
theorem dX2_sawLine_99 : decode cX2_sawLine 99 = .ok (.aload_n 0, 1) := dk_42 (dk_at dksX2_sawLine_4 6 rfl rfl)
theorem dX2_sawLine_100 : decode cX2_sawLine 100 = .ok (.getfield 23, 3) := dk_180 0 23 (dk_at dksX2_sawLine_4 7 rfl rfl)
theorem dX2_sawLine_103 : decode cX2_sawLine 103 = .ok (.bipush 10, 2) := dk_16 10 (dk_at dksX2_sawLine_4 10 rfl rfl)
theorem dX2_sawLine_105 : decode cX2_sawLine 105 = .ok (.dup2, 1) := dk_92 (dk_at dksX2_sawLine_4 12 rfl rfl)
theorem dX2_sawLine_106 : decode cX2_sawLine 106 = .ok (.iaload, 1) := dk_46 (dk_at dksX2_sawLine_4 13 rfl rfl)
theorem dX2_sawLine_107 : decode cX2_sawLine 107 = .ok (.iconst 1, 1) := dk_4 (dk_at dksX2_sawLine_4 14 rfl rfl)
theorem dX2_sawLine_108 : decode cX2_sawLine 108 = .ok (.iadd, 1) := dk_96 (dk_at dksX2_sawLine_4 15 rfl rfl)
theorem dX2_sawLine_109 : decode cX2_sawLine 109 = .ok (.iastore, 1) := dk_79 (dk_at dksX2_sawLine_4 16 rfl rfl)
theorem dX2_sawLine_110 : decode cX2_sawLine 110 = .ok (.return_, 1) := dk_177 (dk_at dksX2_sawLine_4 17 rfl rfl)
abbrev cX2_copy : ByteArray := prog_15_method_9_code
def yX2_copy : MethodName := ⟨RX2, "copy", "([II[III)V"⟩
def dkwX2_copy_1 : List UInt8 := [132, 5, 1, 167, 255, 234, 177]
abbrev dktX2_copy_1 : List UInt8 := dkwX2_copy_1 ++ []
def dkwX2_copy_0 : List UInt8 := [3, 54, 5, 21, 5, 21, 4, 162, 0, 21, 44, 29, 21, 5, 96, 42, 27, 21, 5, 96, 46, 79]
abbrev dktX2_copy_0 : List UInt8 := dkwX2_copy_0 ++ dktX2_copy_1
theorem dksX2_copy_0 : cX2_copy.data.toList.drop 0 = dktX2_copy_0 := by decide +kernel
theorem dksX2_copy_1 : cX2_copy.data.toList.drop 22 = dktX2_copy_1 := dk_seg dksX2_copy_0 22 rfl rfl
theorem dX2_copy_0 : decode cX2_copy 0 = .ok (.iconst 0, 1) := dk_3 (dk_at dksX2_copy_0 0 rfl rfl)
theorem dX2_copy_1 : decode cX2_copy 1 = .ok (.istore 5, 2) := dk_54 5 (dk_at dksX2_copy_0 1 rfl rfl)
theorem dX2_copy_3 : decode cX2_copy 3 = .ok (.iload 5, 2) := dk_21 5 (dk_at dksX2_copy_0 3 rfl rfl)
theorem dX2_copy_5 : decode cX2_copy 5 = .ok (.iload 4, 2) := dk_21 4 (dk_at dksX2_copy_0 5 rfl rfl)
theorem dX2_copy_7 : decode cX2_copy 7 = .ok (.if_icmp .ge 21, 3) := dk_162 0 21 (dk_at dksX2_copy_0 7 rfl rfl)
theorem dX2_copy_10 : decode cX2_copy 10 = .ok (.aload_n 2, 1) := dk_44 (dk_at dksX2_copy_0 10 rfl rfl)
theorem dX2_copy_11 : decode cX2_copy 11 = .ok (.iload_n 3, 1) := dk_29 (dk_at dksX2_copy_0 11 rfl rfl)
theorem dX2_copy_12 : decode cX2_copy 12 = .ok (.iload 5, 2) := dk_21 5 (dk_at dksX2_copy_0 12 rfl rfl)
theorem dX2_copy_14 : decode cX2_copy 14 = .ok (.iadd, 1) := dk_96 (dk_at dksX2_copy_0 14 rfl rfl)
theorem dX2_copy_15 : decode cX2_copy 15 = .ok (.aload_n 0, 1) := dk_42 (dk_at dksX2_copy_0 15 rfl rfl)
theorem dX2_copy_16 : decode cX2_copy 16 = .ok (.iload_n 1, 1) := dk_27 (dk_at dksX2_copy_0 16 rfl rfl)
theorem dX2_copy_17 : decode cX2_copy 17 = .ok (.iload 5, 2) := dk_21 5 (dk_at dksX2_copy_0 17 rfl rfl)
theorem dX2_copy_19 : decode cX2_copy 19 = .ok (.iadd, 1) := dk_96 (dk_at dksX2_copy_0 19 rfl rfl)
theorem dX2_copy_20 : decode cX2_copy 20 = .ok (.iaload, 1) := dk_46 (dk_at dksX2_copy_0 20 rfl rfl)
theorem dX2_copy_21 : decode cX2_copy 21 = .ok (.iastore, 1) := dk_79 (dk_at dksX2_copy_0 21 rfl rfl)
theorem dX2_copy_22 : decode cX2_copy 22 = .ok (.iinc 5 1, 3) := dk_132 5 1 (dk_at dksX2_copy_1 0 rfl rfl)
theorem dX2_copy_25 : decode cX2_copy 25 = .ok (.goto (-22), 3) := dk_167 255 234 (dk_at dksX2_copy_1 3 rfl rfl)
theorem dX2_copy_28 : decode cX2_copy 28 = .ok (.return_, 1) := dk_177 (dk_at dksX2_copy_1 6 rfl rfl)
abbrev cX2_fault : ByteArray := prog_15_method_41_code
def yX2_fault : MethodName := ⟨RX2, "fault", "()I"⟩
def dkwX2_fault_0 : List UInt8 := [42, 3, 181, 0, 53, 42, 180, 0, 95, 172]
abbrev dktX2_fault_0 : List UInt8 := dkwX2_fault_0 ++ []
theorem dksX2_fault_0 : cX2_fault.data.toList.drop 0 = dktX2_fault_0 := by decide +kernel
theorem dX2_fault_0 : decode cX2_fault 0 = .ok (.aload_n 0, 1) := dk_42 (dk_at dksX2_fault_0 0 rfl rfl)
theorem dX2_fault_1 : decode cX2_fault 1 = .ok (.iconst 0, 1) := dk_3 (dk_at dksX2_fault_0 1 rfl rfl)
theorem dX2_fault_2 : decode cX2_fault 2 = .ok (.putfield 53, 3) := dk_181 0 53 (dk_at dksX2_fault_0 2 rfl rfl)
theorem dX2_fault_5 : decode cX2_fault 5 = .ok (.aload_n 0, 1) := dk_42 (dk_at dksX2_fault_0 5 rfl rfl)
theorem dX2_fault_6 : decode cX2_fault 6 = .ok (.getfield 95, 3) := dk_180 0 95 (dk_at dksX2_fault_0 6 rfl rfl)
theorem dX2_fault_9 : decode cX2_fault 9 = .ok (.ireturn, 1) := dk_172 (dk_at dksX2_fault_0 9 rfl rfl)
abbrev cX2_where : ByteArray := prog_15_method_42_code
def yX2_where : MethodName := ⟨RX2, "where", "()I"⟩
def dkwX2_where_0 : List UInt8 := [42, 3, 181, 0, 53, 42, 180, 0, 56, 7, 160, 0, 10, 42, 180, 0, 13, 167, 0, 4, 2, 172]
abbrev dktX2_where_0 : List UInt8 := dkwX2_where_0 ++ []
theorem dksX2_where_0 : cX2_where.data.toList.drop 0 = dktX2_where_0 := by decide +kernel
theorem dX2_where_0 : decode cX2_where 0 = .ok (.aload_n 0, 1) := dk_42 (dk_at dksX2_where_0 0 rfl rfl)
theorem dX2_where_1 : decode cX2_where 1 = .ok (.iconst 0, 1) := dk_3 (dk_at dksX2_where_0 1 rfl rfl)
theorem dX2_where_2 : decode cX2_where 2 = .ok (.putfield 53, 3) := dk_181 0 53 (dk_at dksX2_where_0 2 rfl rfl)
theorem dX2_where_5 : decode cX2_where 5 = .ok (.aload_n 0, 1) := dk_42 (dk_at dksX2_where_0 5 rfl rfl)
theorem dX2_where_6 : decode cX2_where 6 = .ok (.getfield 56, 3) := dk_180 0 56 (dk_at dksX2_where_0 6 rfl rfl)
theorem dX2_where_9 : decode cX2_where 9 = .ok (.iconst 4, 1) := dk_7 (dk_at dksX2_where_0 9 rfl rfl)
theorem dX2_where_10 : decode cX2_where 10 = .ok (.if_icmp .ne 10, 3) := dk_160 0 10 (dk_at dksX2_where_0 10 rfl rfl)
theorem dX2_where_13 : decode cX2_where 13 = .ok (.aload_n 0, 1) := dk_42 (dk_at dksX2_where_0 13 rfl rfl)
theorem dX2_where_14 : decode cX2_where 14 = .ok (.getfield 13, 3) := dk_180 0 13 (dk_at dksX2_where_0 14 rfl rfl)
theorem dX2_where_17 : decode cX2_where 17 = .ok (.goto 4, 3) := dk_167 0 4 (dk_at dksX2_where_0 17 rfl rfl)
theorem dX2_where_20 : decode cX2_where 20 = .ok (.iconst (-1), 1) := dk_2 (dk_at dksX2_where_0 20 rfl rfl)
theorem dX2_where_21 : decode cX2_where 21 = .ok (.ireturn, 1) := dk_172 (dk_at dksX2_where_0 21 rfl rfl)
abbrev cX2_house : ByteArray := prog_15_method_61_code
def yX2_house : MethodName := ⟨RX2, "house", "(II)I"⟩
def dkwX2_house_6 : List UInt8 := [180, 0, 26, 16, 6, 46, 27, 122, 4, 126, 172]
abbrev dktX2_house_6 : List UInt8 := dkwX2_house_6 ++ []
def dkwX2_house_5 : List UInt8 := [172, 42, 42, 180, 0, 26, 27, 182, 1, 22, 172, 42, 42, 180, 0, 26, 27, 182, 1, 12, 172, 42]
abbrev dktX2_house_5 : List UInt8 := dkwX2_house_5 ++ dktX2_house_6
def dkwX2_house_4 : List UInt8 := [182, 1, 28, 172, 42, 180, 0, 26, 8, 46, 27, 122, 4, 126, 172, 42, 42, 180, 0, 26, 27, 182, 1, 19]
abbrev dktX2_house_4 : List UInt8 := dkwX2_house_4 ++ dktX2_house_5
def dkwX2_house_3 : List UInt8 := [42, 27, 182, 1, 9, 172, 42, 180, 0, 20, 16, 19, 7, 27, 104, 96, 5, 96, 46, 172, 42, 27]
abbrev dktX2_house_3 : List UInt8 := dkwX2_house_3 ++ dktX2_house_4
def dkwX2_house_2 : List UInt8 := [170, 0, 0, 0, 0, 0, 110, 0, 0, 0, 0, 0, 0, 0, 6, 0, 0, 0, 43, 0, 0, 0, 49, 0, 0, 0, 63, 0, 0, 0, 69, 0, 0, 0, 80, 0, 0, 0, 90, 0, 0, 0, 100]
abbrev dktX2_house_2 : List UInt8 := dkwX2_house_2 ++ dktX2_house_3
def dkwX2_house_1 : List UInt8 := [154, 0, 9, 42, 4, 182, 0, 166, 172, 28]
abbrev dktX2_house_1 : List UInt8 := dkwX2_house_1 ++ dktX2_house_2
def dkwX2_house_0 : List UInt8 := [42, 182, 0, 163, 42, 182, 1, 50, 42, 27, 182, 1, 53, 153, 0, 13, 28, 3, 16, 7, 184, 0, 144]
abbrev dktX2_house_0 : List UInt8 := dkwX2_house_0 ++ dktX2_house_1
theorem dksX2_house_0 : cX2_house.data.toList.drop 0 = dktX2_house_0 := by decide +kernel
theorem dksX2_house_1 : cX2_house.data.toList.drop 23 = dktX2_house_1 := dk_seg dksX2_house_0 23 rfl rfl
theorem dksX2_house_2 : cX2_house.data.toList.drop 33 = dktX2_house_2 := dk_seg dksX2_house_1 10 rfl rfl
theorem dksX2_house_3 : cX2_house.data.toList.drop 76 = dktX2_house_3 := dk_seg dksX2_house_2 43 rfl rfl
theorem dksX2_house_4 : cX2_house.data.toList.drop 98 = dktX2_house_4 := dk_seg dksX2_house_3 22 rfl rfl
theorem dksX2_house_5 : cX2_house.data.toList.drop 122 = dktX2_house_5 := dk_seg dksX2_house_4 24 rfl rfl
theorem dksX2_house_6 : cX2_house.data.toList.drop 144 = dktX2_house_6 := dk_seg dksX2_house_5 22 rfl rfl
theorem dX2_house_0 : decode cX2_house 0 = .ok (.aload_n 0, 1) := dk_42 (dk_at dksX2_house_0 0 rfl rfl)
theorem dX2_house_1 : decode cX2_house 1 = .ok (.invokevirtual 163, 3) := dk_182 0 163 (dk_at dksX2_house_0 1 rfl rfl)
theorem dX2_house_4 : decode cX2_house 4 = .ok (.aload_n 0, 1) := dk_42 (dk_at dksX2_house_0 4 rfl rfl)
theorem dX2_house_5 : decode cX2_house 5 = .ok (.invokevirtual 306, 3) := dk_182 1 50 (dk_at dksX2_house_0 5 rfl rfl)
theorem dX2_house_8 : decode cX2_house 8 = .ok (.aload_n 0, 1) := dk_42 (dk_at dksX2_house_0 8 rfl rfl)
theorem dX2_house_9 : decode cX2_house 9 = .ok (.iload_n 1, 1) := dk_27 (dk_at dksX2_house_0 9 rfl rfl)
theorem dX2_house_10 : decode cX2_house 10 = .ok (.invokevirtual 309, 3) := dk_182 1 53 (dk_at dksX2_house_0 10 rfl rfl)
theorem dX2_house_13 : decode cX2_house 13 = .ok (.ifCond .eq 13, 3) := dk_153 0 13 (dk_at dksX2_house_0 13 rfl rfl)
theorem dX2_house_16 : decode cX2_house 16 = .ok (.iload_n 2, 1) := dk_28 (dk_at dksX2_house_0 16 rfl rfl)
theorem dX2_house_17 : decode cX2_house 17 = .ok (.iconst 0, 1) := dk_3 (dk_at dksX2_house_0 17 rfl rfl)
theorem dX2_house_18 : decode cX2_house 18 = .ok (.bipush 7, 2) := dk_16 7 (dk_at dksX2_house_0 18 rfl rfl)
theorem dX2_house_20 : decode cX2_house 20 = .ok (.invokestatic 144, 3) := dk_184 0 144 (dk_at dksX2_house_0 20 rfl rfl)
theorem dX2_house_23 : decode cX2_house 23 = .ok (.ifCond .ne 9, 3) := dk_154 0 9 (dk_at dksX2_house_1 0 rfl rfl)
theorem dX2_house_26 : decode cX2_house 26 = .ok (.aload_n 0, 1) := dk_42 (dk_at dksX2_house_1 3 rfl rfl)
theorem dX2_house_27 : decode cX2_house 27 = .ok (.iconst 1, 1) := dk_4 (dk_at dksX2_house_1 4 rfl rfl)
theorem dX2_house_28 : decode cX2_house 28 = .ok (.invokevirtual 166, 3) := dk_182 0 166 (dk_at dksX2_house_1 5 rfl rfl)
theorem dX2_house_31 : decode cX2_house 31 = .ok (.ireturn, 1) := dk_172 (dk_at dksX2_house_1 8 rfl rfl)
theorem dX2_house_32 : decode cX2_house 32 = .ok (.iload_n 2, 1) := dk_28 (dk_at dksX2_house_1 9 rfl rfl)
theorem dX2_house_33 : decode cX2_house 33 = .ok (.tableswitch 110 0 6 #[43, 49, 63, 69, 80, 90, 100], 43) := by decide +kernel
theorem dX2_house_76 : decode cX2_house 76 = .ok (.aload_n 0, 1) := dk_42 (dk_at dksX2_house_3 0 rfl rfl)
theorem dX2_house_77 : decode cX2_house 77 = .ok (.iload_n 1, 1) := dk_27 (dk_at dksX2_house_3 1 rfl rfl)
theorem dX2_house_78 : decode cX2_house 78 = .ok (.invokevirtual 265, 3) := dk_182 1 9 (dk_at dksX2_house_3 2 rfl rfl)
theorem dX2_house_81 : decode cX2_house 81 = .ok (.ireturn, 1) := dk_172 (dk_at dksX2_house_3 5 rfl rfl)
theorem dX2_house_82 : decode cX2_house 82 = .ok (.aload_n 0, 1) := dk_42 (dk_at dksX2_house_3 6 rfl rfl)
theorem dX2_house_83 : decode cX2_house 83 = .ok (.getfield 20, 3) := dk_180 0 20 (dk_at dksX2_house_3 7 rfl rfl)
theorem dX2_house_86 : decode cX2_house 86 = .ok (.bipush 19, 2) := dk_16 19 (dk_at dksX2_house_3 10 rfl rfl)
theorem dX2_house_88 : decode cX2_house 88 = .ok (.iconst 4, 1) := dk_7 (dk_at dksX2_house_3 12 rfl rfl)
theorem dX2_house_89 : decode cX2_house 89 = .ok (.iload_n 1, 1) := dk_27 (dk_at dksX2_house_3 13 rfl rfl)
theorem dX2_house_90 : decode cX2_house 90 = .ok (.imul, 1) := dk_104 (dk_at dksX2_house_3 14 rfl rfl)
theorem dX2_house_91 : decode cX2_house 91 = .ok (.iadd, 1) := dk_96 (dk_at dksX2_house_3 15 rfl rfl)
theorem dX2_house_92 : decode cX2_house 92 = .ok (.iconst 2, 1) := dk_5 (dk_at dksX2_house_3 16 rfl rfl)
theorem dX2_house_93 : decode cX2_house 93 = .ok (.iadd, 1) := dk_96 (dk_at dksX2_house_3 17 rfl rfl)
theorem dX2_house_94 : decode cX2_house 94 = .ok (.iaload, 1) := dk_46 (dk_at dksX2_house_3 18 rfl rfl)
theorem dX2_house_95 : decode cX2_house 95 = .ok (.ireturn, 1) := dk_172 (dk_at dksX2_house_3 19 rfl rfl)
theorem dX2_house_96 : decode cX2_house 96 = .ok (.aload_n 0, 1) := dk_42 (dk_at dksX2_house_3 20 rfl rfl)
theorem dX2_house_97 : decode cX2_house 97 = .ok (.iload_n 1, 1) := dk_27 (dk_at dksX2_house_3 21 rfl rfl)
theorem dX2_house_98 : decode cX2_house 98 = .ok (.invokevirtual 284, 3) := dk_182 1 28 (dk_at dksX2_house_4 0 rfl rfl)
theorem dX2_house_101 : decode cX2_house 101 = .ok (.ireturn, 1) := dk_172 (dk_at dksX2_house_4 3 rfl rfl)
theorem dX2_house_102 : decode cX2_house 102 = .ok (.aload_n 0, 1) := dk_42 (dk_at dksX2_house_4 4 rfl rfl)
theorem dX2_house_103 : decode cX2_house 103 = .ok (.getfield 26, 3) := dk_180 0 26 (dk_at dksX2_house_4 5 rfl rfl)
theorem dX2_house_106 : decode cX2_house 106 = .ok (.iconst 5, 1) := dk_8 (dk_at dksX2_house_4 8 rfl rfl)
theorem dX2_house_107 : decode cX2_house 107 = .ok (.iaload, 1) := dk_46 (dk_at dksX2_house_4 9 rfl rfl)
theorem dX2_house_108 : decode cX2_house 108 = .ok (.iload_n 1, 1) := dk_27 (dk_at dksX2_house_4 10 rfl rfl)
theorem dX2_house_109 : decode cX2_house 109 = .ok (.ishr, 1) := dk_122 (dk_at dksX2_house_4 11 rfl rfl)
theorem dX2_house_110 : decode cX2_house 110 = .ok (.iconst 1, 1) := dk_4 (dk_at dksX2_house_4 12 rfl rfl)
theorem dX2_house_111 : decode cX2_house 111 = .ok (.iand, 1) := dk_126 (dk_at dksX2_house_4 13 rfl rfl)
theorem dX2_house_112 : decode cX2_house 112 = .ok (.ireturn, 1) := dk_172 (dk_at dksX2_house_4 14 rfl rfl)
theorem dX2_house_113 : decode cX2_house 113 = .ok (.aload_n 0, 1) := dk_42 (dk_at dksX2_house_4 15 rfl rfl)
theorem dX2_house_114 : decode cX2_house 114 = .ok (.aload_n 0, 1) := dk_42 (dk_at dksX2_house_4 16 rfl rfl)
theorem dX2_house_115 : decode cX2_house 115 = .ok (.getfield 26, 3) := dk_180 0 26 (dk_at dksX2_house_4 17 rfl rfl)
theorem dX2_house_118 : decode cX2_house 118 = .ok (.iload_n 1, 1) := dk_27 (dk_at dksX2_house_4 20 rfl rfl)
theorem dX2_house_119 : decode cX2_house 119 = .ok (.invokevirtual 275, 3) := dk_182 1 19 (dk_at dksX2_house_4 21 rfl rfl)
theorem dX2_house_122 : decode cX2_house 122 = .ok (.ireturn, 1) := dk_172 (dk_at dksX2_house_5 0 rfl rfl)
theorem dX2_house_123 : decode cX2_house 123 = .ok (.aload_n 0, 1) := dk_42 (dk_at dksX2_house_5 1 rfl rfl)
theorem dX2_house_124 : decode cX2_house 124 = .ok (.aload_n 0, 1) := dk_42 (dk_at dksX2_house_5 2 rfl rfl)
theorem dX2_house_125 : decode cX2_house 125 = .ok (.getfield 26, 3) := dk_180 0 26 (dk_at dksX2_house_5 3 rfl rfl)
theorem dX2_house_128 : decode cX2_house 128 = .ok (.iload_n 1, 1) := dk_27 (dk_at dksX2_house_5 6 rfl rfl)
theorem dX2_house_129 : decode cX2_house 129 = .ok (.invokevirtual 278, 3) := dk_182 1 22 (dk_at dksX2_house_5 7 rfl rfl)
theorem dX2_house_132 : decode cX2_house 132 = .ok (.ireturn, 1) := dk_172 (dk_at dksX2_house_5 10 rfl rfl)
theorem dX2_house_133 : decode cX2_house 133 = .ok (.aload_n 0, 1) := dk_42 (dk_at dksX2_house_5 11 rfl rfl)
theorem dX2_house_134 : decode cX2_house 134 = .ok (.aload_n 0, 1) := dk_42 (dk_at dksX2_house_5 12 rfl rfl)
theorem dX2_house_135 : decode cX2_house 135 = .ok (.getfield 26, 3) := dk_180 0 26 (dk_at dksX2_house_5 13 rfl rfl)
theorem dX2_house_138 : decode cX2_house 138 = .ok (.iload_n 1, 1) := dk_27 (dk_at dksX2_house_5 16 rfl rfl)
theorem dX2_house_139 : decode cX2_house 139 = .ok (.invokevirtual 268, 3) := dk_182 1 12 (dk_at dksX2_house_5 17 rfl rfl)
theorem dX2_house_142 : decode cX2_house 142 = .ok (.ireturn, 1) := dk_172 (dk_at dksX2_house_5 20 rfl rfl)
theorem dX2_house_143 : decode cX2_house 143 = .ok (.aload_n 0, 1) := dk_42 (dk_at dksX2_house_5 21 rfl rfl)
theorem dX2_house_144 : decode cX2_house 144 = .ok (.getfield 26, 3) := dk_180 0 26 (dk_at dksX2_house_6 0 rfl rfl)
theorem dX2_house_147 : decode cX2_house 147 = .ok (.bipush 6, 2) := dk_16 6 (dk_at dksX2_house_6 3 rfl rfl)
theorem dX2_house_149 : decode cX2_house 149 = .ok (.iaload, 1) := dk_46 (dk_at dksX2_house_6 5 rfl rfl)
theorem dX2_house_150 : decode cX2_house 150 = .ok (.iload_n 1, 1) := dk_27 (dk_at dksX2_house_6 6 rfl rfl)
theorem dX2_house_151 : decode cX2_house 151 = .ok (.ishr, 1) := dk_122 (dk_at dksX2_house_6 7 rfl rfl)
theorem dX2_house_152 : decode cX2_house 152 = .ok (.iconst 1, 1) := dk_4 (dk_at dksX2_house_6 8 rfl rfl)
theorem dX2_house_153 : decode cX2_house 153 = .ok (.iand, 1) := dk_126 (dk_at dksX2_house_6 9 rfl rfl)
theorem dX2_house_154 : decode cX2_house 154 = .ok (.ireturn, 1) := dk_172 (dk_at dksX2_house_6 10 rfl rfl)
abbrev cX2_dry : ByteArray := prog_15_method_60_code
def yX2_dry : MethodName := ⟨RX2, "dry", "()V"⟩
def dkwX2_dry_0 : List UInt8 := [42, 3, 181, 1, 25, 177]
abbrev dktX2_dry_0 : List UInt8 := dkwX2_dry_0 ++ []
theorem dksX2_dry_0 : cX2_dry.data.toList.drop 0 = dktX2_dry_0 := by decide +kernel
theorem dX2_dry_0 : decode cX2_dry 0 = .ok (.aload_n 0, 1) := dk_42 (dk_at dksX2_dry_0 0 rfl rfl)
theorem dX2_dry_1 : decode cX2_dry 1 = .ok (.iconst 0, 1) := dk_3 (dk_at dksX2_dry_0 1 rfl rfl)
theorem dX2_dry_2 : decode cX2_dry 2 = .ok (.putfield 281, 3) := dk_181 1 25 (dk_at dksX2_dry_0 2 rfl rfl)
theorem dX2_dry_5 : decode cX2_dry 5 = .ok (.return_, 1) := dk_177 (dk_at dksX2_dry_0 5 rfl rfl)
abbrev cX2_isHouse : ByteArray := prog_15_method_43_code
def yX2_isHouse : MethodName := ⟨RX2, "isHouse", "(I)Z"⟩
def dkwX2_isHouse_1 : List UInt8 := [4, 167, 0, 4, 3, 172]
abbrev dktX2_isHouse_1 : List UInt8 := dkwX2_isHouse_1 ++ []
def dkwX2_isHouse_0 : List UInt8 := [42, 180, 0, 176, 153, 0, 24, 27, 3, 42, 180, 0, 20, 16, 6, 46, 4, 100, 184, 0, 144, 153, 0, 7]
abbrev dktX2_isHouse_0 : List UInt8 := dkwX2_isHouse_0 ++ dktX2_isHouse_1
theorem dksX2_isHouse_0 : cX2_isHouse.data.toList.drop 0 = dktX2_isHouse_0 := by decide +kernel
theorem dksX2_isHouse_1 : cX2_isHouse.data.toList.drop 24 = dktX2_isHouse_1 := dk_seg dksX2_isHouse_0 24 rfl rfl
theorem dX2_isHouse_0 : decode cX2_isHouse 0 = .ok (.aload_n 0, 1) := dk_42 (dk_at dksX2_isHouse_0 0 rfl rfl)
theorem dX2_isHouse_1 : decode cX2_isHouse 1 = .ok (.getfield 176, 3) := dk_180 0 176 (dk_at dksX2_isHouse_0 1 rfl rfl)
theorem dX2_isHouse_4 : decode cX2_isHouse 4 = .ok (.ifCond .eq 24, 3) := dk_153 0 24 (dk_at dksX2_isHouse_0 4 rfl rfl)
theorem dX2_isHouse_7 : decode cX2_isHouse 7 = .ok (.iload_n 1, 1) := dk_27 (dk_at dksX2_isHouse_0 7 rfl rfl)
theorem dX2_isHouse_8 : decode cX2_isHouse 8 = .ok (.iconst 0, 1) := dk_3 (dk_at dksX2_isHouse_0 8 rfl rfl)
theorem dX2_isHouse_9 : decode cX2_isHouse 9 = .ok (.aload_n 0, 1) := dk_42 (dk_at dksX2_isHouse_0 9 rfl rfl)
theorem dX2_isHouse_10 : decode cX2_isHouse 10 = .ok (.getfield 20, 3) := dk_180 0 20 (dk_at dksX2_isHouse_0 10 rfl rfl)
theorem dX2_isHouse_13 : decode cX2_isHouse 13 = .ok (.bipush 6, 2) := dk_16 6 (dk_at dksX2_isHouse_0 13 rfl rfl)
theorem dX2_isHouse_15 : decode cX2_isHouse 15 = .ok (.iaload, 1) := dk_46 (dk_at dksX2_isHouse_0 15 rfl rfl)
theorem dX2_isHouse_16 : decode cX2_isHouse 16 = .ok (.iconst 1, 1) := dk_4 (dk_at dksX2_isHouse_0 16 rfl rfl)
theorem dX2_isHouse_17 : decode cX2_isHouse 17 = .ok (.isub, 1) := dk_100 (dk_at dksX2_isHouse_0 17 rfl rfl)
theorem dX2_isHouse_18 : decode cX2_isHouse 18 = .ok (.invokestatic 144, 3) := dk_184 0 144 (dk_at dksX2_isHouse_0 18 rfl rfl)
theorem dX2_isHouse_21 : decode cX2_isHouse 21 = .ok (.ifCond .eq 7, 3) := dk_153 0 7 (dk_at dksX2_isHouse_0 21 rfl rfl)
theorem dX2_isHouse_24 : decode cX2_isHouse 24 = .ok (.iconst 1, 1) := dk_4 (dk_at dksX2_isHouse_1 0 rfl rfl)
theorem dX2_isHouse_25 : decode cX2_isHouse 25 = .ok (.goto 4, 3) := dk_167 0 4 (dk_at dksX2_isHouse_1 1 rfl rfl)
theorem dX2_isHouse_28 : decode cX2_isHouse 28 = .ok (.iconst 0, 1) := dk_3 (dk_at dksX2_isHouse_1 4 rfl rfl)
theorem dX2_isHouse_29 : decode cX2_isHouse 29 = .ok (.ireturn, 1) := dk_172 (dk_at dksX2_isHouse_1 5 rfl rfl)
abbrev cX2_kindOf : ByteArray := prog_15_method_46_code
def yX2_kindOf : MethodName := ⟨RX2, "kindOf", "(I)I"⟩
def dkwX2_kindOf_0 : List UInt8 := [42, 180, 0, 20, 16, 19, 7, 27, 104, 96, 46, 172]
abbrev dktX2_kindOf_0 : List UInt8 := dkwX2_kindOf_0 ++ []
theorem dksX2_kindOf_0 : cX2_kindOf.data.toList.drop 0 = dktX2_kindOf_0 := by decide +kernel
theorem dX2_kindOf_0 : decode cX2_kindOf 0 = .ok (.aload_n 0, 1) := dk_42 (dk_at dksX2_kindOf_0 0 rfl rfl)
theorem dX2_kindOf_1 : decode cX2_kindOf 1 = .ok (.getfield 20, 3) := dk_180 0 20 (dk_at dksX2_kindOf_0 1 rfl rfl)
theorem dX2_kindOf_4 : decode cX2_kindOf 4 = .ok (.bipush 19, 2) := dk_16 19 (dk_at dksX2_kindOf_0 4 rfl rfl)
theorem dX2_kindOf_6 : decode cX2_kindOf 6 = .ok (.iconst 4, 1) := dk_7 (dk_at dksX2_kindOf_0 6 rfl rfl)
theorem dX2_kindOf_7 : decode cX2_kindOf 7 = .ok (.iload_n 1, 1) := dk_27 (dk_at dksX2_kindOf_0 7 rfl rfl)
theorem dX2_kindOf_8 : decode cX2_kindOf 8 = .ok (.imul, 1) := dk_104 (dk_at dksX2_kindOf_0 8 rfl rfl)
theorem dX2_kindOf_9 : decode cX2_kindOf 9 = .ok (.iadd, 1) := dk_96 (dk_at dksX2_kindOf_0 9 rfl rfl)
theorem dX2_kindOf_10 : decode cX2_kindOf 10 = .ok (.iaload, 1) := dk_46 (dk_at dksX2_kindOf_0 10 rfl rfl)
theorem dX2_kindOf_11 : decode cX2_kindOf 11 = .ok (.ireturn, 1) := dk_172 (dk_at dksX2_kindOf_0 11 rfl rfl)
abbrev cX2_storeysOf : ByteArray := prog_15_method_47_code
def yX2_storeysOf : MethodName := ⟨RX2, "storeysOf", "(I)I"⟩
def dkwX2_storeysOf_0 : List UInt8 := [42, 180, 0, 20, 16, 19, 7, 27, 104, 96, 6, 96, 46, 172]
abbrev dktX2_storeysOf_0 : List UInt8 := dkwX2_storeysOf_0 ++ []
theorem dksX2_storeysOf_0 : cX2_storeysOf.data.toList.drop 0 = dktX2_storeysOf_0 := by decide +kernel
theorem dX2_storeysOf_0 : decode cX2_storeysOf 0 = .ok (.aload_n 0, 1) := dk_42 (dk_at dksX2_storeysOf_0 0 rfl rfl)
theorem dX2_storeysOf_1 : decode cX2_storeysOf 1 = .ok (.getfield 20, 3) := dk_180 0 20 (dk_at dksX2_storeysOf_0 1 rfl rfl)
theorem dX2_storeysOf_4 : decode cX2_storeysOf 4 = .ok (.bipush 19, 2) := dk_16 19 (dk_at dksX2_storeysOf_0 4 rfl rfl)
theorem dX2_storeysOf_6 : decode cX2_storeysOf 6 = .ok (.iconst 4, 1) := dk_7 (dk_at dksX2_storeysOf_0 6 rfl rfl)
theorem dX2_storeysOf_7 : decode cX2_storeysOf 7 = .ok (.iload_n 1, 1) := dk_27 (dk_at dksX2_storeysOf_0 7 rfl rfl)
theorem dX2_storeysOf_8 : decode cX2_storeysOf 8 = .ok (.imul, 1) := dk_104 (dk_at dksX2_storeysOf_0 8 rfl rfl)
theorem dX2_storeysOf_9 : decode cX2_storeysOf 9 = .ok (.iadd, 1) := dk_96 (dk_at dksX2_storeysOf_0 9 rfl rfl)
theorem dX2_storeysOf_10 : decode cX2_storeysOf 10 = .ok (.iconst 3, 1) := dk_6 (dk_at dksX2_storeysOf_0 10 rfl rfl)
theorem dX2_storeysOf_11 : decode cX2_storeysOf 11 = .ok (.iadd, 1) := dk_96 (dk_at dksX2_storeysOf_0 11 rfl rfl)
theorem dX2_storeysOf_12 : decode cX2_storeysOf 12 = .ok (.iaload, 1) := dk_46 (dk_at dksX2_storeysOf_0 12 rfl rfl)
theorem dX2_storeysOf_13 : decode cX2_storeysOf 13 = .ok (.ireturn, 1) := dk_172 (dk_at dksX2_storeysOf_0 13 rfl rfl)
abbrev cX2_weightOf : ByteArray := prog_15_method_49_code
def yX2_weightOf : MethodName := ⟨RX2, "weightOf", "([II)I"⟩
def dkwX2_weightOf_3 : List UInt8 := [132, 4, 1, 167, 255, 212, 29, 172]
abbrev dktX2_weightOf_3 : List UInt8 := dkwX2_weightOf_3 ++ []
def dkwX2_weightOf_2 : List UInt8 := [4, 96, 160, 0, 18, 42, 180, 0, 20, 16, 35, 7, 21, 4, 104, 96, 46, 167, 0, 4, 3, 96, 62]
abbrev dktX2_weightOf_2 : List UInt8 := dkwX2_weightOf_2 ++ dktX2_weightOf_3
def dkwX2_weightOf_1 : List UInt8 := [5, 108, 62, 3, 54, 4, 21, 4, 42, 180, 0, 20, 16, 7, 46, 162, 0, 38, 29, 43, 21, 4, 46, 28]
abbrev dktX2_weightOf_1 : List UInt8 := dkwX2_weightOf_1 ++ dktX2_weightOf_2
def dkwX2_weightOf_0 : List UInt8 := [42, 180, 0, 20, 16, 19, 7, 28, 104, 96, 5, 96, 46, 62, 42, 28, 182, 1, 9, 5, 160, 0, 7, 29]
abbrev dktX2_weightOf_0 : List UInt8 := dkwX2_weightOf_0 ++ dktX2_weightOf_1
theorem dksX2_weightOf_0 : cX2_weightOf.data.toList.drop 0 = dktX2_weightOf_0 := by decide +kernel
theorem dksX2_weightOf_1 : cX2_weightOf.data.toList.drop 24 = dktX2_weightOf_1 := dk_seg dksX2_weightOf_0 24 rfl rfl
theorem dksX2_weightOf_2 : cX2_weightOf.data.toList.drop 48 = dktX2_weightOf_2 := dk_seg dksX2_weightOf_1 24 rfl rfl
theorem dksX2_weightOf_3 : cX2_weightOf.data.toList.drop 71 = dktX2_weightOf_3 := dk_seg dksX2_weightOf_2 23 rfl rfl
theorem dX2_weightOf_0 : decode cX2_weightOf 0 = .ok (.aload_n 0, 1) := dk_42 (dk_at dksX2_weightOf_0 0 rfl rfl)
theorem dX2_weightOf_1 : decode cX2_weightOf 1 = .ok (.getfield 20, 3) := dk_180 0 20 (dk_at dksX2_weightOf_0 1 rfl rfl)
theorem dX2_weightOf_4 : decode cX2_weightOf 4 = .ok (.bipush 19, 2) := dk_16 19 (dk_at dksX2_weightOf_0 4 rfl rfl)
theorem dX2_weightOf_6 : decode cX2_weightOf 6 = .ok (.iconst 4, 1) := dk_7 (dk_at dksX2_weightOf_0 6 rfl rfl)
theorem dX2_weightOf_7 : decode cX2_weightOf 7 = .ok (.iload_n 2, 1) := dk_28 (dk_at dksX2_weightOf_0 7 rfl rfl)
theorem dX2_weightOf_8 : decode cX2_weightOf 8 = .ok (.imul, 1) := dk_104 (dk_at dksX2_weightOf_0 8 rfl rfl)
theorem dX2_weightOf_9 : decode cX2_weightOf 9 = .ok (.iadd, 1) := dk_96 (dk_at dksX2_weightOf_0 9 rfl rfl)
theorem dX2_weightOf_10 : decode cX2_weightOf 10 = .ok (.iconst 2, 1) := dk_5 (dk_at dksX2_weightOf_0 10 rfl rfl)
theorem dX2_weightOf_11 : decode cX2_weightOf 11 = .ok (.iadd, 1) := dk_96 (dk_at dksX2_weightOf_0 11 rfl rfl)
theorem dX2_weightOf_12 : decode cX2_weightOf 12 = .ok (.iaload, 1) := dk_46 (dk_at dksX2_weightOf_0 12 rfl rfl)
theorem dX2_weightOf_13 : decode cX2_weightOf 13 = .ok (.istore_n 3, 1) := dk_62 (dk_at dksX2_weightOf_0 13 rfl rfl)
theorem dX2_weightOf_14 : decode cX2_weightOf 14 = .ok (.aload_n 0, 1) := dk_42 (dk_at dksX2_weightOf_0 14 rfl rfl)
theorem dX2_weightOf_15 : decode cX2_weightOf 15 = .ok (.iload_n 2, 1) := dk_28 (dk_at dksX2_weightOf_0 15 rfl rfl)
theorem dX2_weightOf_16 : decode cX2_weightOf 16 = .ok (.invokevirtual 265, 3) := dk_182 1 9 (dk_at dksX2_weightOf_0 16 rfl rfl)
theorem dX2_weightOf_19 : decode cX2_weightOf 19 = .ok (.iconst 2, 1) := dk_5 (dk_at dksX2_weightOf_0 19 rfl rfl)
theorem dX2_weightOf_20 : decode cX2_weightOf 20 = .ok (.if_icmp .ne 7, 3) := dk_160 0 7 (dk_at dksX2_weightOf_0 20 rfl rfl)
theorem dX2_weightOf_23 : decode cX2_weightOf 23 = .ok (.iload_n 3, 1) := dk_29 (dk_at dksX2_weightOf_0 23 rfl rfl)
theorem dX2_weightOf_24 : decode cX2_weightOf 24 = .ok (.iconst 2, 1) := dk_5 (dk_at dksX2_weightOf_1 0 rfl rfl)
theorem dX2_weightOf_25 : decode cX2_weightOf 25 = .ok (.idiv, 1) := dk_108 (dk_at dksX2_weightOf_1 1 rfl rfl)
theorem dX2_weightOf_26 : decode cX2_weightOf 26 = .ok (.istore_n 3, 1) := dk_62 (dk_at dksX2_weightOf_1 2 rfl rfl)
theorem dX2_weightOf_27 : decode cX2_weightOf 27 = .ok (.iconst 0, 1) := dk_3 (dk_at dksX2_weightOf_1 3 rfl rfl)
theorem dX2_weightOf_28 : decode cX2_weightOf 28 = .ok (.istore 4, 2) := dk_54 4 (dk_at dksX2_weightOf_1 4 rfl rfl)
theorem dX2_weightOf_30 : decode cX2_weightOf 30 = .ok (.iload 4, 2) := dk_21 4 (dk_at dksX2_weightOf_1 6 rfl rfl)
theorem dX2_weightOf_32 : decode cX2_weightOf 32 = .ok (.aload_n 0, 1) := dk_42 (dk_at dksX2_weightOf_1 8 rfl rfl)
theorem dX2_weightOf_33 : decode cX2_weightOf 33 = .ok (.getfield 20, 3) := dk_180 0 20 (dk_at dksX2_weightOf_1 9 rfl rfl)
theorem dX2_weightOf_36 : decode cX2_weightOf 36 = .ok (.bipush 7, 2) := dk_16 7 (dk_at dksX2_weightOf_1 12 rfl rfl)
theorem dX2_weightOf_38 : decode cX2_weightOf 38 = .ok (.iaload, 1) := dk_46 (dk_at dksX2_weightOf_1 14 rfl rfl)
theorem dX2_weightOf_39 : decode cX2_weightOf 39 = .ok (.if_icmp .ge 38, 3) := dk_162 0 38 (dk_at dksX2_weightOf_1 15 rfl rfl)
theorem dX2_weightOf_42 : decode cX2_weightOf 42 = .ok (.iload_n 3, 1) := dk_29 (dk_at dksX2_weightOf_1 18 rfl rfl)
theorem dX2_weightOf_43 : decode cX2_weightOf 43 = .ok (.aload_n 1, 1) := dk_43 (dk_at dksX2_weightOf_1 19 rfl rfl)
theorem dX2_weightOf_44 : decode cX2_weightOf 44 = .ok (.iload 4, 2) := dk_21 4 (dk_at dksX2_weightOf_1 20 rfl rfl)
theorem dX2_weightOf_46 : decode cX2_weightOf 46 = .ok (.iaload, 1) := dk_46 (dk_at dksX2_weightOf_1 22 rfl rfl)
theorem dX2_weightOf_47 : decode cX2_weightOf 47 = .ok (.iload_n 2, 1) := dk_28 (dk_at dksX2_weightOf_1 23 rfl rfl)
theorem dX2_weightOf_48 : decode cX2_weightOf 48 = .ok (.iconst 1, 1) := dk_4 (dk_at dksX2_weightOf_2 0 rfl rfl)
theorem dX2_weightOf_49 : decode cX2_weightOf 49 = .ok (.iadd, 1) := dk_96 (dk_at dksX2_weightOf_2 1 rfl rfl)
theorem dX2_weightOf_50 : decode cX2_weightOf 50 = .ok (.if_icmp .ne 18, 3) := dk_160 0 18 (dk_at dksX2_weightOf_2 2 rfl rfl)
theorem dX2_weightOf_53 : decode cX2_weightOf 53 = .ok (.aload_n 0, 1) := dk_42 (dk_at dksX2_weightOf_2 5 rfl rfl)
theorem dX2_weightOf_54 : decode cX2_weightOf 54 = .ok (.getfield 20, 3) := dk_180 0 20 (dk_at dksX2_weightOf_2 6 rfl rfl)
theorem dX2_weightOf_57 : decode cX2_weightOf 57 = .ok (.bipush 35, 2) := dk_16 35 (dk_at dksX2_weightOf_2 9 rfl rfl)
theorem dX2_weightOf_59 : decode cX2_weightOf 59 = .ok (.iconst 4, 1) := dk_7 (dk_at dksX2_weightOf_2 11 rfl rfl)
theorem dX2_weightOf_60 : decode cX2_weightOf 60 = .ok (.iload 4, 2) := dk_21 4 (dk_at dksX2_weightOf_2 12 rfl rfl)
theorem dX2_weightOf_62 : decode cX2_weightOf 62 = .ok (.imul, 1) := dk_104 (dk_at dksX2_weightOf_2 14 rfl rfl)
theorem dX2_weightOf_63 : decode cX2_weightOf 63 = .ok (.iadd, 1) := dk_96 (dk_at dksX2_weightOf_2 15 rfl rfl)
theorem dX2_weightOf_64 : decode cX2_weightOf 64 = .ok (.iaload, 1) := dk_46 (dk_at dksX2_weightOf_2 16 rfl rfl)
theorem dX2_weightOf_65 : decode cX2_weightOf 65 = .ok (.goto 4, 3) := dk_167 0 4 (dk_at dksX2_weightOf_2 17 rfl rfl)
theorem dX2_weightOf_68 : decode cX2_weightOf 68 = .ok (.iconst 0, 1) := dk_3 (dk_at dksX2_weightOf_2 20 rfl rfl)
theorem dX2_weightOf_69 : decode cX2_weightOf 69 = .ok (.iadd, 1) := dk_96 (dk_at dksX2_weightOf_2 21 rfl rfl)
theorem dX2_weightOf_70 : decode cX2_weightOf 70 = .ok (.istore_n 3, 1) := dk_62 (dk_at dksX2_weightOf_2 22 rfl rfl)
theorem dX2_weightOf_71 : decode cX2_weightOf 71 = .ok (.iinc 4 1, 3) := dk_132 4 1 (dk_at dksX2_weightOf_3 0 rfl rfl)
theorem dX2_weightOf_74 : decode cX2_weightOf 74 = .ok (.goto (-44), 3) := dk_167 255 212 (dk_at dksX2_weightOf_3 3 rfl rfl)
theorem dX2_weightOf_77 : decode cX2_weightOf 77 = .ok (.iload_n 3, 1) := dk_29 (dk_at dksX2_weightOf_3 6 rfl rfl)
theorem dX2_weightOf_78 : decode cX2_weightOf 78 = .ok (.ireturn, 1) := dk_172 (dk_at dksX2_weightOf_3 7 rfl rfl)
abbrev cX2_powerOf : ByteArray := prog_15_method_50_code
def yX2_powerOf : MethodName := ⟨RX2, "powerOf", "([II)I"⟩
def dkwX2_powerOf_3 : List UInt8 := [4, 164, 0, 7, 29, 5, 104, 62, 43, 16, 7, 46, 29, 96, 172]
abbrev dktX2_powerOf_3 : List UInt8 := dkwX2_powerOf_3 ++ []
def dkwX2_powerOf_2 : List UInt8 := [132, 4, 1, 167, 255, 210, 42, 28, 182, 1, 9, 4, 160, 0, 20, 42, 43, 28, 182, 1, 12, 184, 1, 16]
abbrev dktX2_powerOf_2 : List UInt8 := dkwX2_powerOf_2 ++ dktX2_powerOf_3
def dkwX2_powerOf_1 : List UInt8 := [96, 160, 0, 20, 42, 180, 0, 20, 16, 35, 7, 21, 4, 104, 96, 4, 96, 46, 167, 0, 4, 3, 96, 62]
abbrev dktX2_powerOf_1 : List UInt8 := dkwX2_powerOf_1 ++ dktX2_powerOf_2
def dkwX2_powerOf_0 : List UInt8 := [3, 62, 3, 54, 4, 21, 4, 42, 180, 0, 20, 16, 7, 46, 162, 0, 40, 29, 43, 21, 4, 46, 28, 4]
abbrev dktX2_powerOf_0 : List UInt8 := dkwX2_powerOf_0 ++ dktX2_powerOf_1
theorem dksX2_powerOf_0 : cX2_powerOf.data.toList.drop 0 = dktX2_powerOf_0 := by decide +kernel
theorem dksX2_powerOf_1 : cX2_powerOf.data.toList.drop 24 = dktX2_powerOf_1 := dk_seg dksX2_powerOf_0 24 rfl rfl
theorem dksX2_powerOf_2 : cX2_powerOf.data.toList.drop 48 = dktX2_powerOf_2 := dk_seg dksX2_powerOf_1 24 rfl rfl
theorem dksX2_powerOf_3 : cX2_powerOf.data.toList.drop 72 = dktX2_powerOf_3 := dk_seg dksX2_powerOf_2 24 rfl rfl
theorem dX2_powerOf_0 : decode cX2_powerOf 0 = .ok (.iconst 0, 1) := dk_3 (dk_at dksX2_powerOf_0 0 rfl rfl)
theorem dX2_powerOf_1 : decode cX2_powerOf 1 = .ok (.istore_n 3, 1) := dk_62 (dk_at dksX2_powerOf_0 1 rfl rfl)
theorem dX2_powerOf_2 : decode cX2_powerOf 2 = .ok (.iconst 0, 1) := dk_3 (dk_at dksX2_powerOf_0 2 rfl rfl)
theorem dX2_powerOf_3 : decode cX2_powerOf 3 = .ok (.istore 4, 2) := dk_54 4 (dk_at dksX2_powerOf_0 3 rfl rfl)
theorem dX2_powerOf_5 : decode cX2_powerOf 5 = .ok (.iload 4, 2) := dk_21 4 (dk_at dksX2_powerOf_0 5 rfl rfl)
theorem dX2_powerOf_7 : decode cX2_powerOf 7 = .ok (.aload_n 0, 1) := dk_42 (dk_at dksX2_powerOf_0 7 rfl rfl)
theorem dX2_powerOf_8 : decode cX2_powerOf 8 = .ok (.getfield 20, 3) := dk_180 0 20 (dk_at dksX2_powerOf_0 8 rfl rfl)
theorem dX2_powerOf_11 : decode cX2_powerOf 11 = .ok (.bipush 7, 2) := dk_16 7 (dk_at dksX2_powerOf_0 11 rfl rfl)
theorem dX2_powerOf_13 : decode cX2_powerOf 13 = .ok (.iaload, 1) := dk_46 (dk_at dksX2_powerOf_0 13 rfl rfl)
theorem dX2_powerOf_14 : decode cX2_powerOf 14 = .ok (.if_icmp .ge 40, 3) := dk_162 0 40 (dk_at dksX2_powerOf_0 14 rfl rfl)
theorem dX2_powerOf_17 : decode cX2_powerOf 17 = .ok (.iload_n 3, 1) := dk_29 (dk_at dksX2_powerOf_0 17 rfl rfl)
theorem dX2_powerOf_18 : decode cX2_powerOf 18 = .ok (.aload_n 1, 1) := dk_43 (dk_at dksX2_powerOf_0 18 rfl rfl)
theorem dX2_powerOf_19 : decode cX2_powerOf 19 = .ok (.iload 4, 2) := dk_21 4 (dk_at dksX2_powerOf_0 19 rfl rfl)
theorem dX2_powerOf_21 : decode cX2_powerOf 21 = .ok (.iaload, 1) := dk_46 (dk_at dksX2_powerOf_0 21 rfl rfl)
theorem dX2_powerOf_22 : decode cX2_powerOf 22 = .ok (.iload_n 2, 1) := dk_28 (dk_at dksX2_powerOf_0 22 rfl rfl)
theorem dX2_powerOf_23 : decode cX2_powerOf 23 = .ok (.iconst 1, 1) := dk_4 (dk_at dksX2_powerOf_0 23 rfl rfl)
theorem dX2_powerOf_24 : decode cX2_powerOf 24 = .ok (.iadd, 1) := dk_96 (dk_at dksX2_powerOf_1 0 rfl rfl)
theorem dX2_powerOf_25 : decode cX2_powerOf 25 = .ok (.if_icmp .ne 20, 3) := dk_160 0 20 (dk_at dksX2_powerOf_1 1 rfl rfl)
theorem dX2_powerOf_28 : decode cX2_powerOf 28 = .ok (.aload_n 0, 1) := dk_42 (dk_at dksX2_powerOf_1 4 rfl rfl)
theorem dX2_powerOf_29 : decode cX2_powerOf 29 = .ok (.getfield 20, 3) := dk_180 0 20 (dk_at dksX2_powerOf_1 5 rfl rfl)
theorem dX2_powerOf_32 : decode cX2_powerOf 32 = .ok (.bipush 35, 2) := dk_16 35 (dk_at dksX2_powerOf_1 8 rfl rfl)
theorem dX2_powerOf_34 : decode cX2_powerOf 34 = .ok (.iconst 4, 1) := dk_7 (dk_at dksX2_powerOf_1 10 rfl rfl)
theorem dX2_powerOf_35 : decode cX2_powerOf 35 = .ok (.iload 4, 2) := dk_21 4 (dk_at dksX2_powerOf_1 11 rfl rfl)
theorem dX2_powerOf_37 : decode cX2_powerOf 37 = .ok (.imul, 1) := dk_104 (dk_at dksX2_powerOf_1 13 rfl rfl)
theorem dX2_powerOf_38 : decode cX2_powerOf 38 = .ok (.iadd, 1) := dk_96 (dk_at dksX2_powerOf_1 14 rfl rfl)
theorem dX2_powerOf_39 : decode cX2_powerOf 39 = .ok (.iconst 1, 1) := dk_4 (dk_at dksX2_powerOf_1 15 rfl rfl)
theorem dX2_powerOf_40 : decode cX2_powerOf 40 = .ok (.iadd, 1) := dk_96 (dk_at dksX2_powerOf_1 16 rfl rfl)
theorem dX2_powerOf_41 : decode cX2_powerOf 41 = .ok (.iaload, 1) := dk_46 (dk_at dksX2_powerOf_1 17 rfl rfl)
theorem dX2_powerOf_42 : decode cX2_powerOf 42 = .ok (.goto 4, 3) := dk_167 0 4 (dk_at dksX2_powerOf_1 18 rfl rfl)
theorem dX2_powerOf_45 : decode cX2_powerOf 45 = .ok (.iconst 0, 1) := dk_3 (dk_at dksX2_powerOf_1 21 rfl rfl)
theorem dX2_powerOf_46 : decode cX2_powerOf 46 = .ok (.iadd, 1) := dk_96 (dk_at dksX2_powerOf_1 22 rfl rfl)
theorem dX2_powerOf_47 : decode cX2_powerOf 47 = .ok (.istore_n 3, 1) := dk_62 (dk_at dksX2_powerOf_1 23 rfl rfl)
theorem dX2_powerOf_48 : decode cX2_powerOf 48 = .ok (.iinc 4 1, 3) := dk_132 4 1 (dk_at dksX2_powerOf_2 0 rfl rfl)
theorem dX2_powerOf_51 : decode cX2_powerOf 51 = .ok (.goto (-46), 3) := dk_167 255 210 (dk_at dksX2_powerOf_2 3 rfl rfl)
theorem dX2_powerOf_54 : decode cX2_powerOf 54 = .ok (.aload_n 0, 1) := dk_42 (dk_at dksX2_powerOf_2 6 rfl rfl)
theorem dX2_powerOf_55 : decode cX2_powerOf 55 = .ok (.iload_n 2, 1) := dk_28 (dk_at dksX2_powerOf_2 7 rfl rfl)
theorem dX2_powerOf_56 : decode cX2_powerOf 56 = .ok (.invokevirtual 265, 3) := dk_182 1 9 (dk_at dksX2_powerOf_2 8 rfl rfl)
theorem dX2_powerOf_59 : decode cX2_powerOf 59 = .ok (.iconst 1, 1) := dk_4 (dk_at dksX2_powerOf_2 11 rfl rfl)
theorem dX2_powerOf_60 : decode cX2_powerOf 60 = .ok (.if_icmp .ne 20, 3) := dk_160 0 20 (dk_at dksX2_powerOf_2 12 rfl rfl)
theorem dX2_powerOf_63 : decode cX2_powerOf 63 = .ok (.aload_n 0, 1) := dk_42 (dk_at dksX2_powerOf_2 15 rfl rfl)
theorem dX2_powerOf_64 : decode cX2_powerOf 64 = .ok (.aload_n 1, 1) := dk_43 (dk_at dksX2_powerOf_2 16 rfl rfl)
theorem dX2_powerOf_65 : decode cX2_powerOf 65 = .ok (.iload_n 2, 1) := dk_28 (dk_at dksX2_powerOf_2 17 rfl rfl)
theorem dX2_powerOf_66 : decode cX2_powerOf 66 = .ok (.invokevirtual 268, 3) := dk_182 1 12 (dk_at dksX2_powerOf_2 18 rfl rfl)
theorem dX2_powerOf_69 : decode cX2_powerOf 69 = .ok (.invokestatic 272, 3) := dk_184 1 16 (dk_at dksX2_powerOf_2 21 rfl rfl)
theorem dX2_powerOf_72 : decode cX2_powerOf 72 = .ok (.iconst 1, 1) := dk_4 (dk_at dksX2_powerOf_3 0 rfl rfl)
theorem dX2_powerOf_73 : decode cX2_powerOf 73 = .ok (.if_icmp .le 7, 3) := dk_164 0 7 (dk_at dksX2_powerOf_3 1 rfl rfl)
theorem dX2_powerOf_76 : decode cX2_powerOf 76 = .ok (.iload_n 3, 1) := dk_29 (dk_at dksX2_powerOf_3 4 rfl rfl)
theorem dX2_powerOf_77 : decode cX2_powerOf 77 = .ok (.iconst 2, 1) := dk_5 (dk_at dksX2_powerOf_3 5 rfl rfl)
theorem dX2_powerOf_78 : decode cX2_powerOf 78 = .ok (.imul, 1) := dk_104 (dk_at dksX2_powerOf_3 6 rfl rfl)
theorem dX2_powerOf_79 : decode cX2_powerOf 79 = .ok (.istore_n 3, 1) := dk_62 (dk_at dksX2_powerOf_3 7 rfl rfl)
theorem dX2_powerOf_80 : decode cX2_powerOf 80 = .ok (.aload_n 1, 1) := dk_43 (dk_at dksX2_powerOf_3 8 rfl rfl)
theorem dX2_powerOf_81 : decode cX2_powerOf 81 = .ok (.bipush 7, 2) := dk_16 7 (dk_at dksX2_powerOf_3 9 rfl rfl)
theorem dX2_powerOf_83 : decode cX2_powerOf 83 = .ok (.iaload, 1) := dk_46 (dk_at dksX2_powerOf_3 11 rfl rfl)
theorem dX2_powerOf_84 : decode cX2_powerOf 84 = .ok (.iload_n 3, 1) := dk_29 (dk_at dksX2_powerOf_3 12 rfl rfl)
theorem dX2_powerOf_85 : decode cX2_powerOf 85 = .ok (.iadd, 1) := dk_96 (dk_at dksX2_powerOf_3 13 rfl rfl)
theorem dX2_powerOf_86 : decode cX2_powerOf 86 = .ok (.ireturn, 1) := dk_172 (dk_at dksX2_powerOf_3 14 rfl rfl)
abbrev cX2_aboardOf : ByteArray := prog_15_method_48_code
def yX2_aboardOf : MethodName := ⟨RX2, "aboardOf", "([II)I"⟩
def dkwX2_aboardOf_1 : List UInt8 := [96, 160, 0, 10, 4, 21, 4, 120, 167, 0, 4, 3, 128, 62, 132, 4, 1, 167, 255, 220, 29, 172]
abbrev dktX2_aboardOf_1 : List UInt8 := dkwX2_aboardOf_1 ++ []
def dkwX2_aboardOf_0 : List UInt8 := [3, 62, 3, 54, 4, 21, 4, 42, 180, 0, 20, 16, 7, 46, 162, 0, 30, 29, 43, 21, 4, 46, 28, 4]
abbrev dktX2_aboardOf_0 : List UInt8 := dkwX2_aboardOf_0 ++ dktX2_aboardOf_1
theorem dksX2_aboardOf_0 : cX2_aboardOf.data.toList.drop 0 = dktX2_aboardOf_0 := by decide +kernel
theorem dksX2_aboardOf_1 : cX2_aboardOf.data.toList.drop 24 = dktX2_aboardOf_1 := dk_seg dksX2_aboardOf_0 24 rfl rfl
theorem dX2_aboardOf_0 : decode cX2_aboardOf 0 = .ok (.iconst 0, 1) := dk_3 (dk_at dksX2_aboardOf_0 0 rfl rfl)
theorem dX2_aboardOf_1 : decode cX2_aboardOf 1 = .ok (.istore_n 3, 1) := dk_62 (dk_at dksX2_aboardOf_0 1 rfl rfl)
theorem dX2_aboardOf_2 : decode cX2_aboardOf 2 = .ok (.iconst 0, 1) := dk_3 (dk_at dksX2_aboardOf_0 2 rfl rfl)
theorem dX2_aboardOf_3 : decode cX2_aboardOf 3 = .ok (.istore 4, 2) := dk_54 4 (dk_at dksX2_aboardOf_0 3 rfl rfl)
theorem dX2_aboardOf_5 : decode cX2_aboardOf 5 = .ok (.iload 4, 2) := dk_21 4 (dk_at dksX2_aboardOf_0 5 rfl rfl)
theorem dX2_aboardOf_7 : decode cX2_aboardOf 7 = .ok (.aload_n 0, 1) := dk_42 (dk_at dksX2_aboardOf_0 7 rfl rfl)
theorem dX2_aboardOf_8 : decode cX2_aboardOf 8 = .ok (.getfield 20, 3) := dk_180 0 20 (dk_at dksX2_aboardOf_0 8 rfl rfl)
theorem dX2_aboardOf_11 : decode cX2_aboardOf 11 = .ok (.bipush 7, 2) := dk_16 7 (dk_at dksX2_aboardOf_0 11 rfl rfl)
theorem dX2_aboardOf_13 : decode cX2_aboardOf 13 = .ok (.iaload, 1) := dk_46 (dk_at dksX2_aboardOf_0 13 rfl rfl)
theorem dX2_aboardOf_14 : decode cX2_aboardOf 14 = .ok (.if_icmp .ge 30, 3) := dk_162 0 30 (dk_at dksX2_aboardOf_0 14 rfl rfl)
theorem dX2_aboardOf_17 : decode cX2_aboardOf 17 = .ok (.iload_n 3, 1) := dk_29 (dk_at dksX2_aboardOf_0 17 rfl rfl)
theorem dX2_aboardOf_18 : decode cX2_aboardOf 18 = .ok (.aload_n 1, 1) := dk_43 (dk_at dksX2_aboardOf_0 18 rfl rfl)
theorem dX2_aboardOf_19 : decode cX2_aboardOf 19 = .ok (.iload 4, 2) := dk_21 4 (dk_at dksX2_aboardOf_0 19 rfl rfl)
theorem dX2_aboardOf_21 : decode cX2_aboardOf 21 = .ok (.iaload, 1) := dk_46 (dk_at dksX2_aboardOf_0 21 rfl rfl)
theorem dX2_aboardOf_22 : decode cX2_aboardOf 22 = .ok (.iload_n 2, 1) := dk_28 (dk_at dksX2_aboardOf_0 22 rfl rfl)
theorem dX2_aboardOf_23 : decode cX2_aboardOf 23 = .ok (.iconst 1, 1) := dk_4 (dk_at dksX2_aboardOf_0 23 rfl rfl)
theorem dX2_aboardOf_24 : decode cX2_aboardOf 24 = .ok (.iadd, 1) := dk_96 (dk_at dksX2_aboardOf_1 0 rfl rfl)
theorem dX2_aboardOf_25 : decode cX2_aboardOf 25 = .ok (.if_icmp .ne 10, 3) := dk_160 0 10 (dk_at dksX2_aboardOf_1 1 rfl rfl)
theorem dX2_aboardOf_28 : decode cX2_aboardOf 28 = .ok (.iconst 1, 1) := dk_4 (dk_at dksX2_aboardOf_1 4 rfl rfl)
theorem dX2_aboardOf_29 : decode cX2_aboardOf 29 = .ok (.iload 4, 2) := dk_21 4 (dk_at dksX2_aboardOf_1 5 rfl rfl)
theorem dX2_aboardOf_31 : decode cX2_aboardOf 31 = .ok (.ishl, 1) := dk_120 (dk_at dksX2_aboardOf_1 7 rfl rfl)
theorem dX2_aboardOf_32 : decode cX2_aboardOf 32 = .ok (.goto 4, 3) := dk_167 0 4 (dk_at dksX2_aboardOf_1 8 rfl rfl)
theorem dX2_aboardOf_35 : decode cX2_aboardOf 35 = .ok (.iconst 0, 1) := dk_3 (dk_at dksX2_aboardOf_1 11 rfl rfl)
theorem dX2_aboardOf_36 : decode cX2_aboardOf 36 = .ok (.ior, 1) := dk_128 (dk_at dksX2_aboardOf_1 12 rfl rfl)
theorem dX2_aboardOf_37 : decode cX2_aboardOf 37 = .ok (.istore_n 3, 1) := dk_62 (dk_at dksX2_aboardOf_1 13 rfl rfl)
theorem dX2_aboardOf_38 : decode cX2_aboardOf 38 = .ok (.iinc 4 1, 3) := dk_132 4 1 (dk_at dksX2_aboardOf_1 14 rfl rfl)
theorem dX2_aboardOf_41 : decode cX2_aboardOf 41 = .ok (.goto (-36), 3) := dk_167 255 220 (dk_at dksX2_aboardOf_1 17 rfl rfl)
theorem dX2_aboardOf_44 : decode cX2_aboardOf 44 = .ok (.iload_n 3, 1) := dk_29 (dk_at dksX2_aboardOf_1 20 rfl rfl)
theorem dX2_aboardOf_45 : decode cX2_aboardOf 45 = .ok (.ireturn, 1) := dk_172 (dk_at dksX2_aboardOf_1 21 rfl rfl)
abbrev cX2_ones : ByteArray := prog_15_method_8_code
def yX2_ones : MethodName := ⟨RX2, "ones", "(I)I"⟩
def dkwX2_ones_1 : List UInt8 := [27, 172]
abbrev dktX2_ones_1 : List UInt8 := dkwX2_ones_1 ++ []
def dkwX2_ones_0 : List UInt8 := [3, 60, 3, 61, 28, 16, 8, 162, 0, 17, 27, 26, 28, 122, 4, 126, 96, 60, 132, 2, 1, 167, 255, 239]
abbrev dktX2_ones_0 : List UInt8 := dkwX2_ones_0 ++ dktX2_ones_1
theorem dksX2_ones_0 : cX2_ones.data.toList.drop 0 = dktX2_ones_0 := by decide +kernel
theorem dksX2_ones_1 : cX2_ones.data.toList.drop 24 = dktX2_ones_1 := dk_seg dksX2_ones_0 24 rfl rfl
theorem dX2_ones_0 : decode cX2_ones 0 = .ok (.iconst 0, 1) := dk_3 (dk_at dksX2_ones_0 0 rfl rfl)
theorem dX2_ones_1 : decode cX2_ones 1 = .ok (.istore_n 1, 1) := dk_60 (dk_at dksX2_ones_0 1 rfl rfl)
theorem dX2_ones_2 : decode cX2_ones 2 = .ok (.iconst 0, 1) := dk_3 (dk_at dksX2_ones_0 2 rfl rfl)
theorem dX2_ones_3 : decode cX2_ones 3 = .ok (.istore_n 2, 1) := dk_61 (dk_at dksX2_ones_0 3 rfl rfl)
theorem dX2_ones_4 : decode cX2_ones 4 = .ok (.iload_n 2, 1) := dk_28 (dk_at dksX2_ones_0 4 rfl rfl)
theorem dX2_ones_5 : decode cX2_ones 5 = .ok (.bipush 8, 2) := dk_16 8 (dk_at dksX2_ones_0 5 rfl rfl)
theorem dX2_ones_7 : decode cX2_ones 7 = .ok (.if_icmp .ge 17, 3) := dk_162 0 17 (dk_at dksX2_ones_0 7 rfl rfl)
theorem dX2_ones_10 : decode cX2_ones 10 = .ok (.iload_n 1, 1) := dk_27 (dk_at dksX2_ones_0 10 rfl rfl)
theorem dX2_ones_11 : decode cX2_ones 11 = .ok (.iload_n 0, 1) := dk_26 (dk_at dksX2_ones_0 11 rfl rfl)
theorem dX2_ones_12 : decode cX2_ones 12 = .ok (.iload_n 2, 1) := dk_28 (dk_at dksX2_ones_0 12 rfl rfl)
theorem dX2_ones_13 : decode cX2_ones 13 = .ok (.ishr, 1) := dk_122 (dk_at dksX2_ones_0 13 rfl rfl)
theorem dX2_ones_14 : decode cX2_ones 14 = .ok (.iconst 1, 1) := dk_4 (dk_at dksX2_ones_0 14 rfl rfl)
theorem dX2_ones_15 : decode cX2_ones 15 = .ok (.iand, 1) := dk_126 (dk_at dksX2_ones_0 15 rfl rfl)
theorem dX2_ones_16 : decode cX2_ones 16 = .ok (.iadd, 1) := dk_96 (dk_at dksX2_ones_0 16 rfl rfl)
theorem dX2_ones_17 : decode cX2_ones 17 = .ok (.istore_n 1, 1) := dk_60 (dk_at dksX2_ones_0 17 rfl rfl)
theorem dX2_ones_18 : decode cX2_ones 18 = .ok (.iinc 2 1, 3) := dk_132 2 1 (dk_at dksX2_ones_0 18 rfl rfl)
theorem dX2_ones_21 : decode cX2_ones 21 = .ok (.goto (-17), 3) := dk_167 255 239 (dk_at dksX2_ones_0 21 rfl rfl)
theorem dX2_ones_24 : decode cX2_ones 24 = .ok (.iload_n 1, 1) := dk_27 (dk_at dksX2_ones_1 0 rfl rfl)
theorem dX2_ones_25 : decode cX2_ones 25 = .ok (.ireturn, 1) := dk_172 (dk_at dksX2_ones_1 1 rfl rfl)
abbrev cX2_lodger : ByteArray := prog_15_method_62_code
def yX2_lodger : MethodName := ⟨RX2, "lodger", "(II)I"⟩
def dkwX2_lodger_2 : List UInt8 := [180, 0, 26, 27, 46, 4, 100, 167, 0, 16, 42, 180, 0, 20, 16, 35, 7, 27, 104, 96, 28, 96, 46, 172]
abbrev dktX2_lodger_2 : List UInt8 := dkwX2_lodger_2 ++ []
def dkwX2_lodger_1 : List UInt8 := [182, 0, 166, 172, 28, 5, 160, 0, 28, 42, 180, 0, 26, 27, 46, 154, 0, 8, 16, 254, 167, 0, 27, 42]
abbrev dktX2_lodger_1 : List UInt8 := dkwX2_lodger_1 ++ dktX2_lodger_2
def dkwX2_lodger_0 : List UInt8 := [42, 182, 0, 163, 42, 27, 182, 1, 56, 153, 0, 12, 28, 3, 6, 184, 0, 144, 154, 0, 9, 42, 4]
abbrev dktX2_lodger_0 : List UInt8 := dkwX2_lodger_0 ++ dktX2_lodger_1
theorem dksX2_lodger_0 : cX2_lodger.data.toList.drop 0 = dktX2_lodger_0 := by decide +kernel
theorem dksX2_lodger_1 : cX2_lodger.data.toList.drop 23 = dktX2_lodger_1 := dk_seg dksX2_lodger_0 23 rfl rfl
theorem dksX2_lodger_2 : cX2_lodger.data.toList.drop 47 = dktX2_lodger_2 := dk_seg dksX2_lodger_1 24 rfl rfl
theorem dX2_lodger_0 : decode cX2_lodger 0 = .ok (.aload_n 0, 1) := dk_42 (dk_at dksX2_lodger_0 0 rfl rfl)
theorem dX2_lodger_1 : decode cX2_lodger 1 = .ok (.invokevirtual 163, 3) := dk_182 0 163 (dk_at dksX2_lodger_0 1 rfl rfl)
theorem dX2_lodger_4 : decode cX2_lodger 4 = .ok (.aload_n 0, 1) := dk_42 (dk_at dksX2_lodger_0 4 rfl rfl)
theorem dX2_lodger_5 : decode cX2_lodger 5 = .ok (.iload_n 1, 1) := dk_27 (dk_at dksX2_lodger_0 5 rfl rfl)
theorem dX2_lodger_6 : decode cX2_lodger 6 = .ok (.invokevirtual 312, 3) := dk_182 1 56 (dk_at dksX2_lodger_0 6 rfl rfl)
theorem dX2_lodger_9 : decode cX2_lodger 9 = .ok (.ifCond .eq 12, 3) := dk_153 0 12 (dk_at dksX2_lodger_0 9 rfl rfl)
theorem dX2_lodger_12 : decode cX2_lodger 12 = .ok (.iload_n 2, 1) := dk_28 (dk_at dksX2_lodger_0 12 rfl rfl)
theorem dX2_lodger_13 : decode cX2_lodger 13 = .ok (.iconst 0, 1) := dk_3 (dk_at dksX2_lodger_0 13 rfl rfl)
theorem dX2_lodger_14 : decode cX2_lodger 14 = .ok (.iconst 3, 1) := dk_6 (dk_at dksX2_lodger_0 14 rfl rfl)
theorem dX2_lodger_15 : decode cX2_lodger 15 = .ok (.invokestatic 144, 3) := dk_184 0 144 (dk_at dksX2_lodger_0 15 rfl rfl)
theorem dX2_lodger_18 : decode cX2_lodger 18 = .ok (.ifCond .ne 9, 3) := dk_154 0 9 (dk_at dksX2_lodger_0 18 rfl rfl)
theorem dX2_lodger_21 : decode cX2_lodger 21 = .ok (.aload_n 0, 1) := dk_42 (dk_at dksX2_lodger_0 21 rfl rfl)
theorem dX2_lodger_22 : decode cX2_lodger 22 = .ok (.iconst 1, 1) := dk_4 (dk_at dksX2_lodger_0 22 rfl rfl)
theorem dX2_lodger_23 : decode cX2_lodger 23 = .ok (.invokevirtual 166, 3) := dk_182 0 166 (dk_at dksX2_lodger_1 0 rfl rfl)
theorem dX2_lodger_26 : decode cX2_lodger 26 = .ok (.ireturn, 1) := dk_172 (dk_at dksX2_lodger_1 3 rfl rfl)
theorem dX2_lodger_27 : decode cX2_lodger 27 = .ok (.iload_n 2, 1) := dk_28 (dk_at dksX2_lodger_1 4 rfl rfl)
theorem dX2_lodger_28 : decode cX2_lodger 28 = .ok (.iconst 2, 1) := dk_5 (dk_at dksX2_lodger_1 5 rfl rfl)
theorem dX2_lodger_29 : decode cX2_lodger 29 = .ok (.if_icmp .ne 28, 3) := dk_160 0 28 (dk_at dksX2_lodger_1 6 rfl rfl)
theorem dX2_lodger_32 : decode cX2_lodger 32 = .ok (.aload_n 0, 1) := dk_42 (dk_at dksX2_lodger_1 9 rfl rfl)
theorem dX2_lodger_33 : decode cX2_lodger 33 = .ok (.getfield 26, 3) := dk_180 0 26 (dk_at dksX2_lodger_1 10 rfl rfl)
theorem dX2_lodger_36 : decode cX2_lodger 36 = .ok (.iload_n 1, 1) := dk_27 (dk_at dksX2_lodger_1 13 rfl rfl)
theorem dX2_lodger_37 : decode cX2_lodger 37 = .ok (.iaload, 1) := dk_46 (dk_at dksX2_lodger_1 14 rfl rfl)
theorem dX2_lodger_38 : decode cX2_lodger 38 = .ok (.ifCond .ne 8, 3) := dk_154 0 8 (dk_at dksX2_lodger_1 15 rfl rfl)
theorem dX2_lodger_41 : decode cX2_lodger 41 = .ok (.bipush (-2), 2) := dk_16 254 (dk_at dksX2_lodger_1 18 rfl rfl)
theorem dX2_lodger_43 : decode cX2_lodger 43 = .ok (.goto 27, 3) := dk_167 0 27 (dk_at dksX2_lodger_1 20 rfl rfl)
theorem dX2_lodger_46 : decode cX2_lodger 46 = .ok (.aload_n 0, 1) := dk_42 (dk_at dksX2_lodger_1 23 rfl rfl)
theorem dX2_lodger_47 : decode cX2_lodger 47 = .ok (.getfield 26, 3) := dk_180 0 26 (dk_at dksX2_lodger_2 0 rfl rfl)
theorem dX2_lodger_50 : decode cX2_lodger 50 = .ok (.iload_n 1, 1) := dk_27 (dk_at dksX2_lodger_2 3 rfl rfl)
theorem dX2_lodger_51 : decode cX2_lodger 51 = .ok (.iaload, 1) := dk_46 (dk_at dksX2_lodger_2 4 rfl rfl)
theorem dX2_lodger_52 : decode cX2_lodger 52 = .ok (.iconst 1, 1) := dk_4 (dk_at dksX2_lodger_2 5 rfl rfl)
theorem dX2_lodger_53 : decode cX2_lodger 53 = .ok (.isub, 1) := dk_100 (dk_at dksX2_lodger_2 6 rfl rfl)
theorem dX2_lodger_54 : decode cX2_lodger 54 = .ok (.goto 16, 3) := dk_167 0 16 (dk_at dksX2_lodger_2 7 rfl rfl)
theorem dX2_lodger_57 : decode cX2_lodger 57 = .ok (.aload_n 0, 1) := dk_42 (dk_at dksX2_lodger_2 10 rfl rfl)
theorem dX2_lodger_58 : decode cX2_lodger 58 = .ok (.getfield 20, 3) := dk_180 0 20 (dk_at dksX2_lodger_2 11 rfl rfl)
theorem dX2_lodger_61 : decode cX2_lodger 61 = .ok (.bipush 35, 2) := dk_16 35 (dk_at dksX2_lodger_2 14 rfl rfl)
theorem dX2_lodger_63 : decode cX2_lodger 63 = .ok (.iconst 4, 1) := dk_7 (dk_at dksX2_lodger_2 16 rfl rfl)
theorem dX2_lodger_64 : decode cX2_lodger 64 = .ok (.iload_n 1, 1) := dk_27 (dk_at dksX2_lodger_2 17 rfl rfl)
theorem dX2_lodger_65 : decode cX2_lodger 65 = .ok (.imul, 1) := dk_104 (dk_at dksX2_lodger_2 18 rfl rfl)
theorem dX2_lodger_66 : decode cX2_lodger 66 = .ok (.iadd, 1) := dk_96 (dk_at dksX2_lodger_2 19 rfl rfl)
theorem dX2_lodger_67 : decode cX2_lodger 67 = .ok (.iload_n 2, 1) := dk_28 (dk_at dksX2_lodger_2 20 rfl rfl)
theorem dX2_lodger_68 : decode cX2_lodger 68 = .ok (.iadd, 1) := dk_96 (dk_at dksX2_lodger_2 21 rfl rfl)
theorem dX2_lodger_69 : decode cX2_lodger 69 = .ok (.iaload, 1) := dk_46 (dk_at dksX2_lodger_2 22 rfl rfl)
theorem dX2_lodger_70 : decode cX2_lodger 70 = .ok (.ireturn, 1) := dk_172 (dk_at dksX2_lodger_2 23 rfl rfl)
abbrev cX2_isLodger : ByteArray := prog_15_method_44_code
def yX2_isLodger : MethodName := ⟨RX2, "isLodger", "(I)Z"⟩
def dkwX2_isLodger_1 : List UInt8 := [4, 167, 0, 4, 3, 172]
abbrev dktX2_isLodger_1 : List UInt8 := dkwX2_isLodger_1 ++ []
def dkwX2_isLodger_0 : List UInt8 := [42, 180, 0, 176, 153, 0, 24, 27, 3, 42, 180, 0, 20, 16, 7, 46, 4, 100, 184, 0, 144, 153, 0, 7]
abbrev dktX2_isLodger_0 : List UInt8 := dkwX2_isLodger_0 ++ dktX2_isLodger_1
theorem dksX2_isLodger_0 : cX2_isLodger.data.toList.drop 0 = dktX2_isLodger_0 := by decide +kernel
theorem dksX2_isLodger_1 : cX2_isLodger.data.toList.drop 24 = dktX2_isLodger_1 := dk_seg dksX2_isLodger_0 24 rfl rfl
theorem dX2_isLodger_0 : decode cX2_isLodger 0 = .ok (.aload_n 0, 1) := dk_42 (dk_at dksX2_isLodger_0 0 rfl rfl)
theorem dX2_isLodger_1 : decode cX2_isLodger 1 = .ok (.getfield 176, 3) := dk_180 0 176 (dk_at dksX2_isLodger_0 1 rfl rfl)
theorem dX2_isLodger_4 : decode cX2_isLodger 4 = .ok (.ifCond .eq 24, 3) := dk_153 0 24 (dk_at dksX2_isLodger_0 4 rfl rfl)
theorem dX2_isLodger_7 : decode cX2_isLodger 7 = .ok (.iload_n 1, 1) := dk_27 (dk_at dksX2_isLodger_0 7 rfl rfl)
theorem dX2_isLodger_8 : decode cX2_isLodger 8 = .ok (.iconst 0, 1) := dk_3 (dk_at dksX2_isLodger_0 8 rfl rfl)
theorem dX2_isLodger_9 : decode cX2_isLodger 9 = .ok (.aload_n 0, 1) := dk_42 (dk_at dksX2_isLodger_0 9 rfl rfl)
theorem dX2_isLodger_10 : decode cX2_isLodger 10 = .ok (.getfield 20, 3) := dk_180 0 20 (dk_at dksX2_isLodger_0 10 rfl rfl)
theorem dX2_isLodger_13 : decode cX2_isLodger 13 = .ok (.bipush 7, 2) := dk_16 7 (dk_at dksX2_isLodger_0 13 rfl rfl)
theorem dX2_isLodger_15 : decode cX2_isLodger 15 = .ok (.iaload, 1) := dk_46 (dk_at dksX2_isLodger_0 15 rfl rfl)
theorem dX2_isLodger_16 : decode cX2_isLodger 16 = .ok (.iconst 1, 1) := dk_4 (dk_at dksX2_isLodger_0 16 rfl rfl)
theorem dX2_isLodger_17 : decode cX2_isLodger 17 = .ok (.isub, 1) := dk_100 (dk_at dksX2_isLodger_0 17 rfl rfl)
theorem dX2_isLodger_18 : decode cX2_isLodger 18 = .ok (.invokestatic 144, 3) := dk_184 0 144 (dk_at dksX2_isLodger_0 18 rfl rfl)
theorem dX2_isLodger_21 : decode cX2_isLodger 21 = .ok (.ifCond .eq 7, 3) := dk_153 0 7 (dk_at dksX2_isLodger_0 21 rfl rfl)
theorem dX2_isLodger_24 : decode cX2_isLodger 24 = .ok (.iconst 1, 1) := dk_4 (dk_at dksX2_isLodger_1 0 rfl rfl)
theorem dX2_isLodger_25 : decode cX2_isLodger 25 = .ok (.goto 4, 3) := dk_167 0 4 (dk_at dksX2_isLodger_1 1 rfl rfl)
theorem dX2_isLodger_28 : decode cX2_isLodger 28 = .ok (.iconst 0, 1) := dk_3 (dk_at dksX2_isLodger_1 4 rfl rfl)
theorem dX2_isLodger_29 : decode cX2_isLodger 29 = .ok (.ireturn, 1) := dk_172 (dk_at dksX2_isLodger_1 5 rfl rfl)
abbrev cX2_bend : ByteArray := prog_15_method_63_code
def yX2_bend : MethodName := ⟨RX2, "bend", "(II)I"⟩
def dkwX2_bend_1 : List UInt8 := [180, 0, 20, 16, 11, 5, 27, 104, 96, 28, 96, 46, 167, 0, 8, 42, 4, 182, 0, 166, 172]
abbrev dktX2_bend_1 : List UInt8 := dkwX2_bend_1 ++ []
def dkwX2_bend_0 : List UInt8 := [42, 182, 0, 163, 42, 27, 182, 1, 59, 153, 0, 28, 28, 3, 4, 184, 0, 144, 153, 0, 19, 42]
abbrev dktX2_bend_0 : List UInt8 := dkwX2_bend_0 ++ dktX2_bend_1
theorem dksX2_bend_0 : cX2_bend.data.toList.drop 0 = dktX2_bend_0 := by decide +kernel
theorem dksX2_bend_1 : cX2_bend.data.toList.drop 22 = dktX2_bend_1 := dk_seg dksX2_bend_0 22 rfl rfl
theorem dX2_bend_0 : decode cX2_bend 0 = .ok (.aload_n 0, 1) := dk_42 (dk_at dksX2_bend_0 0 rfl rfl)
theorem dX2_bend_1 : decode cX2_bend 1 = .ok (.invokevirtual 163, 3) := dk_182 0 163 (dk_at dksX2_bend_0 1 rfl rfl)
theorem dX2_bend_4 : decode cX2_bend 4 = .ok (.aload_n 0, 1) := dk_42 (dk_at dksX2_bend_0 4 rfl rfl)
theorem dX2_bend_5 : decode cX2_bend 5 = .ok (.iload_n 1, 1) := dk_27 (dk_at dksX2_bend_0 5 rfl rfl)
theorem dX2_bend_6 : decode cX2_bend 6 = .ok (.invokevirtual 315, 3) := dk_182 1 59 (dk_at dksX2_bend_0 6 rfl rfl)
theorem dX2_bend_9 : decode cX2_bend 9 = .ok (.ifCond .eq 28, 3) := dk_153 0 28 (dk_at dksX2_bend_0 9 rfl rfl)
theorem dX2_bend_12 : decode cX2_bend 12 = .ok (.iload_n 2, 1) := dk_28 (dk_at dksX2_bend_0 12 rfl rfl)
theorem dX2_bend_13 : decode cX2_bend 13 = .ok (.iconst 0, 1) := dk_3 (dk_at dksX2_bend_0 13 rfl rfl)
theorem dX2_bend_14 : decode cX2_bend 14 = .ok (.iconst 1, 1) := dk_4 (dk_at dksX2_bend_0 14 rfl rfl)
theorem dX2_bend_15 : decode cX2_bend 15 = .ok (.invokestatic 144, 3) := dk_184 0 144 (dk_at dksX2_bend_0 15 rfl rfl)
theorem dX2_bend_18 : decode cX2_bend 18 = .ok (.ifCond .eq 19, 3) := dk_153 0 19 (dk_at dksX2_bend_0 18 rfl rfl)
theorem dX2_bend_21 : decode cX2_bend 21 = .ok (.aload_n 0, 1) := dk_42 (dk_at dksX2_bend_0 21 rfl rfl)
theorem dX2_bend_22 : decode cX2_bend 22 = .ok (.getfield 20, 3) := dk_180 0 20 (dk_at dksX2_bend_1 0 rfl rfl)
theorem dX2_bend_25 : decode cX2_bend 25 = .ok (.bipush 11, 2) := dk_16 11 (dk_at dksX2_bend_1 3 rfl rfl)
theorem dX2_bend_27 : decode cX2_bend 27 = .ok (.iconst 2, 1) := dk_5 (dk_at dksX2_bend_1 5 rfl rfl)
theorem dX2_bend_28 : decode cX2_bend 28 = .ok (.iload_n 1, 1) := dk_27 (dk_at dksX2_bend_1 6 rfl rfl)
theorem dX2_bend_29 : decode cX2_bend 29 = .ok (.imul, 1) := dk_104 (dk_at dksX2_bend_1 7 rfl rfl)
theorem dX2_bend_30 : decode cX2_bend 30 = .ok (.iadd, 1) := dk_96 (dk_at dksX2_bend_1 8 rfl rfl)
theorem dX2_bend_31 : decode cX2_bend 31 = .ok (.iload_n 2, 1) := dk_28 (dk_at dksX2_bend_1 9 rfl rfl)
theorem dX2_bend_32 : decode cX2_bend 32 = .ok (.iadd, 1) := dk_96 (dk_at dksX2_bend_1 10 rfl rfl)
theorem dX2_bend_33 : decode cX2_bend 33 = .ok (.iaload, 1) := dk_46 (dk_at dksX2_bend_1 11 rfl rfl)
theorem dX2_bend_34 : decode cX2_bend 34 = .ok (.goto 8, 3) := dk_167 0 8 (dk_at dksX2_bend_1 12 rfl rfl)
theorem dX2_bend_37 : decode cX2_bend 37 = .ok (.aload_n 0, 1) := dk_42 (dk_at dksX2_bend_1 15 rfl rfl)
theorem dX2_bend_38 : decode cX2_bend 38 = .ok (.iconst 1, 1) := dk_4 (dk_at dksX2_bend_1 16 rfl rfl)
theorem dX2_bend_39 : decode cX2_bend 39 = .ok (.invokevirtual 166, 3) := dk_182 0 166 (dk_at dksX2_bend_1 17 rfl rfl)
theorem dX2_bend_42 : decode cX2_bend 42 = .ok (.ireturn, 1) := dk_172 (dk_at dksX2_bend_1 20 rfl rfl)
abbrev cX2_isBend : ByteArray := prog_15_method_45_code
def yX2_isBend : MethodName := ⟨RX2, "isBend", "(I)Z"⟩
def dkwX2_isBend_1 : List UInt8 := [167, 0, 4, 3, 172]
abbrev dktX2_isBend_1 : List UInt8 := dkwX2_isBend_1 ++ []
def dkwX2_isBend_0 : List UInt8 := [42, 180, 0, 176, 153, 0, 23, 27, 3, 42, 180, 0, 20, 8, 46, 4, 100, 184, 0, 144, 153, 0, 7, 4]
abbrev dktX2_isBend_0 : List UInt8 := dkwX2_isBend_0 ++ dktX2_isBend_1
theorem dksX2_isBend_0 : cX2_isBend.data.toList.drop 0 = dktX2_isBend_0 := by decide +kernel
theorem dksX2_isBend_1 : cX2_isBend.data.toList.drop 24 = dktX2_isBend_1 := dk_seg dksX2_isBend_0 24 rfl rfl
theorem dX2_isBend_0 : decode cX2_isBend 0 = .ok (.aload_n 0, 1) := dk_42 (dk_at dksX2_isBend_0 0 rfl rfl)
theorem dX2_isBend_1 : decode cX2_isBend 1 = .ok (.getfield 176, 3) := dk_180 0 176 (dk_at dksX2_isBend_0 1 rfl rfl)
theorem dX2_isBend_4 : decode cX2_isBend 4 = .ok (.ifCond .eq 23, 3) := dk_153 0 23 (dk_at dksX2_isBend_0 4 rfl rfl)
theorem dX2_isBend_7 : decode cX2_isBend 7 = .ok (.iload_n 1, 1) := dk_27 (dk_at dksX2_isBend_0 7 rfl rfl)
theorem dX2_isBend_8 : decode cX2_isBend 8 = .ok (.iconst 0, 1) := dk_3 (dk_at dksX2_isBend_0 8 rfl rfl)
theorem dX2_isBend_9 : decode cX2_isBend 9 = .ok (.aload_n 0, 1) := dk_42 (dk_at dksX2_isBend_0 9 rfl rfl)
theorem dX2_isBend_10 : decode cX2_isBend 10 = .ok (.getfield 20, 3) := dk_180 0 20 (dk_at dksX2_isBend_0 10 rfl rfl)
theorem dX2_isBend_13 : decode cX2_isBend 13 = .ok (.iconst 5, 1) := dk_8 (dk_at dksX2_isBend_0 13 rfl rfl)
theorem dX2_isBend_14 : decode cX2_isBend 14 = .ok (.iaload, 1) := dk_46 (dk_at dksX2_isBend_0 14 rfl rfl)
theorem dX2_isBend_15 : decode cX2_isBend 15 = .ok (.iconst 1, 1) := dk_4 (dk_at dksX2_isBend_0 15 rfl rfl)
theorem dX2_isBend_16 : decode cX2_isBend 16 = .ok (.isub, 1) := dk_100 (dk_at dksX2_isBend_0 16 rfl rfl)
theorem dX2_isBend_17 : decode cX2_isBend 17 = .ok (.invokestatic 144, 3) := dk_184 0 144 (dk_at dksX2_isBend_0 17 rfl rfl)
theorem dX2_isBend_20 : decode cX2_isBend 20 = .ok (.ifCond .eq 7, 3) := dk_153 0 7 (dk_at dksX2_isBend_0 20 rfl rfl)
theorem dX2_isBend_23 : decode cX2_isBend 23 = .ok (.iconst 1, 1) := dk_4 (dk_at dksX2_isBend_0 23 rfl rfl)
theorem dX2_isBend_24 : decode cX2_isBend 24 = .ok (.goto 4, 3) := dk_167 0 4 (dk_at dksX2_isBend_1 0 rfl rfl)
theorem dX2_isBend_27 : decode cX2_isBend 27 = .ok (.iconst 0, 1) := dk_3 (dk_at dksX2_isBend_1 3 rfl rfl)
theorem dX2_isBend_28 : decode cX2_isBend 28 = .ok (.ireturn, 1) := dk_172 (dk_at dksX2_isBend_1 4 rfl rfl)
abbrev cX2_time : ByteArray := prog_15_method_64_code
def yX2_time : MethodName := ⟨RX2, "time", "(II)I"⟩
def dkwX2_time_1 : List UInt8 := [42, 42, 180, 0, 26, 27, 28, 182, 1, 34, 167, 0, 8, 42, 4, 182, 0, 166, 172]
abbrev dktX2_time_1 : List UInt8 := dkwX2_time_1 ++ []
def dkwX2_time_0 : List UInt8 := [42, 182, 0, 163, 42, 182, 1, 50, 42, 27, 182, 1, 53, 153, 0, 24, 42, 28, 182, 1, 59, 153, 0, 16]
abbrev dktX2_time_0 : List UInt8 := dkwX2_time_0 ++ dktX2_time_1
theorem dksX2_time_0 : cX2_time.data.toList.drop 0 = dktX2_time_0 := by decide +kernel
theorem dksX2_time_1 : cX2_time.data.toList.drop 24 = dktX2_time_1 := dk_seg dksX2_time_0 24 rfl rfl
theorem dX2_time_0 : decode cX2_time 0 = .ok (.aload_n 0, 1) := dk_42 (dk_at dksX2_time_0 0 rfl rfl)
theorem dX2_time_1 : decode cX2_time 1 = .ok (.invokevirtual 163, 3) := dk_182 0 163 (dk_at dksX2_time_0 1 rfl rfl)
theorem dX2_time_4 : decode cX2_time 4 = .ok (.aload_n 0, 1) := dk_42 (dk_at dksX2_time_0 4 rfl rfl)
theorem dX2_time_5 : decode cX2_time 5 = .ok (.invokevirtual 306, 3) := dk_182 1 50 (dk_at dksX2_time_0 5 rfl rfl)
theorem dX2_time_8 : decode cX2_time 8 = .ok (.aload_n 0, 1) := dk_42 (dk_at dksX2_time_0 8 rfl rfl)
theorem dX2_time_9 : decode cX2_time 9 = .ok (.iload_n 1, 1) := dk_27 (dk_at dksX2_time_0 9 rfl rfl)
theorem dX2_time_10 : decode cX2_time 10 = .ok (.invokevirtual 309, 3) := dk_182 1 53 (dk_at dksX2_time_0 10 rfl rfl)
theorem dX2_time_13 : decode cX2_time 13 = .ok (.ifCond .eq 24, 3) := dk_153 0 24 (dk_at dksX2_time_0 13 rfl rfl)
theorem dX2_time_16 : decode cX2_time 16 = .ok (.aload_n 0, 1) := dk_42 (dk_at dksX2_time_0 16 rfl rfl)
theorem dX2_time_17 : decode cX2_time 17 = .ok (.iload_n 2, 1) := dk_28 (dk_at dksX2_time_0 17 rfl rfl)
theorem dX2_time_18 : decode cX2_time 18 = .ok (.invokevirtual 315, 3) := dk_182 1 59 (dk_at dksX2_time_0 18 rfl rfl)
theorem dX2_time_21 : decode cX2_time 21 = .ok (.ifCond .eq 16, 3) := dk_153 0 16 (dk_at dksX2_time_0 21 rfl rfl)
theorem dX2_time_24 : decode cX2_time 24 = .ok (.aload_n 0, 1) := dk_42 (dk_at dksX2_time_1 0 rfl rfl)
theorem dX2_time_25 : decode cX2_time 25 = .ok (.aload_n 0, 1) := dk_42 (dk_at dksX2_time_1 1 rfl rfl)
theorem dX2_time_26 : decode cX2_time 26 = .ok (.getfield 26, 3) := dk_180 0 26 (dk_at dksX2_time_1 2 rfl rfl)
theorem dX2_time_29 : decode cX2_time 29 = .ok (.iload_n 1, 1) := dk_27 (dk_at dksX2_time_1 5 rfl rfl)
theorem dX2_time_30 : decode cX2_time 30 = .ok (.iload_n 2, 1) := dk_28 (dk_at dksX2_time_1 6 rfl rfl)
theorem dX2_time_31 : decode cX2_time 31 = .ok (.invokevirtual 290, 3) := dk_182 1 34 (dk_at dksX2_time_1 7 rfl rfl)
theorem dX2_time_34 : decode cX2_time 34 = .ok (.goto 8, 3) := dk_167 0 8 (dk_at dksX2_time_1 10 rfl rfl)
theorem dX2_time_37 : decode cX2_time 37 = .ok (.aload_n 0, 1) := dk_42 (dk_at dksX2_time_1 13 rfl rfl)
theorem dX2_time_38 : decode cX2_time 38 = .ok (.iconst 1, 1) := dk_4 (dk_at dksX2_time_1 14 rfl rfl)
theorem dX2_time_39 : decode cX2_time 39 = .ok (.invokevirtual 166, 3) := dk_182 0 166 (dk_at dksX2_time_1 15 rfl rfl)
theorem dX2_time_42 : decode cX2_time 42 = .ok (.ireturn, 1) := dk_172 (dk_at dksX2_time_1 18 rfl rfl)
abbrev cX2_timeOf : ByteArray := prog_15_method_51_code
def yX2_timeOf : MethodName := ⟨RX2, "timeOf", "([III)I"⟩
def dkwX2_timeOf_5 : List UInt8 := [28, 184, 1, 5, 153, 0, 14, 21, 7, 21, 7, 16, 10, 108, 100, 167, 0, 5, 21, 7, 172]
abbrev dktX2_timeOf_5 : List UInt8 := dkwX2_timeOf_5 ++ []
def dkwX2_timeOf_4 : List UInt8 := [46, 167, 0, 4, 3, 96, 54, 6, 21, 5, 21, 6, 96, 4, 100, 21, 6, 108, 54, 7, 43, 16, 6, 46]
abbrev dktX2_timeOf_4 : List UInt8 := dkwX2_timeOf_4 ++ dktX2_timeOf_5
def dkwX2_timeOf_3 : List UInt8 := [54, 5, 42, 43, 28, 182, 1, 22, 42, 180, 1, 25, 29, 184, 1, 5, 153, 0, 12, 42, 180, 0, 20, 7]
abbrev dktX2_timeOf_3 : List UInt8 := dkwX2_timeOf_3 ++ dktX2_timeOf_4
def dkwX2_timeOf_2 : List UInt8 := [96, 46, 21, 4, 153, 0, 7, 3, 167, 0, 4, 5, 96, 42, 43, 28, 182, 1, 19, 16, 10, 96, 104]
abbrev dktX2_timeOf_2 : List UInt8 := dkwX2_timeOf_2 ++ dktX2_timeOf_3
def dkwX2_timeOf_1 : List UInt8 := [104, 96, 4, 96, 46, 160, 0, 7, 4, 167, 0, 4, 3, 54, 4, 42, 180, 0, 20, 16, 11, 5, 29, 104]
abbrev dktX2_timeOf_1 : List UInt8 := dkwX2_timeOf_1 ++ dktX2_timeOf_2
def dkwX2_timeOf_0 : List UInt8 := [42, 28, 182, 1, 9, 6, 159, 0, 26, 43, 8, 46, 28, 122, 4, 126, 42, 180, 0, 20, 16, 11, 5, 29]
abbrev dktX2_timeOf_0 : List UInt8 := dkwX2_timeOf_0 ++ dktX2_timeOf_1
theorem dksX2_timeOf_0 : cX2_timeOf.data.toList.drop 0 = dktX2_timeOf_0 := by decide +kernel
theorem dksX2_timeOf_1 : cX2_timeOf.data.toList.drop 24 = dktX2_timeOf_1 := dk_seg dksX2_timeOf_0 24 rfl rfl
theorem dksX2_timeOf_2 : cX2_timeOf.data.toList.drop 48 = dktX2_timeOf_2 := dk_seg dksX2_timeOf_1 24 rfl rfl
theorem dksX2_timeOf_3 : cX2_timeOf.data.toList.drop 71 = dktX2_timeOf_3 := dk_seg dksX2_timeOf_2 23 rfl rfl
theorem dksX2_timeOf_4 : cX2_timeOf.data.toList.drop 95 = dktX2_timeOf_4 := dk_seg dksX2_timeOf_3 24 rfl rfl
theorem dksX2_timeOf_5 : cX2_timeOf.data.toList.drop 119 = dktX2_timeOf_5 := dk_seg dksX2_timeOf_4 24 rfl rfl
theorem dX2_timeOf_0 : decode cX2_timeOf 0 = .ok (.aload_n 0, 1) := dk_42 (dk_at dksX2_timeOf_0 0 rfl rfl)
theorem dX2_timeOf_1 : decode cX2_timeOf 1 = .ok (.iload_n 2, 1) := dk_28 (dk_at dksX2_timeOf_0 1 rfl rfl)
theorem dX2_timeOf_2 : decode cX2_timeOf 2 = .ok (.invokevirtual 265, 3) := dk_182 1 9 (dk_at dksX2_timeOf_0 2 rfl rfl)
theorem dX2_timeOf_5 : decode cX2_timeOf 5 = .ok (.iconst 3, 1) := dk_6 (dk_at dksX2_timeOf_0 5 rfl rfl)
theorem dX2_timeOf_6 : decode cX2_timeOf 6 = .ok (.if_icmp .eq 26, 3) := dk_159 0 26 (dk_at dksX2_timeOf_0 6 rfl rfl)
theorem dX2_timeOf_9 : decode cX2_timeOf 9 = .ok (.aload_n 1, 1) := dk_43 (dk_at dksX2_timeOf_0 9 rfl rfl)
theorem dX2_timeOf_10 : decode cX2_timeOf 10 = .ok (.iconst 5, 1) := dk_8 (dk_at dksX2_timeOf_0 10 rfl rfl)
theorem dX2_timeOf_11 : decode cX2_timeOf 11 = .ok (.iaload, 1) := dk_46 (dk_at dksX2_timeOf_0 11 rfl rfl)
theorem dX2_timeOf_12 : decode cX2_timeOf 12 = .ok (.iload_n 2, 1) := dk_28 (dk_at dksX2_timeOf_0 12 rfl rfl)
theorem dX2_timeOf_13 : decode cX2_timeOf 13 = .ok (.ishr, 1) := dk_122 (dk_at dksX2_timeOf_0 13 rfl rfl)
theorem dX2_timeOf_14 : decode cX2_timeOf 14 = .ok (.iconst 1, 1) := dk_4 (dk_at dksX2_timeOf_0 14 rfl rfl)
theorem dX2_timeOf_15 : decode cX2_timeOf 15 = .ok (.iand, 1) := dk_126 (dk_at dksX2_timeOf_0 15 rfl rfl)
theorem dX2_timeOf_16 : decode cX2_timeOf 16 = .ok (.aload_n 0, 1) := dk_42 (dk_at dksX2_timeOf_0 16 rfl rfl)
theorem dX2_timeOf_17 : decode cX2_timeOf 17 = .ok (.getfield 20, 3) := dk_180 0 20 (dk_at dksX2_timeOf_0 17 rfl rfl)
theorem dX2_timeOf_20 : decode cX2_timeOf 20 = .ok (.bipush 11, 2) := dk_16 11 (dk_at dksX2_timeOf_0 20 rfl rfl)
theorem dX2_timeOf_22 : decode cX2_timeOf 22 = .ok (.iconst 2, 1) := dk_5 (dk_at dksX2_timeOf_0 22 rfl rfl)
theorem dX2_timeOf_23 : decode cX2_timeOf 23 = .ok (.iload_n 3, 1) := dk_29 (dk_at dksX2_timeOf_0 23 rfl rfl)
theorem dX2_timeOf_24 : decode cX2_timeOf 24 = .ok (.imul, 1) := dk_104 (dk_at dksX2_timeOf_1 0 rfl rfl)
theorem dX2_timeOf_25 : decode cX2_timeOf 25 = .ok (.iadd, 1) := dk_96 (dk_at dksX2_timeOf_1 1 rfl rfl)
theorem dX2_timeOf_26 : decode cX2_timeOf 26 = .ok (.iconst 1, 1) := dk_4 (dk_at dksX2_timeOf_1 2 rfl rfl)
theorem dX2_timeOf_27 : decode cX2_timeOf 27 = .ok (.iadd, 1) := dk_96 (dk_at dksX2_timeOf_1 3 rfl rfl)
theorem dX2_timeOf_28 : decode cX2_timeOf 28 = .ok (.iaload, 1) := dk_46 (dk_at dksX2_timeOf_1 4 rfl rfl)
theorem dX2_timeOf_29 : decode cX2_timeOf 29 = .ok (.if_icmp .ne 7, 3) := dk_160 0 7 (dk_at dksX2_timeOf_1 5 rfl rfl)
theorem dX2_timeOf_32 : decode cX2_timeOf 32 = .ok (.iconst 1, 1) := dk_4 (dk_at dksX2_timeOf_1 8 rfl rfl)
theorem dX2_timeOf_33 : decode cX2_timeOf 33 = .ok (.goto 4, 3) := dk_167 0 4 (dk_at dksX2_timeOf_1 9 rfl rfl)
theorem dX2_timeOf_36 : decode cX2_timeOf 36 = .ok (.iconst 0, 1) := dk_3 (dk_at dksX2_timeOf_1 12 rfl rfl)
theorem dX2_timeOf_37 : decode cX2_timeOf 37 = .ok (.istore 4, 2) := dk_54 4 (dk_at dksX2_timeOf_1 13 rfl rfl)
theorem dX2_timeOf_39 : decode cX2_timeOf 39 = .ok (.aload_n 0, 1) := dk_42 (dk_at dksX2_timeOf_1 15 rfl rfl)
theorem dX2_timeOf_40 : decode cX2_timeOf 40 = .ok (.getfield 20, 3) := dk_180 0 20 (dk_at dksX2_timeOf_1 16 rfl rfl)
theorem dX2_timeOf_43 : decode cX2_timeOf 43 = .ok (.bipush 11, 2) := dk_16 11 (dk_at dksX2_timeOf_1 19 rfl rfl)
theorem dX2_timeOf_45 : decode cX2_timeOf 45 = .ok (.iconst 2, 1) := dk_5 (dk_at dksX2_timeOf_1 21 rfl rfl)
theorem dX2_timeOf_46 : decode cX2_timeOf 46 = .ok (.iload_n 3, 1) := dk_29 (dk_at dksX2_timeOf_1 22 rfl rfl)
theorem dX2_timeOf_47 : decode cX2_timeOf 47 = .ok (.imul, 1) := dk_104 (dk_at dksX2_timeOf_1 23 rfl rfl)
theorem dX2_timeOf_48 : decode cX2_timeOf 48 = .ok (.iadd, 1) := dk_96 (dk_at dksX2_timeOf_2 0 rfl rfl)
theorem dX2_timeOf_49 : decode cX2_timeOf 49 = .ok (.iaload, 1) := dk_46 (dk_at dksX2_timeOf_2 1 rfl rfl)
theorem dX2_timeOf_50 : decode cX2_timeOf 50 = .ok (.iload 4, 2) := dk_21 4 (dk_at dksX2_timeOf_2 2 rfl rfl)
theorem dX2_timeOf_52 : decode cX2_timeOf 52 = .ok (.ifCond .eq 7, 3) := dk_153 0 7 (dk_at dksX2_timeOf_2 4 rfl rfl)
theorem dX2_timeOf_55 : decode cX2_timeOf 55 = .ok (.iconst 0, 1) := dk_3 (dk_at dksX2_timeOf_2 7 rfl rfl)
theorem dX2_timeOf_56 : decode cX2_timeOf 56 = .ok (.goto 4, 3) := dk_167 0 4 (dk_at dksX2_timeOf_2 8 rfl rfl)
theorem dX2_timeOf_59 : decode cX2_timeOf 59 = .ok (.iconst 2, 1) := dk_5 (dk_at dksX2_timeOf_2 11 rfl rfl)
theorem dX2_timeOf_60 : decode cX2_timeOf 60 = .ok (.iadd, 1) := dk_96 (dk_at dksX2_timeOf_2 12 rfl rfl)
theorem dX2_timeOf_61 : decode cX2_timeOf 61 = .ok (.aload_n 0, 1) := dk_42 (dk_at dksX2_timeOf_2 13 rfl rfl)
theorem dX2_timeOf_62 : decode cX2_timeOf 62 = .ok (.aload_n 1, 1) := dk_43 (dk_at dksX2_timeOf_2 14 rfl rfl)
theorem dX2_timeOf_63 : decode cX2_timeOf 63 = .ok (.iload_n 2, 1) := dk_28 (dk_at dksX2_timeOf_2 15 rfl rfl)
theorem dX2_timeOf_64 : decode cX2_timeOf 64 = .ok (.invokevirtual 275, 3) := dk_182 1 19 (dk_at dksX2_timeOf_2 16 rfl rfl)
theorem dX2_timeOf_67 : decode cX2_timeOf 67 = .ok (.bipush 10, 2) := dk_16 10 (dk_at dksX2_timeOf_2 19 rfl rfl)
theorem dX2_timeOf_69 : decode cX2_timeOf 69 = .ok (.iadd, 1) := dk_96 (dk_at dksX2_timeOf_2 21 rfl rfl)
theorem dX2_timeOf_70 : decode cX2_timeOf 70 = .ok (.imul, 1) := dk_104 (dk_at dksX2_timeOf_2 22 rfl rfl)
theorem dX2_timeOf_71 : decode cX2_timeOf 71 = .ok (.istore 5, 2) := dk_54 5 (dk_at dksX2_timeOf_3 0 rfl rfl)
theorem dX2_timeOf_73 : decode cX2_timeOf 73 = .ok (.aload_n 0, 1) := dk_42 (dk_at dksX2_timeOf_3 2 rfl rfl)
theorem dX2_timeOf_74 : decode cX2_timeOf 74 = .ok (.aload_n 1, 1) := dk_43 (dk_at dksX2_timeOf_3 3 rfl rfl)
theorem dX2_timeOf_75 : decode cX2_timeOf 75 = .ok (.iload_n 2, 1) := dk_28 (dk_at dksX2_timeOf_3 4 rfl rfl)
theorem dX2_timeOf_76 : decode cX2_timeOf 76 = .ok (.invokevirtual 278, 3) := dk_182 1 22 (dk_at dksX2_timeOf_3 5 rfl rfl)
theorem dX2_timeOf_79 : decode cX2_timeOf 79 = .ok (.aload_n 0, 1) := dk_42 (dk_at dksX2_timeOf_3 8 rfl rfl)
theorem dX2_timeOf_80 : decode cX2_timeOf 80 = .ok (.getfield 281, 3) := dk_180 1 25 (dk_at dksX2_timeOf_3 9 rfl rfl)
theorem dX2_timeOf_83 : decode cX2_timeOf 83 = .ok (.iload_n 3, 1) := dk_29 (dk_at dksX2_timeOf_3 12 rfl rfl)
theorem dX2_timeOf_84 : decode cX2_timeOf 84 = .ok (.invokestatic 261, 3) := dk_184 1 5 (dk_at dksX2_timeOf_3 13 rfl rfl)
theorem dX2_timeOf_87 : decode cX2_timeOf 87 = .ok (.ifCond .eq 12, 3) := dk_153 0 12 (dk_at dksX2_timeOf_3 16 rfl rfl)
theorem dX2_timeOf_90 : decode cX2_timeOf 90 = .ok (.aload_n 0, 1) := dk_42 (dk_at dksX2_timeOf_3 19 rfl rfl)
theorem dX2_timeOf_91 : decode cX2_timeOf 91 = .ok (.getfield 20, 3) := dk_180 0 20 (dk_at dksX2_timeOf_3 20 rfl rfl)
theorem dX2_timeOf_94 : decode cX2_timeOf 94 = .ok (.iconst 4, 1) := dk_7 (dk_at dksX2_timeOf_3 23 rfl rfl)
theorem dX2_timeOf_95 : decode cX2_timeOf 95 = .ok (.iaload, 1) := dk_46 (dk_at dksX2_timeOf_4 0 rfl rfl)
theorem dX2_timeOf_96 : decode cX2_timeOf 96 = .ok (.goto 4, 3) := dk_167 0 4 (dk_at dksX2_timeOf_4 1 rfl rfl)
theorem dX2_timeOf_99 : decode cX2_timeOf 99 = .ok (.iconst 0, 1) := dk_3 (dk_at dksX2_timeOf_4 4 rfl rfl)
theorem dX2_timeOf_100 : decode cX2_timeOf 100 = .ok (.iadd, 1) := dk_96 (dk_at dksX2_timeOf_4 5 rfl rfl)
theorem dX2_timeOf_101 : decode cX2_timeOf 101 = .ok (.istore 6, 2) := dk_54 6 (dk_at dksX2_timeOf_4 6 rfl rfl)
theorem dX2_timeOf_103 : decode cX2_timeOf 103 = .ok (.iload 5, 2) := dk_21 5 (dk_at dksX2_timeOf_4 8 rfl rfl)
theorem dX2_timeOf_105 : decode cX2_timeOf 105 = .ok (.iload 6, 2) := dk_21 6 (dk_at dksX2_timeOf_4 10 rfl rfl)
theorem dX2_timeOf_107 : decode cX2_timeOf 107 = .ok (.iadd, 1) := dk_96 (dk_at dksX2_timeOf_4 12 rfl rfl)
theorem dX2_timeOf_108 : decode cX2_timeOf 108 = .ok (.iconst 1, 1) := dk_4 (dk_at dksX2_timeOf_4 13 rfl rfl)
theorem dX2_timeOf_109 : decode cX2_timeOf 109 = .ok (.isub, 1) := dk_100 (dk_at dksX2_timeOf_4 14 rfl rfl)
theorem dX2_timeOf_110 : decode cX2_timeOf 110 = .ok (.iload 6, 2) := dk_21 6 (dk_at dksX2_timeOf_4 15 rfl rfl)
theorem dX2_timeOf_112 : decode cX2_timeOf 112 = .ok (.idiv, 1) := dk_108 (dk_at dksX2_timeOf_4 17 rfl rfl)
theorem dX2_timeOf_113 : decode cX2_timeOf 113 = .ok (.istore 7, 2) := dk_54 7 (dk_at dksX2_timeOf_4 18 rfl rfl)
theorem dX2_timeOf_115 : decode cX2_timeOf 115 = .ok (.aload_n 1, 1) := dk_43 (dk_at dksX2_timeOf_4 20 rfl rfl)
theorem dX2_timeOf_116 : decode cX2_timeOf 116 = .ok (.bipush 6, 2) := dk_16 6 (dk_at dksX2_timeOf_4 21 rfl rfl)
theorem dX2_timeOf_118 : decode cX2_timeOf 118 = .ok (.iaload, 1) := dk_46 (dk_at dksX2_timeOf_4 23 rfl rfl)
theorem dX2_timeOf_119 : decode cX2_timeOf 119 = .ok (.iload_n 2, 1) := dk_28 (dk_at dksX2_timeOf_5 0 rfl rfl)
theorem dX2_timeOf_120 : decode cX2_timeOf 120 = .ok (.invokestatic 261, 3) := dk_184 1 5 (dk_at dksX2_timeOf_5 1 rfl rfl)
theorem dX2_timeOf_123 : decode cX2_timeOf 123 = .ok (.ifCond .eq 14, 3) := dk_153 0 14 (dk_at dksX2_timeOf_5 4 rfl rfl)
theorem dX2_timeOf_126 : decode cX2_timeOf 126 = .ok (.iload 7, 2) := dk_21 7 (dk_at dksX2_timeOf_5 7 rfl rfl)
theorem dX2_timeOf_128 : decode cX2_timeOf 128 = .ok (.iload 7, 2) := dk_21 7 (dk_at dksX2_timeOf_5 9 rfl rfl)
theorem dX2_timeOf_130 : decode cX2_timeOf 130 = .ok (.bipush 10, 2) := dk_16 10 (dk_at dksX2_timeOf_5 11 rfl rfl)
theorem dX2_timeOf_132 : decode cX2_timeOf 132 = .ok (.idiv, 1) := dk_108 (dk_at dksX2_timeOf_5 13 rfl rfl)
theorem dX2_timeOf_133 : decode cX2_timeOf 133 = .ok (.isub, 1) := dk_100 (dk_at dksX2_timeOf_5 14 rfl rfl)
theorem dX2_timeOf_134 : decode cX2_timeOf 134 = .ok (.goto 5, 3) := dk_167 0 5 (dk_at dksX2_timeOf_5 15 rfl rfl)
theorem dX2_timeOf_137 : decode cX2_timeOf 137 = .ok (.iload 7, 2) := dk_21 7 (dk_at dksX2_timeOf_5 18 rfl rfl)
theorem dX2_timeOf_139 : decode cX2_timeOf 139 = .ok (.ireturn, 1) := dk_172 (dk_at dksX2_timeOf_5 20 rfl rfl)
abbrev cX2_soFar : ByteArray := prog_15_method_65_code
def yX2_soFar : MethodName := ⟨RX2, "soFar", "(II)I"⟩
def dkwX2_soFar_1 : List UInt8 := [42, 42, 180, 0, 26, 27, 28, 182, 1, 38, 167, 0, 8, 42, 4, 182, 0, 166, 172]
abbrev dktX2_soFar_1 : List UInt8 := dkwX2_soFar_1 ++ []
def dkwX2_soFar_0 : List UInt8 := [42, 182, 0, 163, 42, 182, 1, 50, 42, 27, 182, 1, 53, 153, 0, 24, 42, 28, 182, 1, 59, 153, 0, 16]
abbrev dktX2_soFar_0 : List UInt8 := dkwX2_soFar_0 ++ dktX2_soFar_1
theorem dksX2_soFar_0 : cX2_soFar.data.toList.drop 0 = dktX2_soFar_0 := by decide +kernel
theorem dksX2_soFar_1 : cX2_soFar.data.toList.drop 24 = dktX2_soFar_1 := dk_seg dksX2_soFar_0 24 rfl rfl
theorem dX2_soFar_0 : decode cX2_soFar 0 = .ok (.aload_n 0, 1) := dk_42 (dk_at dksX2_soFar_0 0 rfl rfl)
theorem dX2_soFar_1 : decode cX2_soFar 1 = .ok (.invokevirtual 163, 3) := dk_182 0 163 (dk_at dksX2_soFar_0 1 rfl rfl)
theorem dX2_soFar_4 : decode cX2_soFar 4 = .ok (.aload_n 0, 1) := dk_42 (dk_at dksX2_soFar_0 4 rfl rfl)
theorem dX2_soFar_5 : decode cX2_soFar 5 = .ok (.invokevirtual 306, 3) := dk_182 1 50 (dk_at dksX2_soFar_0 5 rfl rfl)
theorem dX2_soFar_8 : decode cX2_soFar 8 = .ok (.aload_n 0, 1) := dk_42 (dk_at dksX2_soFar_0 8 rfl rfl)
theorem dX2_soFar_9 : decode cX2_soFar 9 = .ok (.iload_n 1, 1) := dk_27 (dk_at dksX2_soFar_0 9 rfl rfl)
theorem dX2_soFar_10 : decode cX2_soFar 10 = .ok (.invokevirtual 309, 3) := dk_182 1 53 (dk_at dksX2_soFar_0 10 rfl rfl)
theorem dX2_soFar_13 : decode cX2_soFar 13 = .ok (.ifCond .eq 24, 3) := dk_153 0 24 (dk_at dksX2_soFar_0 13 rfl rfl)
theorem dX2_soFar_16 : decode cX2_soFar 16 = .ok (.aload_n 0, 1) := dk_42 (dk_at dksX2_soFar_0 16 rfl rfl)
theorem dX2_soFar_17 : decode cX2_soFar 17 = .ok (.iload_n 2, 1) := dk_28 (dk_at dksX2_soFar_0 17 rfl rfl)
theorem dX2_soFar_18 : decode cX2_soFar 18 = .ok (.invokevirtual 315, 3) := dk_182 1 59 (dk_at dksX2_soFar_0 18 rfl rfl)
theorem dX2_soFar_21 : decode cX2_soFar 21 = .ok (.ifCond .eq 16, 3) := dk_153 0 16 (dk_at dksX2_soFar_0 21 rfl rfl)
theorem dX2_soFar_24 : decode cX2_soFar 24 = .ok (.aload_n 0, 1) := dk_42 (dk_at dksX2_soFar_1 0 rfl rfl)
theorem dX2_soFar_25 : decode cX2_soFar 25 = .ok (.aload_n 0, 1) := dk_42 (dk_at dksX2_soFar_1 1 rfl rfl)
theorem dX2_soFar_26 : decode cX2_soFar 26 = .ok (.getfield 26, 3) := dk_180 0 26 (dk_at dksX2_soFar_1 2 rfl rfl)
theorem dX2_soFar_29 : decode cX2_soFar 29 = .ok (.iload_n 1, 1) := dk_27 (dk_at dksX2_soFar_1 5 rfl rfl)
theorem dX2_soFar_30 : decode cX2_soFar 30 = .ok (.iload_n 2, 1) := dk_28 (dk_at dksX2_soFar_1 6 rfl rfl)
theorem dX2_soFar_31 : decode cX2_soFar 31 = .ok (.invokevirtual 294, 3) := dk_182 1 38 (dk_at dksX2_soFar_1 7 rfl rfl)
theorem dX2_soFar_34 : decode cX2_soFar 34 = .ok (.goto 8, 3) := dk_167 0 8 (dk_at dksX2_soFar_1 10 rfl rfl)
theorem dX2_soFar_37 : decode cX2_soFar 37 = .ok (.aload_n 0, 1) := dk_42 (dk_at dksX2_soFar_1 13 rfl rfl)
theorem dX2_soFar_38 : decode cX2_soFar 38 = .ok (.iconst 1, 1) := dk_4 (dk_at dksX2_soFar_1 14 rfl rfl)
theorem dX2_soFar_39 : decode cX2_soFar 39 = .ok (.invokevirtual 166, 3) := dk_182 0 166 (dk_at dksX2_soFar_1 15 rfl rfl)
theorem dX2_soFar_42 : decode cX2_soFar 42 = .ok (.ireturn, 1) := dk_172 (dk_at dksX2_soFar_1 18 rfl rfl)
abbrev cX2_soFarOf : ByteArray := prog_15_method_53_code
def yX2_soFarOf : MethodName := ⟨RX2, "soFarOf", "([III)I"⟩
def dkwX2_soFarOf_1 : List UInt8 := [182, 1, 34, 96, 54, 4, 132, 5, 1, 167, 255, 234, 21, 4, 172]
abbrev dktX2_soFarOf_1 : List UInt8 := dkwX2_soFarOf_1 ++ []
def dkwX2_soFarOf_0 : List UInt8 := [42, 28, 182, 1, 31, 54, 4, 3, 54, 5, 21, 5, 29, 163, 0, 22, 21, 4, 42, 43, 28, 21, 5]
abbrev dktX2_soFarOf_0 : List UInt8 := dkwX2_soFarOf_0 ++ dktX2_soFarOf_1
theorem dksX2_soFarOf_0 : cX2_soFarOf.data.toList.drop 0 = dktX2_soFarOf_0 := by decide +kernel
theorem dksX2_soFarOf_1 : cX2_soFarOf.data.toList.drop 23 = dktX2_soFarOf_1 := dk_seg dksX2_soFarOf_0 23 rfl rfl
theorem dX2_soFarOf_0 : decode cX2_soFarOf 0 = .ok (.aload_n 0, 1) := dk_42 (dk_at dksX2_soFarOf_0 0 rfl rfl)
theorem dX2_soFarOf_1 : decode cX2_soFarOf 1 = .ok (.iload_n 2, 1) := dk_28 (dk_at dksX2_soFarOf_0 1 rfl rfl)
theorem dX2_soFarOf_2 : decode cX2_soFarOf 2 = .ok (.invokevirtual 287, 3) := dk_182 1 31 (dk_at dksX2_soFarOf_0 2 rfl rfl)
theorem dX2_soFarOf_5 : decode cX2_soFarOf 5 = .ok (.istore 4, 2) := dk_54 4 (dk_at dksX2_soFarOf_0 5 rfl rfl)
theorem dX2_soFarOf_7 : decode cX2_soFarOf 7 = .ok (.iconst 0, 1) := dk_3 (dk_at dksX2_soFarOf_0 7 rfl rfl)
theorem dX2_soFarOf_8 : decode cX2_soFarOf 8 = .ok (.istore 5, 2) := dk_54 5 (dk_at dksX2_soFarOf_0 8 rfl rfl)
theorem dX2_soFarOf_10 : decode cX2_soFarOf 10 = .ok (.iload 5, 2) := dk_21 5 (dk_at dksX2_soFarOf_0 10 rfl rfl)
theorem dX2_soFarOf_12 : decode cX2_soFarOf 12 = .ok (.iload_n 3, 1) := dk_29 (dk_at dksX2_soFarOf_0 12 rfl rfl)
theorem dX2_soFarOf_13 : decode cX2_soFarOf 13 = .ok (.if_icmp .gt 22, 3) := dk_163 0 22 (dk_at dksX2_soFarOf_0 13 rfl rfl)
theorem dX2_soFarOf_16 : decode cX2_soFarOf 16 = .ok (.iload 4, 2) := dk_21 4 (dk_at dksX2_soFarOf_0 16 rfl rfl)
theorem dX2_soFarOf_18 : decode cX2_soFarOf 18 = .ok (.aload_n 0, 1) := dk_42 (dk_at dksX2_soFarOf_0 18 rfl rfl)
theorem dX2_soFarOf_19 : decode cX2_soFarOf 19 = .ok (.aload_n 1, 1) := dk_43 (dk_at dksX2_soFarOf_0 19 rfl rfl)
theorem dX2_soFarOf_20 : decode cX2_soFarOf 20 = .ok (.iload_n 2, 1) := dk_28 (dk_at dksX2_soFarOf_0 20 rfl rfl)
theorem dX2_soFarOf_21 : decode cX2_soFarOf 21 = .ok (.iload 5, 2) := dk_21 5 (dk_at dksX2_soFarOf_0 21 rfl rfl)
theorem dX2_soFarOf_23 : decode cX2_soFarOf 23 = .ok (.invokevirtual 290, 3) := dk_182 1 34 (dk_at dksX2_soFarOf_1 0 rfl rfl)
theorem dX2_soFarOf_26 : decode cX2_soFarOf 26 = .ok (.iadd, 1) := dk_96 (dk_at dksX2_soFarOf_1 3 rfl rfl)
theorem dX2_soFarOf_27 : decode cX2_soFarOf 27 = .ok (.istore 4, 2) := dk_54 4 (dk_at dksX2_soFarOf_1 4 rfl rfl)
theorem dX2_soFarOf_29 : decode cX2_soFarOf 29 = .ok (.iinc 5 1, 3) := dk_132 5 1 (dk_at dksX2_soFarOf_1 6 rfl rfl)
theorem dX2_soFarOf_32 : decode cX2_soFarOf 32 = .ok (.goto (-22), 3) := dk_167 255 234 (dk_at dksX2_soFarOf_1 9 rfl rfl)
theorem dX2_soFarOf_35 : decode cX2_soFarOf 35 = .ok (.iload 4, 2) := dk_21 4 (dk_at dksX2_soFarOf_1 12 rfl rfl)
theorem dX2_soFarOf_37 : decode cX2_soFarOf 37 = .ok (.ireturn, 1) := dk_172 (dk_at dksX2_soFarOf_1 14 rfl rfl)
abbrev cX2_bridgeOf : ByteArray := prog_15_method_52_code
def yX2_bridgeOf : MethodName := ⟨RX2, "bridgeOf", "(I)I"⟩
def dkwX2_bridgeOf_1 : List UInt8 := [104, 167, 0, 4, 3, 172]
abbrev dktX2_bridgeOf_1 : List UInt8 := dkwX2_bridgeOf_1 ++ []
def dkwX2_bridgeOf_0 : List UInt8 := [42, 27, 182, 1, 28, 42, 180, 0, 20, 4, 46, 100, 61, 28, 158, 0, 14, 28, 42, 180, 0, 20, 5, 46]
abbrev dktX2_bridgeOf_0 : List UInt8 := dkwX2_bridgeOf_0 ++ dktX2_bridgeOf_1
theorem dksX2_bridgeOf_0 : cX2_bridgeOf.data.toList.drop 0 = dktX2_bridgeOf_0 := by decide +kernel
theorem dksX2_bridgeOf_1 : cX2_bridgeOf.data.toList.drop 24 = dktX2_bridgeOf_1 := dk_seg dksX2_bridgeOf_0 24 rfl rfl
theorem dX2_bridgeOf_0 : decode cX2_bridgeOf 0 = .ok (.aload_n 0, 1) := dk_42 (dk_at dksX2_bridgeOf_0 0 rfl rfl)
theorem dX2_bridgeOf_1 : decode cX2_bridgeOf 1 = .ok (.iload_n 1, 1) := dk_27 (dk_at dksX2_bridgeOf_0 1 rfl rfl)
theorem dX2_bridgeOf_2 : decode cX2_bridgeOf 2 = .ok (.invokevirtual 284, 3) := dk_182 1 28 (dk_at dksX2_bridgeOf_0 2 rfl rfl)
theorem dX2_bridgeOf_5 : decode cX2_bridgeOf 5 = .ok (.aload_n 0, 1) := dk_42 (dk_at dksX2_bridgeOf_0 5 rfl rfl)
theorem dX2_bridgeOf_6 : decode cX2_bridgeOf 6 = .ok (.getfield 20, 3) := dk_180 0 20 (dk_at dksX2_bridgeOf_0 6 rfl rfl)
theorem dX2_bridgeOf_9 : decode cX2_bridgeOf 9 = .ok (.iconst 1, 1) := dk_4 (dk_at dksX2_bridgeOf_0 9 rfl rfl)
theorem dX2_bridgeOf_10 : decode cX2_bridgeOf 10 = .ok (.iaload, 1) := dk_46 (dk_at dksX2_bridgeOf_0 10 rfl rfl)
theorem dX2_bridgeOf_11 : decode cX2_bridgeOf 11 = .ok (.isub, 1) := dk_100 (dk_at dksX2_bridgeOf_0 11 rfl rfl)
theorem dX2_bridgeOf_12 : decode cX2_bridgeOf 12 = .ok (.istore_n 2, 1) := dk_61 (dk_at dksX2_bridgeOf_0 12 rfl rfl)
theorem dX2_bridgeOf_13 : decode cX2_bridgeOf 13 = .ok (.iload_n 2, 1) := dk_28 (dk_at dksX2_bridgeOf_0 13 rfl rfl)
theorem dX2_bridgeOf_14 : decode cX2_bridgeOf 14 = .ok (.ifCond .le 14, 3) := dk_158 0 14 (dk_at dksX2_bridgeOf_0 14 rfl rfl)
theorem dX2_bridgeOf_17 : decode cX2_bridgeOf 17 = .ok (.iload_n 2, 1) := dk_28 (dk_at dksX2_bridgeOf_0 17 rfl rfl)
theorem dX2_bridgeOf_18 : decode cX2_bridgeOf 18 = .ok (.aload_n 0, 1) := dk_42 (dk_at dksX2_bridgeOf_0 18 rfl rfl)
theorem dX2_bridgeOf_19 : decode cX2_bridgeOf 19 = .ok (.getfield 20, 3) := dk_180 0 20 (dk_at dksX2_bridgeOf_0 19 rfl rfl)
theorem dX2_bridgeOf_22 : decode cX2_bridgeOf 22 = .ok (.iconst 2, 1) := dk_5 (dk_at dksX2_bridgeOf_0 22 rfl rfl)
theorem dX2_bridgeOf_23 : decode cX2_bridgeOf 23 = .ok (.iaload, 1) := dk_46 (dk_at dksX2_bridgeOf_0 23 rfl rfl)
theorem dX2_bridgeOf_24 : decode cX2_bridgeOf 24 = .ok (.imul, 1) := dk_104 (dk_at dksX2_bridgeOf_1 0 rfl rfl)
theorem dX2_bridgeOf_25 : decode cX2_bridgeOf 25 = .ok (.goto 4, 3) := dk_167 0 4 (dk_at dksX2_bridgeOf_1 1 rfl rfl)
theorem dX2_bridgeOf_28 : decode cX2_bridgeOf 28 = .ok (.iconst 0, 1) := dk_3 (dk_at dksX2_bridgeOf_1 4 rfl rfl)
theorem dX2_bridgeOf_29 : decode cX2_bridgeOf 29 = .ok (.ireturn, 1) := dk_172 (dk_at dksX2_bridgeOf_1 5 rfl rfl)
abbrev cX2_total : ByteArray := prog_15_method_66_code
def yX2_total : MethodName := ⟨RX2, "total", "(I)I"⟩
def dkwX2_total_1 : List UInt8 := [182, 1, 41, 167, 0, 8, 42, 4, 182, 0, 166, 172]
abbrev dktX2_total_1 : List UInt8 := dkwX2_total_1 ++ []
def dkwX2_total_0 : List UInt8 := [42, 182, 0, 163, 42, 182, 1, 50, 42, 27, 182, 1, 53, 153, 0, 15, 42, 42, 180, 0, 26, 27]
abbrev dktX2_total_0 : List UInt8 := dkwX2_total_0 ++ dktX2_total_1
theorem dksX2_total_0 : cX2_total.data.toList.drop 0 = dktX2_total_0 := by decide +kernel
theorem dksX2_total_1 : cX2_total.data.toList.drop 22 = dktX2_total_1 := dk_seg dksX2_total_0 22 rfl rfl
theorem dX2_total_0 : decode cX2_total 0 = .ok (.aload_n 0, 1) := dk_42 (dk_at dksX2_total_0 0 rfl rfl)
theorem dX2_total_1 : decode cX2_total 1 = .ok (.invokevirtual 163, 3) := dk_182 0 163 (dk_at dksX2_total_0 1 rfl rfl)
theorem dX2_total_4 : decode cX2_total 4 = .ok (.aload_n 0, 1) := dk_42 (dk_at dksX2_total_0 4 rfl rfl)
theorem dX2_total_5 : decode cX2_total 5 = .ok (.invokevirtual 306, 3) := dk_182 1 50 (dk_at dksX2_total_0 5 rfl rfl)
theorem dX2_total_8 : decode cX2_total 8 = .ok (.aload_n 0, 1) := dk_42 (dk_at dksX2_total_0 8 rfl rfl)
theorem dX2_total_9 : decode cX2_total 9 = .ok (.iload_n 1, 1) := dk_27 (dk_at dksX2_total_0 9 rfl rfl)
theorem dX2_total_10 : decode cX2_total 10 = .ok (.invokevirtual 309, 3) := dk_182 1 53 (dk_at dksX2_total_0 10 rfl rfl)
theorem dX2_total_13 : decode cX2_total 13 = .ok (.ifCond .eq 15, 3) := dk_153 0 15 (dk_at dksX2_total_0 13 rfl rfl)
theorem dX2_total_16 : decode cX2_total 16 = .ok (.aload_n 0, 1) := dk_42 (dk_at dksX2_total_0 16 rfl rfl)
theorem dX2_total_17 : decode cX2_total 17 = .ok (.aload_n 0, 1) := dk_42 (dk_at dksX2_total_0 17 rfl rfl)
theorem dX2_total_18 : decode cX2_total 18 = .ok (.getfield 26, 3) := dk_180 0 26 (dk_at dksX2_total_0 18 rfl rfl)
theorem dX2_total_21 : decode cX2_total 21 = .ok (.iload_n 1, 1) := dk_27 (dk_at dksX2_total_0 21 rfl rfl)
theorem dX2_total_22 : decode cX2_total 22 = .ok (.invokevirtual 297, 3) := dk_182 1 41 (dk_at dksX2_total_1 0 rfl rfl)
theorem dX2_total_25 : decode cX2_total 25 = .ok (.goto 8, 3) := dk_167 0 8 (dk_at dksX2_total_1 3 rfl rfl)
theorem dX2_total_28 : decode cX2_total 28 = .ok (.aload_n 0, 1) := dk_42 (dk_at dksX2_total_1 6 rfl rfl)
theorem dX2_total_29 : decode cX2_total 29 = .ok (.iconst 1, 1) := dk_4 (dk_at dksX2_total_1 7 rfl rfl)
theorem dX2_total_30 : decode cX2_total 30 = .ok (.invokevirtual 166, 3) := dk_182 0 166 (dk_at dksX2_total_1 8 rfl rfl)
theorem dX2_total_33 : decode cX2_total 33 = .ok (.ireturn, 1) := dk_172 (dk_at dksX2_total_1 11 rfl rfl)
abbrev cX2_totalOf : ByteArray := prog_15_method_54_code
def yX2_totalOf : MethodName := ⟨RX2, "totalOf", "([II)I"⟩
def dkwX2_totalOf_1 : List UInt8 := [182, 1, 38, 172]
abbrev dktX2_totalOf_1 : List UInt8 := dkwX2_totalOf_1 ++ []
def dkwX2_totalOf_0 : List UInt8 := [42, 180, 0, 20, 8, 46, 154, 0, 7, 3, 167, 0, 17, 42, 43, 28, 42, 180, 0, 20, 8, 46, 4, 100]
abbrev dktX2_totalOf_0 : List UInt8 := dkwX2_totalOf_0 ++ dktX2_totalOf_1
theorem dksX2_totalOf_0 : cX2_totalOf.data.toList.drop 0 = dktX2_totalOf_0 := by decide +kernel
theorem dksX2_totalOf_1 : cX2_totalOf.data.toList.drop 24 = dktX2_totalOf_1 := dk_seg dksX2_totalOf_0 24 rfl rfl
theorem dX2_totalOf_0 : decode cX2_totalOf 0 = .ok (.aload_n 0, 1) := dk_42 (dk_at dksX2_totalOf_0 0 rfl rfl)
theorem dX2_totalOf_1 : decode cX2_totalOf 1 = .ok (.getfield 20, 3) := dk_180 0 20 (dk_at dksX2_totalOf_0 1 rfl rfl)
theorem dX2_totalOf_4 : decode cX2_totalOf 4 = .ok (.iconst 5, 1) := dk_8 (dk_at dksX2_totalOf_0 4 rfl rfl)
theorem dX2_totalOf_5 : decode cX2_totalOf 5 = .ok (.iaload, 1) := dk_46 (dk_at dksX2_totalOf_0 5 rfl rfl)
theorem dX2_totalOf_6 : decode cX2_totalOf 6 = .ok (.ifCond .ne 7, 3) := dk_154 0 7 (dk_at dksX2_totalOf_0 6 rfl rfl)
theorem dX2_totalOf_9 : decode cX2_totalOf 9 = .ok (.iconst 0, 1) := dk_3 (dk_at dksX2_totalOf_0 9 rfl rfl)
theorem dX2_totalOf_10 : decode cX2_totalOf 10 = .ok (.goto 17, 3) := dk_167 0 17 (dk_at dksX2_totalOf_0 10 rfl rfl)
theorem dX2_totalOf_13 : decode cX2_totalOf 13 = .ok (.aload_n 0, 1) := dk_42 (dk_at dksX2_totalOf_0 13 rfl rfl)
theorem dX2_totalOf_14 : decode cX2_totalOf 14 = .ok (.aload_n 1, 1) := dk_43 (dk_at dksX2_totalOf_0 14 rfl rfl)
theorem dX2_totalOf_15 : decode cX2_totalOf 15 = .ok (.iload_n 2, 1) := dk_28 (dk_at dksX2_totalOf_0 15 rfl rfl)
theorem dX2_totalOf_16 : decode cX2_totalOf 16 = .ok (.aload_n 0, 1) := dk_42 (dk_at dksX2_totalOf_0 16 rfl rfl)
theorem dX2_totalOf_17 : decode cX2_totalOf 17 = .ok (.getfield 20, 3) := dk_180 0 20 (dk_at dksX2_totalOf_0 17 rfl rfl)
theorem dX2_totalOf_20 : decode cX2_totalOf 20 = .ok (.iconst 5, 1) := dk_8 (dk_at dksX2_totalOf_0 20 rfl rfl)
theorem dX2_totalOf_21 : decode cX2_totalOf 21 = .ok (.iaload, 1) := dk_46 (dk_at dksX2_totalOf_0 21 rfl rfl)
theorem dX2_totalOf_22 : decode cX2_totalOf 22 = .ok (.iconst 1, 1) := dk_4 (dk_at dksX2_totalOf_0 22 rfl rfl)
theorem dX2_totalOf_23 : decode cX2_totalOf 23 = .ok (.isub, 1) := dk_100 (dk_at dksX2_totalOf_0 23 rfl rfl)
theorem dX2_totalOf_24 : decode cX2_totalOf 24 = .ok (.invokevirtual 294, 3) := dk_182 1 38 (dk_at dksX2_totalOf_1 0 rfl rfl)
theorem dX2_totalOf_27 : decode cX2_totalOf 27 = .ok (.ireturn, 1) := dk_172 (dk_at dksX2_totalOf_1 3 rfl rfl)
abbrev cX2_loses : ByteArray := prog_15_method_67_code
def yX2_loses : MethodName := ⟨RX2, "loses", "(I)I"⟩
def dkwX2_loses_2 : List UInt8 := [28, 172]
abbrev dktX2_loses_2 : List UInt8 := dkwX2_loses_2 ++ []
def dkwX2_loses_1 : List UInt8 := [180, 0, 20, 4, 46, 100, 61, 42, 180, 0, 20, 8, 46, 153, 0, 7, 28, 156, 0, 7, 3, 167, 0, 4]
abbrev dktX2_loses_1 : List UInt8 := dkwX2_loses_1 ++ dktX2_loses_2
def dkwX2_loses_0 : List UInt8 := [42, 182, 0, 163, 42, 27, 182, 1, 53, 154, 0, 9, 42, 4, 182, 0, 166, 172, 42, 27, 182, 1, 28, 42]
abbrev dktX2_loses_0 : List UInt8 := dkwX2_loses_0 ++ dktX2_loses_1
theorem dksX2_loses_0 : cX2_loses.data.toList.drop 0 = dktX2_loses_0 := by decide +kernel
theorem dksX2_loses_1 : cX2_loses.data.toList.drop 24 = dktX2_loses_1 := dk_seg dksX2_loses_0 24 rfl rfl
theorem dksX2_loses_2 : cX2_loses.data.toList.drop 48 = dktX2_loses_2 := dk_seg dksX2_loses_1 24 rfl rfl
theorem dX2_loses_0 : decode cX2_loses 0 = .ok (.aload_n 0, 1) := dk_42 (dk_at dksX2_loses_0 0 rfl rfl)
theorem dX2_loses_1 : decode cX2_loses 1 = .ok (.invokevirtual 163, 3) := dk_182 0 163 (dk_at dksX2_loses_0 1 rfl rfl)
theorem dX2_loses_4 : decode cX2_loses 4 = .ok (.aload_n 0, 1) := dk_42 (dk_at dksX2_loses_0 4 rfl rfl)
theorem dX2_loses_5 : decode cX2_loses 5 = .ok (.iload_n 1, 1) := dk_27 (dk_at dksX2_loses_0 5 rfl rfl)
theorem dX2_loses_6 : decode cX2_loses 6 = .ok (.invokevirtual 309, 3) := dk_182 1 53 (dk_at dksX2_loses_0 6 rfl rfl)
theorem dX2_loses_9 : decode cX2_loses 9 = .ok (.ifCond .ne 9, 3) := dk_154 0 9 (dk_at dksX2_loses_0 9 rfl rfl)
theorem dX2_loses_12 : decode cX2_loses 12 = .ok (.aload_n 0, 1) := dk_42 (dk_at dksX2_loses_0 12 rfl rfl)
theorem dX2_loses_13 : decode cX2_loses 13 = .ok (.iconst 1, 1) := dk_4 (dk_at dksX2_loses_0 13 rfl rfl)
theorem dX2_loses_14 : decode cX2_loses 14 = .ok (.invokevirtual 166, 3) := dk_182 0 166 (dk_at dksX2_loses_0 14 rfl rfl)
theorem dX2_loses_17 : decode cX2_loses 17 = .ok (.ireturn, 1) := dk_172 (dk_at dksX2_loses_0 17 rfl rfl)
theorem dX2_loses_18 : decode cX2_loses 18 = .ok (.aload_n 0, 1) := dk_42 (dk_at dksX2_loses_0 18 rfl rfl)
theorem dX2_loses_19 : decode cX2_loses 19 = .ok (.iload_n 1, 1) := dk_27 (dk_at dksX2_loses_0 19 rfl rfl)
theorem dX2_loses_20 : decode cX2_loses 20 = .ok (.invokevirtual 284, 3) := dk_182 1 28 (dk_at dksX2_loses_0 20 rfl rfl)
theorem dX2_loses_23 : decode cX2_loses 23 = .ok (.aload_n 0, 1) := dk_42 (dk_at dksX2_loses_0 23 rfl rfl)
theorem dX2_loses_24 : decode cX2_loses 24 = .ok (.getfield 20, 3) := dk_180 0 20 (dk_at dksX2_loses_1 0 rfl rfl)
theorem dX2_loses_27 : decode cX2_loses 27 = .ok (.iconst 1, 1) := dk_4 (dk_at dksX2_loses_1 3 rfl rfl)
theorem dX2_loses_28 : decode cX2_loses 28 = .ok (.iaload, 1) := dk_46 (dk_at dksX2_loses_1 4 rfl rfl)
theorem dX2_loses_29 : decode cX2_loses 29 = .ok (.isub, 1) := dk_100 (dk_at dksX2_loses_1 5 rfl rfl)
theorem dX2_loses_30 : decode cX2_loses 30 = .ok (.istore_n 2, 1) := dk_61 (dk_at dksX2_loses_1 6 rfl rfl)
theorem dX2_loses_31 : decode cX2_loses 31 = .ok (.aload_n 0, 1) := dk_42 (dk_at dksX2_loses_1 7 rfl rfl)
theorem dX2_loses_32 : decode cX2_loses 32 = .ok (.getfield 20, 3) := dk_180 0 20 (dk_at dksX2_loses_1 8 rfl rfl)
theorem dX2_loses_35 : decode cX2_loses 35 = .ok (.iconst 5, 1) := dk_8 (dk_at dksX2_loses_1 11 rfl rfl)
theorem dX2_loses_36 : decode cX2_loses 36 = .ok (.iaload, 1) := dk_46 (dk_at dksX2_loses_1 12 rfl rfl)
theorem dX2_loses_37 : decode cX2_loses 37 = .ok (.ifCond .eq 7, 3) := dk_153 0 7 (dk_at dksX2_loses_1 13 rfl rfl)
theorem dX2_loses_40 : decode cX2_loses 40 = .ok (.iload_n 2, 1) := dk_28 (dk_at dksX2_loses_1 16 rfl rfl)
theorem dX2_loses_41 : decode cX2_loses 41 = .ok (.ifCond .ge 7, 3) := dk_156 0 7 (dk_at dksX2_loses_1 17 rfl rfl)
theorem dX2_loses_44 : decode cX2_loses 44 = .ok (.iconst 0, 1) := dk_3 (dk_at dksX2_loses_1 20 rfl rfl)
theorem dX2_loses_45 : decode cX2_loses 45 = .ok (.goto 4, 3) := dk_167 0 4 (dk_at dksX2_loses_1 21 rfl rfl)
theorem dX2_loses_48 : decode cX2_loses 48 = .ok (.iload_n 2, 1) := dk_28 (dk_at dksX2_loses_2 0 rfl rfl)
theorem dX2_loses_49 : decode cX2_loses 49 = .ok (.ireturn, 1) := dk_172 (dk_at dksX2_loses_2 1 rfl rfl)
abbrev cX2_rank : ByteArray := prog_15_method_68_code
def yX2_rank : MethodName := ⟨RX2, "rank", "(I)I"⟩
def dkwX2_rank_1 : List UInt8 := [180, 0, 26, 182, 1, 62, 42, 180, 0, 38, 27, 46, 172]
abbrev dktX2_rank_1 : List UInt8 := dkwX2_rank_1 ++ []
def dkwX2_rank_0 : List UInt8 := [42, 182, 0, 163, 42, 182, 1, 50, 42, 27, 182, 1, 53, 154, 0, 9, 42, 4, 182, 0, 166, 172, 42, 42]
abbrev dktX2_rank_0 : List UInt8 := dkwX2_rank_0 ++ dktX2_rank_1
theorem dksX2_rank_0 : cX2_rank.data.toList.drop 0 = dktX2_rank_0 := by decide +kernel
theorem dksX2_rank_1 : cX2_rank.data.toList.drop 24 = dktX2_rank_1 := dk_seg dksX2_rank_0 24 rfl rfl
theorem dX2_rank_0 : decode cX2_rank 0 = .ok (.aload_n 0, 1) := dk_42 (dk_at dksX2_rank_0 0 rfl rfl)
theorem dX2_rank_1 : decode cX2_rank 1 = .ok (.invokevirtual 163, 3) := dk_182 0 163 (dk_at dksX2_rank_0 1 rfl rfl)
theorem dX2_rank_4 : decode cX2_rank 4 = .ok (.aload_n 0, 1) := dk_42 (dk_at dksX2_rank_0 4 rfl rfl)
theorem dX2_rank_5 : decode cX2_rank 5 = .ok (.invokevirtual 306, 3) := dk_182 1 50 (dk_at dksX2_rank_0 5 rfl rfl)
theorem dX2_rank_8 : decode cX2_rank 8 = .ok (.aload_n 0, 1) := dk_42 (dk_at dksX2_rank_0 8 rfl rfl)
theorem dX2_rank_9 : decode cX2_rank 9 = .ok (.iload_n 1, 1) := dk_27 (dk_at dksX2_rank_0 9 rfl rfl)
theorem dX2_rank_10 : decode cX2_rank 10 = .ok (.invokevirtual 309, 3) := dk_182 1 53 (dk_at dksX2_rank_0 10 rfl rfl)
theorem dX2_rank_13 : decode cX2_rank 13 = .ok (.ifCond .ne 9, 3) := dk_154 0 9 (dk_at dksX2_rank_0 13 rfl rfl)
theorem dX2_rank_16 : decode cX2_rank 16 = .ok (.aload_n 0, 1) := dk_42 (dk_at dksX2_rank_0 16 rfl rfl)
theorem dX2_rank_17 : decode cX2_rank 17 = .ok (.iconst 1, 1) := dk_4 (dk_at dksX2_rank_0 17 rfl rfl)
theorem dX2_rank_18 : decode cX2_rank 18 = .ok (.invokevirtual 166, 3) := dk_182 0 166 (dk_at dksX2_rank_0 18 rfl rfl)
theorem dX2_rank_21 : decode cX2_rank 21 = .ok (.ireturn, 1) := dk_172 (dk_at dksX2_rank_0 21 rfl rfl)
theorem dX2_rank_22 : decode cX2_rank 22 = .ok (.aload_n 0, 1) := dk_42 (dk_at dksX2_rank_0 22 rfl rfl)
theorem dX2_rank_23 : decode cX2_rank 23 = .ok (.aload_n 0, 1) := dk_42 (dk_at dksX2_rank_0 23 rfl rfl)
theorem dX2_rank_24 : decode cX2_rank 24 = .ok (.getfield 26, 3) := dk_180 0 26 (dk_at dksX2_rank_1 0 rfl rfl)
theorem dX2_rank_27 : decode cX2_rank 27 = .ok (.invokevirtual 318, 3) := dk_182 1 62 (dk_at dksX2_rank_1 3 rfl rfl)
theorem dX2_rank_30 : decode cX2_rank 30 = .ok (.aload_n 0, 1) := dk_42 (dk_at dksX2_rank_1 6 rfl rfl)
theorem dX2_rank_31 : decode cX2_rank 31 = .ok (.getfield 38, 3) := dk_180 0 38 (dk_at dksX2_rank_1 7 rfl rfl)
theorem dX2_rank_34 : decode cX2_rank 34 = .ok (.iload_n 1, 1) := dk_27 (dk_at dksX2_rank_1 10 rfl rfl)
theorem dX2_rank_35 : decode cX2_rank 35 = .ok (.iaload, 1) := dk_46 (dk_at dksX2_rank_1 11 rfl rfl)
theorem dX2_rank_36 : decode cX2_rank 36 = .ok (.ireturn, 1) := dk_172 (dk_at dksX2_rank_1 12 rfl rfl)
abbrev cX2_layRanks : ByteArray := prog_15_method_55_code
def yX2_layRanks : MethodName := ⟨RX2, "layRanks", "([I)V"⟩
def dkwX2_layRanks_6 : List UInt8 := [167, 255, 184, 177]
abbrev dktX2_layRanks_6 : List UInt8 := dkwX2_layRanks_6 ++ []
def dkwX2_layRanks_5 : List UInt8 := [167, 0, 4, 3, 96, 54, 4, 132, 5, 1, 167, 255, 215, 42, 180, 0, 38, 29, 21, 4, 79, 132, 3, 1]
abbrev dktX2_layRanks_5 : List UInt8 := dkwX2_layRanks_5 ++ dktX2_layRanks_6
def dkwX2_layRanks_4 : List UInt8 := [46, 162, 0, 35, 21, 4, 21, 5, 29, 159, 0, 17, 42, 21, 5, 29, 182, 1, 47, 153, 0, 7, 4]
abbrev dktX2_layRanks_4 : List UInt8 := dkwX2_layRanks_4 ++ dktX2_layRanks_5
def dkwX2_layRanks_3 : List UInt8 := [42, 180, 0, 20, 16, 6, 46, 162, 0, 67, 3, 54, 4, 3, 54, 5, 21, 5, 42, 180, 0, 20, 16, 6]
abbrev dktX2_layRanks_3 : List UInt8 := dkwX2_layRanks_3 ++ dktX2_layRanks_4
def dkwX2_layRanks_2 : List UInt8 := [61, 132, 3, 1, 167, 255, 209, 42, 43, 16, 6, 46, 4, 28, 120, 2, 130, 126, 181, 1, 44, 3, 62, 29]
abbrev dktX2_layRanks_2 : List UInt8 := dkwX2_layRanks_2 ++ dktX2_layRanks_3
def dkwX2_layRanks_1 : List UInt8 := [182, 1, 41, 79, 42, 180, 0, 35, 29, 46, 42, 180, 0, 35, 28, 46, 162, 0, 7, 29, 167, 0, 4, 28]
abbrev dktX2_layRanks_1 : List UInt8 := dkwX2_layRanks_1 ++ dktX2_layRanks_2
def dkwX2_layRanks_0 : List UInt8 := [3, 61, 3, 62, 29, 42, 180, 0, 20, 16, 6, 46, 162, 0, 42, 42, 180, 0, 35, 29, 42, 43, 29]
abbrev dktX2_layRanks_0 : List UInt8 := dkwX2_layRanks_0 ++ dktX2_layRanks_1
theorem dksX2_layRanks_0 : cX2_layRanks.data.toList.drop 0 = dktX2_layRanks_0 := by decide +kernel
theorem dksX2_layRanks_1 : cX2_layRanks.data.toList.drop 23 = dktX2_layRanks_1 := dk_seg dksX2_layRanks_0 23 rfl rfl
theorem dksX2_layRanks_2 : cX2_layRanks.data.toList.drop 47 = dktX2_layRanks_2 := dk_seg dksX2_layRanks_1 24 rfl rfl
theorem dksX2_layRanks_3 : cX2_layRanks.data.toList.drop 71 = dktX2_layRanks_3 := dk_seg dksX2_layRanks_2 24 rfl rfl
theorem dksX2_layRanks_4 : cX2_layRanks.data.toList.drop 95 = dktX2_layRanks_4 := dk_seg dksX2_layRanks_3 24 rfl rfl
theorem dksX2_layRanks_5 : cX2_layRanks.data.toList.drop 118 = dktX2_layRanks_5 := dk_seg dksX2_layRanks_4 23 rfl rfl
theorem dksX2_layRanks_6 : cX2_layRanks.data.toList.drop 142 = dktX2_layRanks_6 := dk_seg dksX2_layRanks_5 24 rfl rfl
theorem dX2_layRanks_0 : decode cX2_layRanks 0 = .ok (.iconst 0, 1) := dk_3 (dk_at dksX2_layRanks_0 0 rfl rfl)
theorem dX2_layRanks_1 : decode cX2_layRanks 1 = .ok (.istore_n 2, 1) := dk_61 (dk_at dksX2_layRanks_0 1 rfl rfl)
theorem dX2_layRanks_2 : decode cX2_layRanks 2 = .ok (.iconst 0, 1) := dk_3 (dk_at dksX2_layRanks_0 2 rfl rfl)
theorem dX2_layRanks_3 : decode cX2_layRanks 3 = .ok (.istore_n 3, 1) := dk_62 (dk_at dksX2_layRanks_0 3 rfl rfl)
theorem dX2_layRanks_4 : decode cX2_layRanks 4 = .ok (.iload_n 3, 1) := dk_29 (dk_at dksX2_layRanks_0 4 rfl rfl)
theorem dX2_layRanks_5 : decode cX2_layRanks 5 = .ok (.aload_n 0, 1) := dk_42 (dk_at dksX2_layRanks_0 5 rfl rfl)
theorem dX2_layRanks_6 : decode cX2_layRanks 6 = .ok (.getfield 20, 3) := dk_180 0 20 (dk_at dksX2_layRanks_0 6 rfl rfl)
theorem dX2_layRanks_9 : decode cX2_layRanks 9 = .ok (.bipush 6, 2) := dk_16 6 (dk_at dksX2_layRanks_0 9 rfl rfl)
theorem dX2_layRanks_11 : decode cX2_layRanks 11 = .ok (.iaload, 1) := dk_46 (dk_at dksX2_layRanks_0 11 rfl rfl)
theorem dX2_layRanks_12 : decode cX2_layRanks 12 = .ok (.if_icmp .ge 42, 3) := dk_162 0 42 (dk_at dksX2_layRanks_0 12 rfl rfl)
theorem dX2_layRanks_15 : decode cX2_layRanks 15 = .ok (.aload_n 0, 1) := dk_42 (dk_at dksX2_layRanks_0 15 rfl rfl)
theorem dX2_layRanks_16 : decode cX2_layRanks 16 = .ok (.getfield 35, 3) := dk_180 0 35 (dk_at dksX2_layRanks_0 16 rfl rfl)
theorem dX2_layRanks_19 : decode cX2_layRanks 19 = .ok (.iload_n 3, 1) := dk_29 (dk_at dksX2_layRanks_0 19 rfl rfl)
theorem dX2_layRanks_20 : decode cX2_layRanks 20 = .ok (.aload_n 0, 1) := dk_42 (dk_at dksX2_layRanks_0 20 rfl rfl)
theorem dX2_layRanks_21 : decode cX2_layRanks 21 = .ok (.aload_n 1, 1) := dk_43 (dk_at dksX2_layRanks_0 21 rfl rfl)
theorem dX2_layRanks_22 : decode cX2_layRanks 22 = .ok (.iload_n 3, 1) := dk_29 (dk_at dksX2_layRanks_0 22 rfl rfl)
theorem dX2_layRanks_23 : decode cX2_layRanks 23 = .ok (.invokevirtual 297, 3) := dk_182 1 41 (dk_at dksX2_layRanks_1 0 rfl rfl)
theorem dX2_layRanks_26 : decode cX2_layRanks 26 = .ok (.iastore, 1) := dk_79 (dk_at dksX2_layRanks_1 3 rfl rfl)
theorem dX2_layRanks_27 : decode cX2_layRanks 27 = .ok (.aload_n 0, 1) := dk_42 (dk_at dksX2_layRanks_1 4 rfl rfl)
theorem dX2_layRanks_28 : decode cX2_layRanks 28 = .ok (.getfield 35, 3) := dk_180 0 35 (dk_at dksX2_layRanks_1 5 rfl rfl)
theorem dX2_layRanks_31 : decode cX2_layRanks 31 = .ok (.iload_n 3, 1) := dk_29 (dk_at dksX2_layRanks_1 8 rfl rfl)
theorem dX2_layRanks_32 : decode cX2_layRanks 32 = .ok (.iaload, 1) := dk_46 (dk_at dksX2_layRanks_1 9 rfl rfl)
theorem dX2_layRanks_33 : decode cX2_layRanks 33 = .ok (.aload_n 0, 1) := dk_42 (dk_at dksX2_layRanks_1 10 rfl rfl)
theorem dX2_layRanks_34 : decode cX2_layRanks 34 = .ok (.getfield 35, 3) := dk_180 0 35 (dk_at dksX2_layRanks_1 11 rfl rfl)
theorem dX2_layRanks_37 : decode cX2_layRanks 37 = .ok (.iload_n 2, 1) := dk_28 (dk_at dksX2_layRanks_1 14 rfl rfl)
theorem dX2_layRanks_38 : decode cX2_layRanks 38 = .ok (.iaload, 1) := dk_46 (dk_at dksX2_layRanks_1 15 rfl rfl)
theorem dX2_layRanks_39 : decode cX2_layRanks 39 = .ok (.if_icmp .ge 7, 3) := dk_162 0 7 (dk_at dksX2_layRanks_1 16 rfl rfl)
theorem dX2_layRanks_42 : decode cX2_layRanks 42 = .ok (.iload_n 3, 1) := dk_29 (dk_at dksX2_layRanks_1 19 rfl rfl)
theorem dX2_layRanks_43 : decode cX2_layRanks 43 = .ok (.goto 4, 3) := dk_167 0 4 (dk_at dksX2_layRanks_1 20 rfl rfl)
theorem dX2_layRanks_46 : decode cX2_layRanks 46 = .ok (.iload_n 2, 1) := dk_28 (dk_at dksX2_layRanks_1 23 rfl rfl)
theorem dX2_layRanks_47 : decode cX2_layRanks 47 = .ok (.istore_n 2, 1) := dk_61 (dk_at dksX2_layRanks_2 0 rfl rfl)
theorem dX2_layRanks_48 : decode cX2_layRanks 48 = .ok (.iinc 3 1, 3) := dk_132 3 1 (dk_at dksX2_layRanks_2 1 rfl rfl)
theorem dX2_layRanks_51 : decode cX2_layRanks 51 = .ok (.goto (-47), 3) := dk_167 255 209 (dk_at dksX2_layRanks_2 4 rfl rfl)
theorem dX2_layRanks_54 : decode cX2_layRanks 54 = .ok (.aload_n 0, 1) := dk_42 (dk_at dksX2_layRanks_2 7 rfl rfl)
theorem dX2_layRanks_55 : decode cX2_layRanks 55 = .ok (.aload_n 1, 1) := dk_43 (dk_at dksX2_layRanks_2 8 rfl rfl)
theorem dX2_layRanks_56 : decode cX2_layRanks 56 = .ok (.bipush 6, 2) := dk_16 6 (dk_at dksX2_layRanks_2 9 rfl rfl)
theorem dX2_layRanks_58 : decode cX2_layRanks 58 = .ok (.iaload, 1) := dk_46 (dk_at dksX2_layRanks_2 11 rfl rfl)
theorem dX2_layRanks_59 : decode cX2_layRanks 59 = .ok (.iconst 1, 1) := dk_4 (dk_at dksX2_layRanks_2 12 rfl rfl)
theorem dX2_layRanks_60 : decode cX2_layRanks 60 = .ok (.iload_n 2, 1) := dk_28 (dk_at dksX2_layRanks_2 13 rfl rfl)
theorem dX2_layRanks_61 : decode cX2_layRanks 61 = .ok (.ishl, 1) := dk_120 (dk_at dksX2_layRanks_2 14 rfl rfl)
theorem dX2_layRanks_62 : decode cX2_layRanks 62 = .ok (.iconst (-1), 1) := dk_2 (dk_at dksX2_layRanks_2 15 rfl rfl)
theorem dX2_layRanks_63 : decode cX2_layRanks 63 = .ok (.ixor, 1) := dk_130 (dk_at dksX2_layRanks_2 16 rfl rfl)
theorem dX2_layRanks_64 : decode cX2_layRanks 64 = .ok (.iand, 1) := dk_126 (dk_at dksX2_layRanks_2 17 rfl rfl)
theorem dX2_layRanks_65 : decode cX2_layRanks 65 = .ok (.putfield 300, 3) := dk_181 1 44 (dk_at dksX2_layRanks_2 18 rfl rfl)
theorem dX2_layRanks_68 : decode cX2_layRanks 68 = .ok (.iconst 0, 1) := dk_3 (dk_at dksX2_layRanks_2 21 rfl rfl)
theorem dX2_layRanks_69 : decode cX2_layRanks 69 = .ok (.istore_n 3, 1) := dk_62 (dk_at dksX2_layRanks_2 22 rfl rfl)
theorem dX2_layRanks_70 : decode cX2_layRanks 70 = .ok (.iload_n 3, 1) := dk_29 (dk_at dksX2_layRanks_2 23 rfl rfl)
theorem dX2_layRanks_71 : decode cX2_layRanks 71 = .ok (.aload_n 0, 1) := dk_42 (dk_at dksX2_layRanks_3 0 rfl rfl)
theorem dX2_layRanks_72 : decode cX2_layRanks 72 = .ok (.getfield 20, 3) := dk_180 0 20 (dk_at dksX2_layRanks_3 1 rfl rfl)
theorem dX2_layRanks_75 : decode cX2_layRanks 75 = .ok (.bipush 6, 2) := dk_16 6 (dk_at dksX2_layRanks_3 4 rfl rfl)
theorem dX2_layRanks_77 : decode cX2_layRanks 77 = .ok (.iaload, 1) := dk_46 (dk_at dksX2_layRanks_3 6 rfl rfl)
theorem dX2_layRanks_78 : decode cX2_layRanks 78 = .ok (.if_icmp .ge 67, 3) := dk_162 0 67 (dk_at dksX2_layRanks_3 7 rfl rfl)
theorem dX2_layRanks_81 : decode cX2_layRanks 81 = .ok (.iconst 0, 1) := dk_3 (dk_at dksX2_layRanks_3 10 rfl rfl)
theorem dX2_layRanks_82 : decode cX2_layRanks 82 = .ok (.istore 4, 2) := dk_54 4 (dk_at dksX2_layRanks_3 11 rfl rfl)
theorem dX2_layRanks_84 : decode cX2_layRanks 84 = .ok (.iconst 0, 1) := dk_3 (dk_at dksX2_layRanks_3 13 rfl rfl)
theorem dX2_layRanks_85 : decode cX2_layRanks 85 = .ok (.istore 5, 2) := dk_54 5 (dk_at dksX2_layRanks_3 14 rfl rfl)
theorem dX2_layRanks_87 : decode cX2_layRanks 87 = .ok (.iload 5, 2) := dk_21 5 (dk_at dksX2_layRanks_3 16 rfl rfl)
theorem dX2_layRanks_89 : decode cX2_layRanks 89 = .ok (.aload_n 0, 1) := dk_42 (dk_at dksX2_layRanks_3 18 rfl rfl)
theorem dX2_layRanks_90 : decode cX2_layRanks 90 = .ok (.getfield 20, 3) := dk_180 0 20 (dk_at dksX2_layRanks_3 19 rfl rfl)
theorem dX2_layRanks_93 : decode cX2_layRanks 93 = .ok (.bipush 6, 2) := dk_16 6 (dk_at dksX2_layRanks_3 22 rfl rfl)
theorem dX2_layRanks_95 : decode cX2_layRanks 95 = .ok (.iaload, 1) := dk_46 (dk_at dksX2_layRanks_4 0 rfl rfl)
theorem dX2_layRanks_96 : decode cX2_layRanks 96 = .ok (.if_icmp .ge 35, 3) := dk_162 0 35 (dk_at dksX2_layRanks_4 1 rfl rfl)
theorem dX2_layRanks_99 : decode cX2_layRanks 99 = .ok (.iload 4, 2) := dk_21 4 (dk_at dksX2_layRanks_4 4 rfl rfl)
theorem dX2_layRanks_101 : decode cX2_layRanks 101 = .ok (.iload 5, 2) := dk_21 5 (dk_at dksX2_layRanks_4 6 rfl rfl)
theorem dX2_layRanks_103 : decode cX2_layRanks 103 = .ok (.iload_n 3, 1) := dk_29 (dk_at dksX2_layRanks_4 8 rfl rfl)
theorem dX2_layRanks_104 : decode cX2_layRanks 104 = .ok (.if_icmp .eq 17, 3) := dk_159 0 17 (dk_at dksX2_layRanks_4 9 rfl rfl)
theorem dX2_layRanks_107 : decode cX2_layRanks 107 = .ok (.aload_n 0, 1) := dk_42 (dk_at dksX2_layRanks_4 12 rfl rfl)
theorem dX2_layRanks_108 : decode cX2_layRanks 108 = .ok (.iload 5, 2) := dk_21 5 (dk_at dksX2_layRanks_4 13 rfl rfl)
theorem dX2_layRanks_110 : decode cX2_layRanks 110 = .ok (.iload_n 3, 1) := dk_29 (dk_at dksX2_layRanks_4 15 rfl rfl)
theorem dX2_layRanks_111 : decode cX2_layRanks 111 = .ok (.invokevirtual 303, 3) := dk_182 1 47 (dk_at dksX2_layRanks_4 16 rfl rfl)
theorem dX2_layRanks_114 : decode cX2_layRanks 114 = .ok (.ifCond .eq 7, 3) := dk_153 0 7 (dk_at dksX2_layRanks_4 19 rfl rfl)
theorem dX2_layRanks_117 : decode cX2_layRanks 117 = .ok (.iconst 1, 1) := dk_4 (dk_at dksX2_layRanks_4 22 rfl rfl)
theorem dX2_layRanks_118 : decode cX2_layRanks 118 = .ok (.goto 4, 3) := dk_167 0 4 (dk_at dksX2_layRanks_5 0 rfl rfl)
theorem dX2_layRanks_121 : decode cX2_layRanks 121 = .ok (.iconst 0, 1) := dk_3 (dk_at dksX2_layRanks_5 3 rfl rfl)
theorem dX2_layRanks_122 : decode cX2_layRanks 122 = .ok (.iadd, 1) := dk_96 (dk_at dksX2_layRanks_5 4 rfl rfl)
theorem dX2_layRanks_123 : decode cX2_layRanks 123 = .ok (.istore 4, 2) := dk_54 4 (dk_at dksX2_layRanks_5 5 rfl rfl)
theorem dX2_layRanks_125 : decode cX2_layRanks 125 = .ok (.iinc 5 1, 3) := dk_132 5 1 (dk_at dksX2_layRanks_5 7 rfl rfl)
theorem dX2_layRanks_128 : decode cX2_layRanks 128 = .ok (.goto (-41), 3) := dk_167 255 215 (dk_at dksX2_layRanks_5 10 rfl rfl)
theorem dX2_layRanks_131 : decode cX2_layRanks 131 = .ok (.aload_n 0, 1) := dk_42 (dk_at dksX2_layRanks_5 13 rfl rfl)
theorem dX2_layRanks_132 : decode cX2_layRanks 132 = .ok (.getfield 38, 3) := dk_180 0 38 (dk_at dksX2_layRanks_5 14 rfl rfl)
theorem dX2_layRanks_135 : decode cX2_layRanks 135 = .ok (.iload_n 3, 1) := dk_29 (dk_at dksX2_layRanks_5 17 rfl rfl)
theorem dX2_layRanks_136 : decode cX2_layRanks 136 = .ok (.iload 4, 2) := dk_21 4 (dk_at dksX2_layRanks_5 18 rfl rfl)
theorem dX2_layRanks_138 : decode cX2_layRanks 138 = .ok (.iastore, 1) := dk_79 (dk_at dksX2_layRanks_5 20 rfl rfl)
theorem dX2_layRanks_139 : decode cX2_layRanks 139 = .ok (.iinc 3 1, 3) := dk_132 3 1 (dk_at dksX2_layRanks_5 21 rfl rfl)
theorem dX2_layRanks_142 : decode cX2_layRanks 142 = .ok (.goto (-72), 3) := dk_167 255 184 (dk_at dksX2_layRanks_6 0 rfl rfl)
theorem dX2_layRanks_145 : decode cX2_layRanks 145 = .ok (.return_, 1) := dk_177 (dk_at dksX2_layRanks_6 3 rfl rfl)
abbrev cX2_isBetter : ByteArray := prog_15_method_56_code
def yX2_isBetter : MethodName := ⟨RX2, "isBetter", "(II)Z"⟩
def dkwX2_isBetter_3 : List UInt8 := [167, 0, 4, 3, 172]
abbrev dktX2_isBetter_3 : List UInt8 := dkwX2_isBetter_3 ++ []
def dkwX2_isBetter_2 : List UInt8 := [46, 42, 180, 0, 35, 28, 46, 162, 0, 7, 4, 167, 0, 17, 3, 167, 0, 13, 27, 28, 162, 0, 7, 4]
abbrev dktX2_isBetter_2 : List UInt8 := dkwX2_isBetter_2 ++ dktX2_isBetter_3
def dkwX2_isBetter_1 : List UInt8 := [184, 1, 5, 172, 42, 180, 0, 35, 27, 46, 42, 180, 0, 35, 28, 46, 159, 0, 26, 42, 180, 0, 35, 27]
abbrev dktX2_isBetter_1 : List UInt8 := dkwX2_isBetter_1 ++ dktX2_isBetter_2
def dkwX2_isBetter_0 : List UInt8 := [42, 180, 1, 44, 27, 184, 1, 5, 42, 180, 1, 44, 28, 184, 1, 5, 159, 0, 12, 42, 180, 1, 44, 28]
abbrev dktX2_isBetter_0 : List UInt8 := dkwX2_isBetter_0 ++ dktX2_isBetter_1
theorem dksX2_isBetter_0 : cX2_isBetter.data.toList.drop 0 = dktX2_isBetter_0 := by decide +kernel
theorem dksX2_isBetter_1 : cX2_isBetter.data.toList.drop 24 = dktX2_isBetter_1 := dk_seg dksX2_isBetter_0 24 rfl rfl
theorem dksX2_isBetter_2 : cX2_isBetter.data.toList.drop 48 = dktX2_isBetter_2 := dk_seg dksX2_isBetter_1 24 rfl rfl
theorem dksX2_isBetter_3 : cX2_isBetter.data.toList.drop 72 = dktX2_isBetter_3 := dk_seg dksX2_isBetter_2 24 rfl rfl
theorem dX2_isBetter_0 : decode cX2_isBetter 0 = .ok (.aload_n 0, 1) := dk_42 (dk_at dksX2_isBetter_0 0 rfl rfl)
theorem dX2_isBetter_1 : decode cX2_isBetter 1 = .ok (.getfield 300, 3) := dk_180 1 44 (dk_at dksX2_isBetter_0 1 rfl rfl)
theorem dX2_isBetter_4 : decode cX2_isBetter 4 = .ok (.iload_n 1, 1) := dk_27 (dk_at dksX2_isBetter_0 4 rfl rfl)
theorem dX2_isBetter_5 : decode cX2_isBetter 5 = .ok (.invokestatic 261, 3) := dk_184 1 5 (dk_at dksX2_isBetter_0 5 rfl rfl)
theorem dX2_isBetter_8 : decode cX2_isBetter 8 = .ok (.aload_n 0, 1) := dk_42 (dk_at dksX2_isBetter_0 8 rfl rfl)
theorem dX2_isBetter_9 : decode cX2_isBetter 9 = .ok (.getfield 300, 3) := dk_180 1 44 (dk_at dksX2_isBetter_0 9 rfl rfl)
theorem dX2_isBetter_12 : decode cX2_isBetter 12 = .ok (.iload_n 2, 1) := dk_28 (dk_at dksX2_isBetter_0 12 rfl rfl)
theorem dX2_isBetter_13 : decode cX2_isBetter 13 = .ok (.invokestatic 261, 3) := dk_184 1 5 (dk_at dksX2_isBetter_0 13 rfl rfl)
theorem dX2_isBetter_16 : decode cX2_isBetter 16 = .ok (.if_icmp .eq 12, 3) := dk_159 0 12 (dk_at dksX2_isBetter_0 16 rfl rfl)
theorem dX2_isBetter_19 : decode cX2_isBetter 19 = .ok (.aload_n 0, 1) := dk_42 (dk_at dksX2_isBetter_0 19 rfl rfl)
theorem dX2_isBetter_20 : decode cX2_isBetter 20 = .ok (.getfield 300, 3) := dk_180 1 44 (dk_at dksX2_isBetter_0 20 rfl rfl)
theorem dX2_isBetter_23 : decode cX2_isBetter 23 = .ok (.iload_n 2, 1) := dk_28 (dk_at dksX2_isBetter_0 23 rfl rfl)
theorem dX2_isBetter_24 : decode cX2_isBetter 24 = .ok (.invokestatic 261, 3) := dk_184 1 5 (dk_at dksX2_isBetter_1 0 rfl rfl)
theorem dX2_isBetter_27 : decode cX2_isBetter 27 = .ok (.ireturn, 1) := dk_172 (dk_at dksX2_isBetter_1 3 rfl rfl)
theorem dX2_isBetter_28 : decode cX2_isBetter 28 = .ok (.aload_n 0, 1) := dk_42 (dk_at dksX2_isBetter_1 4 rfl rfl)
theorem dX2_isBetter_29 : decode cX2_isBetter 29 = .ok (.getfield 35, 3) := dk_180 0 35 (dk_at dksX2_isBetter_1 5 rfl rfl)
theorem dX2_isBetter_32 : decode cX2_isBetter 32 = .ok (.iload_n 1, 1) := dk_27 (dk_at dksX2_isBetter_1 8 rfl rfl)
theorem dX2_isBetter_33 : decode cX2_isBetter 33 = .ok (.iaload, 1) := dk_46 (dk_at dksX2_isBetter_1 9 rfl rfl)
theorem dX2_isBetter_34 : decode cX2_isBetter 34 = .ok (.aload_n 0, 1) := dk_42 (dk_at dksX2_isBetter_1 10 rfl rfl)
theorem dX2_isBetter_35 : decode cX2_isBetter 35 = .ok (.getfield 35, 3) := dk_180 0 35 (dk_at dksX2_isBetter_1 11 rfl rfl)
theorem dX2_isBetter_38 : decode cX2_isBetter 38 = .ok (.iload_n 2, 1) := dk_28 (dk_at dksX2_isBetter_1 14 rfl rfl)
theorem dX2_isBetter_39 : decode cX2_isBetter 39 = .ok (.iaload, 1) := dk_46 (dk_at dksX2_isBetter_1 15 rfl rfl)
theorem dX2_isBetter_40 : decode cX2_isBetter 40 = .ok (.if_icmp .eq 26, 3) := dk_159 0 26 (dk_at dksX2_isBetter_1 16 rfl rfl)
theorem dX2_isBetter_43 : decode cX2_isBetter 43 = .ok (.aload_n 0, 1) := dk_42 (dk_at dksX2_isBetter_1 19 rfl rfl)
theorem dX2_isBetter_44 : decode cX2_isBetter 44 = .ok (.getfield 35, 3) := dk_180 0 35 (dk_at dksX2_isBetter_1 20 rfl rfl)
theorem dX2_isBetter_47 : decode cX2_isBetter 47 = .ok (.iload_n 1, 1) := dk_27 (dk_at dksX2_isBetter_1 23 rfl rfl)
theorem dX2_isBetter_48 : decode cX2_isBetter 48 = .ok (.iaload, 1) := dk_46 (dk_at dksX2_isBetter_2 0 rfl rfl)
theorem dX2_isBetter_49 : decode cX2_isBetter 49 = .ok (.aload_n 0, 1) := dk_42 (dk_at dksX2_isBetter_2 1 rfl rfl)
theorem dX2_isBetter_50 : decode cX2_isBetter 50 = .ok (.getfield 35, 3) := dk_180 0 35 (dk_at dksX2_isBetter_2 2 rfl rfl)
theorem dX2_isBetter_53 : decode cX2_isBetter 53 = .ok (.iload_n 2, 1) := dk_28 (dk_at dksX2_isBetter_2 5 rfl rfl)
theorem dX2_isBetter_54 : decode cX2_isBetter 54 = .ok (.iaload, 1) := dk_46 (dk_at dksX2_isBetter_2 6 rfl rfl)
theorem dX2_isBetter_55 : decode cX2_isBetter 55 = .ok (.if_icmp .ge 7, 3) := dk_162 0 7 (dk_at dksX2_isBetter_2 7 rfl rfl)
theorem dX2_isBetter_58 : decode cX2_isBetter 58 = .ok (.iconst 1, 1) := dk_4 (dk_at dksX2_isBetter_2 10 rfl rfl)
theorem dX2_isBetter_59 : decode cX2_isBetter 59 = .ok (.goto 17, 3) := dk_167 0 17 (dk_at dksX2_isBetter_2 11 rfl rfl)
theorem dX2_isBetter_62 : decode cX2_isBetter 62 = .ok (.iconst 0, 1) := dk_3 (dk_at dksX2_isBetter_2 14 rfl rfl)
theorem dX2_isBetter_63 : decode cX2_isBetter 63 = .ok (.goto 13, 3) := dk_167 0 13 (dk_at dksX2_isBetter_2 15 rfl rfl)
theorem dX2_isBetter_66 : decode cX2_isBetter 66 = .ok (.iload_n 1, 1) := dk_27 (dk_at dksX2_isBetter_2 18 rfl rfl)
theorem dX2_isBetter_67 : decode cX2_isBetter 67 = .ok (.iload_n 2, 1) := dk_28 (dk_at dksX2_isBetter_2 19 rfl rfl)
theorem dX2_isBetter_68 : decode cX2_isBetter 68 = .ok (.if_icmp .ge 7, 3) := dk_162 0 7 (dk_at dksX2_isBetter_2 20 rfl rfl)
theorem dX2_isBetter_71 : decode cX2_isBetter 71 = .ok (.iconst 1, 1) := dk_4 (dk_at dksX2_isBetter_2 23 rfl rfl)
theorem dX2_isBetter_72 : decode cX2_isBetter 72 = .ok (.goto 4, 3) := dk_167 0 4 (dk_at dksX2_isBetter_3 0 rfl rfl)
theorem dX2_isBetter_75 : decode cX2_isBetter 75 = .ok (.iconst 0, 1) := dk_3 (dk_at dksX2_isBetter_3 3 rfl rfl)
theorem dX2_isBetter_76 : decode cX2_isBetter 76 = .ok (.ireturn, 1) := dk_172 (dk_at dksX2_isBetter_3 4 rfl rfl)
abbrev cX2_ranked : ByteArray := prog_15_method_69_code
def yX2_ranked : MethodName := ⟨RX2, "ranked", "(I)I"⟩
def dkwX2_ranked_2 : List UInt8 := [28, 172]
abbrev dktX2_ranked_2 : List UInt8 := dkwX2_ranked_2 ++ []
def dkwX2_ranked_1 : List UInt8 := [180, 0, 26, 182, 1, 62, 3, 61, 42, 180, 0, 38, 28, 46, 27, 159, 0, 9, 132, 2, 1, 167, 255, 243]
abbrev dktX2_ranked_1 : List UInt8 := dkwX2_ranked_1 ++ dktX2_ranked_2
def dkwX2_ranked_0 : List UInt8 := [42, 182, 0, 163, 42, 182, 1, 50, 42, 27, 182, 1, 53, 154, 0, 9, 42, 4, 182, 0, 166, 172, 42, 42]
abbrev dktX2_ranked_0 : List UInt8 := dkwX2_ranked_0 ++ dktX2_ranked_1
theorem dksX2_ranked_0 : cX2_ranked.data.toList.drop 0 = dktX2_ranked_0 := by decide +kernel
theorem dksX2_ranked_1 : cX2_ranked.data.toList.drop 24 = dktX2_ranked_1 := dk_seg dksX2_ranked_0 24 rfl rfl
theorem dksX2_ranked_2 : cX2_ranked.data.toList.drop 48 = dktX2_ranked_2 := dk_seg dksX2_ranked_1 24 rfl rfl
theorem dX2_ranked_0 : decode cX2_ranked 0 = .ok (.aload_n 0, 1) := dk_42 (dk_at dksX2_ranked_0 0 rfl rfl)
theorem dX2_ranked_1 : decode cX2_ranked 1 = .ok (.invokevirtual 163, 3) := dk_182 0 163 (dk_at dksX2_ranked_0 1 rfl rfl)
theorem dX2_ranked_4 : decode cX2_ranked 4 = .ok (.aload_n 0, 1) := dk_42 (dk_at dksX2_ranked_0 4 rfl rfl)
theorem dX2_ranked_5 : decode cX2_ranked 5 = .ok (.invokevirtual 306, 3) := dk_182 1 50 (dk_at dksX2_ranked_0 5 rfl rfl)
theorem dX2_ranked_8 : decode cX2_ranked 8 = .ok (.aload_n 0, 1) := dk_42 (dk_at dksX2_ranked_0 8 rfl rfl)
theorem dX2_ranked_9 : decode cX2_ranked 9 = .ok (.iload_n 1, 1) := dk_27 (dk_at dksX2_ranked_0 9 rfl rfl)
theorem dX2_ranked_10 : decode cX2_ranked 10 = .ok (.invokevirtual 309, 3) := dk_182 1 53 (dk_at dksX2_ranked_0 10 rfl rfl)
theorem dX2_ranked_13 : decode cX2_ranked 13 = .ok (.ifCond .ne 9, 3) := dk_154 0 9 (dk_at dksX2_ranked_0 13 rfl rfl)
theorem dX2_ranked_16 : decode cX2_ranked 16 = .ok (.aload_n 0, 1) := dk_42 (dk_at dksX2_ranked_0 16 rfl rfl)
theorem dX2_ranked_17 : decode cX2_ranked 17 = .ok (.iconst 1, 1) := dk_4 (dk_at dksX2_ranked_0 17 rfl rfl)
theorem dX2_ranked_18 : decode cX2_ranked 18 = .ok (.invokevirtual 166, 3) := dk_182 0 166 (dk_at dksX2_ranked_0 18 rfl rfl)
theorem dX2_ranked_21 : decode cX2_ranked 21 = .ok (.ireturn, 1) := dk_172 (dk_at dksX2_ranked_0 21 rfl rfl)
theorem dX2_ranked_22 : decode cX2_ranked 22 = .ok (.aload_n 0, 1) := dk_42 (dk_at dksX2_ranked_0 22 rfl rfl)
theorem dX2_ranked_23 : decode cX2_ranked 23 = .ok (.aload_n 0, 1) := dk_42 (dk_at dksX2_ranked_0 23 rfl rfl)
theorem dX2_ranked_24 : decode cX2_ranked 24 = .ok (.getfield 26, 3) := dk_180 0 26 (dk_at dksX2_ranked_1 0 rfl rfl)
theorem dX2_ranked_27 : decode cX2_ranked 27 = .ok (.invokevirtual 318, 3) := dk_182 1 62 (dk_at dksX2_ranked_1 3 rfl rfl)
theorem dX2_ranked_30 : decode cX2_ranked 30 = .ok (.iconst 0, 1) := dk_3 (dk_at dksX2_ranked_1 6 rfl rfl)
theorem dX2_ranked_31 : decode cX2_ranked 31 = .ok (.istore_n 2, 1) := dk_61 (dk_at dksX2_ranked_1 7 rfl rfl)
theorem dX2_ranked_32 : decode cX2_ranked 32 = .ok (.aload_n 0, 1) := dk_42 (dk_at dksX2_ranked_1 8 rfl rfl)
theorem dX2_ranked_33 : decode cX2_ranked 33 = .ok (.getfield 38, 3) := dk_180 0 38 (dk_at dksX2_ranked_1 9 rfl rfl)
theorem dX2_ranked_36 : decode cX2_ranked 36 = .ok (.iload_n 2, 1) := dk_28 (dk_at dksX2_ranked_1 12 rfl rfl)
theorem dX2_ranked_37 : decode cX2_ranked 37 = .ok (.iaload, 1) := dk_46 (dk_at dksX2_ranked_1 13 rfl rfl)
theorem dX2_ranked_38 : decode cX2_ranked 38 = .ok (.iload_n 1, 1) := dk_27 (dk_at dksX2_ranked_1 14 rfl rfl)
theorem dX2_ranked_39 : decode cX2_ranked 39 = .ok (.if_icmp .eq 9, 3) := dk_159 0 9 (dk_at dksX2_ranked_1 15 rfl rfl)
theorem dX2_ranked_42 : decode cX2_ranked 42 = .ok (.iinc 2 1, 3) := dk_132 2 1 (dk_at dksX2_ranked_1 18 rfl rfl)
theorem dX2_ranked_45 : decode cX2_ranked 45 = .ok (.goto (-13), 3) := dk_167 255 243 (dk_at dksX2_ranked_1 21 rfl rfl)
theorem dX2_ranked_48 : decode cX2_ranked 48 = .ok (.iload_n 2, 1) := dk_28 (dk_at dksX2_ranked_2 0 rfl rfl)
theorem dX2_ranked_49 : decode cX2_ranked 49 = .ok (.ireturn, 1) := dk_172 (dk_at dksX2_ranked_2 1 rfl rfl)
abbrev cX2_out : ByteArray := prog_15_method_70_code
def yX2_out : MethodName := ⟨RX2, "out", "(I)I"⟩
def dkwX2_out_1 : List UInt8 := [180, 0, 26, 182, 1, 62, 42, 180, 1, 44, 27, 122, 4, 126, 172]
abbrev dktX2_out_1 : List UInt8 := dkwX2_out_1 ++ []
def dkwX2_out_0 : List UInt8 := [42, 182, 0, 163, 42, 182, 1, 50, 42, 27, 182, 1, 53, 154, 0, 9, 42, 4, 182, 0, 166, 172, 42, 42]
abbrev dktX2_out_0 : List UInt8 := dkwX2_out_0 ++ dktX2_out_1
theorem dksX2_out_0 : cX2_out.data.toList.drop 0 = dktX2_out_0 := by decide +kernel
theorem dksX2_out_1 : cX2_out.data.toList.drop 24 = dktX2_out_1 := dk_seg dksX2_out_0 24 rfl rfl
theorem dX2_out_0 : decode cX2_out 0 = .ok (.aload_n 0, 1) := dk_42 (dk_at dksX2_out_0 0 rfl rfl)
theorem dX2_out_1 : decode cX2_out 1 = .ok (.invokevirtual 163, 3) := dk_182 0 163 (dk_at dksX2_out_0 1 rfl rfl)
theorem dX2_out_4 : decode cX2_out 4 = .ok (.aload_n 0, 1) := dk_42 (dk_at dksX2_out_0 4 rfl rfl)
theorem dX2_out_5 : decode cX2_out 5 = .ok (.invokevirtual 306, 3) := dk_182 1 50 (dk_at dksX2_out_0 5 rfl rfl)
theorem dX2_out_8 : decode cX2_out 8 = .ok (.aload_n 0, 1) := dk_42 (dk_at dksX2_out_0 8 rfl rfl)
theorem dX2_out_9 : decode cX2_out 9 = .ok (.iload_n 1, 1) := dk_27 (dk_at dksX2_out_0 9 rfl rfl)
theorem dX2_out_10 : decode cX2_out 10 = .ok (.invokevirtual 309, 3) := dk_182 1 53 (dk_at dksX2_out_0 10 rfl rfl)
theorem dX2_out_13 : decode cX2_out 13 = .ok (.ifCond .ne 9, 3) := dk_154 0 9 (dk_at dksX2_out_0 13 rfl rfl)
theorem dX2_out_16 : decode cX2_out 16 = .ok (.aload_n 0, 1) := dk_42 (dk_at dksX2_out_0 16 rfl rfl)
theorem dX2_out_17 : decode cX2_out 17 = .ok (.iconst 1, 1) := dk_4 (dk_at dksX2_out_0 17 rfl rfl)
theorem dX2_out_18 : decode cX2_out 18 = .ok (.invokevirtual 166, 3) := dk_182 0 166 (dk_at dksX2_out_0 18 rfl rfl)
theorem dX2_out_21 : decode cX2_out 21 = .ok (.ireturn, 1) := dk_172 (dk_at dksX2_out_0 21 rfl rfl)
theorem dX2_out_22 : decode cX2_out 22 = .ok (.aload_n 0, 1) := dk_42 (dk_at dksX2_out_0 22 rfl rfl)
theorem dX2_out_23 : decode cX2_out 23 = .ok (.aload_n 0, 1) := dk_42 (dk_at dksX2_out_0 23 rfl rfl)
theorem dX2_out_24 : decode cX2_out 24 = .ok (.getfield 26, 3) := dk_180 0 26 (dk_at dksX2_out_1 0 rfl rfl)
theorem dX2_out_27 : decode cX2_out 27 = .ok (.invokevirtual 318, 3) := dk_182 1 62 (dk_at dksX2_out_1 3 rfl rfl)
theorem dX2_out_30 : decode cX2_out 30 = .ok (.aload_n 0, 1) := dk_42 (dk_at dksX2_out_1 6 rfl rfl)
theorem dX2_out_31 : decode cX2_out 31 = .ok (.getfield 300, 3) := dk_180 1 44 (dk_at dksX2_out_1 7 rfl rfl)
theorem dX2_out_34 : decode cX2_out 34 = .ok (.iload_n 1, 1) := dk_27 (dk_at dksX2_out_1 10 rfl rfl)
theorem dX2_out_35 : decode cX2_out 35 = .ok (.ishr, 1) := dk_122 (dk_at dksX2_out_1 11 rfl rfl)
theorem dX2_out_36 : decode cX2_out 36 = .ok (.iconst 1, 1) := dk_4 (dk_at dksX2_out_1 12 rfl rfl)
theorem dX2_out_37 : decode cX2_out 37 = .ok (.iand, 1) := dk_126 (dk_at dksX2_out_1 13 rfl rfl)
theorem dX2_out_38 : decode cX2_out 38 = .ok (.ireturn, 1) := dk_172 (dk_at dksX2_out_1 14 rfl rfl)
abbrev cX2_prize : ByteArray := prog_15_method_71_code
def yX2_prize : MethodName := ⟨RX2, "prize", "(I)I"⟩
def dkwX2_prize_1 : List UInt8 := [180, 0, 26, 182, 1, 62, 42, 42, 180, 0, 38, 27, 46, 182, 1, 66, 172]
abbrev dktX2_prize_1 : List UInt8 := dkwX2_prize_1 ++ []
def dkwX2_prize_0 : List UInt8 := [42, 182, 0, 163, 42, 182, 1, 50, 42, 27, 182, 1, 53, 154, 0, 9, 42, 4, 182, 0, 166, 172, 42, 42]
abbrev dktX2_prize_0 : List UInt8 := dkwX2_prize_0 ++ dktX2_prize_1
theorem dksX2_prize_0 : cX2_prize.data.toList.drop 0 = dktX2_prize_0 := by decide +kernel
theorem dksX2_prize_1 : cX2_prize.data.toList.drop 24 = dktX2_prize_1 := dk_seg dksX2_prize_0 24 rfl rfl
theorem dX2_prize_0 : decode cX2_prize 0 = .ok (.aload_n 0, 1) := dk_42 (dk_at dksX2_prize_0 0 rfl rfl)
theorem dX2_prize_1 : decode cX2_prize 1 = .ok (.invokevirtual 163, 3) := dk_182 0 163 (dk_at dksX2_prize_0 1 rfl rfl)
theorem dX2_prize_4 : decode cX2_prize 4 = .ok (.aload_n 0, 1) := dk_42 (dk_at dksX2_prize_0 4 rfl rfl)
theorem dX2_prize_5 : decode cX2_prize 5 = .ok (.invokevirtual 306, 3) := dk_182 1 50 (dk_at dksX2_prize_0 5 rfl rfl)
theorem dX2_prize_8 : decode cX2_prize 8 = .ok (.aload_n 0, 1) := dk_42 (dk_at dksX2_prize_0 8 rfl rfl)
theorem dX2_prize_9 : decode cX2_prize 9 = .ok (.iload_n 1, 1) := dk_27 (dk_at dksX2_prize_0 9 rfl rfl)
theorem dX2_prize_10 : decode cX2_prize 10 = .ok (.invokevirtual 309, 3) := dk_182 1 53 (dk_at dksX2_prize_0 10 rfl rfl)
theorem dX2_prize_13 : decode cX2_prize 13 = .ok (.ifCond .ne 9, 3) := dk_154 0 9 (dk_at dksX2_prize_0 13 rfl rfl)
theorem dX2_prize_16 : decode cX2_prize 16 = .ok (.aload_n 0, 1) := dk_42 (dk_at dksX2_prize_0 16 rfl rfl)
theorem dX2_prize_17 : decode cX2_prize 17 = .ok (.iconst 1, 1) := dk_4 (dk_at dksX2_prize_0 17 rfl rfl)
theorem dX2_prize_18 : decode cX2_prize 18 = .ok (.invokevirtual 166, 3) := dk_182 0 166 (dk_at dksX2_prize_0 18 rfl rfl)
theorem dX2_prize_21 : decode cX2_prize 21 = .ok (.ireturn, 1) := dk_172 (dk_at dksX2_prize_0 21 rfl rfl)
theorem dX2_prize_22 : decode cX2_prize 22 = .ok (.aload_n 0, 1) := dk_42 (dk_at dksX2_prize_0 22 rfl rfl)
theorem dX2_prize_23 : decode cX2_prize 23 = .ok (.aload_n 0, 1) := dk_42 (dk_at dksX2_prize_0 23 rfl rfl)
theorem dX2_prize_24 : decode cX2_prize 24 = .ok (.getfield 26, 3) := dk_180 0 26 (dk_at dksX2_prize_1 0 rfl rfl)
theorem dX2_prize_27 : decode cX2_prize 27 = .ok (.invokevirtual 318, 3) := dk_182 1 62 (dk_at dksX2_prize_1 3 rfl rfl)
theorem dX2_prize_30 : decode cX2_prize 30 = .ok (.aload_n 0, 1) := dk_42 (dk_at dksX2_prize_1 6 rfl rfl)
theorem dX2_prize_31 : decode cX2_prize 31 = .ok (.aload_n 0, 1) := dk_42 (dk_at dksX2_prize_1 7 rfl rfl)
theorem dX2_prize_32 : decode cX2_prize 32 = .ok (.getfield 38, 3) := dk_180 0 38 (dk_at dksX2_prize_1 8 rfl rfl)
theorem dX2_prize_35 : decode cX2_prize 35 = .ok (.iload_n 1, 1) := dk_27 (dk_at dksX2_prize_1 11 rfl rfl)
theorem dX2_prize_36 : decode cX2_prize 36 = .ok (.iaload, 1) := dk_46 (dk_at dksX2_prize_1 12 rfl rfl)
theorem dX2_prize_37 : decode cX2_prize 37 = .ok (.invokevirtual 322, 3) := dk_182 1 66 (dk_at dksX2_prize_1 13 rfl rfl)
theorem dX2_prize_40 : decode cX2_prize 40 = .ok (.ireturn, 1) := dk_172 (dk_at dksX2_prize_1 16 rfl rfl)
abbrev cX2_prizeFor : ByteArray := prog_15_method_57_code
def yX2_prizeFor : MethodName := ⟨RX2, "prizeFor", "(I)I"⟩
def dkwX2_prizeFor_1 : List UInt8 := [172]
abbrev dktX2_prizeFor_1 : List UInt8 := dkwX2_prizeFor_1 ++ []
def dkwX2_prizeFor_0 : List UInt8 := [27, 42, 180, 0, 20, 16, 9, 46, 162, 0, 15, 42, 180, 0, 20, 16, 55, 27, 96, 46, 167, 0, 4, 3]
abbrev dktX2_prizeFor_0 : List UInt8 := dkwX2_prizeFor_0 ++ dktX2_prizeFor_1
theorem dksX2_prizeFor_0 : cX2_prizeFor.data.toList.drop 0 = dktX2_prizeFor_0 := by decide +kernel
theorem dksX2_prizeFor_1 : cX2_prizeFor.data.toList.drop 24 = dktX2_prizeFor_1 := dk_seg dksX2_prizeFor_0 24 rfl rfl
theorem dX2_prizeFor_0 : decode cX2_prizeFor 0 = .ok (.iload_n 1, 1) := dk_27 (dk_at dksX2_prizeFor_0 0 rfl rfl)
theorem dX2_prizeFor_1 : decode cX2_prizeFor 1 = .ok (.aload_n 0, 1) := dk_42 (dk_at dksX2_prizeFor_0 1 rfl rfl)
theorem dX2_prizeFor_2 : decode cX2_prizeFor 2 = .ok (.getfield 20, 3) := dk_180 0 20 (dk_at dksX2_prizeFor_0 2 rfl rfl)
theorem dX2_prizeFor_5 : decode cX2_prizeFor 5 = .ok (.bipush 9, 2) := dk_16 9 (dk_at dksX2_prizeFor_0 5 rfl rfl)
theorem dX2_prizeFor_7 : decode cX2_prizeFor 7 = .ok (.iaload, 1) := dk_46 (dk_at dksX2_prizeFor_0 7 rfl rfl)
theorem dX2_prizeFor_8 : decode cX2_prizeFor 8 = .ok (.if_icmp .ge 15, 3) := dk_162 0 15 (dk_at dksX2_prizeFor_0 8 rfl rfl)
theorem dX2_prizeFor_11 : decode cX2_prizeFor 11 = .ok (.aload_n 0, 1) := dk_42 (dk_at dksX2_prizeFor_0 11 rfl rfl)
theorem dX2_prizeFor_12 : decode cX2_prizeFor 12 = .ok (.getfield 20, 3) := dk_180 0 20 (dk_at dksX2_prizeFor_0 12 rfl rfl)
theorem dX2_prizeFor_15 : decode cX2_prizeFor 15 = .ok (.bipush 55, 2) := dk_16 55 (dk_at dksX2_prizeFor_0 15 rfl rfl)
theorem dX2_prizeFor_17 : decode cX2_prizeFor 17 = .ok (.iload_n 1, 1) := dk_27 (dk_at dksX2_prizeFor_0 17 rfl rfl)
theorem dX2_prizeFor_18 : decode cX2_prizeFor 18 = .ok (.iadd, 1) := dk_96 (dk_at dksX2_prizeFor_0 18 rfl rfl)
theorem dX2_prizeFor_19 : decode cX2_prizeFor 19 = .ok (.iaload, 1) := dk_46 (dk_at dksX2_prizeFor_0 19 rfl rfl)
theorem dX2_prizeFor_20 : decode cX2_prizeFor 20 = .ok (.goto 4, 3) := dk_167 0 4 (dk_at dksX2_prizeFor_0 20 rfl rfl)
theorem dX2_prizeFor_23 : decode cX2_prizeFor 23 = .ok (.iconst 0, 1) := dk_3 (dk_at dksX2_prizeFor_0 23 rfl rfl)
theorem dX2_prizeFor_24 : decode cX2_prizeFor 24 = .ok (.ireturn, 1) := dk_172 (dk_at dksX2_prizeFor_1 0 rfl rfl)
abbrev cX2_ahead : ByteArray := prog_15_method_73_code
def yX2_ahead : MethodName := ⟨RX2, "ahead", "(II)I"⟩
def dkwX2_ahead_2 : List UInt8 := [153, 0, 5, 29, 172, 132, 3, 1, 167, 255, 227, 16, 254, 172]
abbrev dktX2_ahead_2 : List UInt8 := dkwX2_ahead_2 ++ []
def dkwX2_ahead_1 : List UInt8 := [62, 29, 42, 180, 0, 20, 8, 46, 162, 0, 25, 42, 42, 180, 0, 26, 27, 28, 29, 182, 1, 72]
abbrev dktX2_ahead_1 : List UInt8 := dkwX2_ahead_1 ++ dktX2_ahead_2
def dkwX2_ahead_0 : List UInt8 := [42, 182, 0, 163, 42, 182, 1, 50, 42, 27, 28, 182, 1, 69, 154, 0, 9, 42, 4, 182, 0, 166, 172, 3]
abbrev dktX2_ahead_0 : List UInt8 := dkwX2_ahead_0 ++ dktX2_ahead_1
theorem dksX2_ahead_0 : cX2_ahead.data.toList.drop 0 = dktX2_ahead_0 := by decide +kernel
theorem dksX2_ahead_1 : cX2_ahead.data.toList.drop 24 = dktX2_ahead_1 := dk_seg dksX2_ahead_0 24 rfl rfl
theorem dksX2_ahead_2 : cX2_ahead.data.toList.drop 46 = dktX2_ahead_2 := dk_seg dksX2_ahead_1 22 rfl rfl
theorem dX2_ahead_0 : decode cX2_ahead 0 = .ok (.aload_n 0, 1) := dk_42 (dk_at dksX2_ahead_0 0 rfl rfl)
theorem dX2_ahead_1 : decode cX2_ahead 1 = .ok (.invokevirtual 163, 3) := dk_182 0 163 (dk_at dksX2_ahead_0 1 rfl rfl)
theorem dX2_ahead_4 : decode cX2_ahead 4 = .ok (.aload_n 0, 1) := dk_42 (dk_at dksX2_ahead_0 4 rfl rfl)
theorem dX2_ahead_5 : decode cX2_ahead 5 = .ok (.invokevirtual 306, 3) := dk_182 1 50 (dk_at dksX2_ahead_0 5 rfl rfl)
theorem dX2_ahead_8 : decode cX2_ahead 8 = .ok (.aload_n 0, 1) := dk_42 (dk_at dksX2_ahead_0 8 rfl rfl)
theorem dX2_ahead_9 : decode cX2_ahead 9 = .ok (.iload_n 1, 1) := dk_27 (dk_at dksX2_ahead_0 9 rfl rfl)
theorem dX2_ahead_10 : decode cX2_ahead 10 = .ok (.iload_n 2, 1) := dk_28 (dk_at dksX2_ahead_0 10 rfl rfl)
theorem dX2_ahead_11 : decode cX2_ahead 11 = .ok (.invokevirtual 325, 3) := dk_182 1 69 (dk_at dksX2_ahead_0 11 rfl rfl)
theorem dX2_ahead_14 : decode cX2_ahead 14 = .ok (.ifCond .ne 9, 3) := dk_154 0 9 (dk_at dksX2_ahead_0 14 rfl rfl)
theorem dX2_ahead_17 : decode cX2_ahead 17 = .ok (.aload_n 0, 1) := dk_42 (dk_at dksX2_ahead_0 17 rfl rfl)
theorem dX2_ahead_18 : decode cX2_ahead 18 = .ok (.iconst 1, 1) := dk_4 (dk_at dksX2_ahead_0 18 rfl rfl)
theorem dX2_ahead_19 : decode cX2_ahead 19 = .ok (.invokevirtual 166, 3) := dk_182 0 166 (dk_at dksX2_ahead_0 19 rfl rfl)
theorem dX2_ahead_22 : decode cX2_ahead 22 = .ok (.ireturn, 1) := dk_172 (dk_at dksX2_ahead_0 22 rfl rfl)
theorem dX2_ahead_23 : decode cX2_ahead 23 = .ok (.iconst 0, 1) := dk_3 (dk_at dksX2_ahead_0 23 rfl rfl)
theorem dX2_ahead_24 : decode cX2_ahead 24 = .ok (.istore_n 3, 1) := dk_62 (dk_at dksX2_ahead_1 0 rfl rfl)
theorem dX2_ahead_25 : decode cX2_ahead 25 = .ok (.iload_n 3, 1) := dk_29 (dk_at dksX2_ahead_1 1 rfl rfl)
theorem dX2_ahead_26 : decode cX2_ahead 26 = .ok (.aload_n 0, 1) := dk_42 (dk_at dksX2_ahead_1 2 rfl rfl)
theorem dX2_ahead_27 : decode cX2_ahead 27 = .ok (.getfield 20, 3) := dk_180 0 20 (dk_at dksX2_ahead_1 3 rfl rfl)
theorem dX2_ahead_30 : decode cX2_ahead 30 = .ok (.iconst 5, 1) := dk_8 (dk_at dksX2_ahead_1 6 rfl rfl)
theorem dX2_ahead_31 : decode cX2_ahead 31 = .ok (.iaload, 1) := dk_46 (dk_at dksX2_ahead_1 7 rfl rfl)
theorem dX2_ahead_32 : decode cX2_ahead 32 = .ok (.if_icmp .ge 25, 3) := dk_162 0 25 (dk_at dksX2_ahead_1 8 rfl rfl)
theorem dX2_ahead_35 : decode cX2_ahead 35 = .ok (.aload_n 0, 1) := dk_42 (dk_at dksX2_ahead_1 11 rfl rfl)
theorem dX2_ahead_36 : decode cX2_ahead 36 = .ok (.aload_n 0, 1) := dk_42 (dk_at dksX2_ahead_1 12 rfl rfl)
theorem dX2_ahead_37 : decode cX2_ahead 37 = .ok (.getfield 26, 3) := dk_180 0 26 (dk_at dksX2_ahead_1 13 rfl rfl)
theorem dX2_ahead_40 : decode cX2_ahead 40 = .ok (.iload_n 1, 1) := dk_27 (dk_at dksX2_ahead_1 16 rfl rfl)
theorem dX2_ahead_41 : decode cX2_ahead 41 = .ok (.iload_n 2, 1) := dk_28 (dk_at dksX2_ahead_1 17 rfl rfl)
theorem dX2_ahead_42 : decode cX2_ahead 42 = .ok (.iload_n 3, 1) := dk_29 (dk_at dksX2_ahead_1 18 rfl rfl)
theorem dX2_ahead_43 : decode cX2_ahead 43 = .ok (.invokevirtual 328, 3) := dk_182 1 72 (dk_at dksX2_ahead_1 19 rfl rfl)
theorem dX2_ahead_46 : decode cX2_ahead 46 = .ok (.ifCond .eq 5, 3) := dk_153 0 5 (dk_at dksX2_ahead_2 0 rfl rfl)
theorem dX2_ahead_49 : decode cX2_ahead 49 = .ok (.iload_n 3, 1) := dk_29 (dk_at dksX2_ahead_2 3 rfl rfl)
theorem dX2_ahead_50 : decode cX2_ahead 50 = .ok (.ireturn, 1) := dk_172 (dk_at dksX2_ahead_2 4 rfl rfl)
theorem dX2_ahead_51 : decode cX2_ahead 51 = .ok (.iinc 3 1, 3) := dk_132 3 1 (dk_at dksX2_ahead_2 5 rfl rfl)
theorem dX2_ahead_54 : decode cX2_ahead 54 = .ok (.goto (-29), 3) := dk_167 255 227 (dk_at dksX2_ahead_2 8 rfl rfl)
theorem dX2_ahead_57 : decode cX2_ahead 57 = .ok (.bipush (-2), 2) := dk_16 254 (dk_at dksX2_ahead_2 11 rfl rfl)
theorem dX2_ahead_59 : decode cX2_ahead 59 = .ok (.ireturn, 1) := dk_172 (dk_at dksX2_ahead_2 13 rfl rfl)
abbrev cX2_areTwo : ByteArray := prog_15_method_72_code
def yX2_areTwo : MethodName := ⟨RX2, "areTwo", "(II)Z"⟩
def dkwX2_areTwo_1 : List UInt8 := [167, 0, 4, 3, 172]
abbrev dktX2_areTwo_1 : List UInt8 := dkwX2_areTwo_1 ++ []
def dkwX2_areTwo_0 : List UInt8 := [42, 27, 182, 1, 53, 153, 0, 20, 42, 28, 182, 1, 53, 153, 0, 12, 27, 28, 159, 0, 7, 4]
abbrev dktX2_areTwo_0 : List UInt8 := dkwX2_areTwo_0 ++ dktX2_areTwo_1
theorem dksX2_areTwo_0 : cX2_areTwo.data.toList.drop 0 = dktX2_areTwo_0 := by decide +kernel
theorem dksX2_areTwo_1 : cX2_areTwo.data.toList.drop 22 = dktX2_areTwo_1 := dk_seg dksX2_areTwo_0 22 rfl rfl
theorem dX2_areTwo_0 : decode cX2_areTwo 0 = .ok (.aload_n 0, 1) := dk_42 (dk_at dksX2_areTwo_0 0 rfl rfl)
theorem dX2_areTwo_1 : decode cX2_areTwo 1 = .ok (.iload_n 1, 1) := dk_27 (dk_at dksX2_areTwo_0 1 rfl rfl)
theorem dX2_areTwo_2 : decode cX2_areTwo 2 = .ok (.invokevirtual 309, 3) := dk_182 1 53 (dk_at dksX2_areTwo_0 2 rfl rfl)
theorem dX2_areTwo_5 : decode cX2_areTwo 5 = .ok (.ifCond .eq 20, 3) := dk_153 0 20 (dk_at dksX2_areTwo_0 5 rfl rfl)
theorem dX2_areTwo_8 : decode cX2_areTwo 8 = .ok (.aload_n 0, 1) := dk_42 (dk_at dksX2_areTwo_0 8 rfl rfl)
theorem dX2_areTwo_9 : decode cX2_areTwo 9 = .ok (.iload_n 2, 1) := dk_28 (dk_at dksX2_areTwo_0 9 rfl rfl)
theorem dX2_areTwo_10 : decode cX2_areTwo 10 = .ok (.invokevirtual 309, 3) := dk_182 1 53 (dk_at dksX2_areTwo_0 10 rfl rfl)
theorem dX2_areTwo_13 : decode cX2_areTwo 13 = .ok (.ifCond .eq 12, 3) := dk_153 0 12 (dk_at dksX2_areTwo_0 13 rfl rfl)
theorem dX2_areTwo_16 : decode cX2_areTwo 16 = .ok (.iload_n 1, 1) := dk_27 (dk_at dksX2_areTwo_0 16 rfl rfl)
theorem dX2_areTwo_17 : decode cX2_areTwo 17 = .ok (.iload_n 2, 1) := dk_28 (dk_at dksX2_areTwo_0 17 rfl rfl)
theorem dX2_areTwo_18 : decode cX2_areTwo 18 = .ok (.if_icmp .eq 7, 3) := dk_159 0 7 (dk_at dksX2_areTwo_0 18 rfl rfl)
theorem dX2_areTwo_21 : decode cX2_areTwo 21 = .ok (.iconst 1, 1) := dk_4 (dk_at dksX2_areTwo_0 21 rfl rfl)
theorem dX2_areTwo_22 : decode cX2_areTwo 22 = .ok (.goto 4, 3) := dk_167 0 4 (dk_at dksX2_areTwo_1 0 rfl rfl)
theorem dX2_areTwo_25 : decode cX2_areTwo 25 = .ok (.iconst 0, 1) := dk_3 (dk_at dksX2_areTwo_1 3 rfl rfl)
theorem dX2_areTwo_26 : decode cX2_areTwo 26 = .ok (.ireturn, 1) := dk_172 (dk_at dksX2_areTwo_1 4 rfl rfl)
abbrev cX2_isAhead : ByteArray := prog_15_method_58_code
def yX2_isAhead : MethodName := ⟨RX2, "isAhead", "([IIII)Z"⟩
def dkwX2_isAhead_1 : List UInt8 := [172]
abbrev dktX2_isAhead_1 : List UInt8 := dkwX2_isAhead_1 ++ []
def dkwX2_isAhead_0 : List UInt8 := [42, 43, 28, 21, 4, 182, 1, 38, 42, 43, 29, 21, 4, 182, 1, 38, 162, 0, 7, 4, 167, 0, 4, 3]
abbrev dktX2_isAhead_0 : List UInt8 := dkwX2_isAhead_0 ++ dktX2_isAhead_1
theorem dksX2_isAhead_0 : cX2_isAhead.data.toList.drop 0 = dktX2_isAhead_0 := by decide +kernel
theorem dksX2_isAhead_1 : cX2_isAhead.data.toList.drop 24 = dktX2_isAhead_1 := dk_seg dksX2_isAhead_0 24 rfl rfl
theorem dX2_isAhead_0 : decode cX2_isAhead 0 = .ok (.aload_n 0, 1) := dk_42 (dk_at dksX2_isAhead_0 0 rfl rfl)
theorem dX2_isAhead_1 : decode cX2_isAhead 1 = .ok (.aload_n 1, 1) := dk_43 (dk_at dksX2_isAhead_0 1 rfl rfl)
theorem dX2_isAhead_2 : decode cX2_isAhead 2 = .ok (.iload_n 2, 1) := dk_28 (dk_at dksX2_isAhead_0 2 rfl rfl)
theorem dX2_isAhead_3 : decode cX2_isAhead 3 = .ok (.iload 4, 2) := dk_21 4 (dk_at dksX2_isAhead_0 3 rfl rfl)
theorem dX2_isAhead_5 : decode cX2_isAhead 5 = .ok (.invokevirtual 294, 3) := dk_182 1 38 (dk_at dksX2_isAhead_0 5 rfl rfl)
theorem dX2_isAhead_8 : decode cX2_isAhead 8 = .ok (.aload_n 0, 1) := dk_42 (dk_at dksX2_isAhead_0 8 rfl rfl)
theorem dX2_isAhead_9 : decode cX2_isAhead 9 = .ok (.aload_n 1, 1) := dk_43 (dk_at dksX2_isAhead_0 9 rfl rfl)
theorem dX2_isAhead_10 : decode cX2_isAhead 10 = .ok (.iload_n 3, 1) := dk_29 (dk_at dksX2_isAhead_0 10 rfl rfl)
theorem dX2_isAhead_11 : decode cX2_isAhead 11 = .ok (.iload 4, 2) := dk_21 4 (dk_at dksX2_isAhead_0 11 rfl rfl)
theorem dX2_isAhead_13 : decode cX2_isAhead 13 = .ok (.invokevirtual 294, 3) := dk_182 1 38 (dk_at dksX2_isAhead_0 13 rfl rfl)
theorem dX2_isAhead_16 : decode cX2_isAhead 16 = .ok (.if_icmp .ge 7, 3) := dk_162 0 7 (dk_at dksX2_isAhead_0 16 rfl rfl)
theorem dX2_isAhead_19 : decode cX2_isAhead 19 = .ok (.iconst 1, 1) := dk_4 (dk_at dksX2_isAhead_0 19 rfl rfl)
theorem dX2_isAhead_20 : decode cX2_isAhead 20 = .ok (.goto 4, 3) := dk_167 0 4 (dk_at dksX2_isAhead_0 20 rfl rfl)
theorem dX2_isAhead_23 : decode cX2_isAhead 23 = .ok (.iconst 0, 1) := dk_3 (dk_at dksX2_isAhead_0 23 rfl rfl)
theorem dX2_isAhead_24 : decode cX2_isAhead 24 = .ok (.ireturn, 1) := dk_172 (dk_at dksX2_isAhead_1 0 rfl rfl)
abbrev cX2_passes : ByteArray := prog_15_method_74_code
def yX2_passes : MethodName := ⟨RX2, "passes", "()I"⟩
def dkwX2_passes_5 : List UInt8 := [167, 255, 163, 27, 172]
abbrev dktX2_passes_5 : List UInt8 := dkwX2_passes_5 ++ []
def dkwX2_passes_4 : List UInt8 := [4, 167, 0, 4, 3, 96, 60, 132, 4, 1, 167, 255, 201, 132, 3, 1, 167, 255, 181, 132, 2, 1]
abbrev dktX2_passes_4 : List UInt8 := dkwX2_passes_4 ++ dktX2_passes_5
def dkwX2_passes_3 : List UInt8 := [28, 4, 100, 182, 1, 72, 153, 0, 22, 42, 42, 180, 0, 26, 21, 4, 29, 28, 182, 1, 72, 153, 0, 7]
abbrev dktX2_passes_3 : List UInt8 := dkwX2_passes_3 ++ dktX2_passes_4
def dkwX2_passes_2 : List UInt8 := [3, 54, 4, 21, 4, 42, 180, 0, 20, 16, 6, 46, 162, 0, 49, 27, 42, 42, 180, 0, 26, 29, 21, 4]
abbrev dktX2_passes_2 : List UInt8 := dkwX2_passes_2 ++ dktX2_passes_3
def dkwX2_passes_1 : List UInt8 := [61, 28, 42, 180, 0, 20, 8, 46, 162, 0, 89, 3, 62, 29, 42, 180, 0, 20, 16, 6, 46, 162, 0, 70]
abbrev dktX2_passes_1 : List UInt8 := dkwX2_passes_1 ++ dktX2_passes_2
def dkwX2_passes_0 : List UInt8 := [42, 182, 0, 163, 42, 182, 1, 50, 42, 180, 0, 176, 154, 0, 9, 42, 4, 182, 0, 166, 172, 3, 60, 4]
abbrev dktX2_passes_0 : List UInt8 := dkwX2_passes_0 ++ dktX2_passes_1
theorem dksX2_passes_0 : cX2_passes.data.toList.drop 0 = dktX2_passes_0 := by decide +kernel
theorem dksX2_passes_1 : cX2_passes.data.toList.drop 24 = dktX2_passes_1 := dk_seg dksX2_passes_0 24 rfl rfl
theorem dksX2_passes_2 : cX2_passes.data.toList.drop 48 = dktX2_passes_2 := dk_seg dksX2_passes_1 24 rfl rfl
theorem dksX2_passes_3 : cX2_passes.data.toList.drop 72 = dktX2_passes_3 := dk_seg dksX2_passes_2 24 rfl rfl
theorem dksX2_passes_4 : cX2_passes.data.toList.drop 96 = dktX2_passes_4 := dk_seg dksX2_passes_3 24 rfl rfl
theorem dksX2_passes_5 : cX2_passes.data.toList.drop 118 = dktX2_passes_5 := dk_seg dksX2_passes_4 22 rfl rfl
theorem dX2_passes_0 : decode cX2_passes 0 = .ok (.aload_n 0, 1) := dk_42 (dk_at dksX2_passes_0 0 rfl rfl)
theorem dX2_passes_1 : decode cX2_passes 1 = .ok (.invokevirtual 163, 3) := dk_182 0 163 (dk_at dksX2_passes_0 1 rfl rfl)
theorem dX2_passes_4 : decode cX2_passes 4 = .ok (.aload_n 0, 1) := dk_42 (dk_at dksX2_passes_0 4 rfl rfl)
theorem dX2_passes_5 : decode cX2_passes 5 = .ok (.invokevirtual 306, 3) := dk_182 1 50 (dk_at dksX2_passes_0 5 rfl rfl)
theorem dX2_passes_8 : decode cX2_passes 8 = .ok (.aload_n 0, 1) := dk_42 (dk_at dksX2_passes_0 8 rfl rfl)
theorem dX2_passes_9 : decode cX2_passes 9 = .ok (.getfield 176, 3) := dk_180 0 176 (dk_at dksX2_passes_0 9 rfl rfl)
theorem dX2_passes_12 : decode cX2_passes 12 = .ok (.ifCond .ne 9, 3) := dk_154 0 9 (dk_at dksX2_passes_0 12 rfl rfl)
theorem dX2_passes_15 : decode cX2_passes 15 = .ok (.aload_n 0, 1) := dk_42 (dk_at dksX2_passes_0 15 rfl rfl)
theorem dX2_passes_16 : decode cX2_passes 16 = .ok (.iconst 1, 1) := dk_4 (dk_at dksX2_passes_0 16 rfl rfl)
theorem dX2_passes_17 : decode cX2_passes 17 = .ok (.invokevirtual 166, 3) := dk_182 0 166 (dk_at dksX2_passes_0 17 rfl rfl)
theorem dX2_passes_20 : decode cX2_passes 20 = .ok (.ireturn, 1) := dk_172 (dk_at dksX2_passes_0 20 rfl rfl)
theorem dX2_passes_21 : decode cX2_passes 21 = .ok (.iconst 0, 1) := dk_3 (dk_at dksX2_passes_0 21 rfl rfl)
theorem dX2_passes_22 : decode cX2_passes 22 = .ok (.istore_n 1, 1) := dk_60 (dk_at dksX2_passes_0 22 rfl rfl)
theorem dX2_passes_23 : decode cX2_passes 23 = .ok (.iconst 1, 1) := dk_4 (dk_at dksX2_passes_0 23 rfl rfl)
theorem dX2_passes_24 : decode cX2_passes 24 = .ok (.istore_n 2, 1) := dk_61 (dk_at dksX2_passes_1 0 rfl rfl)
theorem dX2_passes_25 : decode cX2_passes 25 = .ok (.iload_n 2, 1) := dk_28 (dk_at dksX2_passes_1 1 rfl rfl)
theorem dX2_passes_26 : decode cX2_passes 26 = .ok (.aload_n 0, 1) := dk_42 (dk_at dksX2_passes_1 2 rfl rfl)
theorem dX2_passes_27 : decode cX2_passes 27 = .ok (.getfield 20, 3) := dk_180 0 20 (dk_at dksX2_passes_1 3 rfl rfl)
theorem dX2_passes_30 : decode cX2_passes 30 = .ok (.iconst 5, 1) := dk_8 (dk_at dksX2_passes_1 6 rfl rfl)
theorem dX2_passes_31 : decode cX2_passes 31 = .ok (.iaload, 1) := dk_46 (dk_at dksX2_passes_1 7 rfl rfl)
theorem dX2_passes_32 : decode cX2_passes 32 = .ok (.if_icmp .ge 89, 3) := dk_162 0 89 (dk_at dksX2_passes_1 8 rfl rfl)
theorem dX2_passes_35 : decode cX2_passes 35 = .ok (.iconst 0, 1) := dk_3 (dk_at dksX2_passes_1 11 rfl rfl)
theorem dX2_passes_36 : decode cX2_passes 36 = .ok (.istore_n 3, 1) := dk_62 (dk_at dksX2_passes_1 12 rfl rfl)
theorem dX2_passes_37 : decode cX2_passes 37 = .ok (.iload_n 3, 1) := dk_29 (dk_at dksX2_passes_1 13 rfl rfl)
theorem dX2_passes_38 : decode cX2_passes 38 = .ok (.aload_n 0, 1) := dk_42 (dk_at dksX2_passes_1 14 rfl rfl)
theorem dX2_passes_39 : decode cX2_passes 39 = .ok (.getfield 20, 3) := dk_180 0 20 (dk_at dksX2_passes_1 15 rfl rfl)
theorem dX2_passes_42 : decode cX2_passes 42 = .ok (.bipush 6, 2) := dk_16 6 (dk_at dksX2_passes_1 18 rfl rfl)
theorem dX2_passes_44 : decode cX2_passes 44 = .ok (.iaload, 1) := dk_46 (dk_at dksX2_passes_1 20 rfl rfl)
theorem dX2_passes_45 : decode cX2_passes 45 = .ok (.if_icmp .ge 70, 3) := dk_162 0 70 (dk_at dksX2_passes_1 21 rfl rfl)
theorem dX2_passes_48 : decode cX2_passes 48 = .ok (.iconst 0, 1) := dk_3 (dk_at dksX2_passes_2 0 rfl rfl)
theorem dX2_passes_49 : decode cX2_passes 49 = .ok (.istore 4, 2) := dk_54 4 (dk_at dksX2_passes_2 1 rfl rfl)
theorem dX2_passes_51 : decode cX2_passes 51 = .ok (.iload 4, 2) := dk_21 4 (dk_at dksX2_passes_2 3 rfl rfl)
theorem dX2_passes_53 : decode cX2_passes 53 = .ok (.aload_n 0, 1) := dk_42 (dk_at dksX2_passes_2 5 rfl rfl)
theorem dX2_passes_54 : decode cX2_passes 54 = .ok (.getfield 20, 3) := dk_180 0 20 (dk_at dksX2_passes_2 6 rfl rfl)
theorem dX2_passes_57 : decode cX2_passes 57 = .ok (.bipush 6, 2) := dk_16 6 (dk_at dksX2_passes_2 9 rfl rfl)
theorem dX2_passes_59 : decode cX2_passes 59 = .ok (.iaload, 1) := dk_46 (dk_at dksX2_passes_2 11 rfl rfl)
theorem dX2_passes_60 : decode cX2_passes 60 = .ok (.if_icmp .ge 49, 3) := dk_162 0 49 (dk_at dksX2_passes_2 12 rfl rfl)
theorem dX2_passes_63 : decode cX2_passes 63 = .ok (.iload_n 1, 1) := dk_27 (dk_at dksX2_passes_2 15 rfl rfl)
theorem dX2_passes_64 : decode cX2_passes 64 = .ok (.aload_n 0, 1) := dk_42 (dk_at dksX2_passes_2 16 rfl rfl)
theorem dX2_passes_65 : decode cX2_passes 65 = .ok (.aload_n 0, 1) := dk_42 (dk_at dksX2_passes_2 17 rfl rfl)
theorem dX2_passes_66 : decode cX2_passes 66 = .ok (.getfield 26, 3) := dk_180 0 26 (dk_at dksX2_passes_2 18 rfl rfl)
theorem dX2_passes_69 : decode cX2_passes 69 = .ok (.iload_n 3, 1) := dk_29 (dk_at dksX2_passes_2 21 rfl rfl)
theorem dX2_passes_70 : decode cX2_passes 70 = .ok (.iload 4, 2) := dk_21 4 (dk_at dksX2_passes_2 22 rfl rfl)
theorem dX2_passes_72 : decode cX2_passes 72 = .ok (.iload_n 2, 1) := dk_28 (dk_at dksX2_passes_3 0 rfl rfl)
theorem dX2_passes_73 : decode cX2_passes 73 = .ok (.iconst 1, 1) := dk_4 (dk_at dksX2_passes_3 1 rfl rfl)
theorem dX2_passes_74 : decode cX2_passes 74 = .ok (.isub, 1) := dk_100 (dk_at dksX2_passes_3 2 rfl rfl)
theorem dX2_passes_75 : decode cX2_passes 75 = .ok (.invokevirtual 328, 3) := dk_182 1 72 (dk_at dksX2_passes_3 3 rfl rfl)
theorem dX2_passes_78 : decode cX2_passes 78 = .ok (.ifCond .eq 22, 3) := dk_153 0 22 (dk_at dksX2_passes_3 6 rfl rfl)
theorem dX2_passes_81 : decode cX2_passes 81 = .ok (.aload_n 0, 1) := dk_42 (dk_at dksX2_passes_3 9 rfl rfl)
theorem dX2_passes_82 : decode cX2_passes 82 = .ok (.aload_n 0, 1) := dk_42 (dk_at dksX2_passes_3 10 rfl rfl)
theorem dX2_passes_83 : decode cX2_passes 83 = .ok (.getfield 26, 3) := dk_180 0 26 (dk_at dksX2_passes_3 11 rfl rfl)
theorem dX2_passes_86 : decode cX2_passes 86 = .ok (.iload 4, 2) := dk_21 4 (dk_at dksX2_passes_3 14 rfl rfl)
theorem dX2_passes_88 : decode cX2_passes 88 = .ok (.iload_n 3, 1) := dk_29 (dk_at dksX2_passes_3 16 rfl rfl)
theorem dX2_passes_89 : decode cX2_passes 89 = .ok (.iload_n 2, 1) := dk_28 (dk_at dksX2_passes_3 17 rfl rfl)
theorem dX2_passes_90 : decode cX2_passes 90 = .ok (.invokevirtual 328, 3) := dk_182 1 72 (dk_at dksX2_passes_3 18 rfl rfl)
theorem dX2_passes_93 : decode cX2_passes 93 = .ok (.ifCond .eq 7, 3) := dk_153 0 7 (dk_at dksX2_passes_3 21 rfl rfl)
theorem dX2_passes_96 : decode cX2_passes 96 = .ok (.iconst 1, 1) := dk_4 (dk_at dksX2_passes_4 0 rfl rfl)
theorem dX2_passes_97 : decode cX2_passes 97 = .ok (.goto 4, 3) := dk_167 0 4 (dk_at dksX2_passes_4 1 rfl rfl)
theorem dX2_passes_100 : decode cX2_passes 100 = .ok (.iconst 0, 1) := dk_3 (dk_at dksX2_passes_4 4 rfl rfl)
theorem dX2_passes_101 : decode cX2_passes 101 = .ok (.iadd, 1) := dk_96 (dk_at dksX2_passes_4 5 rfl rfl)
theorem dX2_passes_102 : decode cX2_passes 102 = .ok (.istore_n 1, 1) := dk_60 (dk_at dksX2_passes_4 6 rfl rfl)
theorem dX2_passes_103 : decode cX2_passes 103 = .ok (.iinc 4 1, 3) := dk_132 4 1 (dk_at dksX2_passes_4 7 rfl rfl)
theorem dX2_passes_106 : decode cX2_passes 106 = .ok (.goto (-55), 3) := dk_167 255 201 (dk_at dksX2_passes_4 10 rfl rfl)
theorem dX2_passes_109 : decode cX2_passes 109 = .ok (.iinc 3 1, 3) := dk_132 3 1 (dk_at dksX2_passes_4 13 rfl rfl)
theorem dX2_passes_112 : decode cX2_passes 112 = .ok (.goto (-75), 3) := dk_167 255 181 (dk_at dksX2_passes_4 16 rfl rfl)
theorem dX2_passes_115 : decode cX2_passes 115 = .ok (.iinc 2 1, 3) := dk_132 2 1 (dk_at dksX2_passes_4 19 rfl rfl)
theorem dX2_passes_118 : decode cX2_passes 118 = .ok (.goto (-93), 3) := dk_167 255 163 (dk_at dksX2_passes_5 0 rfl rfl)
theorem dX2_passes_121 : decode cX2_passes 121 = .ok (.iload_n 1, 1) := dk_27 (dk_at dksX2_passes_5 3 rfl rfl)
theorem dX2_passes_122 : decode cX2_passes 122 = .ok (.ireturn, 1) := dk_172 (dk_at dksX2_passes_5 4 rfl rfl)
abbrev cX2_fastest : ByteArray := prog_15_method_75_code
def yX2_fastest : MethodName := ⟨RX2, "fastest", "(I)I"⟩
def dkwX2_fastest_2 : List UInt8 := [42, 180, 0, 26, 28, 27, 182, 1, 34, 162, 0, 5, 29, 61, 132, 3, 1, 167, 255, 217, 28, 172]
abbrev dktX2_fastest_2 : List UInt8 := dkwX2_fastest_2 ++ []
def dkwX2_fastest_1 : List UInt8 := [4, 62, 29, 42, 180, 0, 20, 16, 6, 46, 162, 0, 34, 42, 42, 180, 0, 26, 29, 27, 182, 1, 34, 42]
abbrev dktX2_fastest_1 : List UInt8 := dkwX2_fastest_1 ++ dktX2_fastest_2
def dkwX2_fastest_0 : List UInt8 := [42, 182, 0, 163, 42, 182, 1, 50, 42, 27, 182, 1, 59, 154, 0, 9, 42, 4, 182, 0, 166, 172, 3, 61]
abbrev dktX2_fastest_0 : List UInt8 := dkwX2_fastest_0 ++ dktX2_fastest_1
theorem dksX2_fastest_0 : cX2_fastest.data.toList.drop 0 = dktX2_fastest_0 := by decide +kernel
theorem dksX2_fastest_1 : cX2_fastest.data.toList.drop 24 = dktX2_fastest_1 := dk_seg dksX2_fastest_0 24 rfl rfl
theorem dksX2_fastest_2 : cX2_fastest.data.toList.drop 48 = dktX2_fastest_2 := dk_seg dksX2_fastest_1 24 rfl rfl
theorem dX2_fastest_0 : decode cX2_fastest 0 = .ok (.aload_n 0, 1) := dk_42 (dk_at dksX2_fastest_0 0 rfl rfl)
theorem dX2_fastest_1 : decode cX2_fastest 1 = .ok (.invokevirtual 163, 3) := dk_182 0 163 (dk_at dksX2_fastest_0 1 rfl rfl)
theorem dX2_fastest_4 : decode cX2_fastest 4 = .ok (.aload_n 0, 1) := dk_42 (dk_at dksX2_fastest_0 4 rfl rfl)
theorem dX2_fastest_5 : decode cX2_fastest 5 = .ok (.invokevirtual 306, 3) := dk_182 1 50 (dk_at dksX2_fastest_0 5 rfl rfl)
theorem dX2_fastest_8 : decode cX2_fastest 8 = .ok (.aload_n 0, 1) := dk_42 (dk_at dksX2_fastest_0 8 rfl rfl)
theorem dX2_fastest_9 : decode cX2_fastest 9 = .ok (.iload_n 1, 1) := dk_27 (dk_at dksX2_fastest_0 9 rfl rfl)
theorem dX2_fastest_10 : decode cX2_fastest 10 = .ok (.invokevirtual 315, 3) := dk_182 1 59 (dk_at dksX2_fastest_0 10 rfl rfl)
theorem dX2_fastest_13 : decode cX2_fastest 13 = .ok (.ifCond .ne 9, 3) := dk_154 0 9 (dk_at dksX2_fastest_0 13 rfl rfl)
theorem dX2_fastest_16 : decode cX2_fastest 16 = .ok (.aload_n 0, 1) := dk_42 (dk_at dksX2_fastest_0 16 rfl rfl)
theorem dX2_fastest_17 : decode cX2_fastest 17 = .ok (.iconst 1, 1) := dk_4 (dk_at dksX2_fastest_0 17 rfl rfl)
theorem dX2_fastest_18 : decode cX2_fastest 18 = .ok (.invokevirtual 166, 3) := dk_182 0 166 (dk_at dksX2_fastest_0 18 rfl rfl)
theorem dX2_fastest_21 : decode cX2_fastest 21 = .ok (.ireturn, 1) := dk_172 (dk_at dksX2_fastest_0 21 rfl rfl)
theorem dX2_fastest_22 : decode cX2_fastest 22 = .ok (.iconst 0, 1) := dk_3 (dk_at dksX2_fastest_0 22 rfl rfl)
theorem dX2_fastest_23 : decode cX2_fastest 23 = .ok (.istore_n 2, 1) := dk_61 (dk_at dksX2_fastest_0 23 rfl rfl)
theorem dX2_fastest_24 : decode cX2_fastest 24 = .ok (.iconst 1, 1) := dk_4 (dk_at dksX2_fastest_1 0 rfl rfl)
theorem dX2_fastest_25 : decode cX2_fastest 25 = .ok (.istore_n 3, 1) := dk_62 (dk_at dksX2_fastest_1 1 rfl rfl)
theorem dX2_fastest_26 : decode cX2_fastest 26 = .ok (.iload_n 3, 1) := dk_29 (dk_at dksX2_fastest_1 2 rfl rfl)
theorem dX2_fastest_27 : decode cX2_fastest 27 = .ok (.aload_n 0, 1) := dk_42 (dk_at dksX2_fastest_1 3 rfl rfl)
theorem dX2_fastest_28 : decode cX2_fastest 28 = .ok (.getfield 20, 3) := dk_180 0 20 (dk_at dksX2_fastest_1 4 rfl rfl)
theorem dX2_fastest_31 : decode cX2_fastest 31 = .ok (.bipush 6, 2) := dk_16 6 (dk_at dksX2_fastest_1 7 rfl rfl)
theorem dX2_fastest_33 : decode cX2_fastest 33 = .ok (.iaload, 1) := dk_46 (dk_at dksX2_fastest_1 9 rfl rfl)
theorem dX2_fastest_34 : decode cX2_fastest 34 = .ok (.if_icmp .ge 34, 3) := dk_162 0 34 (dk_at dksX2_fastest_1 10 rfl rfl)
theorem dX2_fastest_37 : decode cX2_fastest 37 = .ok (.aload_n 0, 1) := dk_42 (dk_at dksX2_fastest_1 13 rfl rfl)
theorem dX2_fastest_38 : decode cX2_fastest 38 = .ok (.aload_n 0, 1) := dk_42 (dk_at dksX2_fastest_1 14 rfl rfl)
theorem dX2_fastest_39 : decode cX2_fastest 39 = .ok (.getfield 26, 3) := dk_180 0 26 (dk_at dksX2_fastest_1 15 rfl rfl)
theorem dX2_fastest_42 : decode cX2_fastest 42 = .ok (.iload_n 3, 1) := dk_29 (dk_at dksX2_fastest_1 18 rfl rfl)
theorem dX2_fastest_43 : decode cX2_fastest 43 = .ok (.iload_n 1, 1) := dk_27 (dk_at dksX2_fastest_1 19 rfl rfl)
theorem dX2_fastest_44 : decode cX2_fastest 44 = .ok (.invokevirtual 290, 3) := dk_182 1 34 (dk_at dksX2_fastest_1 20 rfl rfl)
theorem dX2_fastest_47 : decode cX2_fastest 47 = .ok (.aload_n 0, 1) := dk_42 (dk_at dksX2_fastest_1 23 rfl rfl)
theorem dX2_fastest_48 : decode cX2_fastest 48 = .ok (.aload_n 0, 1) := dk_42 (dk_at dksX2_fastest_2 0 rfl rfl)
theorem dX2_fastest_49 : decode cX2_fastest 49 = .ok (.getfield 26, 3) := dk_180 0 26 (dk_at dksX2_fastest_2 1 rfl rfl)
theorem dX2_fastest_52 : decode cX2_fastest 52 = .ok (.iload_n 2, 1) := dk_28 (dk_at dksX2_fastest_2 4 rfl rfl)
theorem dX2_fastest_53 : decode cX2_fastest 53 = .ok (.iload_n 1, 1) := dk_27 (dk_at dksX2_fastest_2 5 rfl rfl)
theorem dX2_fastest_54 : decode cX2_fastest 54 = .ok (.invokevirtual 290, 3) := dk_182 1 34 (dk_at dksX2_fastest_2 6 rfl rfl)
theorem dX2_fastest_57 : decode cX2_fastest 57 = .ok (.if_icmp .ge 5, 3) := dk_162 0 5 (dk_at dksX2_fastest_2 9 rfl rfl)
theorem dX2_fastest_60 : decode cX2_fastest 60 = .ok (.iload_n 3, 1) := dk_29 (dk_at dksX2_fastest_2 12 rfl rfl)
theorem dX2_fastest_61 : decode cX2_fastest 61 = .ok (.istore_n 2, 1) := dk_61 (dk_at dksX2_fastest_2 13 rfl rfl)
theorem dX2_fastest_62 : decode cX2_fastest 62 = .ok (.iinc 3 1, 3) := dk_132 3 1 (dk_at dksX2_fastest_2 14 rfl rfl)
theorem dX2_fastest_65 : decode cX2_fastest 65 = .ok (.goto (-39), 3) := dk_167 255 217 (dk_at dksX2_fastest_2 17 rfl rfl)
theorem dX2_fastest_68 : decode cX2_fastest 68 = .ok (.iload_n 2, 1) := dk_28 (dk_at dksX2_fastest_2 20 rfl rfl)
theorem dX2_fastest_69 : decode cX2_fastest 69 = .ok (.ireturn, 1) := dk_172 (dk_at dksX2_fastest_2 21 rfl rfl)
abbrev cX2_leader : ByteArray := prog_15_method_76_code
def yX2_leader : MethodName := ⟨RX2, "leader", "(I)I"⟩
def dkwX2_leader_2 : List UInt8 := [153, 0, 5, 29, 61, 132, 3, 1, 167, 255, 226, 28, 172]
abbrev dktX2_leader_2 : List UInt8 := dkwX2_leader_2 ++ []
def dkwX2_leader_1 : List UInt8 := [4, 62, 29, 42, 180, 0, 20, 16, 6, 46, 162, 0, 25, 42, 42, 180, 0, 26, 29, 28, 27, 182, 1, 72]
abbrev dktX2_leader_1 : List UInt8 := dkwX2_leader_1 ++ dktX2_leader_2
def dkwX2_leader_0 : List UInt8 := [42, 182, 0, 163, 42, 182, 1, 50, 42, 27, 182, 1, 59, 154, 0, 9, 42, 4, 182, 0, 166, 172, 3, 61]
abbrev dktX2_leader_0 : List UInt8 := dkwX2_leader_0 ++ dktX2_leader_1
theorem dksX2_leader_0 : cX2_leader.data.toList.drop 0 = dktX2_leader_0 := by decide +kernel
theorem dksX2_leader_1 : cX2_leader.data.toList.drop 24 = dktX2_leader_1 := dk_seg dksX2_leader_0 24 rfl rfl
theorem dksX2_leader_2 : cX2_leader.data.toList.drop 48 = dktX2_leader_2 := dk_seg dksX2_leader_1 24 rfl rfl
theorem dX2_leader_0 : decode cX2_leader 0 = .ok (.aload_n 0, 1) := dk_42 (dk_at dksX2_leader_0 0 rfl rfl)
theorem dX2_leader_1 : decode cX2_leader 1 = .ok (.invokevirtual 163, 3) := dk_182 0 163 (dk_at dksX2_leader_0 1 rfl rfl)
theorem dX2_leader_4 : decode cX2_leader 4 = .ok (.aload_n 0, 1) := dk_42 (dk_at dksX2_leader_0 4 rfl rfl)
theorem dX2_leader_5 : decode cX2_leader 5 = .ok (.invokevirtual 306, 3) := dk_182 1 50 (dk_at dksX2_leader_0 5 rfl rfl)
theorem dX2_leader_8 : decode cX2_leader 8 = .ok (.aload_n 0, 1) := dk_42 (dk_at dksX2_leader_0 8 rfl rfl)
theorem dX2_leader_9 : decode cX2_leader 9 = .ok (.iload_n 1, 1) := dk_27 (dk_at dksX2_leader_0 9 rfl rfl)
theorem dX2_leader_10 : decode cX2_leader 10 = .ok (.invokevirtual 315, 3) := dk_182 1 59 (dk_at dksX2_leader_0 10 rfl rfl)
theorem dX2_leader_13 : decode cX2_leader 13 = .ok (.ifCond .ne 9, 3) := dk_154 0 9 (dk_at dksX2_leader_0 13 rfl rfl)
theorem dX2_leader_16 : decode cX2_leader 16 = .ok (.aload_n 0, 1) := dk_42 (dk_at dksX2_leader_0 16 rfl rfl)
theorem dX2_leader_17 : decode cX2_leader 17 = .ok (.iconst 1, 1) := dk_4 (dk_at dksX2_leader_0 17 rfl rfl)
theorem dX2_leader_18 : decode cX2_leader 18 = .ok (.invokevirtual 166, 3) := dk_182 0 166 (dk_at dksX2_leader_0 18 rfl rfl)
theorem dX2_leader_21 : decode cX2_leader 21 = .ok (.ireturn, 1) := dk_172 (dk_at dksX2_leader_0 21 rfl rfl)
theorem dX2_leader_22 : decode cX2_leader 22 = .ok (.iconst 0, 1) := dk_3 (dk_at dksX2_leader_0 22 rfl rfl)
theorem dX2_leader_23 : decode cX2_leader 23 = .ok (.istore_n 2, 1) := dk_61 (dk_at dksX2_leader_0 23 rfl rfl)
theorem dX2_leader_24 : decode cX2_leader 24 = .ok (.iconst 1, 1) := dk_4 (dk_at dksX2_leader_1 0 rfl rfl)
theorem dX2_leader_25 : decode cX2_leader 25 = .ok (.istore_n 3, 1) := dk_62 (dk_at dksX2_leader_1 1 rfl rfl)
theorem dX2_leader_26 : decode cX2_leader 26 = .ok (.iload_n 3, 1) := dk_29 (dk_at dksX2_leader_1 2 rfl rfl)
theorem dX2_leader_27 : decode cX2_leader 27 = .ok (.aload_n 0, 1) := dk_42 (dk_at dksX2_leader_1 3 rfl rfl)
theorem dX2_leader_28 : decode cX2_leader 28 = .ok (.getfield 20, 3) := dk_180 0 20 (dk_at dksX2_leader_1 4 rfl rfl)
theorem dX2_leader_31 : decode cX2_leader 31 = .ok (.bipush 6, 2) := dk_16 6 (dk_at dksX2_leader_1 7 rfl rfl)
theorem dX2_leader_33 : decode cX2_leader 33 = .ok (.iaload, 1) := dk_46 (dk_at dksX2_leader_1 9 rfl rfl)
theorem dX2_leader_34 : decode cX2_leader 34 = .ok (.if_icmp .ge 25, 3) := dk_162 0 25 (dk_at dksX2_leader_1 10 rfl rfl)
theorem dX2_leader_37 : decode cX2_leader 37 = .ok (.aload_n 0, 1) := dk_42 (dk_at dksX2_leader_1 13 rfl rfl)
theorem dX2_leader_38 : decode cX2_leader 38 = .ok (.aload_n 0, 1) := dk_42 (dk_at dksX2_leader_1 14 rfl rfl)
theorem dX2_leader_39 : decode cX2_leader 39 = .ok (.getfield 26, 3) := dk_180 0 26 (dk_at dksX2_leader_1 15 rfl rfl)
theorem dX2_leader_42 : decode cX2_leader 42 = .ok (.iload_n 3, 1) := dk_29 (dk_at dksX2_leader_1 18 rfl rfl)
theorem dX2_leader_43 : decode cX2_leader 43 = .ok (.iload_n 2, 1) := dk_28 (dk_at dksX2_leader_1 19 rfl rfl)
theorem dX2_leader_44 : decode cX2_leader 44 = .ok (.iload_n 1, 1) := dk_27 (dk_at dksX2_leader_1 20 rfl rfl)
theorem dX2_leader_45 : decode cX2_leader 45 = .ok (.invokevirtual 328, 3) := dk_182 1 72 (dk_at dksX2_leader_1 21 rfl rfl)
theorem dX2_leader_48 : decode cX2_leader 48 = .ok (.ifCond .eq 5, 3) := dk_153 0 5 (dk_at dksX2_leader_2 0 rfl rfl)
theorem dX2_leader_51 : decode cX2_leader 51 = .ok (.iload_n 3, 1) := dk_29 (dk_at dksX2_leader_2 3 rfl rfl)
theorem dX2_leader_52 : decode cX2_leader 52 = .ok (.istore_n 2, 1) := dk_61 (dk_at dksX2_leader_2 4 rfl rfl)
theorem dX2_leader_53 : decode cX2_leader 53 = .ok (.iinc 3 1, 3) := dk_132 3 1 (dk_at dksX2_leader_2 5 rfl rfl)
theorem dX2_leader_56 : decode cX2_leader 56 = .ok (.goto (-30), 3) := dk_167 255 226 (dk_at dksX2_leader_2 8 rfl rfl)
theorem dX2_leader_59 : decode cX2_leader 59 = .ok (.iload_n 2, 1) := dk_28 (dk_at dksX2_leader_2 11 rfl rfl)
theorem dX2_leader_60 : decode cX2_leader 60 = .ok (.ireturn, 1) := dk_172 (dk_at dksX2_leader_2 12 rfl rfl)
abbrev cX2_storey : ByteArray := prog_15_method_77_code
def yX2_storey : MethodName := ⟨RX2, "storey", "(I)I"⟩
def dkwX2_storey_2 : List UInt8 := [167, 0, 4, 3, 172]
abbrev dktX2_storey_2 : List UInt8 := dkwX2_storey_2 ++ []
def dkwX2_storey_1 : List UInt8 := [158, 0, 26, 42, 27, 182, 1, 28, 42, 180, 0, 20, 4, 46, 164, 0, 12, 42, 180, 0, 20, 5, 46]
abbrev dktX2_storey_1 : List UInt8 := dkwX2_storey_1 ++ dktX2_storey_2
def dkwX2_storey_0 : List UInt8 := [42, 182, 0, 163, 42, 27, 182, 1, 53, 154, 0, 9, 42, 4, 182, 0, 166, 172, 42, 180, 0, 20, 8, 46]
abbrev dktX2_storey_0 : List UInt8 := dkwX2_storey_0 ++ dktX2_storey_1
theorem dksX2_storey_0 : cX2_storey.data.toList.drop 0 = dktX2_storey_0 := by decide +kernel
theorem dksX2_storey_1 : cX2_storey.data.toList.drop 24 = dktX2_storey_1 := dk_seg dksX2_storey_0 24 rfl rfl
theorem dksX2_storey_2 : cX2_storey.data.toList.drop 47 = dktX2_storey_2 := dk_seg dksX2_storey_1 23 rfl rfl
theorem dX2_storey_0 : decode cX2_storey 0 = .ok (.aload_n 0, 1) := dk_42 (dk_at dksX2_storey_0 0 rfl rfl)
theorem dX2_storey_1 : decode cX2_storey 1 = .ok (.invokevirtual 163, 3) := dk_182 0 163 (dk_at dksX2_storey_0 1 rfl rfl)
theorem dX2_storey_4 : decode cX2_storey 4 = .ok (.aload_n 0, 1) := dk_42 (dk_at dksX2_storey_0 4 rfl rfl)
theorem dX2_storey_5 : decode cX2_storey 5 = .ok (.iload_n 1, 1) := dk_27 (dk_at dksX2_storey_0 5 rfl rfl)
theorem dX2_storey_6 : decode cX2_storey 6 = .ok (.invokevirtual 309, 3) := dk_182 1 53 (dk_at dksX2_storey_0 6 rfl rfl)
theorem dX2_storey_9 : decode cX2_storey 9 = .ok (.ifCond .ne 9, 3) := dk_154 0 9 (dk_at dksX2_storey_0 9 rfl rfl)
theorem dX2_storey_12 : decode cX2_storey 12 = .ok (.aload_n 0, 1) := dk_42 (dk_at dksX2_storey_0 12 rfl rfl)
theorem dX2_storey_13 : decode cX2_storey 13 = .ok (.iconst 1, 1) := dk_4 (dk_at dksX2_storey_0 13 rfl rfl)
theorem dX2_storey_14 : decode cX2_storey 14 = .ok (.invokevirtual 166, 3) := dk_182 0 166 (dk_at dksX2_storey_0 14 rfl rfl)
theorem dX2_storey_17 : decode cX2_storey 17 = .ok (.ireturn, 1) := dk_172 (dk_at dksX2_storey_0 17 rfl rfl)
theorem dX2_storey_18 : decode cX2_storey 18 = .ok (.aload_n 0, 1) := dk_42 (dk_at dksX2_storey_0 18 rfl rfl)
theorem dX2_storey_19 : decode cX2_storey 19 = .ok (.getfield 20, 3) := dk_180 0 20 (dk_at dksX2_storey_0 19 rfl rfl)
theorem dX2_storey_22 : decode cX2_storey 22 = .ok (.iconst 5, 1) := dk_8 (dk_at dksX2_storey_0 22 rfl rfl)
theorem dX2_storey_23 : decode cX2_storey 23 = .ok (.iaload, 1) := dk_46 (dk_at dksX2_storey_0 23 rfl rfl)
theorem dX2_storey_24 : decode cX2_storey 24 = .ok (.ifCond .le 26, 3) := dk_158 0 26 (dk_at dksX2_storey_1 0 rfl rfl)
theorem dX2_storey_27 : decode cX2_storey 27 = .ok (.aload_n 0, 1) := dk_42 (dk_at dksX2_storey_1 3 rfl rfl)
theorem dX2_storey_28 : decode cX2_storey 28 = .ok (.iload_n 1, 1) := dk_27 (dk_at dksX2_storey_1 4 rfl rfl)
theorem dX2_storey_29 : decode cX2_storey 29 = .ok (.invokevirtual 284, 3) := dk_182 1 28 (dk_at dksX2_storey_1 5 rfl rfl)
theorem dX2_storey_32 : decode cX2_storey 32 = .ok (.aload_n 0, 1) := dk_42 (dk_at dksX2_storey_1 8 rfl rfl)
theorem dX2_storey_33 : decode cX2_storey 33 = .ok (.getfield 20, 3) := dk_180 0 20 (dk_at dksX2_storey_1 9 rfl rfl)
theorem dX2_storey_36 : decode cX2_storey 36 = .ok (.iconst 1, 1) := dk_4 (dk_at dksX2_storey_1 12 rfl rfl)
theorem dX2_storey_37 : decode cX2_storey 37 = .ok (.iaload, 1) := dk_46 (dk_at dksX2_storey_1 13 rfl rfl)
theorem dX2_storey_38 : decode cX2_storey 38 = .ok (.if_icmp .le 12, 3) := dk_164 0 12 (dk_at dksX2_storey_1 14 rfl rfl)
theorem dX2_storey_41 : decode cX2_storey 41 = .ok (.aload_n 0, 1) := dk_42 (dk_at dksX2_storey_1 17 rfl rfl)
theorem dX2_storey_42 : decode cX2_storey 42 = .ok (.getfield 20, 3) := dk_180 0 20 (dk_at dksX2_storey_1 18 rfl rfl)
theorem dX2_storey_45 : decode cX2_storey 45 = .ok (.iconst 2, 1) := dk_5 (dk_at dksX2_storey_1 21 rfl rfl)
theorem dX2_storey_46 : decode cX2_storey 46 = .ok (.iaload, 1) := dk_46 (dk_at dksX2_storey_1 22 rfl rfl)
theorem dX2_storey_47 : decode cX2_storey 47 = .ok (.goto 4, 3) := dk_167 0 4 (dk_at dksX2_storey_2 0 rfl rfl)
theorem dX2_storey_50 : decode cX2_storey 50 = .ok (.iconst 0, 1) := dk_3 (dk_at dksX2_storey_2 3 rfl rfl)
theorem dX2_storey_51 : decode cX2_storey 51 = .ok (.ireturn, 1) := dk_172 (dk_at dksX2_storey_2 4 rfl rfl)
abbrev cX2_together : ByteArray := prog_15_method_78_code
def yX2_together : MethodName := ⟨RX2, "together", "()I"⟩
def dkwX2_together_1 : List UInt8 := [182, 0, 166, 172]
abbrev dktX2_together_1 : List UInt8 := dkwX2_together_1 ++ []
def dkwX2_together_0 : List UInt8 := [42, 182, 0, 163, 42, 180, 0, 176, 153, 0, 14, 42, 42, 180, 0, 26, 182, 1, 76, 167, 0, 8, 42, 4]
abbrev dktX2_together_0 : List UInt8 := dkwX2_together_0 ++ dktX2_together_1
theorem dksX2_together_0 : cX2_together.data.toList.drop 0 = dktX2_together_0 := by decide +kernel
theorem dksX2_together_1 : cX2_together.data.toList.drop 24 = dktX2_together_1 := dk_seg dksX2_together_0 24 rfl rfl
theorem dX2_together_0 : decode cX2_together 0 = .ok (.aload_n 0, 1) := dk_42 (dk_at dksX2_together_0 0 rfl rfl)
theorem dX2_together_1 : decode cX2_together 1 = .ok (.invokevirtual 163, 3) := dk_182 0 163 (dk_at dksX2_together_0 1 rfl rfl)
theorem dX2_together_4 : decode cX2_together 4 = .ok (.aload_n 0, 1) := dk_42 (dk_at dksX2_together_0 4 rfl rfl)
theorem dX2_together_5 : decode cX2_together 5 = .ok (.getfield 176, 3) := dk_180 0 176 (dk_at dksX2_together_0 5 rfl rfl)
theorem dX2_together_8 : decode cX2_together 8 = .ok (.ifCond .eq 14, 3) := dk_153 0 14 (dk_at dksX2_together_0 8 rfl rfl)
theorem dX2_together_11 : decode cX2_together 11 = .ok (.aload_n 0, 1) := dk_42 (dk_at dksX2_together_0 11 rfl rfl)
theorem dX2_together_12 : decode cX2_together 12 = .ok (.aload_n 0, 1) := dk_42 (dk_at dksX2_together_0 12 rfl rfl)
theorem dX2_together_13 : decode cX2_together 13 = .ok (.getfield 26, 3) := dk_180 0 26 (dk_at dksX2_together_0 13 rfl rfl)
theorem dX2_together_16 : decode cX2_together 16 = .ok (.invokevirtual 332, 3) := dk_182 1 76 (dk_at dksX2_together_0 16 rfl rfl)
theorem dX2_together_19 : decode cX2_together 19 = .ok (.goto 8, 3) := dk_167 0 8 (dk_at dksX2_together_0 19 rfl rfl)
theorem dX2_together_22 : decode cX2_together 22 = .ok (.aload_n 0, 1) := dk_42 (dk_at dksX2_together_0 22 rfl rfl)
theorem dX2_together_23 : decode cX2_together 23 = .ok (.iconst 1, 1) := dk_4 (dk_at dksX2_together_0 23 rfl rfl)
theorem dX2_together_24 : decode cX2_together 24 = .ok (.invokevirtual 166, 3) := dk_182 0 166 (dk_at dksX2_together_1 0 rfl rfl)
theorem dX2_together_27 : decode cX2_together 27 = .ok (.ireturn, 1) := dk_172 (dk_at dksX2_together_1 3 rfl rfl)
abbrev cX2_togetherOf : ByteArray := prog_15_method_59_code
def yX2_togetherOf : MethodName := ⟨RX2, "togetherOf", "([I)I"⟩
def dkwX2_togetherOf_3 : List UInt8 := [167, 255, 202, 132, 3, 1, 167, 255, 182, 28, 172]
abbrev dktX2_togetherOf_3 : List UInt8 := dkwX2_togetherOf_3 ++ []
def dkwX2_togetherOf_2 : List UInt8 := [29, 104, 96, 6, 96, 46, 21, 4, 184, 1, 5, 153, 0, 7, 4, 167, 0, 4, 3, 96, 61, 132, 4, 1]
abbrev dktX2_togetherOf_2 : List UInt8 := dkwX2_togetherOf_2 ++ dktX2_togetherOf_3
def dkwX2_togetherOf_1 : List UInt8 := [28, 43, 29, 46, 158, 0, 38, 43, 29, 46, 43, 21, 4, 46, 160, 0, 28, 42, 180, 0, 20, 16, 35, 7]
abbrev dktX2_togetherOf_1 : List UInt8 := dkwX2_togetherOf_1 ++ dktX2_togetherOf_2
def dkwX2_togetherOf_0 : List UInt8 := [3, 61, 3, 62, 29, 42, 180, 0, 20, 16, 7, 46, 162, 0, 69, 3, 54, 4, 21, 4, 29, 162, 0, 54]
abbrev dktX2_togetherOf_0 : List UInt8 := dkwX2_togetherOf_0 ++ dktX2_togetherOf_1
theorem dksX2_togetherOf_0 : cX2_togetherOf.data.toList.drop 0 = dktX2_togetherOf_0 := by decide +kernel
theorem dksX2_togetherOf_1 : cX2_togetherOf.data.toList.drop 24 = dktX2_togetherOf_1 := dk_seg dksX2_togetherOf_0 24 rfl rfl
theorem dksX2_togetherOf_2 : cX2_togetherOf.data.toList.drop 48 = dktX2_togetherOf_2 := dk_seg dksX2_togetherOf_1 24 rfl rfl
theorem dksX2_togetherOf_3 : cX2_togetherOf.data.toList.drop 72 = dktX2_togetherOf_3 := dk_seg dksX2_togetherOf_2 24 rfl rfl
theorem dX2_togetherOf_0 : decode cX2_togetherOf 0 = .ok (.iconst 0, 1) := dk_3 (dk_at dksX2_togetherOf_0 0 rfl rfl)
theorem dX2_togetherOf_1 : decode cX2_togetherOf 1 = .ok (.istore_n 2, 1) := dk_61 (dk_at dksX2_togetherOf_0 1 rfl rfl)
theorem dX2_togetherOf_2 : decode cX2_togetherOf 2 = .ok (.iconst 0, 1) := dk_3 (dk_at dksX2_togetherOf_0 2 rfl rfl)
theorem dX2_togetherOf_3 : decode cX2_togetherOf 3 = .ok (.istore_n 3, 1) := dk_62 (dk_at dksX2_togetherOf_0 3 rfl rfl)
theorem dX2_togetherOf_4 : decode cX2_togetherOf 4 = .ok (.iload_n 3, 1) := dk_29 (dk_at dksX2_togetherOf_0 4 rfl rfl)
theorem dX2_togetherOf_5 : decode cX2_togetherOf 5 = .ok (.aload_n 0, 1) := dk_42 (dk_at dksX2_togetherOf_0 5 rfl rfl)
theorem dX2_togetherOf_6 : decode cX2_togetherOf 6 = .ok (.getfield 20, 3) := dk_180 0 20 (dk_at dksX2_togetherOf_0 6 rfl rfl)
theorem dX2_togetherOf_9 : decode cX2_togetherOf 9 = .ok (.bipush 7, 2) := dk_16 7 (dk_at dksX2_togetherOf_0 9 rfl rfl)
theorem dX2_togetherOf_11 : decode cX2_togetherOf 11 = .ok (.iaload, 1) := dk_46 (dk_at dksX2_togetherOf_0 11 rfl rfl)
theorem dX2_togetherOf_12 : decode cX2_togetherOf 12 = .ok (.if_icmp .ge 69, 3) := dk_162 0 69 (dk_at dksX2_togetherOf_0 12 rfl rfl)
theorem dX2_togetherOf_15 : decode cX2_togetherOf 15 = .ok (.iconst 0, 1) := dk_3 (dk_at dksX2_togetherOf_0 15 rfl rfl)
theorem dX2_togetherOf_16 : decode cX2_togetherOf 16 = .ok (.istore 4, 2) := dk_54 4 (dk_at dksX2_togetherOf_0 16 rfl rfl)
theorem dX2_togetherOf_18 : decode cX2_togetherOf 18 = .ok (.iload 4, 2) := dk_21 4 (dk_at dksX2_togetherOf_0 18 rfl rfl)
theorem dX2_togetherOf_20 : decode cX2_togetherOf 20 = .ok (.iload_n 3, 1) := dk_29 (dk_at dksX2_togetherOf_0 20 rfl rfl)
theorem dX2_togetherOf_21 : decode cX2_togetherOf 21 = .ok (.if_icmp .ge 54, 3) := dk_162 0 54 (dk_at dksX2_togetherOf_0 21 rfl rfl)
theorem dX2_togetherOf_24 : decode cX2_togetherOf 24 = .ok (.iload_n 2, 1) := dk_28 (dk_at dksX2_togetherOf_1 0 rfl rfl)
theorem dX2_togetherOf_25 : decode cX2_togetherOf 25 = .ok (.aload_n 1, 1) := dk_43 (dk_at dksX2_togetherOf_1 1 rfl rfl)
theorem dX2_togetherOf_26 : decode cX2_togetherOf 26 = .ok (.iload_n 3, 1) := dk_29 (dk_at dksX2_togetherOf_1 2 rfl rfl)
theorem dX2_togetherOf_27 : decode cX2_togetherOf 27 = .ok (.iaload, 1) := dk_46 (dk_at dksX2_togetherOf_1 3 rfl rfl)
theorem dX2_togetherOf_28 : decode cX2_togetherOf 28 = .ok (.ifCond .le 38, 3) := dk_158 0 38 (dk_at dksX2_togetherOf_1 4 rfl rfl)
theorem dX2_togetherOf_31 : decode cX2_togetherOf 31 = .ok (.aload_n 1, 1) := dk_43 (dk_at dksX2_togetherOf_1 7 rfl rfl)
theorem dX2_togetherOf_32 : decode cX2_togetherOf 32 = .ok (.iload_n 3, 1) := dk_29 (dk_at dksX2_togetherOf_1 8 rfl rfl)
theorem dX2_togetherOf_33 : decode cX2_togetherOf 33 = .ok (.iaload, 1) := dk_46 (dk_at dksX2_togetherOf_1 9 rfl rfl)
theorem dX2_togetherOf_34 : decode cX2_togetherOf 34 = .ok (.aload_n 1, 1) := dk_43 (dk_at dksX2_togetherOf_1 10 rfl rfl)
theorem dX2_togetherOf_35 : decode cX2_togetherOf 35 = .ok (.iload 4, 2) := dk_21 4 (dk_at dksX2_togetherOf_1 11 rfl rfl)
theorem dX2_togetherOf_37 : decode cX2_togetherOf 37 = .ok (.iaload, 1) := dk_46 (dk_at dksX2_togetherOf_1 13 rfl rfl)
theorem dX2_togetherOf_38 : decode cX2_togetherOf 38 = .ok (.if_icmp .ne 28, 3) := dk_160 0 28 (dk_at dksX2_togetherOf_1 14 rfl rfl)
theorem dX2_togetherOf_41 : decode cX2_togetherOf 41 = .ok (.aload_n 0, 1) := dk_42 (dk_at dksX2_togetherOf_1 17 rfl rfl)
theorem dX2_togetherOf_42 : decode cX2_togetherOf 42 = .ok (.getfield 20, 3) := dk_180 0 20 (dk_at dksX2_togetherOf_1 18 rfl rfl)
theorem dX2_togetherOf_45 : decode cX2_togetherOf 45 = .ok (.bipush 35, 2) := dk_16 35 (dk_at dksX2_togetherOf_1 21 rfl rfl)
theorem dX2_togetherOf_47 : decode cX2_togetherOf 47 = .ok (.iconst 4, 1) := dk_7 (dk_at dksX2_togetherOf_1 23 rfl rfl)
theorem dX2_togetherOf_48 : decode cX2_togetherOf 48 = .ok (.iload_n 3, 1) := dk_29 (dk_at dksX2_togetherOf_2 0 rfl rfl)
theorem dX2_togetherOf_49 : decode cX2_togetherOf 49 = .ok (.imul, 1) := dk_104 (dk_at dksX2_togetherOf_2 1 rfl rfl)
theorem dX2_togetherOf_50 : decode cX2_togetherOf 50 = .ok (.iadd, 1) := dk_96 (dk_at dksX2_togetherOf_2 2 rfl rfl)
theorem dX2_togetherOf_51 : decode cX2_togetherOf 51 = .ok (.iconst 3, 1) := dk_6 (dk_at dksX2_togetherOf_2 3 rfl rfl)
theorem dX2_togetherOf_52 : decode cX2_togetherOf 52 = .ok (.iadd, 1) := dk_96 (dk_at dksX2_togetherOf_2 4 rfl rfl)
theorem dX2_togetherOf_53 : decode cX2_togetherOf 53 = .ok (.iaload, 1) := dk_46 (dk_at dksX2_togetherOf_2 5 rfl rfl)
theorem dX2_togetherOf_54 : decode cX2_togetherOf 54 = .ok (.iload 4, 2) := dk_21 4 (dk_at dksX2_togetherOf_2 6 rfl rfl)
theorem dX2_togetherOf_56 : decode cX2_togetherOf 56 = .ok (.invokestatic 261, 3) := dk_184 1 5 (dk_at dksX2_togetherOf_2 8 rfl rfl)
theorem dX2_togetherOf_59 : decode cX2_togetherOf 59 = .ok (.ifCond .eq 7, 3) := dk_153 0 7 (dk_at dksX2_togetherOf_2 11 rfl rfl)
theorem dX2_togetherOf_62 : decode cX2_togetherOf 62 = .ok (.iconst 1, 1) := dk_4 (dk_at dksX2_togetherOf_2 14 rfl rfl)
theorem dX2_togetherOf_63 : decode cX2_togetherOf 63 = .ok (.goto 4, 3) := dk_167 0 4 (dk_at dksX2_togetherOf_2 15 rfl rfl)
theorem dX2_togetherOf_66 : decode cX2_togetherOf 66 = .ok (.iconst 0, 1) := dk_3 (dk_at dksX2_togetherOf_2 18 rfl rfl)
theorem dX2_togetherOf_67 : decode cX2_togetherOf 67 = .ok (.iadd, 1) := dk_96 (dk_at dksX2_togetherOf_2 19 rfl rfl)
theorem dX2_togetherOf_68 : decode cX2_togetherOf 68 = .ok (.istore_n 2, 1) := dk_61 (dk_at dksX2_togetherOf_2 20 rfl rfl)
theorem dX2_togetherOf_69 : decode cX2_togetherOf 69 = .ok (.iinc 4 1, 3) := dk_132 4 1 (dk_at dksX2_togetherOf_2 21 rfl rfl)
theorem dX2_togetherOf_72 : decode cX2_togetherOf 72 = .ok (.goto (-54), 3) := dk_167 255 202 (dk_at dksX2_togetherOf_3 0 rfl rfl)
theorem dX2_togetherOf_75 : decode cX2_togetherOf 75 = .ok (.iinc 3 1, 3) := dk_132 3 1 (dk_at dksX2_togetherOf_3 3 rfl rfl)
theorem dX2_togetherOf_78 : decode cX2_togetherOf 78 = .ok (.goto (-74), 3) := dk_167 255 182 (dk_at dksX2_togetherOf_3 6 rfl rfl)
theorem dX2_togetherOf_81 : decode cX2_togetherOf 81 = .ok (.iload_n 2, 1) := dk_28 (dk_at dksX2_togetherOf_3 9 rfl rfl)
theorem dX2_togetherOf_82 : decode cX2_togetherOf 82 = .ok (.ireturn, 1) := dk_172 (dk_at dksX2_togetherOf_3 10 rfl rfl)
abbrev cX2_full : ByteArray := prog_15_method_79_code
def yX2_full : MethodName := ⟨RX2, "full", "()I"⟩
def dkwX2_full_2 : List UInt8 := [182, 1, 28, 161, 0, 9, 4, 28, 120, 167, 0, 4, 3, 128, 60, 132, 2, 1, 167, 255, 212, 27, 172]
abbrev dktX2_full_2 : List UInt8 := dkwX2_full_2 ++ []
def dkwX2_full_1 : List UInt8 := [180, 0, 20, 16, 6, 46, 162, 0, 39, 27, 42, 42, 180, 0, 26, 28, 182, 1, 12, 184, 1, 16, 42, 28]
abbrev dktX2_full_1 : List UInt8 := dkwX2_full_1 ++ dktX2_full_2
def dkwX2_full_0 : List UInt8 := [42, 182, 0, 163, 42, 180, 0, 176, 154, 0, 9, 42, 4, 182, 0, 166, 172, 3, 60, 3, 61, 28, 42]
abbrev dktX2_full_0 : List UInt8 := dkwX2_full_0 ++ dktX2_full_1
theorem dksX2_full_0 : cX2_full.data.toList.drop 0 = dktX2_full_0 := by decide +kernel
theorem dksX2_full_1 : cX2_full.data.toList.drop 23 = dktX2_full_1 := dk_seg dksX2_full_0 23 rfl rfl
theorem dksX2_full_2 : cX2_full.data.toList.drop 47 = dktX2_full_2 := dk_seg dksX2_full_1 24 rfl rfl
theorem dX2_full_0 : decode cX2_full 0 = .ok (.aload_n 0, 1) := dk_42 (dk_at dksX2_full_0 0 rfl rfl)
theorem dX2_full_1 : decode cX2_full 1 = .ok (.invokevirtual 163, 3) := dk_182 0 163 (dk_at dksX2_full_0 1 rfl rfl)
theorem dX2_full_4 : decode cX2_full 4 = .ok (.aload_n 0, 1) := dk_42 (dk_at dksX2_full_0 4 rfl rfl)
theorem dX2_full_5 : decode cX2_full 5 = .ok (.getfield 176, 3) := dk_180 0 176 (dk_at dksX2_full_0 5 rfl rfl)
theorem dX2_full_8 : decode cX2_full 8 = .ok (.ifCond .ne 9, 3) := dk_154 0 9 (dk_at dksX2_full_0 8 rfl rfl)
theorem dX2_full_11 : decode cX2_full 11 = .ok (.aload_n 0, 1) := dk_42 (dk_at dksX2_full_0 11 rfl rfl)
theorem dX2_full_12 : decode cX2_full 12 = .ok (.iconst 1, 1) := dk_4 (dk_at dksX2_full_0 12 rfl rfl)
theorem dX2_full_13 : decode cX2_full 13 = .ok (.invokevirtual 166, 3) := dk_182 0 166 (dk_at dksX2_full_0 13 rfl rfl)
theorem dX2_full_16 : decode cX2_full 16 = .ok (.ireturn, 1) := dk_172 (dk_at dksX2_full_0 16 rfl rfl)
theorem dX2_full_17 : decode cX2_full 17 = .ok (.iconst 0, 1) := dk_3 (dk_at dksX2_full_0 17 rfl rfl)
theorem dX2_full_18 : decode cX2_full 18 = .ok (.istore_n 1, 1) := dk_60 (dk_at dksX2_full_0 18 rfl rfl)
theorem dX2_full_19 : decode cX2_full 19 = .ok (.iconst 0, 1) := dk_3 (dk_at dksX2_full_0 19 rfl rfl)
theorem dX2_full_20 : decode cX2_full 20 = .ok (.istore_n 2, 1) := dk_61 (dk_at dksX2_full_0 20 rfl rfl)
theorem dX2_full_21 : decode cX2_full 21 = .ok (.iload_n 2, 1) := dk_28 (dk_at dksX2_full_0 21 rfl rfl)
theorem dX2_full_22 : decode cX2_full 22 = .ok (.aload_n 0, 1) := dk_42 (dk_at dksX2_full_0 22 rfl rfl)
theorem dX2_full_23 : decode cX2_full 23 = .ok (.getfield 20, 3) := dk_180 0 20 (dk_at dksX2_full_1 0 rfl rfl)
theorem dX2_full_26 : decode cX2_full 26 = .ok (.bipush 6, 2) := dk_16 6 (dk_at dksX2_full_1 3 rfl rfl)
theorem dX2_full_28 : decode cX2_full 28 = .ok (.iaload, 1) := dk_46 (dk_at dksX2_full_1 5 rfl rfl)
theorem dX2_full_29 : decode cX2_full 29 = .ok (.if_icmp .ge 39, 3) := dk_162 0 39 (dk_at dksX2_full_1 6 rfl rfl)
theorem dX2_full_32 : decode cX2_full 32 = .ok (.iload_n 1, 1) := dk_27 (dk_at dksX2_full_1 9 rfl rfl)
theorem dX2_full_33 : decode cX2_full 33 = .ok (.aload_n 0, 1) := dk_42 (dk_at dksX2_full_1 10 rfl rfl)
theorem dX2_full_34 : decode cX2_full 34 = .ok (.aload_n 0, 1) := dk_42 (dk_at dksX2_full_1 11 rfl rfl)
theorem dX2_full_35 : decode cX2_full 35 = .ok (.getfield 26, 3) := dk_180 0 26 (dk_at dksX2_full_1 12 rfl rfl)
theorem dX2_full_38 : decode cX2_full 38 = .ok (.iload_n 2, 1) := dk_28 (dk_at dksX2_full_1 15 rfl rfl)
theorem dX2_full_39 : decode cX2_full 39 = .ok (.invokevirtual 268, 3) := dk_182 1 12 (dk_at dksX2_full_1 16 rfl rfl)
theorem dX2_full_42 : decode cX2_full 42 = .ok (.invokestatic 272, 3) := dk_184 1 16 (dk_at dksX2_full_1 19 rfl rfl)
theorem dX2_full_45 : decode cX2_full 45 = .ok (.aload_n 0, 1) := dk_42 (dk_at dksX2_full_1 22 rfl rfl)
theorem dX2_full_46 : decode cX2_full 46 = .ok (.iload_n 2, 1) := dk_28 (dk_at dksX2_full_1 23 rfl rfl)
theorem dX2_full_47 : decode cX2_full 47 = .ok (.invokevirtual 284, 3) := dk_182 1 28 (dk_at dksX2_full_2 0 rfl rfl)
theorem dX2_full_50 : decode cX2_full 50 = .ok (.if_icmp .lt 9, 3) := dk_161 0 9 (dk_at dksX2_full_2 3 rfl rfl)
theorem dX2_full_53 : decode cX2_full 53 = .ok (.iconst 1, 1) := dk_4 (dk_at dksX2_full_2 6 rfl rfl)
theorem dX2_full_54 : decode cX2_full 54 = .ok (.iload_n 2, 1) := dk_28 (dk_at dksX2_full_2 7 rfl rfl)
theorem dX2_full_55 : decode cX2_full 55 = .ok (.ishl, 1) := dk_120 (dk_at dksX2_full_2 8 rfl rfl)
theorem dX2_full_56 : decode cX2_full 56 = .ok (.goto 4, 3) := dk_167 0 4 (dk_at dksX2_full_2 9 rfl rfl)
theorem dX2_full_59 : decode cX2_full 59 = .ok (.iconst 0, 1) := dk_3 (dk_at dksX2_full_2 12 rfl rfl)
theorem dX2_full_60 : decode cX2_full 60 = .ok (.ior, 1) := dk_128 (dk_at dksX2_full_2 13 rfl rfl)
theorem dX2_full_61 : decode cX2_full 61 = .ok (.istore_n 1, 1) := dk_60 (dk_at dksX2_full_2 14 rfl rfl)
theorem dX2_full_62 : decode cX2_full 62 = .ok (.iinc 2 1, 3) := dk_132 2 1 (dk_at dksX2_full_2 15 rfl rfl)
theorem dX2_full_65 : decode cX2_full 65 = .ok (.goto (-44), 3) := dk_167 255 212 (dk_at dksX2_full_2 18 rfl rfl)
theorem dX2_full_68 : decode cX2_full 68 = .ok (.iload_n 1, 1) := dk_27 (dk_at dksX2_full_2 21 rfl rfl)
theorem dX2_full_69 : decode cX2_full 69 = .ok (.ireturn, 1) := dk_172 (dk_at dksX2_full_2 22 rfl rfl)
abbrev cX2_bestRank : ByteArray := prog_15_method_85_code
def yX2_bestRank : MethodName := ⟨RX2, "bestRank", "(I)I"⟩
def dkwX2_bestRank_1 : List UInt8 := [180, 1, 89, 172]
abbrev dktX2_bestRank_1 : List UInt8 := dkwX2_bestRank_1 ++ []
def dkwX2_bestRank_0 : List UInt8 := [42, 182, 0, 163, 42, 27, 182, 1, 53, 154, 0, 9, 42, 4, 182, 0, 166, 172, 42, 27, 182, 1, 102, 42]
abbrev dktX2_bestRank_0 : List UInt8 := dkwX2_bestRank_0 ++ dktX2_bestRank_1
theorem dksX2_bestRank_0 : cX2_bestRank.data.toList.drop 0 = dktX2_bestRank_0 := by decide +kernel
theorem dksX2_bestRank_1 : cX2_bestRank.data.toList.drop 24 = dktX2_bestRank_1 := dk_seg dksX2_bestRank_0 24 rfl rfl
theorem dX2_bestRank_0 : decode cX2_bestRank 0 = .ok (.aload_n 0, 1) := dk_42 (dk_at dksX2_bestRank_0 0 rfl rfl)
theorem dX2_bestRank_1 : decode cX2_bestRank 1 = .ok (.invokevirtual 163, 3) := dk_182 0 163 (dk_at dksX2_bestRank_0 1 rfl rfl)
theorem dX2_bestRank_4 : decode cX2_bestRank 4 = .ok (.aload_n 0, 1) := dk_42 (dk_at dksX2_bestRank_0 4 rfl rfl)
theorem dX2_bestRank_5 : decode cX2_bestRank 5 = .ok (.iload_n 1, 1) := dk_27 (dk_at dksX2_bestRank_0 5 rfl rfl)
theorem dX2_bestRank_6 : decode cX2_bestRank 6 = .ok (.invokevirtual 309, 3) := dk_182 1 53 (dk_at dksX2_bestRank_0 6 rfl rfl)
theorem dX2_bestRank_9 : decode cX2_bestRank 9 = .ok (.ifCond .ne 9, 3) := dk_154 0 9 (dk_at dksX2_bestRank_0 9 rfl rfl)
theorem dX2_bestRank_12 : decode cX2_bestRank 12 = .ok (.aload_n 0, 1) := dk_42 (dk_at dksX2_bestRank_0 12 rfl rfl)
theorem dX2_bestRank_13 : decode cX2_bestRank 13 = .ok (.iconst 1, 1) := dk_4 (dk_at dksX2_bestRank_0 13 rfl rfl)
theorem dX2_bestRank_14 : decode cX2_bestRank 14 = .ok (.invokevirtual 166, 3) := dk_182 0 166 (dk_at dksX2_bestRank_0 14 rfl rfl)
theorem dX2_bestRank_17 : decode cX2_bestRank 17 = .ok (.ireturn, 1) := dk_172 (dk_at dksX2_bestRank_0 17 rfl rfl)
theorem dX2_bestRank_18 : decode cX2_bestRank 18 = .ok (.aload_n 0, 1) := dk_42 (dk_at dksX2_bestRank_0 18 rfl rfl)
theorem dX2_bestRank_19 : decode cX2_bestRank 19 = .ok (.iload_n 1, 1) := dk_27 (dk_at dksX2_bestRank_0 19 rfl rfl)
theorem dX2_bestRank_20 : decode cX2_bestRank 20 = .ok (.invokevirtual 358, 3) := dk_182 1 102 (dk_at dksX2_bestRank_0 20 rfl rfl)
theorem dX2_bestRank_23 : decode cX2_bestRank 23 = .ok (.aload_n 0, 1) := dk_42 (dk_at dksX2_bestRank_0 23 rfl rfl)
theorem dX2_bestRank_24 : decode cX2_bestRank 24 = .ok (.getfield 345, 3) := dk_180 1 89 (dk_at dksX2_bestRank_1 0 rfl rfl)
theorem dX2_bestRank_27 : decode cX2_bestRank 27 = .ok (.ireturn, 1) := dk_172 (dk_at dksX2_bestRank_1 3 rfl rfl)
abbrev cX2_seekLoads : ByteArray := prog_15_method_83_code
def yX2_seekLoads : MethodName := ⟨RX2, "seekLoads", "(I)V"⟩
def dkwX2_seekLoads_2 : List UInt8 := [182, 1, 98, 177]
abbrev dktX2_seekLoads_2 : List UInt8 := dkwX2_seekLoads_2 ++ []
def dkwX2_seekLoads_1 : List UInt8 := [42, 19, 1, 101, 181, 1, 89, 42, 19, 1, 101, 181, 1, 92, 42, 19, 1, 101, 181, 1, 83, 42, 3, 3]
abbrev dktX2_seekLoads_1 : List UInt8 := dkwX2_seekLoads_1 ++ dktX2_seekLoads_2
def dkwX2_seekLoads_0 : List UInt8 := [42, 182, 1, 50, 42, 180, 0, 26, 3, 42, 180, 0, 41, 3, 16, 8, 184, 0, 172, 42, 27, 181, 1, 80]
abbrev dktX2_seekLoads_0 : List UInt8 := dkwX2_seekLoads_0 ++ dktX2_seekLoads_1
theorem dksX2_seekLoads_0 : cX2_seekLoads.data.toList.drop 0 = dktX2_seekLoads_0 := by decide +kernel
theorem dksX2_seekLoads_1 : cX2_seekLoads.data.toList.drop 24 = dktX2_seekLoads_1 := dk_seg dksX2_seekLoads_0 24 rfl rfl
theorem dksX2_seekLoads_2 : cX2_seekLoads.data.toList.drop 48 = dktX2_seekLoads_2 := dk_seg dksX2_seekLoads_1 24 rfl rfl
theorem dX2_seekLoads_0 : decode cX2_seekLoads 0 = .ok (.aload_n 0, 1) := dk_42 (dk_at dksX2_seekLoads_0 0 rfl rfl)
theorem dX2_seekLoads_1 : decode cX2_seekLoads 1 = .ok (.invokevirtual 306, 3) := dk_182 1 50 (dk_at dksX2_seekLoads_0 1 rfl rfl)
theorem dX2_seekLoads_4 : decode cX2_seekLoads 4 = .ok (.aload_n 0, 1) := dk_42 (dk_at dksX2_seekLoads_0 4 rfl rfl)
theorem dX2_seekLoads_5 : decode cX2_seekLoads 5 = .ok (.getfield 26, 3) := dk_180 0 26 (dk_at dksX2_seekLoads_0 5 rfl rfl)
theorem dX2_seekLoads_8 : decode cX2_seekLoads 8 = .ok (.iconst 0, 1) := dk_3 (dk_at dksX2_seekLoads_0 8 rfl rfl)
theorem dX2_seekLoads_9 : decode cX2_seekLoads 9 = .ok (.aload_n 0, 1) := dk_42 (dk_at dksX2_seekLoads_0 9 rfl rfl)
theorem dX2_seekLoads_10 : decode cX2_seekLoads 10 = .ok (.getfield 41, 3) := dk_180 0 41 (dk_at dksX2_seekLoads_0 10 rfl rfl)
theorem dX2_seekLoads_13 : decode cX2_seekLoads 13 = .ok (.iconst 0, 1) := dk_3 (dk_at dksX2_seekLoads_0 13 rfl rfl)
theorem dX2_seekLoads_14 : decode cX2_seekLoads 14 = .ok (.bipush 8, 2) := dk_16 8 (dk_at dksX2_seekLoads_0 14 rfl rfl)
theorem dX2_seekLoads_16 : decode cX2_seekLoads 16 = .ok (.invokestatic 172, 3) := dk_184 0 172 (dk_at dksX2_seekLoads_0 16 rfl rfl)
theorem dX2_seekLoads_19 : decode cX2_seekLoads 19 = .ok (.aload_n 0, 1) := dk_42 (dk_at dksX2_seekLoads_0 19 rfl rfl)
theorem dX2_seekLoads_20 : decode cX2_seekLoads 20 = .ok (.iload_n 1, 1) := dk_27 (dk_at dksX2_seekLoads_0 20 rfl rfl)
theorem dX2_seekLoads_21 : decode cX2_seekLoads 21 = .ok (.putfield 336, 3) := dk_181 1 80 (dk_at dksX2_seekLoads_0 21 rfl rfl)
theorem dX2_seekLoads_24 : decode cX2_seekLoads 24 = .ok (.aload_n 0, 1) := dk_42 (dk_at dksX2_seekLoads_1 0 rfl rfl)
theorem dX2_seekLoads_25 : decode cX2_seekLoads 25 = .ok (.ldc_w 357, 3) := dk_19 1 101 (dk_at dksX2_seekLoads_1 1 rfl rfl)
theorem dX2_seekLoads_28 : decode cX2_seekLoads 28 = .ok (.putfield 345, 3) := dk_181 1 89 (dk_at dksX2_seekLoads_1 4 rfl rfl)
theorem dX2_seekLoads_31 : decode cX2_seekLoads 31 = .ok (.aload_n 0, 1) := dk_42 (dk_at dksX2_seekLoads_1 7 rfl rfl)
theorem dX2_seekLoads_32 : decode cX2_seekLoads 32 = .ok (.ldc_w 357, 3) := dk_19 1 101 (dk_at dksX2_seekLoads_1 8 rfl rfl)
theorem dX2_seekLoads_35 : decode cX2_seekLoads 35 = .ok (.putfield 348, 3) := dk_181 1 92 (dk_at dksX2_seekLoads_1 11 rfl rfl)
theorem dX2_seekLoads_38 : decode cX2_seekLoads 38 = .ok (.aload_n 0, 1) := dk_42 (dk_at dksX2_seekLoads_1 14 rfl rfl)
theorem dX2_seekLoads_39 : decode cX2_seekLoads 39 = .ok (.ldc_w 357, 3) := dk_19 1 101 (dk_at dksX2_seekLoads_1 15 rfl rfl)
theorem dX2_seekLoads_42 : decode cX2_seekLoads 42 = .ok (.putfield 339, 3) := dk_181 1 83 (dk_at dksX2_seekLoads_1 18 rfl rfl)
theorem dX2_seekLoads_45 : decode cX2_seekLoads 45 = .ok (.aload_n 0, 1) := dk_42 (dk_at dksX2_seekLoads_1 21 rfl rfl)
theorem dX2_seekLoads_46 : decode cX2_seekLoads 46 = .ok (.iconst 0, 1) := dk_3 (dk_at dksX2_seekLoads_1 22 rfl rfl)
theorem dX2_seekLoads_47 : decode cX2_seekLoads 47 = .ok (.iconst 0, 1) := dk_3 (dk_at dksX2_seekLoads_1 23 rfl rfl)
theorem dX2_seekLoads_48 : decode cX2_seekLoads 48 = .ok (.invokevirtual 354, 3) := dk_182 1 98 (dk_at dksX2_seekLoads_2 0 rfl rfl)
theorem dX2_seekLoads_51 : decode cX2_seekLoads 51 = .ok (.return_, 1) := dk_177 (dk_at dksX2_seekLoads_2 3 rfl rfl)
abbrev cX2_tryLoads : ByteArray := prog_15_method_81_code
def yX2_tryLoads : MethodName := ⟨RX2, "tryLoads", "(II)V"⟩
def dkwX2_tryLoads_6 : List UInt8 := [132, 3, 1, 167, 255, 181, 177]
abbrev dktX2_tryLoads_6 : List UInt8 := dkwX2_tryLoads_6 ++ []
def dkwX2_tryLoads_5 : List UInt8 := [27, 4, 96, 28, 29, 42, 180, 0, 26, 27, 46, 160, 0, 7, 3, 167, 0, 4, 4, 96, 182, 1, 98]
abbrev dktX2_tryLoads_5 : List UInt8 := dkwX2_tryLoads_5 ++ dktX2_tryLoads_6
def dkwX2_tryLoads_4 : List UInt8 := [182, 1, 95, 42, 29, 4, 100, 182, 1, 28, 161, 0, 6, 167, 0, 34, 42, 180, 0, 41, 27, 29, 79, 42]
abbrev dktX2_tryLoads_4 : List UInt8 := dkwX2_tryLoads_4 ++ dktX2_tryLoads_5
def dkwX2_tryLoads_3 : List UInt8 := [180, 0, 20, 16, 6, 46, 163, 0, 70, 42, 180, 0, 41, 27, 3, 79, 29, 158, 0, 22, 42, 27, 29]
abbrev dktX2_tryLoads_3 : List UInt8 := dkwX2_tryLoads_3 ++ dktX2_tryLoads_4
def dkwX2_tryLoads_2 : List UInt8 := [181, 1, 92, 42, 180, 0, 41, 3, 42, 180, 0, 44, 3, 8, 184, 0, 172, 177, 3, 62, 29, 42]
abbrev dktX2_tryLoads_2 : List UInt8 := dkwX2_tryLoads_2 ++ dktX2_tryLoads_3
def dkwX2_tryLoads_1 : List UInt8 := [29, 42, 180, 1, 89, 160, 0, 12, 28, 42, 180, 1, 92, 161, 0, 4, 177, 42, 29, 181, 1, 89, 42, 28]
abbrev dktX2_tryLoads_1 : List UInt8 := dkwX2_tryLoads_1 ++ dktX2_tryLoads_2
def dkwX2_tryLoads_0 : List UInt8 := [27, 42, 180, 0, 20, 16, 7, 46, 160, 0, 58, 42, 182, 1, 86, 62, 29, 42, 180, 1, 89, 163, 0, 19]
abbrev dktX2_tryLoads_0 : List UInt8 := dkwX2_tryLoads_0 ++ dktX2_tryLoads_1
theorem dksX2_tryLoads_0 : cX2_tryLoads.data.toList.drop 0 = dktX2_tryLoads_0 := by decide +kernel
theorem dksX2_tryLoads_1 : cX2_tryLoads.data.toList.drop 24 = dktX2_tryLoads_1 := dk_seg dksX2_tryLoads_0 24 rfl rfl
theorem dksX2_tryLoads_2 : cX2_tryLoads.data.toList.drop 48 = dktX2_tryLoads_2 := dk_seg dksX2_tryLoads_1 24 rfl rfl
theorem dksX2_tryLoads_3 : cX2_tryLoads.data.toList.drop 70 = dktX2_tryLoads_3 := dk_seg dksX2_tryLoads_2 22 rfl rfl
theorem dksX2_tryLoads_4 : cX2_tryLoads.data.toList.drop 93 = dktX2_tryLoads_4 := dk_seg dksX2_tryLoads_3 23 rfl rfl
theorem dksX2_tryLoads_5 : cX2_tryLoads.data.toList.drop 117 = dktX2_tryLoads_5 := dk_seg dksX2_tryLoads_4 24 rfl rfl
theorem dksX2_tryLoads_6 : cX2_tryLoads.data.toList.drop 140 = dktX2_tryLoads_6 := dk_seg dksX2_tryLoads_5 23 rfl rfl
theorem dX2_tryLoads_0 : decode cX2_tryLoads 0 = .ok (.iload_n 1, 1) := dk_27 (dk_at dksX2_tryLoads_0 0 rfl rfl)
theorem dX2_tryLoads_1 : decode cX2_tryLoads 1 = .ok (.aload_n 0, 1) := dk_42 (dk_at dksX2_tryLoads_0 1 rfl rfl)
theorem dX2_tryLoads_2 : decode cX2_tryLoads 2 = .ok (.getfield 20, 3) := dk_180 0 20 (dk_at dksX2_tryLoads_0 2 rfl rfl)
theorem dX2_tryLoads_5 : decode cX2_tryLoads 5 = .ok (.bipush 7, 2) := dk_16 7 (dk_at dksX2_tryLoads_0 5 rfl rfl)
theorem dX2_tryLoads_7 : decode cX2_tryLoads 7 = .ok (.iaload, 1) := dk_46 (dk_at dksX2_tryLoads_0 7 rfl rfl)
theorem dX2_tryLoads_8 : decode cX2_tryLoads 8 = .ok (.if_icmp .ne 58, 3) := dk_160 0 58 (dk_at dksX2_tryLoads_0 8 rfl rfl)
theorem dX2_tryLoads_11 : decode cX2_tryLoads 11 = .ok (.aload_n 0, 1) := dk_42 (dk_at dksX2_tryLoads_0 11 rfl rfl)
theorem dX2_tryLoads_12 : decode cX2_tryLoads 12 = .ok (.invokevirtual 342, 3) := dk_182 1 86 (dk_at dksX2_tryLoads_0 12 rfl rfl)
theorem dX2_tryLoads_15 : decode cX2_tryLoads 15 = .ok (.istore_n 3, 1) := dk_62 (dk_at dksX2_tryLoads_0 15 rfl rfl)
theorem dX2_tryLoads_16 : decode cX2_tryLoads 16 = .ok (.iload_n 3, 1) := dk_29 (dk_at dksX2_tryLoads_0 16 rfl rfl)
theorem dX2_tryLoads_17 : decode cX2_tryLoads 17 = .ok (.aload_n 0, 1) := dk_42 (dk_at dksX2_tryLoads_0 17 rfl rfl)
theorem dX2_tryLoads_18 : decode cX2_tryLoads 18 = .ok (.getfield 345, 3) := dk_180 1 89 (dk_at dksX2_tryLoads_0 18 rfl rfl)
theorem dX2_tryLoads_21 : decode cX2_tryLoads 21 = .ok (.if_icmp .gt 19, 3) := dk_163 0 19 (dk_at dksX2_tryLoads_0 21 rfl rfl)
theorem dX2_tryLoads_24 : decode cX2_tryLoads 24 = .ok (.iload_n 3, 1) := dk_29 (dk_at dksX2_tryLoads_1 0 rfl rfl)
theorem dX2_tryLoads_25 : decode cX2_tryLoads 25 = .ok (.aload_n 0, 1) := dk_42 (dk_at dksX2_tryLoads_1 1 rfl rfl)
theorem dX2_tryLoads_26 : decode cX2_tryLoads 26 = .ok (.getfield 345, 3) := dk_180 1 89 (dk_at dksX2_tryLoads_1 2 rfl rfl)
theorem dX2_tryLoads_29 : decode cX2_tryLoads 29 = .ok (.if_icmp .ne 12, 3) := dk_160 0 12 (dk_at dksX2_tryLoads_1 5 rfl rfl)
theorem dX2_tryLoads_32 : decode cX2_tryLoads 32 = .ok (.iload_n 2, 1) := dk_28 (dk_at dksX2_tryLoads_1 8 rfl rfl)
theorem dX2_tryLoads_33 : decode cX2_tryLoads 33 = .ok (.aload_n 0, 1) := dk_42 (dk_at dksX2_tryLoads_1 9 rfl rfl)
theorem dX2_tryLoads_34 : decode cX2_tryLoads 34 = .ok (.getfield 348, 3) := dk_180 1 92 (dk_at dksX2_tryLoads_1 10 rfl rfl)
theorem dX2_tryLoads_37 : decode cX2_tryLoads 37 = .ok (.if_icmp .lt 4, 3) := dk_161 0 4 (dk_at dksX2_tryLoads_1 13 rfl rfl)
theorem dX2_tryLoads_40 : decode cX2_tryLoads 40 = .ok (.return_, 1) := dk_177 (dk_at dksX2_tryLoads_1 16 rfl rfl)
theorem dX2_tryLoads_41 : decode cX2_tryLoads 41 = .ok (.aload_n 0, 1) := dk_42 (dk_at dksX2_tryLoads_1 17 rfl rfl)
theorem dX2_tryLoads_42 : decode cX2_tryLoads 42 = .ok (.iload_n 3, 1) := dk_29 (dk_at dksX2_tryLoads_1 18 rfl rfl)
theorem dX2_tryLoads_43 : decode cX2_tryLoads 43 = .ok (.putfield 345, 3) := dk_181 1 89 (dk_at dksX2_tryLoads_1 19 rfl rfl)
theorem dX2_tryLoads_46 : decode cX2_tryLoads 46 = .ok (.aload_n 0, 1) := dk_42 (dk_at dksX2_tryLoads_1 22 rfl rfl)
theorem dX2_tryLoads_47 : decode cX2_tryLoads 47 = .ok (.iload_n 2, 1) := dk_28 (dk_at dksX2_tryLoads_1 23 rfl rfl)
theorem dX2_tryLoads_48 : decode cX2_tryLoads 48 = .ok (.putfield 348, 3) := dk_181 1 92 (dk_at dksX2_tryLoads_2 0 rfl rfl)
theorem dX2_tryLoads_51 : decode cX2_tryLoads 51 = .ok (.aload_n 0, 1) := dk_42 (dk_at dksX2_tryLoads_2 3 rfl rfl)
theorem dX2_tryLoads_52 : decode cX2_tryLoads 52 = .ok (.getfield 41, 3) := dk_180 0 41 (dk_at dksX2_tryLoads_2 4 rfl rfl)
theorem dX2_tryLoads_55 : decode cX2_tryLoads 55 = .ok (.iconst 0, 1) := dk_3 (dk_at dksX2_tryLoads_2 7 rfl rfl)
theorem dX2_tryLoads_56 : decode cX2_tryLoads 56 = .ok (.aload_n 0, 1) := dk_42 (dk_at dksX2_tryLoads_2 8 rfl rfl)
theorem dX2_tryLoads_57 : decode cX2_tryLoads 57 = .ok (.getfield 44, 3) := dk_180 0 44 (dk_at dksX2_tryLoads_2 9 rfl rfl)
theorem dX2_tryLoads_60 : decode cX2_tryLoads 60 = .ok (.iconst 0, 1) := dk_3 (dk_at dksX2_tryLoads_2 12 rfl rfl)
theorem dX2_tryLoads_61 : decode cX2_tryLoads 61 = .ok (.iconst 5, 1) := dk_8 (dk_at dksX2_tryLoads_2 13 rfl rfl)
theorem dX2_tryLoads_62 : decode cX2_tryLoads 62 = .ok (.invokestatic 172, 3) := dk_184 0 172 (dk_at dksX2_tryLoads_2 14 rfl rfl)
theorem dX2_tryLoads_65 : decode cX2_tryLoads 65 = .ok (.return_, 1) := dk_177 (dk_at dksX2_tryLoads_2 17 rfl rfl)
theorem dX2_tryLoads_66 : decode cX2_tryLoads 66 = .ok (.iconst 0, 1) := dk_3 (dk_at dksX2_tryLoads_2 18 rfl rfl)
theorem dX2_tryLoads_67 : decode cX2_tryLoads 67 = .ok (.istore_n 3, 1) := dk_62 (dk_at dksX2_tryLoads_2 19 rfl rfl)
theorem dX2_tryLoads_68 : decode cX2_tryLoads 68 = .ok (.iload_n 3, 1) := dk_29 (dk_at dksX2_tryLoads_2 20 rfl rfl)
theorem dX2_tryLoads_69 : decode cX2_tryLoads 69 = .ok (.aload_n 0, 1) := dk_42 (dk_at dksX2_tryLoads_2 21 rfl rfl)
theorem dX2_tryLoads_70 : decode cX2_tryLoads 70 = .ok (.getfield 20, 3) := dk_180 0 20 (dk_at dksX2_tryLoads_3 0 rfl rfl)
theorem dX2_tryLoads_73 : decode cX2_tryLoads 73 = .ok (.bipush 6, 2) := dk_16 6 (dk_at dksX2_tryLoads_3 3 rfl rfl)
theorem dX2_tryLoads_75 : decode cX2_tryLoads 75 = .ok (.iaload, 1) := dk_46 (dk_at dksX2_tryLoads_3 5 rfl rfl)
theorem dX2_tryLoads_76 : decode cX2_tryLoads 76 = .ok (.if_icmp .gt 70, 3) := dk_163 0 70 (dk_at dksX2_tryLoads_3 6 rfl rfl)
theorem dX2_tryLoads_79 : decode cX2_tryLoads 79 = .ok (.aload_n 0, 1) := dk_42 (dk_at dksX2_tryLoads_3 9 rfl rfl)
theorem dX2_tryLoads_80 : decode cX2_tryLoads 80 = .ok (.getfield 41, 3) := dk_180 0 41 (dk_at dksX2_tryLoads_3 10 rfl rfl)
theorem dX2_tryLoads_83 : decode cX2_tryLoads 83 = .ok (.iload_n 1, 1) := dk_27 (dk_at dksX2_tryLoads_3 13 rfl rfl)
theorem dX2_tryLoads_84 : decode cX2_tryLoads 84 = .ok (.iconst 0, 1) := dk_3 (dk_at dksX2_tryLoads_3 14 rfl rfl)
theorem dX2_tryLoads_85 : decode cX2_tryLoads 85 = .ok (.iastore, 1) := dk_79 (dk_at dksX2_tryLoads_3 15 rfl rfl)
theorem dX2_tryLoads_86 : decode cX2_tryLoads 86 = .ok (.iload_n 3, 1) := dk_29 (dk_at dksX2_tryLoads_3 16 rfl rfl)
theorem dX2_tryLoads_87 : decode cX2_tryLoads 87 = .ok (.ifCond .le 22, 3) := dk_158 0 22 (dk_at dksX2_tryLoads_3 17 rfl rfl)
theorem dX2_tryLoads_90 : decode cX2_tryLoads 90 = .ok (.aload_n 0, 1) := dk_42 (dk_at dksX2_tryLoads_3 20 rfl rfl)
theorem dX2_tryLoads_91 : decode cX2_tryLoads 91 = .ok (.iload_n 1, 1) := dk_27 (dk_at dksX2_tryLoads_3 21 rfl rfl)
theorem dX2_tryLoads_92 : decode cX2_tryLoads 92 = .ok (.iload_n 3, 1) := dk_29 (dk_at dksX2_tryLoads_3 22 rfl rfl)
theorem dX2_tryLoads_93 : decode cX2_tryLoads 93 = .ok (.invokevirtual 351, 3) := dk_182 1 95 (dk_at dksX2_tryLoads_4 0 rfl rfl)
theorem dX2_tryLoads_96 : decode cX2_tryLoads 96 = .ok (.aload_n 0, 1) := dk_42 (dk_at dksX2_tryLoads_4 3 rfl rfl)
theorem dX2_tryLoads_97 : decode cX2_tryLoads 97 = .ok (.iload_n 3, 1) := dk_29 (dk_at dksX2_tryLoads_4 4 rfl rfl)
theorem dX2_tryLoads_98 : decode cX2_tryLoads 98 = .ok (.iconst 1, 1) := dk_4 (dk_at dksX2_tryLoads_4 5 rfl rfl)
theorem dX2_tryLoads_99 : decode cX2_tryLoads 99 = .ok (.isub, 1) := dk_100 (dk_at dksX2_tryLoads_4 6 rfl rfl)
theorem dX2_tryLoads_100 : decode cX2_tryLoads 100 = .ok (.invokevirtual 284, 3) := dk_182 1 28 (dk_at dksX2_tryLoads_4 7 rfl rfl)
theorem dX2_tryLoads_103 : decode cX2_tryLoads 103 = .ok (.if_icmp .lt 6, 3) := dk_161 0 6 (dk_at dksX2_tryLoads_4 10 rfl rfl)
theorem dX2_tryLoads_106 : decode cX2_tryLoads 106 = .ok (.goto 34, 3) := dk_167 0 34 (dk_at dksX2_tryLoads_4 13 rfl rfl)
theorem dX2_tryLoads_109 : decode cX2_tryLoads 109 = .ok (.aload_n 0, 1) := dk_42 (dk_at dksX2_tryLoads_4 16 rfl rfl)
theorem dX2_tryLoads_110 : decode cX2_tryLoads 110 = .ok (.getfield 41, 3) := dk_180 0 41 (dk_at dksX2_tryLoads_4 17 rfl rfl)
theorem dX2_tryLoads_113 : decode cX2_tryLoads 113 = .ok (.iload_n 1, 1) := dk_27 (dk_at dksX2_tryLoads_4 20 rfl rfl)
theorem dX2_tryLoads_114 : decode cX2_tryLoads 114 = .ok (.iload_n 3, 1) := dk_29 (dk_at dksX2_tryLoads_4 21 rfl rfl)
theorem dX2_tryLoads_115 : decode cX2_tryLoads 115 = .ok (.iastore, 1) := dk_79 (dk_at dksX2_tryLoads_4 22 rfl rfl)
theorem dX2_tryLoads_116 : decode cX2_tryLoads 116 = .ok (.aload_n 0, 1) := dk_42 (dk_at dksX2_tryLoads_4 23 rfl rfl)
theorem dX2_tryLoads_117 : decode cX2_tryLoads 117 = .ok (.iload_n 1, 1) := dk_27 (dk_at dksX2_tryLoads_5 0 rfl rfl)
theorem dX2_tryLoads_118 : decode cX2_tryLoads 118 = .ok (.iconst 1, 1) := dk_4 (dk_at dksX2_tryLoads_5 1 rfl rfl)
theorem dX2_tryLoads_119 : decode cX2_tryLoads 119 = .ok (.iadd, 1) := dk_96 (dk_at dksX2_tryLoads_5 2 rfl rfl)
theorem dX2_tryLoads_120 : decode cX2_tryLoads 120 = .ok (.iload_n 2, 1) := dk_28 (dk_at dksX2_tryLoads_5 3 rfl rfl)
theorem dX2_tryLoads_121 : decode cX2_tryLoads 121 = .ok (.iload_n 3, 1) := dk_29 (dk_at dksX2_tryLoads_5 4 rfl rfl)
theorem dX2_tryLoads_122 : decode cX2_tryLoads 122 = .ok (.aload_n 0, 1) := dk_42 (dk_at dksX2_tryLoads_5 5 rfl rfl)
theorem dX2_tryLoads_123 : decode cX2_tryLoads 123 = .ok (.getfield 26, 3) := dk_180 0 26 (dk_at dksX2_tryLoads_5 6 rfl rfl)
theorem dX2_tryLoads_126 : decode cX2_tryLoads 126 = .ok (.iload_n 1, 1) := dk_27 (dk_at dksX2_tryLoads_5 9 rfl rfl)
theorem dX2_tryLoads_127 : decode cX2_tryLoads 127 = .ok (.iaload, 1) := dk_46 (dk_at dksX2_tryLoads_5 10 rfl rfl)
theorem dX2_tryLoads_128 : decode cX2_tryLoads 128 = .ok (.if_icmp .ne 7, 3) := dk_160 0 7 (dk_at dksX2_tryLoads_5 11 rfl rfl)
theorem dX2_tryLoads_131 : decode cX2_tryLoads 131 = .ok (.iconst 0, 1) := dk_3 (dk_at dksX2_tryLoads_5 14 rfl rfl)
theorem dX2_tryLoads_132 : decode cX2_tryLoads 132 = .ok (.goto 4, 3) := dk_167 0 4 (dk_at dksX2_tryLoads_5 15 rfl rfl)
theorem dX2_tryLoads_135 : decode cX2_tryLoads 135 = .ok (.iconst 1, 1) := dk_4 (dk_at dksX2_tryLoads_5 18 rfl rfl)
theorem dX2_tryLoads_136 : decode cX2_tryLoads 136 = .ok (.iadd, 1) := dk_96 (dk_at dksX2_tryLoads_5 19 rfl rfl)
theorem dX2_tryLoads_137 : decode cX2_tryLoads 137 = .ok (.invokevirtual 354, 3) := dk_182 1 98 (dk_at dksX2_tryLoads_5 20 rfl rfl)
theorem dX2_tryLoads_140 : decode cX2_tryLoads 140 = .ok (.iinc 3 1, 3) := dk_132 3 1 (dk_at dksX2_tryLoads_6 0 rfl rfl)
theorem dX2_tryLoads_143 : decode cX2_tryLoads 143 = .ok (.goto (-75), 3) := dk_167 255 181 (dk_at dksX2_tryLoads_6 3 rfl rfl)
theorem dX2_tryLoads_146 : decode cX2_tryLoads 146 = .ok (.return_, 1) := dk_177 (dk_at dksX2_tryLoads_6 6 rfl rfl)
abbrev cX2_keyOf : ByteArray := prog_15_method_80_code
def yX2_keyOf : MethodName := ⟨RX2, "keyOf", "()I"⟩
def dkwX2_keyOf_3 : List UInt8 := [172]
abbrev dktX2_keyOf_3 : List UInt8 := dkwX2_keyOf_3 ++ []
def dkwX2_keyOf_2 : List UInt8 := [42, 180, 1, 80, 46, 167, 0, 7, 42, 180, 1, 83, 181, 1, 83, 42, 180, 0, 38, 42, 180, 1, 80, 46]
abbrev dktX2_keyOf_2 : List UInt8 := dkwX2_keyOf_2 ++ dktX2_keyOf_3
def dkwX2_keyOf_1 : List UInt8 := [182, 1, 62, 42, 42, 180, 0, 35, 42, 180, 1, 80, 46, 42, 180, 1, 83, 162, 0, 15, 42, 180, 0, 35]
abbrev dktX2_keyOf_1 : List UInt8 := dkwX2_keyOf_1 ++ dktX2_keyOf_2
def dkwX2_keyOf_0 : List UInt8 := [42, 180, 1, 80, 156, 0, 13, 42, 42, 180, 0, 41, 182, 1, 76, 116, 172, 42, 42, 180, 0, 41]
abbrev dktX2_keyOf_0 : List UInt8 := dkwX2_keyOf_0 ++ dktX2_keyOf_1
theorem dksX2_keyOf_0 : cX2_keyOf.data.toList.drop 0 = dktX2_keyOf_0 := by decide +kernel
theorem dksX2_keyOf_1 : cX2_keyOf.data.toList.drop 22 = dktX2_keyOf_1 := dk_seg dksX2_keyOf_0 22 rfl rfl
theorem dksX2_keyOf_2 : cX2_keyOf.data.toList.drop 46 = dktX2_keyOf_2 := dk_seg dksX2_keyOf_1 24 rfl rfl
theorem dksX2_keyOf_3 : cX2_keyOf.data.toList.drop 70 = dktX2_keyOf_3 := dk_seg dksX2_keyOf_2 24 rfl rfl
theorem dX2_keyOf_0 : decode cX2_keyOf 0 = .ok (.aload_n 0, 1) := dk_42 (dk_at dksX2_keyOf_0 0 rfl rfl)
theorem dX2_keyOf_1 : decode cX2_keyOf 1 = .ok (.getfield 336, 3) := dk_180 1 80 (dk_at dksX2_keyOf_0 1 rfl rfl)
theorem dX2_keyOf_4 : decode cX2_keyOf 4 = .ok (.ifCond .ge 13, 3) := dk_156 0 13 (dk_at dksX2_keyOf_0 4 rfl rfl)
theorem dX2_keyOf_7 : decode cX2_keyOf 7 = .ok (.aload_n 0, 1) := dk_42 (dk_at dksX2_keyOf_0 7 rfl rfl)
theorem dX2_keyOf_8 : decode cX2_keyOf 8 = .ok (.aload_n 0, 1) := dk_42 (dk_at dksX2_keyOf_0 8 rfl rfl)
theorem dX2_keyOf_9 : decode cX2_keyOf 9 = .ok (.getfield 41, 3) := dk_180 0 41 (dk_at dksX2_keyOf_0 9 rfl rfl)
theorem dX2_keyOf_12 : decode cX2_keyOf 12 = .ok (.invokevirtual 332, 3) := dk_182 1 76 (dk_at dksX2_keyOf_0 12 rfl rfl)
theorem dX2_keyOf_15 : decode cX2_keyOf 15 = .ok (.ineg, 1) := dk_116 (dk_at dksX2_keyOf_0 15 rfl rfl)
theorem dX2_keyOf_16 : decode cX2_keyOf 16 = .ok (.ireturn, 1) := dk_172 (dk_at dksX2_keyOf_0 16 rfl rfl)
theorem dX2_keyOf_17 : decode cX2_keyOf 17 = .ok (.aload_n 0, 1) := dk_42 (dk_at dksX2_keyOf_0 17 rfl rfl)
theorem dX2_keyOf_18 : decode cX2_keyOf 18 = .ok (.aload_n 0, 1) := dk_42 (dk_at dksX2_keyOf_0 18 rfl rfl)
theorem dX2_keyOf_19 : decode cX2_keyOf 19 = .ok (.getfield 41, 3) := dk_180 0 41 (dk_at dksX2_keyOf_0 19 rfl rfl)
theorem dX2_keyOf_22 : decode cX2_keyOf 22 = .ok (.invokevirtual 318, 3) := dk_182 1 62 (dk_at dksX2_keyOf_1 0 rfl rfl)
theorem dX2_keyOf_25 : decode cX2_keyOf 25 = .ok (.aload_n 0, 1) := dk_42 (dk_at dksX2_keyOf_1 3 rfl rfl)
theorem dX2_keyOf_26 : decode cX2_keyOf 26 = .ok (.aload_n 0, 1) := dk_42 (dk_at dksX2_keyOf_1 4 rfl rfl)
theorem dX2_keyOf_27 : decode cX2_keyOf 27 = .ok (.getfield 35, 3) := dk_180 0 35 (dk_at dksX2_keyOf_1 5 rfl rfl)
theorem dX2_keyOf_30 : decode cX2_keyOf 30 = .ok (.aload_n 0, 1) := dk_42 (dk_at dksX2_keyOf_1 8 rfl rfl)
theorem dX2_keyOf_31 : decode cX2_keyOf 31 = .ok (.getfield 336, 3) := dk_180 1 80 (dk_at dksX2_keyOf_1 9 rfl rfl)
theorem dX2_keyOf_34 : decode cX2_keyOf 34 = .ok (.iaload, 1) := dk_46 (dk_at dksX2_keyOf_1 12 rfl rfl)
theorem dX2_keyOf_35 : decode cX2_keyOf 35 = .ok (.aload_n 0, 1) := dk_42 (dk_at dksX2_keyOf_1 13 rfl rfl)
theorem dX2_keyOf_36 : decode cX2_keyOf 36 = .ok (.getfield 339, 3) := dk_180 1 83 (dk_at dksX2_keyOf_1 14 rfl rfl)
theorem dX2_keyOf_39 : decode cX2_keyOf 39 = .ok (.if_icmp .ge 15, 3) := dk_162 0 15 (dk_at dksX2_keyOf_1 17 rfl rfl)
theorem dX2_keyOf_42 : decode cX2_keyOf 42 = .ok (.aload_n 0, 1) := dk_42 (dk_at dksX2_keyOf_1 20 rfl rfl)
theorem dX2_keyOf_43 : decode cX2_keyOf 43 = .ok (.getfield 35, 3) := dk_180 0 35 (dk_at dksX2_keyOf_1 21 rfl rfl)
theorem dX2_keyOf_46 : decode cX2_keyOf 46 = .ok (.aload_n 0, 1) := dk_42 (dk_at dksX2_keyOf_2 0 rfl rfl)
theorem dX2_keyOf_47 : decode cX2_keyOf 47 = .ok (.getfield 336, 3) := dk_180 1 80 (dk_at dksX2_keyOf_2 1 rfl rfl)
theorem dX2_keyOf_50 : decode cX2_keyOf 50 = .ok (.iaload, 1) := dk_46 (dk_at dksX2_keyOf_2 4 rfl rfl)
theorem dX2_keyOf_51 : decode cX2_keyOf 51 = .ok (.goto 7, 3) := dk_167 0 7 (dk_at dksX2_keyOf_2 5 rfl rfl)
theorem dX2_keyOf_54 : decode cX2_keyOf 54 = .ok (.aload_n 0, 1) := dk_42 (dk_at dksX2_keyOf_2 8 rfl rfl)
theorem dX2_keyOf_55 : decode cX2_keyOf 55 = .ok (.getfield 339, 3) := dk_180 1 83 (dk_at dksX2_keyOf_2 9 rfl rfl)
theorem dX2_keyOf_58 : decode cX2_keyOf 58 = .ok (.putfield 339, 3) := dk_181 1 83 (dk_at dksX2_keyOf_2 12 rfl rfl)
theorem dX2_keyOf_61 : decode cX2_keyOf 61 = .ok (.aload_n 0, 1) := dk_42 (dk_at dksX2_keyOf_2 15 rfl rfl)
theorem dX2_keyOf_62 : decode cX2_keyOf 62 = .ok (.getfield 38, 3) := dk_180 0 38 (dk_at dksX2_keyOf_2 16 rfl rfl)
theorem dX2_keyOf_65 : decode cX2_keyOf 65 = .ok (.aload_n 0, 1) := dk_42 (dk_at dksX2_keyOf_2 19 rfl rfl)
theorem dX2_keyOf_66 : decode cX2_keyOf 66 = .ok (.getfield 336, 3) := dk_180 1 80 (dk_at dksX2_keyOf_2 20 rfl rfl)
theorem dX2_keyOf_69 : decode cX2_keyOf 69 = .ok (.iaload, 1) := dk_46 (dk_at dksX2_keyOf_2 23 rfl rfl)
theorem dX2_keyOf_70 : decode cX2_keyOf 70 = .ok (.ireturn, 1) := dk_172 (dk_at dksX2_keyOf_3 0 rfl rfl)
abbrev cX2_aboardAhead : ByteArray := prog_15_method_82_code
def yX2_aboardAhead : MethodName := ⟨RX2, "aboardAhead", "(II)I"⟩
def dkwX2_aboardAhead_1 : List UInt8 := [167, 0, 4, 3, 96, 62, 132, 4, 1, 167, 255, 228, 29, 172]
abbrev dktX2_aboardAhead_1 : List UInt8 := dkwX2_aboardAhead_1 ++ []
def dkwX2_aboardAhead_0 : List UInt8 := [3, 62, 3, 54, 4, 21, 4, 27, 162, 0, 28, 29, 42, 180, 0, 41, 21, 4, 46, 28, 160, 0, 7, 4]
abbrev dktX2_aboardAhead_0 : List UInt8 := dkwX2_aboardAhead_0 ++ dktX2_aboardAhead_1
theorem dksX2_aboardAhead_0 : cX2_aboardAhead.data.toList.drop 0 = dktX2_aboardAhead_0 := by decide +kernel
theorem dksX2_aboardAhead_1 : cX2_aboardAhead.data.toList.drop 24 = dktX2_aboardAhead_1 := dk_seg dksX2_aboardAhead_0 24 rfl rfl
theorem dX2_aboardAhead_0 : decode cX2_aboardAhead 0 = .ok (.iconst 0, 1) := dk_3 (dk_at dksX2_aboardAhead_0 0 rfl rfl)
theorem dX2_aboardAhead_1 : decode cX2_aboardAhead 1 = .ok (.istore_n 3, 1) := dk_62 (dk_at dksX2_aboardAhead_0 1 rfl rfl)
theorem dX2_aboardAhead_2 : decode cX2_aboardAhead 2 = .ok (.iconst 0, 1) := dk_3 (dk_at dksX2_aboardAhead_0 2 rfl rfl)
theorem dX2_aboardAhead_3 : decode cX2_aboardAhead 3 = .ok (.istore 4, 2) := dk_54 4 (dk_at dksX2_aboardAhead_0 3 rfl rfl)
theorem dX2_aboardAhead_5 : decode cX2_aboardAhead 5 = .ok (.iload 4, 2) := dk_21 4 (dk_at dksX2_aboardAhead_0 5 rfl rfl)
theorem dX2_aboardAhead_7 : decode cX2_aboardAhead 7 = .ok (.iload_n 1, 1) := dk_27 (dk_at dksX2_aboardAhead_0 7 rfl rfl)
theorem dX2_aboardAhead_8 : decode cX2_aboardAhead 8 = .ok (.if_icmp .ge 28, 3) := dk_162 0 28 (dk_at dksX2_aboardAhead_0 8 rfl rfl)
theorem dX2_aboardAhead_11 : decode cX2_aboardAhead 11 = .ok (.iload_n 3, 1) := dk_29 (dk_at dksX2_aboardAhead_0 11 rfl rfl)
theorem dX2_aboardAhead_12 : decode cX2_aboardAhead 12 = .ok (.aload_n 0, 1) := dk_42 (dk_at dksX2_aboardAhead_0 12 rfl rfl)
theorem dX2_aboardAhead_13 : decode cX2_aboardAhead 13 = .ok (.getfield 41, 3) := dk_180 0 41 (dk_at dksX2_aboardAhead_0 13 rfl rfl)
theorem dX2_aboardAhead_16 : decode cX2_aboardAhead 16 = .ok (.iload 4, 2) := dk_21 4 (dk_at dksX2_aboardAhead_0 16 rfl rfl)
theorem dX2_aboardAhead_18 : decode cX2_aboardAhead 18 = .ok (.iaload, 1) := dk_46 (dk_at dksX2_aboardAhead_0 18 rfl rfl)
theorem dX2_aboardAhead_19 : decode cX2_aboardAhead 19 = .ok (.iload_n 2, 1) := dk_28 (dk_at dksX2_aboardAhead_0 19 rfl rfl)
theorem dX2_aboardAhead_20 : decode cX2_aboardAhead 20 = .ok (.if_icmp .ne 7, 3) := dk_160 0 7 (dk_at dksX2_aboardAhead_0 20 rfl rfl)
theorem dX2_aboardAhead_23 : decode cX2_aboardAhead 23 = .ok (.iconst 1, 1) := dk_4 (dk_at dksX2_aboardAhead_0 23 rfl rfl)
theorem dX2_aboardAhead_24 : decode cX2_aboardAhead 24 = .ok (.goto 4, 3) := dk_167 0 4 (dk_at dksX2_aboardAhead_1 0 rfl rfl)
theorem dX2_aboardAhead_27 : decode cX2_aboardAhead 27 = .ok (.iconst 0, 1) := dk_3 (dk_at dksX2_aboardAhead_1 3 rfl rfl)
theorem dX2_aboardAhead_28 : decode cX2_aboardAhead 28 = .ok (.iadd, 1) := dk_96 (dk_at dksX2_aboardAhead_1 4 rfl rfl)
theorem dX2_aboardAhead_29 : decode cX2_aboardAhead 29 = .ok (.istore_n 3, 1) := dk_62 (dk_at dksX2_aboardAhead_1 5 rfl rfl)
theorem dX2_aboardAhead_30 : decode cX2_aboardAhead 30 = .ok (.iinc 4 1, 3) := dk_132 4 1 (dk_at dksX2_aboardAhead_1 6 rfl rfl)
theorem dX2_aboardAhead_33 : decode cX2_aboardAhead 33 = .ok (.goto (-28), 3) := dk_167 255 228 (dk_at dksX2_aboardAhead_1 9 rfl rfl)
theorem dX2_aboardAhead_36 : decode cX2_aboardAhead 36 = .ok (.iload_n 3, 1) := dk_29 (dk_at dksX2_aboardAhead_1 12 rfl rfl)
theorem dX2_aboardAhead_37 : decode cX2_aboardAhead 37 = .ok (.ireturn, 1) := dk_172 (dk_at dksX2_aboardAhead_1 13 rfl rfl)
abbrev cX2_loadOf : ByteArray := prog_15_method_86_code
def yX2_loadOf : MethodName := ⟨RX2, "loadOf", "(II)I"⟩
def dkwX2_loadOf_1 : List UInt8 := [182, 0, 166, 172, 42, 27, 182, 1, 102, 42, 28, 182, 1, 105, 172]
abbrev dktX2_loadOf_1 : List UInt8 := dkwX2_loadOf_1 ++ []
def dkwX2_loadOf_0 : List UInt8 := [42, 182, 0, 163, 42, 27, 182, 1, 53, 153, 0, 11, 42, 28, 182, 1, 56, 154, 0, 9, 42, 4]
abbrev dktX2_loadOf_0 : List UInt8 := dkwX2_loadOf_0 ++ dktX2_loadOf_1
theorem dksX2_loadOf_0 : cX2_loadOf.data.toList.drop 0 = dktX2_loadOf_0 := by decide +kernel
theorem dksX2_loadOf_1 : cX2_loadOf.data.toList.drop 22 = dktX2_loadOf_1 := dk_seg dksX2_loadOf_0 22 rfl rfl
theorem dX2_loadOf_0 : decode cX2_loadOf 0 = .ok (.aload_n 0, 1) := dk_42 (dk_at dksX2_loadOf_0 0 rfl rfl)
theorem dX2_loadOf_1 : decode cX2_loadOf 1 = .ok (.invokevirtual 163, 3) := dk_182 0 163 (dk_at dksX2_loadOf_0 1 rfl rfl)
theorem dX2_loadOf_4 : decode cX2_loadOf 4 = .ok (.aload_n 0, 1) := dk_42 (dk_at dksX2_loadOf_0 4 rfl rfl)
theorem dX2_loadOf_5 : decode cX2_loadOf 5 = .ok (.iload_n 1, 1) := dk_27 (dk_at dksX2_loadOf_0 5 rfl rfl)
theorem dX2_loadOf_6 : decode cX2_loadOf 6 = .ok (.invokevirtual 309, 3) := dk_182 1 53 (dk_at dksX2_loadOf_0 6 rfl rfl)
theorem dX2_loadOf_9 : decode cX2_loadOf 9 = .ok (.ifCond .eq 11, 3) := dk_153 0 11 (dk_at dksX2_loadOf_0 9 rfl rfl)
theorem dX2_loadOf_12 : decode cX2_loadOf 12 = .ok (.aload_n 0, 1) := dk_42 (dk_at dksX2_loadOf_0 12 rfl rfl)
theorem dX2_loadOf_13 : decode cX2_loadOf 13 = .ok (.iload_n 2, 1) := dk_28 (dk_at dksX2_loadOf_0 13 rfl rfl)
theorem dX2_loadOf_14 : decode cX2_loadOf 14 = .ok (.invokevirtual 312, 3) := dk_182 1 56 (dk_at dksX2_loadOf_0 14 rfl rfl)
theorem dX2_loadOf_17 : decode cX2_loadOf 17 = .ok (.ifCond .ne 9, 3) := dk_154 0 9 (dk_at dksX2_loadOf_0 17 rfl rfl)
theorem dX2_loadOf_20 : decode cX2_loadOf 20 = .ok (.aload_n 0, 1) := dk_42 (dk_at dksX2_loadOf_0 20 rfl rfl)
theorem dX2_loadOf_21 : decode cX2_loadOf 21 = .ok (.iconst 1, 1) := dk_4 (dk_at dksX2_loadOf_0 21 rfl rfl)
theorem dX2_loadOf_22 : decode cX2_loadOf 22 = .ok (.invokevirtual 166, 3) := dk_182 0 166 (dk_at dksX2_loadOf_1 0 rfl rfl)
theorem dX2_loadOf_25 : decode cX2_loadOf 25 = .ok (.ireturn, 1) := dk_172 (dk_at dksX2_loadOf_1 3 rfl rfl)
theorem dX2_loadOf_26 : decode cX2_loadOf 26 = .ok (.aload_n 0, 1) := dk_42 (dk_at dksX2_loadOf_1 4 rfl rfl)
theorem dX2_loadOf_27 : decode cX2_loadOf 27 = .ok (.iload_n 1, 1) := dk_27 (dk_at dksX2_loadOf_1 5 rfl rfl)
theorem dX2_loadOf_28 : decode cX2_loadOf 28 = .ok (.invokevirtual 358, 3) := dk_182 1 102 (dk_at dksX2_loadOf_1 6 rfl rfl)
theorem dX2_loadOf_31 : decode cX2_loadOf 31 = .ok (.aload_n 0, 1) := dk_42 (dk_at dksX2_loadOf_1 9 rfl rfl)
theorem dX2_loadOf_32 : decode cX2_loadOf 32 = .ok (.iload_n 2, 1) := dk_28 (dk_at dksX2_loadOf_1 10 rfl rfl)
theorem dX2_loadOf_33 : decode cX2_loadOf 33 = .ok (.invokevirtual 361, 3) := dk_182 1 105 (dk_at dksX2_loadOf_1 11 rfl rfl)
theorem dX2_loadOf_36 : decode cX2_loadOf 36 = .ok (.ireturn, 1) := dk_172 (dk_at dksX2_loadOf_1 14 rfl rfl)
abbrev cX2_bestAt : ByteArray := prog_15_method_84_code
def yX2_bestAt : MethodName := ⟨RX2, "bestAt", "(I)I"⟩
def dkwX2_bestAt_0 : List UInt8 := [42, 180, 0, 44, 27, 46, 154, 0, 8, 16, 254, 167, 0, 11, 42, 180, 0, 44, 27, 46, 4, 100, 172]
abbrev dktX2_bestAt_0 : List UInt8 := dkwX2_bestAt_0 ++ []
theorem dksX2_bestAt_0 : cX2_bestAt.data.toList.drop 0 = dktX2_bestAt_0 := by decide +kernel
theorem dX2_bestAt_0 : decode cX2_bestAt 0 = .ok (.aload_n 0, 1) := dk_42 (dk_at dksX2_bestAt_0 0 rfl rfl)
theorem dX2_bestAt_1 : decode cX2_bestAt 1 = .ok (.getfield 44, 3) := dk_180 0 44 (dk_at dksX2_bestAt_0 1 rfl rfl)
theorem dX2_bestAt_4 : decode cX2_bestAt 4 = .ok (.iload_n 1, 1) := dk_27 (dk_at dksX2_bestAt_0 4 rfl rfl)
theorem dX2_bestAt_5 : decode cX2_bestAt 5 = .ok (.iaload, 1) := dk_46 (dk_at dksX2_bestAt_0 5 rfl rfl)
theorem dX2_bestAt_6 : decode cX2_bestAt 6 = .ok (.ifCond .ne 8, 3) := dk_154 0 8 (dk_at dksX2_bestAt_0 6 rfl rfl)
theorem dX2_bestAt_9 : decode cX2_bestAt 9 = .ok (.bipush (-2), 2) := dk_16 254 (dk_at dksX2_bestAt_0 9 rfl rfl)
theorem dX2_bestAt_11 : decode cX2_bestAt 11 = .ok (.goto 11, 3) := dk_167 0 11 (dk_at dksX2_bestAt_0 11 rfl rfl)
theorem dX2_bestAt_14 : decode cX2_bestAt 14 = .ok (.aload_n 0, 1) := dk_42 (dk_at dksX2_bestAt_0 14 rfl rfl)
theorem dX2_bestAt_15 : decode cX2_bestAt 15 = .ok (.getfield 44, 3) := dk_180 0 44 (dk_at dksX2_bestAt_0 15 rfl rfl)
theorem dX2_bestAt_18 : decode cX2_bestAt 18 = .ok (.iload_n 1, 1) := dk_27 (dk_at dksX2_bestAt_0 18 rfl rfl)
theorem dX2_bestAt_19 : decode cX2_bestAt 19 = .ok (.iaload, 1) := dk_46 (dk_at dksX2_bestAt_0 19 rfl rfl)
theorem dX2_bestAt_20 : decode cX2_bestAt 20 = .ok (.iconst 1, 1) := dk_4 (dk_at dksX2_bestAt_0 20 rfl rfl)
theorem dX2_bestAt_21 : decode cX2_bestAt 21 = .ok (.isub, 1) := dk_100 (dk_at dksX2_bestAt_0 21 rfl rfl)
theorem dX2_bestAt_22 : decode cX2_bestAt 22 = .ok (.ireturn, 1) := dk_172 (dk_at dksX2_bestAt_0 22 rfl rfl)
abbrev cX2_loadMoves : ByteArray := prog_15_method_87_code
def yX2_loadMoves : MethodName := ⟨RX2, "loadMoves", "(I)I"⟩
def dkwX2_loadMoves_1 : List UInt8 := [180, 1, 92, 172]
abbrev dktX2_loadMoves_1 : List UInt8 := dkwX2_loadMoves_1 ++ []
def dkwX2_loadMoves_0 : List UInt8 := [42, 182, 0, 163, 42, 27, 182, 1, 53, 154, 0, 9, 42, 4, 182, 0, 166, 172, 42, 27, 182, 1, 102, 42]
abbrev dktX2_loadMoves_0 : List UInt8 := dkwX2_loadMoves_0 ++ dktX2_loadMoves_1
theorem dksX2_loadMoves_0 : cX2_loadMoves.data.toList.drop 0 = dktX2_loadMoves_0 := by decide +kernel
theorem dksX2_loadMoves_1 : cX2_loadMoves.data.toList.drop 24 = dktX2_loadMoves_1 := dk_seg dksX2_loadMoves_0 24 rfl rfl
theorem dX2_loadMoves_0 : decode cX2_loadMoves 0 = .ok (.aload_n 0, 1) := dk_42 (dk_at dksX2_loadMoves_0 0 rfl rfl)
theorem dX2_loadMoves_1 : decode cX2_loadMoves 1 = .ok (.invokevirtual 163, 3) := dk_182 0 163 (dk_at dksX2_loadMoves_0 1 rfl rfl)
theorem dX2_loadMoves_4 : decode cX2_loadMoves 4 = .ok (.aload_n 0, 1) := dk_42 (dk_at dksX2_loadMoves_0 4 rfl rfl)
theorem dX2_loadMoves_5 : decode cX2_loadMoves 5 = .ok (.iload_n 1, 1) := dk_27 (dk_at dksX2_loadMoves_0 5 rfl rfl)
theorem dX2_loadMoves_6 : decode cX2_loadMoves 6 = .ok (.invokevirtual 309, 3) := dk_182 1 53 (dk_at dksX2_loadMoves_0 6 rfl rfl)
theorem dX2_loadMoves_9 : decode cX2_loadMoves 9 = .ok (.ifCond .ne 9, 3) := dk_154 0 9 (dk_at dksX2_loadMoves_0 9 rfl rfl)
theorem dX2_loadMoves_12 : decode cX2_loadMoves 12 = .ok (.aload_n 0, 1) := dk_42 (dk_at dksX2_loadMoves_0 12 rfl rfl)
theorem dX2_loadMoves_13 : decode cX2_loadMoves 13 = .ok (.iconst 1, 1) := dk_4 (dk_at dksX2_loadMoves_0 13 rfl rfl)
theorem dX2_loadMoves_14 : decode cX2_loadMoves 14 = .ok (.invokevirtual 166, 3) := dk_182 0 166 (dk_at dksX2_loadMoves_0 14 rfl rfl)
theorem dX2_loadMoves_17 : decode cX2_loadMoves 17 = .ok (.ireturn, 1) := dk_172 (dk_at dksX2_loadMoves_0 17 rfl rfl)
theorem dX2_loadMoves_18 : decode cX2_loadMoves 18 = .ok (.aload_n 0, 1) := dk_42 (dk_at dksX2_loadMoves_0 18 rfl rfl)
theorem dX2_loadMoves_19 : decode cX2_loadMoves 19 = .ok (.iload_n 1, 1) := dk_27 (dk_at dksX2_loadMoves_0 19 rfl rfl)
theorem dX2_loadMoves_20 : decode cX2_loadMoves 20 = .ok (.invokevirtual 358, 3) := dk_182 1 102 (dk_at dksX2_loadMoves_0 20 rfl rfl)
theorem dX2_loadMoves_23 : decode cX2_loadMoves 23 = .ok (.aload_n 0, 1) := dk_42 (dk_at dksX2_loadMoves_0 23 rfl rfl)
theorem dX2_loadMoves_24 : decode cX2_loadMoves 24 = .ok (.getfield 348, 3) := dk_180 1 92 (dk_at dksX2_loadMoves_1 0 rfl rfl)
theorem dX2_loadMoves_27 : decode cX2_loadMoves 27 = .ok (.ireturn, 1) := dk_172 (dk_at dksX2_loadMoves_1 3 rfl rfl)
abbrev cX2_leastTotal : ByteArray := prog_15_method_88_code
def yX2_leastTotal : MethodName := ⟨RX2, "leastTotal", "(I)I"⟩
def dkwX2_leastTotal_1 : List UInt8 := [180, 1, 83, 172]
abbrev dktX2_leastTotal_1 : List UInt8 := dkwX2_leastTotal_1 ++ []
def dkwX2_leastTotal_0 : List UInt8 := [42, 182, 0, 163, 42, 27, 182, 1, 53, 154, 0, 9, 42, 4, 182, 0, 166, 172, 42, 27, 182, 1, 102, 42]
abbrev dktX2_leastTotal_0 : List UInt8 := dkwX2_leastTotal_0 ++ dktX2_leastTotal_1
theorem dksX2_leastTotal_0 : cX2_leastTotal.data.toList.drop 0 = dktX2_leastTotal_0 := by decide +kernel
theorem dksX2_leastTotal_1 : cX2_leastTotal.data.toList.drop 24 = dktX2_leastTotal_1 := dk_seg dksX2_leastTotal_0 24 rfl rfl
theorem dX2_leastTotal_0 : decode cX2_leastTotal 0 = .ok (.aload_n 0, 1) := dk_42 (dk_at dksX2_leastTotal_0 0 rfl rfl)
theorem dX2_leastTotal_1 : decode cX2_leastTotal 1 = .ok (.invokevirtual 163, 3) := dk_182 0 163 (dk_at dksX2_leastTotal_0 1 rfl rfl)
theorem dX2_leastTotal_4 : decode cX2_leastTotal 4 = .ok (.aload_n 0, 1) := dk_42 (dk_at dksX2_leastTotal_0 4 rfl rfl)
theorem dX2_leastTotal_5 : decode cX2_leastTotal 5 = .ok (.iload_n 1, 1) := dk_27 (dk_at dksX2_leastTotal_0 5 rfl rfl)
theorem dX2_leastTotal_6 : decode cX2_leastTotal 6 = .ok (.invokevirtual 309, 3) := dk_182 1 53 (dk_at dksX2_leastTotal_0 6 rfl rfl)
theorem dX2_leastTotal_9 : decode cX2_leastTotal 9 = .ok (.ifCond .ne 9, 3) := dk_154 0 9 (dk_at dksX2_leastTotal_0 9 rfl rfl)
theorem dX2_leastTotal_12 : decode cX2_leastTotal 12 = .ok (.aload_n 0, 1) := dk_42 (dk_at dksX2_leastTotal_0 12 rfl rfl)
theorem dX2_leastTotal_13 : decode cX2_leastTotal 13 = .ok (.iconst 1, 1) := dk_4 (dk_at dksX2_leastTotal_0 13 rfl rfl)
theorem dX2_leastTotal_14 : decode cX2_leastTotal 14 = .ok (.invokevirtual 166, 3) := dk_182 0 166 (dk_at dksX2_leastTotal_0 14 rfl rfl)
theorem dX2_leastTotal_17 : decode cX2_leastTotal 17 = .ok (.ireturn, 1) := dk_172 (dk_at dksX2_leastTotal_0 17 rfl rfl)
theorem dX2_leastTotal_18 : decode cX2_leastTotal 18 = .ok (.aload_n 0, 1) := dk_42 (dk_at dksX2_leastTotal_0 18 rfl rfl)
theorem dX2_leastTotal_19 : decode cX2_leastTotal 19 = .ok (.iload_n 1, 1) := dk_27 (dk_at dksX2_leastTotal_0 19 rfl rfl)
theorem dX2_leastTotal_20 : decode cX2_leastTotal 20 = .ok (.invokevirtual 358, 3) := dk_182 1 102 (dk_at dksX2_leastTotal_0 20 rfl rfl)
theorem dX2_leastTotal_23 : decode cX2_leastTotal 23 = .ok (.aload_n 0, 1) := dk_42 (dk_at dksX2_leastTotal_0 23 rfl rfl)
theorem dX2_leastTotal_24 : decode cX2_leastTotal 24 = .ok (.getfield 339, 3) := dk_180 1 83 (dk_at dksX2_leastTotal_1 0 rfl rfl)
theorem dX2_leastTotal_27 : decode cX2_leastTotal 27 = .ok (.ireturn, 1) := dk_172 (dk_at dksX2_leastTotal_1 3 rfl rfl)
abbrev cX2_friendly : ByteArray := prog_15_method_89_code
def yX2_friendly : MethodName := ⟨RX2, "friendly", "()I"⟩
def dkwX2_friendly_1 : List UInt8 := [180, 1, 89, 116, 172]
abbrev dktX2_friendly_1 : List UInt8 := dkwX2_friendly_1 ++ []
def dkwX2_friendly_0 : List UInt8 := [42, 182, 0, 163, 42, 180, 0, 176, 154, 0, 9, 42, 4, 182, 0, 166, 172, 42, 2, 182, 1, 102, 42]
abbrev dktX2_friendly_0 : List UInt8 := dkwX2_friendly_0 ++ dktX2_friendly_1
theorem dksX2_friendly_0 : cX2_friendly.data.toList.drop 0 = dktX2_friendly_0 := by decide +kernel
theorem dksX2_friendly_1 : cX2_friendly.data.toList.drop 23 = dktX2_friendly_1 := dk_seg dksX2_friendly_0 23 rfl rfl
theorem dX2_friendly_0 : decode cX2_friendly 0 = .ok (.aload_n 0, 1) := dk_42 (dk_at dksX2_friendly_0 0 rfl rfl)
theorem dX2_friendly_1 : decode cX2_friendly 1 = .ok (.invokevirtual 163, 3) := dk_182 0 163 (dk_at dksX2_friendly_0 1 rfl rfl)
theorem dX2_friendly_4 : decode cX2_friendly 4 = .ok (.aload_n 0, 1) := dk_42 (dk_at dksX2_friendly_0 4 rfl rfl)
theorem dX2_friendly_5 : decode cX2_friendly 5 = .ok (.getfield 176, 3) := dk_180 0 176 (dk_at dksX2_friendly_0 5 rfl rfl)
theorem dX2_friendly_8 : decode cX2_friendly 8 = .ok (.ifCond .ne 9, 3) := dk_154 0 9 (dk_at dksX2_friendly_0 8 rfl rfl)
theorem dX2_friendly_11 : decode cX2_friendly 11 = .ok (.aload_n 0, 1) := dk_42 (dk_at dksX2_friendly_0 11 rfl rfl)
theorem dX2_friendly_12 : decode cX2_friendly 12 = .ok (.iconst 1, 1) := dk_4 (dk_at dksX2_friendly_0 12 rfl rfl)
theorem dX2_friendly_13 : decode cX2_friendly 13 = .ok (.invokevirtual 166, 3) := dk_182 0 166 (dk_at dksX2_friendly_0 13 rfl rfl)
theorem dX2_friendly_16 : decode cX2_friendly 16 = .ok (.ireturn, 1) := dk_172 (dk_at dksX2_friendly_0 16 rfl rfl)
theorem dX2_friendly_17 : decode cX2_friendly 17 = .ok (.aload_n 0, 1) := dk_42 (dk_at dksX2_friendly_0 17 rfl rfl)
theorem dX2_friendly_18 : decode cX2_friendly 18 = .ok (.iconst (-1), 1) := dk_2 (dk_at dksX2_friendly_0 18 rfl rfl)
theorem dX2_friendly_19 : decode cX2_friendly 19 = .ok (.invokevirtual 358, 3) := dk_182 1 102 (dk_at dksX2_friendly_0 19 rfl rfl)
theorem dX2_friendly_22 : decode cX2_friendly 22 = .ok (.aload_n 0, 1) := dk_42 (dk_at dksX2_friendly_0 22 rfl rfl)
theorem dX2_friendly_23 : decode cX2_friendly 23 = .ok (.getfield 345, 3) := dk_180 1 89 (dk_at dksX2_friendly_1 0 rfl rfl)
theorem dX2_friendly_26 : decode cX2_friendly 26 = .ok (.ineg, 1) := dk_116 (dk_at dksX2_friendly_1 3 rfl rfl)
theorem dX2_friendly_27 : decode cX2_friendly 27 = .ok (.ireturn, 1) := dk_172 (dk_at dksX2_friendly_1 4 rfl rfl)
abbrev cX2_friendlyOf : ByteArray := prog_15_method_90_code
def yX2_friendlyOf : MethodName := ⟨RX2, "friendlyOf", "(I)I"⟩
def dkwX2_friendlyOf_1 : List UInt8 := [27, 182, 1, 105, 172]
abbrev dktX2_friendlyOf_1 : List UInt8 := dkwX2_friendlyOf_1 ++ []
def dkwX2_friendlyOf_0 : List UInt8 := [42, 182, 0, 163, 42, 27, 182, 1, 56, 154, 0, 9, 42, 4, 182, 0, 166, 172, 42, 2, 182, 1, 102, 42]
abbrev dktX2_friendlyOf_0 : List UInt8 := dkwX2_friendlyOf_0 ++ dktX2_friendlyOf_1
theorem dksX2_friendlyOf_0 : cX2_friendlyOf.data.toList.drop 0 = dktX2_friendlyOf_0 := by decide +kernel
theorem dksX2_friendlyOf_1 : cX2_friendlyOf.data.toList.drop 24 = dktX2_friendlyOf_1 := dk_seg dksX2_friendlyOf_0 24 rfl rfl
theorem dX2_friendlyOf_0 : decode cX2_friendlyOf 0 = .ok (.aload_n 0, 1) := dk_42 (dk_at dksX2_friendlyOf_0 0 rfl rfl)
theorem dX2_friendlyOf_1 : decode cX2_friendlyOf 1 = .ok (.invokevirtual 163, 3) := dk_182 0 163 (dk_at dksX2_friendlyOf_0 1 rfl rfl)
theorem dX2_friendlyOf_4 : decode cX2_friendlyOf 4 = .ok (.aload_n 0, 1) := dk_42 (dk_at dksX2_friendlyOf_0 4 rfl rfl)
theorem dX2_friendlyOf_5 : decode cX2_friendlyOf 5 = .ok (.iload_n 1, 1) := dk_27 (dk_at dksX2_friendlyOf_0 5 rfl rfl)
theorem dX2_friendlyOf_6 : decode cX2_friendlyOf 6 = .ok (.invokevirtual 312, 3) := dk_182 1 56 (dk_at dksX2_friendlyOf_0 6 rfl rfl)
theorem dX2_friendlyOf_9 : decode cX2_friendlyOf 9 = .ok (.ifCond .ne 9, 3) := dk_154 0 9 (dk_at dksX2_friendlyOf_0 9 rfl rfl)
theorem dX2_friendlyOf_12 : decode cX2_friendlyOf 12 = .ok (.aload_n 0, 1) := dk_42 (dk_at dksX2_friendlyOf_0 12 rfl rfl)
theorem dX2_friendlyOf_13 : decode cX2_friendlyOf 13 = .ok (.iconst 1, 1) := dk_4 (dk_at dksX2_friendlyOf_0 13 rfl rfl)
theorem dX2_friendlyOf_14 : decode cX2_friendlyOf 14 = .ok (.invokevirtual 166, 3) := dk_182 0 166 (dk_at dksX2_friendlyOf_0 14 rfl rfl)
theorem dX2_friendlyOf_17 : decode cX2_friendlyOf 17 = .ok (.ireturn, 1) := dk_172 (dk_at dksX2_friendlyOf_0 17 rfl rfl)
theorem dX2_friendlyOf_18 : decode cX2_friendlyOf 18 = .ok (.aload_n 0, 1) := dk_42 (dk_at dksX2_friendlyOf_0 18 rfl rfl)
theorem dX2_friendlyOf_19 : decode cX2_friendlyOf 19 = .ok (.iconst (-1), 1) := dk_2 (dk_at dksX2_friendlyOf_0 19 rfl rfl)
theorem dX2_friendlyOf_20 : decode cX2_friendlyOf 20 = .ok (.invokevirtual 358, 3) := dk_182 1 102 (dk_at dksX2_friendlyOf_0 20 rfl rfl)
theorem dX2_friendlyOf_23 : decode cX2_friendlyOf 23 = .ok (.aload_n 0, 1) := dk_42 (dk_at dksX2_friendlyOf_0 23 rfl rfl)
theorem dX2_friendlyOf_24 : decode cX2_friendlyOf 24 = .ok (.iload_n 1, 1) := dk_27 (dk_at dksX2_friendlyOf_1 0 rfl rfl)
theorem dX2_friendlyOf_25 : decode cX2_friendlyOf 25 = .ok (.invokevirtual 361, 3) := dk_182 1 105 (dk_at dksX2_friendlyOf_1 1 rfl rfl)
theorem dX2_friendlyOf_28 : decode cX2_friendlyOf 28 = .ok (.ireturn, 1) := dk_172 (dk_at dksX2_friendlyOf_1 4 rfl rfl)
abbrev cX2_leastFor : ByteArray := prog_15_method_92_code
def yX2_leastFor : MethodName := ⟨RX2, "leastFor", "(II)I"⟩
def dkwX2_leastFor_7 : List UInt8 := [163, 0, 7, 21, 5, 54, 4, 132, 5, 1, 167, 255, 128, 21, 4, 172]
abbrev dktX2_leastFor_7 : List UInt8 := dkwX2_leastFor_7 ++ []
def dkwX2_leastFor_6 : List UInt8 := [96, 167, 0, 4, 3, 79, 132, 6, 1, 167, 255, 217, 42, 42, 180, 0, 41, 27, 182, 1, 41, 28]
abbrev dktX2_leastFor_6 : List UInt8 := dkwX2_leastFor_6 ++ dktX2_leastFor_7
def dkwX2_leastFor_5 : List UInt8 := [16, 7, 46, 162, 0, 33, 42, 180, 0, 41, 21, 6, 21, 5, 21, 6, 184, 1, 5, 153, 0, 9, 27, 4]
abbrev dktX2_leastFor_5 : List UInt8 := dkwX2_leastFor_5 ++ dktX2_leastFor_6
def dkwX2_leastFor_4 : List UInt8 := [180, 0, 26, 3, 42, 180, 0, 41, 3, 16, 8, 184, 0, 172, 3, 54, 6, 21, 6, 42, 180, 0, 20]
abbrev dktX2_leastFor_4 : List UInt8 := dkwX2_leastFor_4 ++ dktX2_leastFor_5
def dkwX2_leastFor_3 : List UInt8 := [21, 4, 155, 0, 19, 21, 5, 184, 1, 16, 21, 4, 184, 1, 16, 161, 0, 6, 167, 0, 80, 42]
abbrev dktX2_leastFor_3 : List UInt8 := dkwX2_leastFor_3 ++ dktX2_leastFor_4
def dkwX2_leastFor_2 : List UInt8 := [42, 180, 0, 20, 16, 7, 46, 120, 162, 0, 120, 21, 5, 184, 1, 16, 42, 27, 182, 1, 28, 163, 0, 101]
abbrev dktX2_leastFor_2 : List UInt8 := dkwX2_leastFor_2 ++ dktX2_leastFor_3
def dkwX2_leastFor_1 : List UInt8 := [182, 1, 108, 62, 29, 153, 0, 9, 42, 29, 182, 0, 166, 172, 16, 254, 54, 4, 3, 54, 5, 21, 5, 4]
abbrev dktX2_leastFor_1 : List UInt8 := dkwX2_leastFor_1 ++ dktX2_leastFor_2
def dkwX2_leastFor_0 : List UInt8 := [42, 182, 0, 163, 42, 182, 1, 50, 42, 42, 27, 182, 1, 53, 28, 3, 17, 117, 48, 184, 0, 144]
abbrev dktX2_leastFor_0 : List UInt8 := dkwX2_leastFor_0 ++ dktX2_leastFor_1
theorem dksX2_leastFor_0 : cX2_leastFor.data.toList.drop 0 = dktX2_leastFor_0 := by decide +kernel
theorem dksX2_leastFor_1 : cX2_leastFor.data.toList.drop 22 = dktX2_leastFor_1 := dk_seg dksX2_leastFor_0 22 rfl rfl
theorem dksX2_leastFor_2 : cX2_leastFor.data.toList.drop 46 = dktX2_leastFor_2 := dk_seg dksX2_leastFor_1 24 rfl rfl
theorem dksX2_leastFor_3 : cX2_leastFor.data.toList.drop 70 = dktX2_leastFor_3 := dk_seg dksX2_leastFor_2 24 rfl rfl
theorem dksX2_leastFor_4 : cX2_leastFor.data.toList.drop 92 = dktX2_leastFor_4 := dk_seg dksX2_leastFor_3 22 rfl rfl
theorem dksX2_leastFor_5 : cX2_leastFor.data.toList.drop 115 = dktX2_leastFor_5 := dk_seg dksX2_leastFor_4 23 rfl rfl
theorem dksX2_leastFor_6 : cX2_leastFor.data.toList.drop 139 = dktX2_leastFor_6 := dk_seg dksX2_leastFor_5 24 rfl rfl
theorem dksX2_leastFor_7 : cX2_leastFor.data.toList.drop 161 = dktX2_leastFor_7 := dk_seg dksX2_leastFor_6 22 rfl rfl
theorem dX2_leastFor_0 : decode cX2_leastFor 0 = .ok (.aload_n 0, 1) := dk_42 (dk_at dksX2_leastFor_0 0 rfl rfl)
theorem dX2_leastFor_1 : decode cX2_leastFor 1 = .ok (.invokevirtual 163, 3) := dk_182 0 163 (dk_at dksX2_leastFor_0 1 rfl rfl)
theorem dX2_leastFor_4 : decode cX2_leastFor 4 = .ok (.aload_n 0, 1) := dk_42 (dk_at dksX2_leastFor_0 4 rfl rfl)
theorem dX2_leastFor_5 : decode cX2_leastFor 5 = .ok (.invokevirtual 306, 3) := dk_182 1 50 (dk_at dksX2_leastFor_0 5 rfl rfl)
theorem dX2_leastFor_8 : decode cX2_leastFor 8 = .ok (.aload_n 0, 1) := dk_42 (dk_at dksX2_leastFor_0 8 rfl rfl)
theorem dX2_leastFor_9 : decode cX2_leastFor 9 = .ok (.aload_n 0, 1) := dk_42 (dk_at dksX2_leastFor_0 9 rfl rfl)
theorem dX2_leastFor_10 : decode cX2_leastFor 10 = .ok (.iload_n 1, 1) := dk_27 (dk_at dksX2_leastFor_0 10 rfl rfl)
theorem dX2_leastFor_11 : decode cX2_leastFor 11 = .ok (.invokevirtual 309, 3) := dk_182 1 53 (dk_at dksX2_leastFor_0 11 rfl rfl)
theorem dX2_leastFor_14 : decode cX2_leastFor 14 = .ok (.iload_n 2, 1) := dk_28 (dk_at dksX2_leastFor_0 14 rfl rfl)
theorem dX2_leastFor_15 : decode cX2_leastFor 15 = .ok (.iconst 0, 1) := dk_3 (dk_at dksX2_leastFor_0 15 rfl rfl)
theorem dX2_leastFor_16 : decode cX2_leastFor 16 = .ok (.sipush 30000, 3) := dk_17 117 48 (dk_at dksX2_leastFor_0 16 rfl rfl)
theorem dX2_leastFor_19 : decode cX2_leastFor 19 = .ok (.invokestatic 144, 3) := dk_184 0 144 (dk_at dksX2_leastFor_0 19 rfl rfl)
theorem dX2_leastFor_22 : decode cX2_leastFor 22 = .ok (.invokevirtual 364, 3) := dk_182 1 108 (dk_at dksX2_leastFor_1 0 rfl rfl)
theorem dX2_leastFor_25 : decode cX2_leastFor 25 = .ok (.istore_n 3, 1) := dk_62 (dk_at dksX2_leastFor_1 3 rfl rfl)
theorem dX2_leastFor_26 : decode cX2_leastFor 26 = .ok (.iload_n 3, 1) := dk_29 (dk_at dksX2_leastFor_1 4 rfl rfl)
theorem dX2_leastFor_27 : decode cX2_leastFor 27 = .ok (.ifCond .eq 9, 3) := dk_153 0 9 (dk_at dksX2_leastFor_1 5 rfl rfl)
theorem dX2_leastFor_30 : decode cX2_leastFor 30 = .ok (.aload_n 0, 1) := dk_42 (dk_at dksX2_leastFor_1 8 rfl rfl)
theorem dX2_leastFor_31 : decode cX2_leastFor 31 = .ok (.iload_n 3, 1) := dk_29 (dk_at dksX2_leastFor_1 9 rfl rfl)
theorem dX2_leastFor_32 : decode cX2_leastFor 32 = .ok (.invokevirtual 166, 3) := dk_182 0 166 (dk_at dksX2_leastFor_1 10 rfl rfl)
theorem dX2_leastFor_35 : decode cX2_leastFor 35 = .ok (.ireturn, 1) := dk_172 (dk_at dksX2_leastFor_1 13 rfl rfl)
theorem dX2_leastFor_36 : decode cX2_leastFor 36 = .ok (.bipush (-2), 2) := dk_16 254 (dk_at dksX2_leastFor_1 14 rfl rfl)
theorem dX2_leastFor_38 : decode cX2_leastFor 38 = .ok (.istore 4, 2) := dk_54 4 (dk_at dksX2_leastFor_1 16 rfl rfl)
theorem dX2_leastFor_40 : decode cX2_leastFor 40 = .ok (.iconst 0, 1) := dk_3 (dk_at dksX2_leastFor_1 18 rfl rfl)
theorem dX2_leastFor_41 : decode cX2_leastFor 41 = .ok (.istore 5, 2) := dk_54 5 (dk_at dksX2_leastFor_1 19 rfl rfl)
theorem dX2_leastFor_43 : decode cX2_leastFor 43 = .ok (.iload 5, 2) := dk_21 5 (dk_at dksX2_leastFor_1 21 rfl rfl)
theorem dX2_leastFor_45 : decode cX2_leastFor 45 = .ok (.iconst 1, 1) := dk_4 (dk_at dksX2_leastFor_1 23 rfl rfl)
theorem dX2_leastFor_46 : decode cX2_leastFor 46 = .ok (.aload_n 0, 1) := dk_42 (dk_at dksX2_leastFor_2 0 rfl rfl)
theorem dX2_leastFor_47 : decode cX2_leastFor 47 = .ok (.getfield 20, 3) := dk_180 0 20 (dk_at dksX2_leastFor_2 1 rfl rfl)
theorem dX2_leastFor_50 : decode cX2_leastFor 50 = .ok (.bipush 7, 2) := dk_16 7 (dk_at dksX2_leastFor_2 4 rfl rfl)
theorem dX2_leastFor_52 : decode cX2_leastFor 52 = .ok (.iaload, 1) := dk_46 (dk_at dksX2_leastFor_2 6 rfl rfl)
theorem dX2_leastFor_53 : decode cX2_leastFor 53 = .ok (.ishl, 1) := dk_120 (dk_at dksX2_leastFor_2 7 rfl rfl)
theorem dX2_leastFor_54 : decode cX2_leastFor 54 = .ok (.if_icmp .ge 120, 3) := dk_162 0 120 (dk_at dksX2_leastFor_2 8 rfl rfl)
theorem dX2_leastFor_57 : decode cX2_leastFor 57 = .ok (.iload 5, 2) := dk_21 5 (dk_at dksX2_leastFor_2 11 rfl rfl)
theorem dX2_leastFor_59 : decode cX2_leastFor 59 = .ok (.invokestatic 272, 3) := dk_184 1 16 (dk_at dksX2_leastFor_2 13 rfl rfl)
theorem dX2_leastFor_62 : decode cX2_leastFor 62 = .ok (.aload_n 0, 1) := dk_42 (dk_at dksX2_leastFor_2 16 rfl rfl)
theorem dX2_leastFor_63 : decode cX2_leastFor 63 = .ok (.iload_n 1, 1) := dk_27 (dk_at dksX2_leastFor_2 17 rfl rfl)
theorem dX2_leastFor_64 : decode cX2_leastFor 64 = .ok (.invokevirtual 284, 3) := dk_182 1 28 (dk_at dksX2_leastFor_2 18 rfl rfl)
theorem dX2_leastFor_67 : decode cX2_leastFor 67 = .ok (.if_icmp .gt 101, 3) := dk_163 0 101 (dk_at dksX2_leastFor_2 21 rfl rfl)
theorem dX2_leastFor_70 : decode cX2_leastFor 70 = .ok (.iload 4, 2) := dk_21 4 (dk_at dksX2_leastFor_3 0 rfl rfl)
theorem dX2_leastFor_72 : decode cX2_leastFor 72 = .ok (.ifCond .lt 19, 3) := dk_155 0 19 (dk_at dksX2_leastFor_3 2 rfl rfl)
theorem dX2_leastFor_75 : decode cX2_leastFor 75 = .ok (.iload 5, 2) := dk_21 5 (dk_at dksX2_leastFor_3 5 rfl rfl)
theorem dX2_leastFor_77 : decode cX2_leastFor 77 = .ok (.invokestatic 272, 3) := dk_184 1 16 (dk_at dksX2_leastFor_3 7 rfl rfl)
theorem dX2_leastFor_80 : decode cX2_leastFor 80 = .ok (.iload 4, 2) := dk_21 4 (dk_at dksX2_leastFor_3 10 rfl rfl)
theorem dX2_leastFor_82 : decode cX2_leastFor 82 = .ok (.invokestatic 272, 3) := dk_184 1 16 (dk_at dksX2_leastFor_3 12 rfl rfl)
theorem dX2_leastFor_85 : decode cX2_leastFor 85 = .ok (.if_icmp .lt 6, 3) := dk_161 0 6 (dk_at dksX2_leastFor_3 15 rfl rfl)
theorem dX2_leastFor_88 : decode cX2_leastFor 88 = .ok (.goto 80, 3) := dk_167 0 80 (dk_at dksX2_leastFor_3 18 rfl rfl)
theorem dX2_leastFor_91 : decode cX2_leastFor 91 = .ok (.aload_n 0, 1) := dk_42 (dk_at dksX2_leastFor_3 21 rfl rfl)
theorem dX2_leastFor_92 : decode cX2_leastFor 92 = .ok (.getfield 26, 3) := dk_180 0 26 (dk_at dksX2_leastFor_4 0 rfl rfl)
theorem dX2_leastFor_95 : decode cX2_leastFor 95 = .ok (.iconst 0, 1) := dk_3 (dk_at dksX2_leastFor_4 3 rfl rfl)
theorem dX2_leastFor_96 : decode cX2_leastFor 96 = .ok (.aload_n 0, 1) := dk_42 (dk_at dksX2_leastFor_4 4 rfl rfl)
theorem dX2_leastFor_97 : decode cX2_leastFor 97 = .ok (.getfield 41, 3) := dk_180 0 41 (dk_at dksX2_leastFor_4 5 rfl rfl)
theorem dX2_leastFor_100 : decode cX2_leastFor 100 = .ok (.iconst 0, 1) := dk_3 (dk_at dksX2_leastFor_4 8 rfl rfl)
theorem dX2_leastFor_101 : decode cX2_leastFor 101 = .ok (.bipush 8, 2) := dk_16 8 (dk_at dksX2_leastFor_4 9 rfl rfl)
theorem dX2_leastFor_103 : decode cX2_leastFor 103 = .ok (.invokestatic 172, 3) := dk_184 0 172 (dk_at dksX2_leastFor_4 11 rfl rfl)
theorem dX2_leastFor_106 : decode cX2_leastFor 106 = .ok (.iconst 0, 1) := dk_3 (dk_at dksX2_leastFor_4 14 rfl rfl)
theorem dX2_leastFor_107 : decode cX2_leastFor 107 = .ok (.istore 6, 2) := dk_54 6 (dk_at dksX2_leastFor_4 15 rfl rfl)
theorem dX2_leastFor_109 : decode cX2_leastFor 109 = .ok (.iload 6, 2) := dk_21 6 (dk_at dksX2_leastFor_4 17 rfl rfl)
theorem dX2_leastFor_111 : decode cX2_leastFor 111 = .ok (.aload_n 0, 1) := dk_42 (dk_at dksX2_leastFor_4 19 rfl rfl)
theorem dX2_leastFor_112 : decode cX2_leastFor 112 = .ok (.getfield 20, 3) := dk_180 0 20 (dk_at dksX2_leastFor_4 20 rfl rfl)
theorem dX2_leastFor_115 : decode cX2_leastFor 115 = .ok (.bipush 7, 2) := dk_16 7 (dk_at dksX2_leastFor_5 0 rfl rfl)
theorem dX2_leastFor_117 : decode cX2_leastFor 117 = .ok (.iaload, 1) := dk_46 (dk_at dksX2_leastFor_5 2 rfl rfl)
theorem dX2_leastFor_118 : decode cX2_leastFor 118 = .ok (.if_icmp .ge 33, 3) := dk_162 0 33 (dk_at dksX2_leastFor_5 3 rfl rfl)
theorem dX2_leastFor_121 : decode cX2_leastFor 121 = .ok (.aload_n 0, 1) := dk_42 (dk_at dksX2_leastFor_5 6 rfl rfl)
theorem dX2_leastFor_122 : decode cX2_leastFor 122 = .ok (.getfield 41, 3) := dk_180 0 41 (dk_at dksX2_leastFor_5 7 rfl rfl)
theorem dX2_leastFor_125 : decode cX2_leastFor 125 = .ok (.iload 6, 2) := dk_21 6 (dk_at dksX2_leastFor_5 10 rfl rfl)
theorem dX2_leastFor_127 : decode cX2_leastFor 127 = .ok (.iload 5, 2) := dk_21 5 (dk_at dksX2_leastFor_5 12 rfl rfl)
theorem dX2_leastFor_129 : decode cX2_leastFor 129 = .ok (.iload 6, 2) := dk_21 6 (dk_at dksX2_leastFor_5 14 rfl rfl)
theorem dX2_leastFor_131 : decode cX2_leastFor 131 = .ok (.invokestatic 261, 3) := dk_184 1 5 (dk_at dksX2_leastFor_5 16 rfl rfl)
theorem dX2_leastFor_134 : decode cX2_leastFor 134 = .ok (.ifCond .eq 9, 3) := dk_153 0 9 (dk_at dksX2_leastFor_5 19 rfl rfl)
theorem dX2_leastFor_137 : decode cX2_leastFor 137 = .ok (.iload_n 1, 1) := dk_27 (dk_at dksX2_leastFor_5 22 rfl rfl)
theorem dX2_leastFor_138 : decode cX2_leastFor 138 = .ok (.iconst 1, 1) := dk_4 (dk_at dksX2_leastFor_5 23 rfl rfl)
theorem dX2_leastFor_139 : decode cX2_leastFor 139 = .ok (.iadd, 1) := dk_96 (dk_at dksX2_leastFor_6 0 rfl rfl)
theorem dX2_leastFor_140 : decode cX2_leastFor 140 = .ok (.goto 4, 3) := dk_167 0 4 (dk_at dksX2_leastFor_6 1 rfl rfl)
theorem dX2_leastFor_143 : decode cX2_leastFor 143 = .ok (.iconst 0, 1) := dk_3 (dk_at dksX2_leastFor_6 4 rfl rfl)
theorem dX2_leastFor_144 : decode cX2_leastFor 144 = .ok (.iastore, 1) := dk_79 (dk_at dksX2_leastFor_6 5 rfl rfl)
theorem dX2_leastFor_145 : decode cX2_leastFor 145 = .ok (.iinc 6 1, 3) := dk_132 6 1 (dk_at dksX2_leastFor_6 6 rfl rfl)
theorem dX2_leastFor_148 : decode cX2_leastFor 148 = .ok (.goto (-39), 3) := dk_167 255 217 (dk_at dksX2_leastFor_6 9 rfl rfl)
theorem dX2_leastFor_151 : decode cX2_leastFor 151 = .ok (.aload_n 0, 1) := dk_42 (dk_at dksX2_leastFor_6 12 rfl rfl)
theorem dX2_leastFor_152 : decode cX2_leastFor 152 = .ok (.aload_n 0, 1) := dk_42 (dk_at dksX2_leastFor_6 13 rfl rfl)
theorem dX2_leastFor_153 : decode cX2_leastFor 153 = .ok (.getfield 41, 3) := dk_180 0 41 (dk_at dksX2_leastFor_6 14 rfl rfl)
theorem dX2_leastFor_156 : decode cX2_leastFor 156 = .ok (.iload_n 1, 1) := dk_27 (dk_at dksX2_leastFor_6 17 rfl rfl)
theorem dX2_leastFor_157 : decode cX2_leastFor 157 = .ok (.invokevirtual 297, 3) := dk_182 1 41 (dk_at dksX2_leastFor_6 18 rfl rfl)
theorem dX2_leastFor_160 : decode cX2_leastFor 160 = .ok (.iload_n 2, 1) := dk_28 (dk_at dksX2_leastFor_6 21 rfl rfl)
theorem dX2_leastFor_161 : decode cX2_leastFor 161 = .ok (.if_icmp .gt 7, 3) := dk_163 0 7 (dk_at dksX2_leastFor_7 0 rfl rfl)
theorem dX2_leastFor_164 : decode cX2_leastFor 164 = .ok (.iload 5, 2) := dk_21 5 (dk_at dksX2_leastFor_7 3 rfl rfl)
theorem dX2_leastFor_166 : decode cX2_leastFor 166 = .ok (.istore 4, 2) := dk_54 4 (dk_at dksX2_leastFor_7 5 rfl rfl)
theorem dX2_leastFor_168 : decode cX2_leastFor 168 = .ok (.iinc 5 1, 3) := dk_132 5 1 (dk_at dksX2_leastFor_7 7 rfl rfl)
theorem dX2_leastFor_171 : decode cX2_leastFor 171 = .ok (.goto (-128), 3) := dk_167 255 128 (dk_at dksX2_leastFor_7 10 rfl rfl)
theorem dX2_leastFor_174 : decode cX2_leastFor 174 = .ok (.iload 4, 2) := dk_21 4 (dk_at dksX2_leastFor_7 13 rfl rfl)
theorem dX2_leastFor_176 : decode cX2_leastFor 176 = .ok (.ireturn, 1) := dk_172 (dk_at dksX2_leastFor_7 15 rfl rfl)
abbrev cX2_why : ByteArray := prog_15_method_91_code
def yX2_why : MethodName := ⟨RX2, "why", "(ZZ)I"⟩
def dkwX2_why_0 : List UInt8 := [27, 154, 0, 7, 4, 167, 0, 12, 28, 153, 0, 7, 3, 167, 0, 4, 5, 172]
abbrev dktX2_why_0 : List UInt8 := dkwX2_why_0 ++ []
theorem dksX2_why_0 : cX2_why.data.toList.drop 0 = dktX2_why_0 := by decide +kernel
theorem dX2_why_0 : decode cX2_why 0 = .ok (.iload_n 1, 1) := dk_27 (dk_at dksX2_why_0 0 rfl rfl)
theorem dX2_why_1 : decode cX2_why 1 = .ok (.ifCond .ne 7, 3) := dk_154 0 7 (dk_at dksX2_why_0 1 rfl rfl)
theorem dX2_why_4 : decode cX2_why 4 = .ok (.iconst 1, 1) := dk_4 (dk_at dksX2_why_0 4 rfl rfl)
theorem dX2_why_5 : decode cX2_why 5 = .ok (.goto 12, 3) := dk_167 0 12 (dk_at dksX2_why_0 5 rfl rfl)
theorem dX2_why_8 : decode cX2_why 8 = .ok (.iload_n 2, 1) := dk_28 (dk_at dksX2_why_0 8 rfl rfl)
theorem dX2_why_9 : decode cX2_why 9 = .ok (.ifCond .eq 7, 3) := dk_153 0 7 (dk_at dksX2_why_0 9 rfl rfl)
theorem dX2_why_12 : decode cX2_why 12 = .ok (.iconst 0, 1) := dk_3 (dk_at dksX2_why_0 12 rfl rfl)
theorem dX2_why_13 : decode cX2_why 13 = .ok (.goto 4, 3) := dk_167 0 4 (dk_at dksX2_why_0 13 rfl rfl)
theorem dX2_why_16 : decode cX2_why 16 = .ok (.iconst 2, 1) := dk_5 (dk_at dksX2_why_0 16 rfl rfl)
theorem dX2_why_17 : decode cX2_why 17 = .ok (.ireturn, 1) := dk_172 (dk_at dksX2_why_0 17 rfl rfl)
abbrev cX2_toMove : ByteArray := prog_15_method_93_code
def yX2_toMove : MethodName := ⟨RX2, "toMove", "(I)I"⟩
def dkwX2_toMove_7 : List UInt8 := [132, 4, 1, 167, 255, 130, 28, 172]
abbrev dktX2_toMove_7 : List UInt8 := dkwX2_toMove_7 ++ []
def dkwX2_toMove_6 : List UInt8 := [182, 1, 41, 29, 161, 0, 6, 167, 0, 16, 21, 4, 61, 42, 42, 180, 0, 41, 27, 182, 1, 41, 62]
abbrev dktX2_toMove_6 : List UInt8 := dkwX2_toMove_6 ++ dktX2_toMove_7
def dkwX2_toMove_5 : List UInt8 := [180, 0, 41, 21, 4, 21, 5, 153, 0, 7, 3, 167, 0, 6, 27, 4, 96, 79, 42, 42, 180, 0, 41, 27]
abbrev dktX2_toMove_5 : List UInt8 := dkwX2_toMove_5 ++ dktX2_toMove_6
def dkwX2_toMove_4 : List UInt8 := [161, 0, 6, 167, 0, 66, 42, 180, 0, 26, 3, 42, 180, 0, 41, 3, 16, 8, 184, 0, 172, 42]
abbrev dktX2_toMove_4 : List UInt8 := dkwX2_toMove_4 ++ dktX2_toMove_5
def dkwX2_toMove_3 : List UInt8 := [21, 5, 154, 0, 26, 42, 42, 180, 0, 26, 27, 182, 1, 12, 184, 1, 16, 42, 27, 182, 1, 28]
abbrev dktX2_toMove_3 : List UInt8 := dkwX2_toMove_3 ++ dktX2_toMove_4
def dkwX2_toMove_2 : List UInt8 := [162, 0, 120, 42, 180, 0, 26, 21, 4, 46, 27, 4, 96, 160, 0, 7, 4, 167, 0, 4, 3, 54, 5]
abbrev dktX2_toMove_2 : List UInt8 := dkwX2_toMove_2 ++ dktX2_toMove_3
def dkwX2_toMove_1 : List UInt8 := [61, 42, 42, 180, 0, 26, 27, 182, 1, 41, 62, 3, 54, 4, 21, 4, 42, 180, 0, 20, 16, 7, 46]
abbrev dktX2_toMove_1 : List UInt8 := dkwX2_toMove_1 ++ dktX2_toMove_2
def dkwX2_toMove_0 : List UInt8 := [42, 182, 0, 163, 42, 182, 1, 50, 42, 27, 182, 1, 53, 154, 0, 9, 42, 4, 182, 0, 166, 172, 16, 254]
abbrev dktX2_toMove_0 : List UInt8 := dkwX2_toMove_0 ++ dktX2_toMove_1
theorem dksX2_toMove_0 : cX2_toMove.data.toList.drop 0 = dktX2_toMove_0 := by decide +kernel
theorem dksX2_toMove_1 : cX2_toMove.data.toList.drop 24 = dktX2_toMove_1 := dk_seg dksX2_toMove_0 24 rfl rfl
theorem dksX2_toMove_2 : cX2_toMove.data.toList.drop 47 = dktX2_toMove_2 := dk_seg dksX2_toMove_1 23 rfl rfl
theorem dksX2_toMove_3 : cX2_toMove.data.toList.drop 70 = dktX2_toMove_3 := dk_seg dksX2_toMove_2 23 rfl rfl
theorem dksX2_toMove_4 : cX2_toMove.data.toList.drop 92 = dktX2_toMove_4 := dk_seg dksX2_toMove_3 22 rfl rfl
theorem dksX2_toMove_5 : cX2_toMove.data.toList.drop 114 = dktX2_toMove_5 := dk_seg dksX2_toMove_4 22 rfl rfl
theorem dksX2_toMove_6 : cX2_toMove.data.toList.drop 138 = dktX2_toMove_6 := dk_seg dksX2_toMove_5 24 rfl rfl
theorem dksX2_toMove_7 : cX2_toMove.data.toList.drop 161 = dktX2_toMove_7 := dk_seg dksX2_toMove_6 23 rfl rfl
theorem dX2_toMove_0 : decode cX2_toMove 0 = .ok (.aload_n 0, 1) := dk_42 (dk_at dksX2_toMove_0 0 rfl rfl)
theorem dX2_toMove_1 : decode cX2_toMove 1 = .ok (.invokevirtual 163, 3) := dk_182 0 163 (dk_at dksX2_toMove_0 1 rfl rfl)
theorem dX2_toMove_4 : decode cX2_toMove 4 = .ok (.aload_n 0, 1) := dk_42 (dk_at dksX2_toMove_0 4 rfl rfl)
theorem dX2_toMove_5 : decode cX2_toMove 5 = .ok (.invokevirtual 306, 3) := dk_182 1 50 (dk_at dksX2_toMove_0 5 rfl rfl)
theorem dX2_toMove_8 : decode cX2_toMove 8 = .ok (.aload_n 0, 1) := dk_42 (dk_at dksX2_toMove_0 8 rfl rfl)
theorem dX2_toMove_9 : decode cX2_toMove 9 = .ok (.iload_n 1, 1) := dk_27 (dk_at dksX2_toMove_0 9 rfl rfl)
theorem dX2_toMove_10 : decode cX2_toMove 10 = .ok (.invokevirtual 309, 3) := dk_182 1 53 (dk_at dksX2_toMove_0 10 rfl rfl)
theorem dX2_toMove_13 : decode cX2_toMove 13 = .ok (.ifCond .ne 9, 3) := dk_154 0 9 (dk_at dksX2_toMove_0 13 rfl rfl)
theorem dX2_toMove_16 : decode cX2_toMove 16 = .ok (.aload_n 0, 1) := dk_42 (dk_at dksX2_toMove_0 16 rfl rfl)
theorem dX2_toMove_17 : decode cX2_toMove 17 = .ok (.iconst 1, 1) := dk_4 (dk_at dksX2_toMove_0 17 rfl rfl)
theorem dX2_toMove_18 : decode cX2_toMove 18 = .ok (.invokevirtual 166, 3) := dk_182 0 166 (dk_at dksX2_toMove_0 18 rfl rfl)
theorem dX2_toMove_21 : decode cX2_toMove 21 = .ok (.ireturn, 1) := dk_172 (dk_at dksX2_toMove_0 21 rfl rfl)
theorem dX2_toMove_22 : decode cX2_toMove 22 = .ok (.bipush (-2), 2) := dk_16 254 (dk_at dksX2_toMove_0 22 rfl rfl)
theorem dX2_toMove_24 : decode cX2_toMove 24 = .ok (.istore_n 2, 1) := dk_61 (dk_at dksX2_toMove_1 0 rfl rfl)
theorem dX2_toMove_25 : decode cX2_toMove 25 = .ok (.aload_n 0, 1) := dk_42 (dk_at dksX2_toMove_1 1 rfl rfl)
theorem dX2_toMove_26 : decode cX2_toMove 26 = .ok (.aload_n 0, 1) := dk_42 (dk_at dksX2_toMove_1 2 rfl rfl)
theorem dX2_toMove_27 : decode cX2_toMove 27 = .ok (.getfield 26, 3) := dk_180 0 26 (dk_at dksX2_toMove_1 3 rfl rfl)
theorem dX2_toMove_30 : decode cX2_toMove 30 = .ok (.iload_n 1, 1) := dk_27 (dk_at dksX2_toMove_1 6 rfl rfl)
theorem dX2_toMove_31 : decode cX2_toMove 31 = .ok (.invokevirtual 297, 3) := dk_182 1 41 (dk_at dksX2_toMove_1 7 rfl rfl)
theorem dX2_toMove_34 : decode cX2_toMove 34 = .ok (.istore_n 3, 1) := dk_62 (dk_at dksX2_toMove_1 10 rfl rfl)
theorem dX2_toMove_35 : decode cX2_toMove 35 = .ok (.iconst 0, 1) := dk_3 (dk_at dksX2_toMove_1 11 rfl rfl)
theorem dX2_toMove_36 : decode cX2_toMove 36 = .ok (.istore 4, 2) := dk_54 4 (dk_at dksX2_toMove_1 12 rfl rfl)
theorem dX2_toMove_38 : decode cX2_toMove 38 = .ok (.iload 4, 2) := dk_21 4 (dk_at dksX2_toMove_1 14 rfl rfl)
theorem dX2_toMove_40 : decode cX2_toMove 40 = .ok (.aload_n 0, 1) := dk_42 (dk_at dksX2_toMove_1 16 rfl rfl)
theorem dX2_toMove_41 : decode cX2_toMove 41 = .ok (.getfield 20, 3) := dk_180 0 20 (dk_at dksX2_toMove_1 17 rfl rfl)
theorem dX2_toMove_44 : decode cX2_toMove 44 = .ok (.bipush 7, 2) := dk_16 7 (dk_at dksX2_toMove_1 20 rfl rfl)
theorem dX2_toMove_46 : decode cX2_toMove 46 = .ok (.iaload, 1) := dk_46 (dk_at dksX2_toMove_1 22 rfl rfl)
theorem dX2_toMove_47 : decode cX2_toMove 47 = .ok (.if_icmp .ge 120, 3) := dk_162 0 120 (dk_at dksX2_toMove_2 0 rfl rfl)
theorem dX2_toMove_50 : decode cX2_toMove 50 = .ok (.aload_n 0, 1) := dk_42 (dk_at dksX2_toMove_2 3 rfl rfl)
theorem dX2_toMove_51 : decode cX2_toMove 51 = .ok (.getfield 26, 3) := dk_180 0 26 (dk_at dksX2_toMove_2 4 rfl rfl)
theorem dX2_toMove_54 : decode cX2_toMove 54 = .ok (.iload 4, 2) := dk_21 4 (dk_at dksX2_toMove_2 7 rfl rfl)
theorem dX2_toMove_56 : decode cX2_toMove 56 = .ok (.iaload, 1) := dk_46 (dk_at dksX2_toMove_2 9 rfl rfl)
theorem dX2_toMove_57 : decode cX2_toMove 57 = .ok (.iload_n 1, 1) := dk_27 (dk_at dksX2_toMove_2 10 rfl rfl)
theorem dX2_toMove_58 : decode cX2_toMove 58 = .ok (.iconst 1, 1) := dk_4 (dk_at dksX2_toMove_2 11 rfl rfl)
theorem dX2_toMove_59 : decode cX2_toMove 59 = .ok (.iadd, 1) := dk_96 (dk_at dksX2_toMove_2 12 rfl rfl)
theorem dX2_toMove_60 : decode cX2_toMove 60 = .ok (.if_icmp .ne 7, 3) := dk_160 0 7 (dk_at dksX2_toMove_2 13 rfl rfl)
theorem dX2_toMove_63 : decode cX2_toMove 63 = .ok (.iconst 1, 1) := dk_4 (dk_at dksX2_toMove_2 16 rfl rfl)
theorem dX2_toMove_64 : decode cX2_toMove 64 = .ok (.goto 4, 3) := dk_167 0 4 (dk_at dksX2_toMove_2 17 rfl rfl)
theorem dX2_toMove_67 : decode cX2_toMove 67 = .ok (.iconst 0, 1) := dk_3 (dk_at dksX2_toMove_2 20 rfl rfl)
theorem dX2_toMove_68 : decode cX2_toMove 68 = .ok (.istore 5, 2) := dk_54 5 (dk_at dksX2_toMove_2 21 rfl rfl)
theorem dX2_toMove_70 : decode cX2_toMove 70 = .ok (.iload 5, 2) := dk_21 5 (dk_at dksX2_toMove_3 0 rfl rfl)
theorem dX2_toMove_72 : decode cX2_toMove 72 = .ok (.ifCond .ne 26, 3) := dk_154 0 26 (dk_at dksX2_toMove_3 2 rfl rfl)
theorem dX2_toMove_75 : decode cX2_toMove 75 = .ok (.aload_n 0, 1) := dk_42 (dk_at dksX2_toMove_3 5 rfl rfl)
theorem dX2_toMove_76 : decode cX2_toMove 76 = .ok (.aload_n 0, 1) := dk_42 (dk_at dksX2_toMove_3 6 rfl rfl)
theorem dX2_toMove_77 : decode cX2_toMove 77 = .ok (.getfield 26, 3) := dk_180 0 26 (dk_at dksX2_toMove_3 7 rfl rfl)
theorem dX2_toMove_80 : decode cX2_toMove 80 = .ok (.iload_n 1, 1) := dk_27 (dk_at dksX2_toMove_3 10 rfl rfl)
theorem dX2_toMove_81 : decode cX2_toMove 81 = .ok (.invokevirtual 268, 3) := dk_182 1 12 (dk_at dksX2_toMove_3 11 rfl rfl)
theorem dX2_toMove_84 : decode cX2_toMove 84 = .ok (.invokestatic 272, 3) := dk_184 1 16 (dk_at dksX2_toMove_3 14 rfl rfl)
theorem dX2_toMove_87 : decode cX2_toMove 87 = .ok (.aload_n 0, 1) := dk_42 (dk_at dksX2_toMove_3 17 rfl rfl)
theorem dX2_toMove_88 : decode cX2_toMove 88 = .ok (.iload_n 1, 1) := dk_27 (dk_at dksX2_toMove_3 18 rfl rfl)
theorem dX2_toMove_89 : decode cX2_toMove 89 = .ok (.invokevirtual 284, 3) := dk_182 1 28 (dk_at dksX2_toMove_3 19 rfl rfl)
theorem dX2_toMove_92 : decode cX2_toMove 92 = .ok (.if_icmp .lt 6, 3) := dk_161 0 6 (dk_at dksX2_toMove_4 0 rfl rfl)
theorem dX2_toMove_95 : decode cX2_toMove 95 = .ok (.goto 66, 3) := dk_167 0 66 (dk_at dksX2_toMove_4 3 rfl rfl)
theorem dX2_toMove_98 : decode cX2_toMove 98 = .ok (.aload_n 0, 1) := dk_42 (dk_at dksX2_toMove_4 6 rfl rfl)
theorem dX2_toMove_99 : decode cX2_toMove 99 = .ok (.getfield 26, 3) := dk_180 0 26 (dk_at dksX2_toMove_4 7 rfl rfl)
theorem dX2_toMove_102 : decode cX2_toMove 102 = .ok (.iconst 0, 1) := dk_3 (dk_at dksX2_toMove_4 10 rfl rfl)
theorem dX2_toMove_103 : decode cX2_toMove 103 = .ok (.aload_n 0, 1) := dk_42 (dk_at dksX2_toMove_4 11 rfl rfl)
theorem dX2_toMove_104 : decode cX2_toMove 104 = .ok (.getfield 41, 3) := dk_180 0 41 (dk_at dksX2_toMove_4 12 rfl rfl)
theorem dX2_toMove_107 : decode cX2_toMove 107 = .ok (.iconst 0, 1) := dk_3 (dk_at dksX2_toMove_4 15 rfl rfl)
theorem dX2_toMove_108 : decode cX2_toMove 108 = .ok (.bipush 8, 2) := dk_16 8 (dk_at dksX2_toMove_4 16 rfl rfl)
theorem dX2_toMove_110 : decode cX2_toMove 110 = .ok (.invokestatic 172, 3) := dk_184 0 172 (dk_at dksX2_toMove_4 18 rfl rfl)
theorem dX2_toMove_113 : decode cX2_toMove 113 = .ok (.aload_n 0, 1) := dk_42 (dk_at dksX2_toMove_4 21 rfl rfl)
theorem dX2_toMove_114 : decode cX2_toMove 114 = .ok (.getfield 41, 3) := dk_180 0 41 (dk_at dksX2_toMove_5 0 rfl rfl)
theorem dX2_toMove_117 : decode cX2_toMove 117 = .ok (.iload 4, 2) := dk_21 4 (dk_at dksX2_toMove_5 3 rfl rfl)
theorem dX2_toMove_119 : decode cX2_toMove 119 = .ok (.iload 5, 2) := dk_21 5 (dk_at dksX2_toMove_5 5 rfl rfl)
theorem dX2_toMove_121 : decode cX2_toMove 121 = .ok (.ifCond .eq 7, 3) := dk_153 0 7 (dk_at dksX2_toMove_5 7 rfl rfl)
theorem dX2_toMove_124 : decode cX2_toMove 124 = .ok (.iconst 0, 1) := dk_3 (dk_at dksX2_toMove_5 10 rfl rfl)
theorem dX2_toMove_125 : decode cX2_toMove 125 = .ok (.goto 6, 3) := dk_167 0 6 (dk_at dksX2_toMove_5 11 rfl rfl)
theorem dX2_toMove_128 : decode cX2_toMove 128 = .ok (.iload_n 1, 1) := dk_27 (dk_at dksX2_toMove_5 14 rfl rfl)
theorem dX2_toMove_129 : decode cX2_toMove 129 = .ok (.iconst 1, 1) := dk_4 (dk_at dksX2_toMove_5 15 rfl rfl)
theorem dX2_toMove_130 : decode cX2_toMove 130 = .ok (.iadd, 1) := dk_96 (dk_at dksX2_toMove_5 16 rfl rfl)
theorem dX2_toMove_131 : decode cX2_toMove 131 = .ok (.iastore, 1) := dk_79 (dk_at dksX2_toMove_5 17 rfl rfl)
theorem dX2_toMove_132 : decode cX2_toMove 132 = .ok (.aload_n 0, 1) := dk_42 (dk_at dksX2_toMove_5 18 rfl rfl)
theorem dX2_toMove_133 : decode cX2_toMove 133 = .ok (.aload_n 0, 1) := dk_42 (dk_at dksX2_toMove_5 19 rfl rfl)
theorem dX2_toMove_134 : decode cX2_toMove 134 = .ok (.getfield 41, 3) := dk_180 0 41 (dk_at dksX2_toMove_5 20 rfl rfl)
theorem dX2_toMove_137 : decode cX2_toMove 137 = .ok (.iload_n 1, 1) := dk_27 (dk_at dksX2_toMove_5 23 rfl rfl)
theorem dX2_toMove_138 : decode cX2_toMove 138 = .ok (.invokevirtual 297, 3) := dk_182 1 41 (dk_at dksX2_toMove_6 0 rfl rfl)
theorem dX2_toMove_141 : decode cX2_toMove 141 = .ok (.iload_n 3, 1) := dk_29 (dk_at dksX2_toMove_6 3 rfl rfl)
theorem dX2_toMove_142 : decode cX2_toMove 142 = .ok (.if_icmp .lt 6, 3) := dk_161 0 6 (dk_at dksX2_toMove_6 4 rfl rfl)
theorem dX2_toMove_145 : decode cX2_toMove 145 = .ok (.goto 16, 3) := dk_167 0 16 (dk_at dksX2_toMove_6 7 rfl rfl)
theorem dX2_toMove_148 : decode cX2_toMove 148 = .ok (.iload 4, 2) := dk_21 4 (dk_at dksX2_toMove_6 10 rfl rfl)
theorem dX2_toMove_150 : decode cX2_toMove 150 = .ok (.istore_n 2, 1) := dk_61 (dk_at dksX2_toMove_6 12 rfl rfl)
theorem dX2_toMove_151 : decode cX2_toMove 151 = .ok (.aload_n 0, 1) := dk_42 (dk_at dksX2_toMove_6 13 rfl rfl)
theorem dX2_toMove_152 : decode cX2_toMove 152 = .ok (.aload_n 0, 1) := dk_42 (dk_at dksX2_toMove_6 14 rfl rfl)
theorem dX2_toMove_153 : decode cX2_toMove 153 = .ok (.getfield 41, 3) := dk_180 0 41 (dk_at dksX2_toMove_6 15 rfl rfl)
theorem dX2_toMove_156 : decode cX2_toMove 156 = .ok (.iload_n 1, 1) := dk_27 (dk_at dksX2_toMove_6 18 rfl rfl)
theorem dX2_toMove_157 : decode cX2_toMove 157 = .ok (.invokevirtual 297, 3) := dk_182 1 41 (dk_at dksX2_toMove_6 19 rfl rfl)
theorem dX2_toMove_160 : decode cX2_toMove 160 = .ok (.istore_n 3, 1) := dk_62 (dk_at dksX2_toMove_6 22 rfl rfl)
theorem dX2_toMove_161 : decode cX2_toMove 161 = .ok (.iinc 4 1, 3) := dk_132 4 1 (dk_at dksX2_toMove_7 0 rfl rfl)
theorem dX2_toMove_164 : decode cX2_toMove 164 = .ok (.goto (-126), 3) := dk_167 255 130 (dk_at dksX2_toMove_7 3 rfl rfl)
theorem dX2_toMove_167 : decode cX2_toMove 167 = .ok (.iload_n 2, 1) := dk_28 (dk_at dksX2_toMove_7 6 rfl rfl)
theorem dX2_toMove_168 : decode cX2_toMove 168 = .ok (.ireturn, 1) := dk_172 (dk_at dksX2_toMove_7 7 rfl rfl)
abbrev cX2_bestSwap : ByteArray := prog_15_method_94_code
def yX2_bestSwap : MethodName := ⟨RX2, "bestSwap", "(I)I"⟩
def dkwX2_bestSwap_7 : List UInt8 := [62, 132, 5, 1, 167, 255, 143, 132, 4, 1, 167, 255, 119, 28, 172]
abbrev dktX2_bestSwap_7 : List UInt8 := dkwX2_bestSwap_7 ++ []
def dkwX2_bestSwap_6 : List UInt8 := [161, 0, 6, 167, 0, 22, 16, 10, 21, 4, 104, 21, 5, 96, 61, 42, 42, 180, 0, 41, 27, 182, 1, 41]
abbrev dktX2_bestSwap_6 : List UInt8 := dkwX2_bestSwap_6 ++ dktX2_bestSwap_7
def dkwX2_bestSwap_5 : List UInt8 := [42, 180, 0, 41, 21, 5, 42, 180, 0, 26, 21, 4, 46, 79, 42, 42, 180, 0, 41, 27, 182, 1, 41, 29]
abbrev dktX2_bestSwap_5 : List UInt8 := dkwX2_bestSwap_5 ++ dktX2_bestSwap_6
def dkwX2_bestSwap_4 : List UInt8 := [42, 180, 0, 41, 3, 16, 8, 184, 0, 172, 42, 180, 0, 41, 21, 4, 42, 180, 0, 26, 21, 5, 46, 79]
abbrev dktX2_bestSwap_4 : List UInt8 := dkwX2_bestSwap_4 ++ dktX2_bestSwap_5
def dkwX2_bestSwap_3 : List UInt8 := [180, 0, 26, 21, 4, 46, 42, 180, 0, 26, 21, 5, 46, 160, 0, 6, 167, 0, 81, 42, 180, 0, 26, 3]
abbrev dktX2_bestSwap_3 : List UInt8 := dkwX2_bestSwap_3 ++ dktX2_bestSwap_4
def dkwX2_bestSwap_2 : List UInt8 := [162, 0, 131, 21, 4, 4, 96, 54, 5, 21, 5, 42, 180, 0, 20, 16, 7, 46, 162, 0, 107, 42]
abbrev dktX2_bestSwap_2 : List UInt8 := dkwX2_bestSwap_2 ++ dktX2_bestSwap_3
def dkwX2_bestSwap_1 : List UInt8 := [61, 42, 42, 180, 0, 26, 27, 182, 1, 41, 62, 3, 54, 4, 21, 4, 42, 180, 0, 20, 16, 7, 46]
abbrev dktX2_bestSwap_1 : List UInt8 := dkwX2_bestSwap_1 ++ dktX2_bestSwap_2
def dkwX2_bestSwap_0 : List UInt8 := [42, 182, 0, 163, 42, 182, 1, 50, 42, 27, 182, 1, 53, 154, 0, 9, 42, 4, 182, 0, 166, 172, 16, 254]
abbrev dktX2_bestSwap_0 : List UInt8 := dkwX2_bestSwap_0 ++ dktX2_bestSwap_1
theorem dksX2_bestSwap_0 : cX2_bestSwap.data.toList.drop 0 = dktX2_bestSwap_0 := by decide +kernel
theorem dksX2_bestSwap_1 : cX2_bestSwap.data.toList.drop 24 = dktX2_bestSwap_1 := dk_seg dksX2_bestSwap_0 24 rfl rfl
theorem dksX2_bestSwap_2 : cX2_bestSwap.data.toList.drop 47 = dktX2_bestSwap_2 := dk_seg dksX2_bestSwap_1 23 rfl rfl
theorem dksX2_bestSwap_3 : cX2_bestSwap.data.toList.drop 69 = dktX2_bestSwap_3 := dk_seg dksX2_bestSwap_2 22 rfl rfl
theorem dksX2_bestSwap_4 : cX2_bestSwap.data.toList.drop 93 = dktX2_bestSwap_4 := dk_seg dksX2_bestSwap_3 24 rfl rfl
theorem dksX2_bestSwap_5 : cX2_bestSwap.data.toList.drop 117 = dktX2_bestSwap_5 := dk_seg dksX2_bestSwap_4 24 rfl rfl
theorem dksX2_bestSwap_6 : cX2_bestSwap.data.toList.drop 141 = dktX2_bestSwap_6 := dk_seg dksX2_bestSwap_5 24 rfl rfl
theorem dksX2_bestSwap_7 : cX2_bestSwap.data.toList.drop 165 = dktX2_bestSwap_7 := dk_seg dksX2_bestSwap_6 24 rfl rfl
theorem dX2_bestSwap_0 : decode cX2_bestSwap 0 = .ok (.aload_n 0, 1) := dk_42 (dk_at dksX2_bestSwap_0 0 rfl rfl)
theorem dX2_bestSwap_1 : decode cX2_bestSwap 1 = .ok (.invokevirtual 163, 3) := dk_182 0 163 (dk_at dksX2_bestSwap_0 1 rfl rfl)
theorem dX2_bestSwap_4 : decode cX2_bestSwap 4 = .ok (.aload_n 0, 1) := dk_42 (dk_at dksX2_bestSwap_0 4 rfl rfl)
theorem dX2_bestSwap_5 : decode cX2_bestSwap 5 = .ok (.invokevirtual 306, 3) := dk_182 1 50 (dk_at dksX2_bestSwap_0 5 rfl rfl)
theorem dX2_bestSwap_8 : decode cX2_bestSwap 8 = .ok (.aload_n 0, 1) := dk_42 (dk_at dksX2_bestSwap_0 8 rfl rfl)
theorem dX2_bestSwap_9 : decode cX2_bestSwap 9 = .ok (.iload_n 1, 1) := dk_27 (dk_at dksX2_bestSwap_0 9 rfl rfl)
theorem dX2_bestSwap_10 : decode cX2_bestSwap 10 = .ok (.invokevirtual 309, 3) := dk_182 1 53 (dk_at dksX2_bestSwap_0 10 rfl rfl)
theorem dX2_bestSwap_13 : decode cX2_bestSwap 13 = .ok (.ifCond .ne 9, 3) := dk_154 0 9 (dk_at dksX2_bestSwap_0 13 rfl rfl)
theorem dX2_bestSwap_16 : decode cX2_bestSwap 16 = .ok (.aload_n 0, 1) := dk_42 (dk_at dksX2_bestSwap_0 16 rfl rfl)
theorem dX2_bestSwap_17 : decode cX2_bestSwap 17 = .ok (.iconst 1, 1) := dk_4 (dk_at dksX2_bestSwap_0 17 rfl rfl)
theorem dX2_bestSwap_18 : decode cX2_bestSwap 18 = .ok (.invokevirtual 166, 3) := dk_182 0 166 (dk_at dksX2_bestSwap_0 18 rfl rfl)
theorem dX2_bestSwap_21 : decode cX2_bestSwap 21 = .ok (.ireturn, 1) := dk_172 (dk_at dksX2_bestSwap_0 21 rfl rfl)
theorem dX2_bestSwap_22 : decode cX2_bestSwap 22 = .ok (.bipush (-2), 2) := dk_16 254 (dk_at dksX2_bestSwap_0 22 rfl rfl)
theorem dX2_bestSwap_24 : decode cX2_bestSwap 24 = .ok (.istore_n 2, 1) := dk_61 (dk_at dksX2_bestSwap_1 0 rfl rfl)
theorem dX2_bestSwap_25 : decode cX2_bestSwap 25 = .ok (.aload_n 0, 1) := dk_42 (dk_at dksX2_bestSwap_1 1 rfl rfl)
theorem dX2_bestSwap_26 : decode cX2_bestSwap 26 = .ok (.aload_n 0, 1) := dk_42 (dk_at dksX2_bestSwap_1 2 rfl rfl)
theorem dX2_bestSwap_27 : decode cX2_bestSwap 27 = .ok (.getfield 26, 3) := dk_180 0 26 (dk_at dksX2_bestSwap_1 3 rfl rfl)
theorem dX2_bestSwap_30 : decode cX2_bestSwap 30 = .ok (.iload_n 1, 1) := dk_27 (dk_at dksX2_bestSwap_1 6 rfl rfl)
theorem dX2_bestSwap_31 : decode cX2_bestSwap 31 = .ok (.invokevirtual 297, 3) := dk_182 1 41 (dk_at dksX2_bestSwap_1 7 rfl rfl)
theorem dX2_bestSwap_34 : decode cX2_bestSwap 34 = .ok (.istore_n 3, 1) := dk_62 (dk_at dksX2_bestSwap_1 10 rfl rfl)
theorem dX2_bestSwap_35 : decode cX2_bestSwap 35 = .ok (.iconst 0, 1) := dk_3 (dk_at dksX2_bestSwap_1 11 rfl rfl)
theorem dX2_bestSwap_36 : decode cX2_bestSwap 36 = .ok (.istore 4, 2) := dk_54 4 (dk_at dksX2_bestSwap_1 12 rfl rfl)
theorem dX2_bestSwap_38 : decode cX2_bestSwap 38 = .ok (.iload 4, 2) := dk_21 4 (dk_at dksX2_bestSwap_1 14 rfl rfl)
theorem dX2_bestSwap_40 : decode cX2_bestSwap 40 = .ok (.aload_n 0, 1) := dk_42 (dk_at dksX2_bestSwap_1 16 rfl rfl)
theorem dX2_bestSwap_41 : decode cX2_bestSwap 41 = .ok (.getfield 20, 3) := dk_180 0 20 (dk_at dksX2_bestSwap_1 17 rfl rfl)
theorem dX2_bestSwap_44 : decode cX2_bestSwap 44 = .ok (.bipush 7, 2) := dk_16 7 (dk_at dksX2_bestSwap_1 20 rfl rfl)
theorem dX2_bestSwap_46 : decode cX2_bestSwap 46 = .ok (.iaload, 1) := dk_46 (dk_at dksX2_bestSwap_1 22 rfl rfl)
theorem dX2_bestSwap_47 : decode cX2_bestSwap 47 = .ok (.if_icmp .ge 131, 3) := dk_162 0 131 (dk_at dksX2_bestSwap_2 0 rfl rfl)
theorem dX2_bestSwap_50 : decode cX2_bestSwap 50 = .ok (.iload 4, 2) := dk_21 4 (dk_at dksX2_bestSwap_2 3 rfl rfl)
theorem dX2_bestSwap_52 : decode cX2_bestSwap 52 = .ok (.iconst 1, 1) := dk_4 (dk_at dksX2_bestSwap_2 5 rfl rfl)
theorem dX2_bestSwap_53 : decode cX2_bestSwap 53 = .ok (.iadd, 1) := dk_96 (dk_at dksX2_bestSwap_2 6 rfl rfl)
theorem dX2_bestSwap_54 : decode cX2_bestSwap 54 = .ok (.istore 5, 2) := dk_54 5 (dk_at dksX2_bestSwap_2 7 rfl rfl)
theorem dX2_bestSwap_56 : decode cX2_bestSwap 56 = .ok (.iload 5, 2) := dk_21 5 (dk_at dksX2_bestSwap_2 9 rfl rfl)
theorem dX2_bestSwap_58 : decode cX2_bestSwap 58 = .ok (.aload_n 0, 1) := dk_42 (dk_at dksX2_bestSwap_2 11 rfl rfl)
theorem dX2_bestSwap_59 : decode cX2_bestSwap 59 = .ok (.getfield 20, 3) := dk_180 0 20 (dk_at dksX2_bestSwap_2 12 rfl rfl)
theorem dX2_bestSwap_62 : decode cX2_bestSwap 62 = .ok (.bipush 7, 2) := dk_16 7 (dk_at dksX2_bestSwap_2 15 rfl rfl)
theorem dX2_bestSwap_64 : decode cX2_bestSwap 64 = .ok (.iaload, 1) := dk_46 (dk_at dksX2_bestSwap_2 17 rfl rfl)
theorem dX2_bestSwap_65 : decode cX2_bestSwap 65 = .ok (.if_icmp .ge 107, 3) := dk_162 0 107 (dk_at dksX2_bestSwap_2 18 rfl rfl)
theorem dX2_bestSwap_68 : decode cX2_bestSwap 68 = .ok (.aload_n 0, 1) := dk_42 (dk_at dksX2_bestSwap_2 21 rfl rfl)
theorem dX2_bestSwap_69 : decode cX2_bestSwap 69 = .ok (.getfield 26, 3) := dk_180 0 26 (dk_at dksX2_bestSwap_3 0 rfl rfl)
theorem dX2_bestSwap_72 : decode cX2_bestSwap 72 = .ok (.iload 4, 2) := dk_21 4 (dk_at dksX2_bestSwap_3 3 rfl rfl)
theorem dX2_bestSwap_74 : decode cX2_bestSwap 74 = .ok (.iaload, 1) := dk_46 (dk_at dksX2_bestSwap_3 5 rfl rfl)
theorem dX2_bestSwap_75 : decode cX2_bestSwap 75 = .ok (.aload_n 0, 1) := dk_42 (dk_at dksX2_bestSwap_3 6 rfl rfl)
theorem dX2_bestSwap_76 : decode cX2_bestSwap 76 = .ok (.getfield 26, 3) := dk_180 0 26 (dk_at dksX2_bestSwap_3 7 rfl rfl)
theorem dX2_bestSwap_79 : decode cX2_bestSwap 79 = .ok (.iload 5, 2) := dk_21 5 (dk_at dksX2_bestSwap_3 10 rfl rfl)
theorem dX2_bestSwap_81 : decode cX2_bestSwap 81 = .ok (.iaload, 1) := dk_46 (dk_at dksX2_bestSwap_3 12 rfl rfl)
theorem dX2_bestSwap_82 : decode cX2_bestSwap 82 = .ok (.if_icmp .ne 6, 3) := dk_160 0 6 (dk_at dksX2_bestSwap_3 13 rfl rfl)
theorem dX2_bestSwap_85 : decode cX2_bestSwap 85 = .ok (.goto 81, 3) := dk_167 0 81 (dk_at dksX2_bestSwap_3 16 rfl rfl)
theorem dX2_bestSwap_88 : decode cX2_bestSwap 88 = .ok (.aload_n 0, 1) := dk_42 (dk_at dksX2_bestSwap_3 19 rfl rfl)
theorem dX2_bestSwap_89 : decode cX2_bestSwap 89 = .ok (.getfield 26, 3) := dk_180 0 26 (dk_at dksX2_bestSwap_3 20 rfl rfl)
theorem dX2_bestSwap_92 : decode cX2_bestSwap 92 = .ok (.iconst 0, 1) := dk_3 (dk_at dksX2_bestSwap_3 23 rfl rfl)
theorem dX2_bestSwap_93 : decode cX2_bestSwap 93 = .ok (.aload_n 0, 1) := dk_42 (dk_at dksX2_bestSwap_4 0 rfl rfl)
theorem dX2_bestSwap_94 : decode cX2_bestSwap 94 = .ok (.getfield 41, 3) := dk_180 0 41 (dk_at dksX2_bestSwap_4 1 rfl rfl)
theorem dX2_bestSwap_97 : decode cX2_bestSwap 97 = .ok (.iconst 0, 1) := dk_3 (dk_at dksX2_bestSwap_4 4 rfl rfl)
theorem dX2_bestSwap_98 : decode cX2_bestSwap 98 = .ok (.bipush 8, 2) := dk_16 8 (dk_at dksX2_bestSwap_4 5 rfl rfl)
theorem dX2_bestSwap_100 : decode cX2_bestSwap 100 = .ok (.invokestatic 172, 3) := dk_184 0 172 (dk_at dksX2_bestSwap_4 7 rfl rfl)
theorem dX2_bestSwap_103 : decode cX2_bestSwap 103 = .ok (.aload_n 0, 1) := dk_42 (dk_at dksX2_bestSwap_4 10 rfl rfl)
theorem dX2_bestSwap_104 : decode cX2_bestSwap 104 = .ok (.getfield 41, 3) := dk_180 0 41 (dk_at dksX2_bestSwap_4 11 rfl rfl)
theorem dX2_bestSwap_107 : decode cX2_bestSwap 107 = .ok (.iload 4, 2) := dk_21 4 (dk_at dksX2_bestSwap_4 14 rfl rfl)
theorem dX2_bestSwap_109 : decode cX2_bestSwap 109 = .ok (.aload_n 0, 1) := dk_42 (dk_at dksX2_bestSwap_4 16 rfl rfl)
theorem dX2_bestSwap_110 : decode cX2_bestSwap 110 = .ok (.getfield 26, 3) := dk_180 0 26 (dk_at dksX2_bestSwap_4 17 rfl rfl)
theorem dX2_bestSwap_113 : decode cX2_bestSwap 113 = .ok (.iload 5, 2) := dk_21 5 (dk_at dksX2_bestSwap_4 20 rfl rfl)
theorem dX2_bestSwap_115 : decode cX2_bestSwap 115 = .ok (.iaload, 1) := dk_46 (dk_at dksX2_bestSwap_4 22 rfl rfl)
theorem dX2_bestSwap_116 : decode cX2_bestSwap 116 = .ok (.iastore, 1) := dk_79 (dk_at dksX2_bestSwap_4 23 rfl rfl)
theorem dX2_bestSwap_117 : decode cX2_bestSwap 117 = .ok (.aload_n 0, 1) := dk_42 (dk_at dksX2_bestSwap_5 0 rfl rfl)
theorem dX2_bestSwap_118 : decode cX2_bestSwap 118 = .ok (.getfield 41, 3) := dk_180 0 41 (dk_at dksX2_bestSwap_5 1 rfl rfl)
theorem dX2_bestSwap_121 : decode cX2_bestSwap 121 = .ok (.iload 5, 2) := dk_21 5 (dk_at dksX2_bestSwap_5 4 rfl rfl)
theorem dX2_bestSwap_123 : decode cX2_bestSwap 123 = .ok (.aload_n 0, 1) := dk_42 (dk_at dksX2_bestSwap_5 6 rfl rfl)
theorem dX2_bestSwap_124 : decode cX2_bestSwap 124 = .ok (.getfield 26, 3) := dk_180 0 26 (dk_at dksX2_bestSwap_5 7 rfl rfl)
theorem dX2_bestSwap_127 : decode cX2_bestSwap 127 = .ok (.iload 4, 2) := dk_21 4 (dk_at dksX2_bestSwap_5 10 rfl rfl)
theorem dX2_bestSwap_129 : decode cX2_bestSwap 129 = .ok (.iaload, 1) := dk_46 (dk_at dksX2_bestSwap_5 12 rfl rfl)
theorem dX2_bestSwap_130 : decode cX2_bestSwap 130 = .ok (.iastore, 1) := dk_79 (dk_at dksX2_bestSwap_5 13 rfl rfl)
theorem dX2_bestSwap_131 : decode cX2_bestSwap 131 = .ok (.aload_n 0, 1) := dk_42 (dk_at dksX2_bestSwap_5 14 rfl rfl)
theorem dX2_bestSwap_132 : decode cX2_bestSwap 132 = .ok (.aload_n 0, 1) := dk_42 (dk_at dksX2_bestSwap_5 15 rfl rfl)
theorem dX2_bestSwap_133 : decode cX2_bestSwap 133 = .ok (.getfield 41, 3) := dk_180 0 41 (dk_at dksX2_bestSwap_5 16 rfl rfl)
theorem dX2_bestSwap_136 : decode cX2_bestSwap 136 = .ok (.iload_n 1, 1) := dk_27 (dk_at dksX2_bestSwap_5 19 rfl rfl)
theorem dX2_bestSwap_137 : decode cX2_bestSwap 137 = .ok (.invokevirtual 297, 3) := dk_182 1 41 (dk_at dksX2_bestSwap_5 20 rfl rfl)
theorem dX2_bestSwap_140 : decode cX2_bestSwap 140 = .ok (.iload_n 3, 1) := dk_29 (dk_at dksX2_bestSwap_5 23 rfl rfl)
theorem dX2_bestSwap_141 : decode cX2_bestSwap 141 = .ok (.if_icmp .lt 6, 3) := dk_161 0 6 (dk_at dksX2_bestSwap_6 0 rfl rfl)
theorem dX2_bestSwap_144 : decode cX2_bestSwap 144 = .ok (.goto 22, 3) := dk_167 0 22 (dk_at dksX2_bestSwap_6 3 rfl rfl)
theorem dX2_bestSwap_147 : decode cX2_bestSwap 147 = .ok (.bipush 10, 2) := dk_16 10 (dk_at dksX2_bestSwap_6 6 rfl rfl)
theorem dX2_bestSwap_149 : decode cX2_bestSwap 149 = .ok (.iload 4, 2) := dk_21 4 (dk_at dksX2_bestSwap_6 8 rfl rfl)
theorem dX2_bestSwap_151 : decode cX2_bestSwap 151 = .ok (.imul, 1) := dk_104 (dk_at dksX2_bestSwap_6 10 rfl rfl)
theorem dX2_bestSwap_152 : decode cX2_bestSwap 152 = .ok (.iload 5, 2) := dk_21 5 (dk_at dksX2_bestSwap_6 11 rfl rfl)
theorem dX2_bestSwap_154 : decode cX2_bestSwap 154 = .ok (.iadd, 1) := dk_96 (dk_at dksX2_bestSwap_6 13 rfl rfl)
theorem dX2_bestSwap_155 : decode cX2_bestSwap 155 = .ok (.istore_n 2, 1) := dk_61 (dk_at dksX2_bestSwap_6 14 rfl rfl)
theorem dX2_bestSwap_156 : decode cX2_bestSwap 156 = .ok (.aload_n 0, 1) := dk_42 (dk_at dksX2_bestSwap_6 15 rfl rfl)
theorem dX2_bestSwap_157 : decode cX2_bestSwap 157 = .ok (.aload_n 0, 1) := dk_42 (dk_at dksX2_bestSwap_6 16 rfl rfl)
theorem dX2_bestSwap_158 : decode cX2_bestSwap 158 = .ok (.getfield 41, 3) := dk_180 0 41 (dk_at dksX2_bestSwap_6 17 rfl rfl)
theorem dX2_bestSwap_161 : decode cX2_bestSwap 161 = .ok (.iload_n 1, 1) := dk_27 (dk_at dksX2_bestSwap_6 20 rfl rfl)
theorem dX2_bestSwap_162 : decode cX2_bestSwap 162 = .ok (.invokevirtual 297, 3) := dk_182 1 41 (dk_at dksX2_bestSwap_6 21 rfl rfl)
theorem dX2_bestSwap_165 : decode cX2_bestSwap 165 = .ok (.istore_n 3, 1) := dk_62 (dk_at dksX2_bestSwap_7 0 rfl rfl)
theorem dX2_bestSwap_166 : decode cX2_bestSwap 166 = .ok (.iinc 5 1, 3) := dk_132 5 1 (dk_at dksX2_bestSwap_7 1 rfl rfl)
theorem dX2_bestSwap_169 : decode cX2_bestSwap 169 = .ok (.goto (-113), 3) := dk_167 255 143 (dk_at dksX2_bestSwap_7 4 rfl rfl)
theorem dX2_bestSwap_172 : decode cX2_bestSwap 172 = .ok (.iinc 4 1, 3) := dk_132 4 1 (dk_at dksX2_bestSwap_7 7 rfl rfl)
theorem dX2_bestSwap_175 : decode cX2_bestSwap 175 = .ok (.goto (-137), 3) := dk_167 255 119 (dk_at dksX2_bestSwap_7 10 rfl rfl)
theorem dX2_bestSwap_178 : decode cX2_bestSwap 178 = .ok (.iload_n 2, 1) := dk_28 (dk_at dksX2_bestSwap_7 13 rfl rfl)
theorem dX2_bestSwap_179 : decode cX2_bestSwap 179 = .ok (.ireturn, 1) := dk_172 (dk_at dksX2_bestSwap_7 14 rfl rfl)
abbrev cX2_bestLane : ByteArray := prog_15_method_95_code
def yX2_bestLane : MethodName := ⟨RX2, "bestLane", "(I)I"⟩
def dkwX2_bestLane_3 : List UInt8 := [128, 79, 42, 42, 180, 0, 41, 27, 182, 1, 41, 28, 162, 0, 7, 4, 167, 0, 4, 3, 172]
abbrev dktX2_bestLane_3 : List UInt8 := dkwX2_bestLane_3 ++ []
def dkwX2_bestLane_2 : List UInt8 := [2, 130, 126, 79, 42, 42, 180, 0, 41, 27, 182, 1, 41, 61, 42, 180, 0, 41, 8, 92, 46, 4, 27, 120]
abbrev dktX2_bestLane_2 : List UInt8 := dkwX2_bestLane_2 ++ dktX2_bestLane_3
def dkwX2_bestLane_1 : List UInt8 := [180, 0, 26, 3, 42, 180, 0, 41, 3, 16, 8, 184, 0, 172, 42, 180, 0, 41, 8, 92, 46, 4, 27, 120]
abbrev dktX2_bestLane_1 : List UInt8 := dkwX2_bestLane_1 ++ dktX2_bestLane_2
def dkwX2_bestLane_0 : List UInt8 := [42, 182, 0, 163, 42, 182, 1, 50, 42, 27, 182, 1, 53, 154, 0, 9, 42, 4, 182, 0, 166, 172, 42]
abbrev dktX2_bestLane_0 : List UInt8 := dkwX2_bestLane_0 ++ dktX2_bestLane_1
theorem dksX2_bestLane_0 : cX2_bestLane.data.toList.drop 0 = dktX2_bestLane_0 := by decide +kernel
theorem dksX2_bestLane_1 : cX2_bestLane.data.toList.drop 23 = dktX2_bestLane_1 := dk_seg dksX2_bestLane_0 23 rfl rfl
theorem dksX2_bestLane_2 : cX2_bestLane.data.toList.drop 47 = dktX2_bestLane_2 := dk_seg dksX2_bestLane_1 24 rfl rfl
theorem dksX2_bestLane_3 : cX2_bestLane.data.toList.drop 71 = dktX2_bestLane_3 := dk_seg dksX2_bestLane_2 24 rfl rfl
theorem dX2_bestLane_0 : decode cX2_bestLane 0 = .ok (.aload_n 0, 1) := dk_42 (dk_at dksX2_bestLane_0 0 rfl rfl)
theorem dX2_bestLane_1 : decode cX2_bestLane 1 = .ok (.invokevirtual 163, 3) := dk_182 0 163 (dk_at dksX2_bestLane_0 1 rfl rfl)
theorem dX2_bestLane_4 : decode cX2_bestLane 4 = .ok (.aload_n 0, 1) := dk_42 (dk_at dksX2_bestLane_0 4 rfl rfl)
theorem dX2_bestLane_5 : decode cX2_bestLane 5 = .ok (.invokevirtual 306, 3) := dk_182 1 50 (dk_at dksX2_bestLane_0 5 rfl rfl)
theorem dX2_bestLane_8 : decode cX2_bestLane 8 = .ok (.aload_n 0, 1) := dk_42 (dk_at dksX2_bestLane_0 8 rfl rfl)
theorem dX2_bestLane_9 : decode cX2_bestLane 9 = .ok (.iload_n 1, 1) := dk_27 (dk_at dksX2_bestLane_0 9 rfl rfl)
theorem dX2_bestLane_10 : decode cX2_bestLane 10 = .ok (.invokevirtual 309, 3) := dk_182 1 53 (dk_at dksX2_bestLane_0 10 rfl rfl)
theorem dX2_bestLane_13 : decode cX2_bestLane 13 = .ok (.ifCond .ne 9, 3) := dk_154 0 9 (dk_at dksX2_bestLane_0 13 rfl rfl)
theorem dX2_bestLane_16 : decode cX2_bestLane 16 = .ok (.aload_n 0, 1) := dk_42 (dk_at dksX2_bestLane_0 16 rfl rfl)
theorem dX2_bestLane_17 : decode cX2_bestLane 17 = .ok (.iconst 1, 1) := dk_4 (dk_at dksX2_bestLane_0 17 rfl rfl)
theorem dX2_bestLane_18 : decode cX2_bestLane 18 = .ok (.invokevirtual 166, 3) := dk_182 0 166 (dk_at dksX2_bestLane_0 18 rfl rfl)
theorem dX2_bestLane_21 : decode cX2_bestLane 21 = .ok (.ireturn, 1) := dk_172 (dk_at dksX2_bestLane_0 21 rfl rfl)
theorem dX2_bestLane_22 : decode cX2_bestLane 22 = .ok (.aload_n 0, 1) := dk_42 (dk_at dksX2_bestLane_0 22 rfl rfl)
theorem dX2_bestLane_23 : decode cX2_bestLane 23 = .ok (.getfield 26, 3) := dk_180 0 26 (dk_at dksX2_bestLane_1 0 rfl rfl)
theorem dX2_bestLane_26 : decode cX2_bestLane 26 = .ok (.iconst 0, 1) := dk_3 (dk_at dksX2_bestLane_1 3 rfl rfl)
theorem dX2_bestLane_27 : decode cX2_bestLane 27 = .ok (.aload_n 0, 1) := dk_42 (dk_at dksX2_bestLane_1 4 rfl rfl)
theorem dX2_bestLane_28 : decode cX2_bestLane 28 = .ok (.getfield 41, 3) := dk_180 0 41 (dk_at dksX2_bestLane_1 5 rfl rfl)
theorem dX2_bestLane_31 : decode cX2_bestLane 31 = .ok (.iconst 0, 1) := dk_3 (dk_at dksX2_bestLane_1 8 rfl rfl)
theorem dX2_bestLane_32 : decode cX2_bestLane 32 = .ok (.bipush 8, 2) := dk_16 8 (dk_at dksX2_bestLane_1 9 rfl rfl)
theorem dX2_bestLane_34 : decode cX2_bestLane 34 = .ok (.invokestatic 172, 3) := dk_184 0 172 (dk_at dksX2_bestLane_1 11 rfl rfl)
theorem dX2_bestLane_37 : decode cX2_bestLane 37 = .ok (.aload_n 0, 1) := dk_42 (dk_at dksX2_bestLane_1 14 rfl rfl)
theorem dX2_bestLane_38 : decode cX2_bestLane 38 = .ok (.getfield 41, 3) := dk_180 0 41 (dk_at dksX2_bestLane_1 15 rfl rfl)
theorem dX2_bestLane_41 : decode cX2_bestLane 41 = .ok (.iconst 5, 1) := dk_8 (dk_at dksX2_bestLane_1 18 rfl rfl)
theorem dX2_bestLane_42 : decode cX2_bestLane 42 = .ok (.dup2, 1) := dk_92 (dk_at dksX2_bestLane_1 19 rfl rfl)
theorem dX2_bestLane_43 : decode cX2_bestLane 43 = .ok (.iaload, 1) := dk_46 (dk_at dksX2_bestLane_1 20 rfl rfl)
theorem dX2_bestLane_44 : decode cX2_bestLane 44 = .ok (.iconst 1, 1) := dk_4 (dk_at dksX2_bestLane_1 21 rfl rfl)
theorem dX2_bestLane_45 : decode cX2_bestLane 45 = .ok (.iload_n 1, 1) := dk_27 (dk_at dksX2_bestLane_1 22 rfl rfl)
theorem dX2_bestLane_46 : decode cX2_bestLane 46 = .ok (.ishl, 1) := dk_120 (dk_at dksX2_bestLane_1 23 rfl rfl)
theorem dX2_bestLane_47 : decode cX2_bestLane 47 = .ok (.iconst (-1), 1) := dk_2 (dk_at dksX2_bestLane_2 0 rfl rfl)
theorem dX2_bestLane_48 : decode cX2_bestLane 48 = .ok (.ixor, 1) := dk_130 (dk_at dksX2_bestLane_2 1 rfl rfl)
theorem dX2_bestLane_49 : decode cX2_bestLane 49 = .ok (.iand, 1) := dk_126 (dk_at dksX2_bestLane_2 2 rfl rfl)
theorem dX2_bestLane_50 : decode cX2_bestLane 50 = .ok (.iastore, 1) := dk_79 (dk_at dksX2_bestLane_2 3 rfl rfl)
theorem dX2_bestLane_51 : decode cX2_bestLane 51 = .ok (.aload_n 0, 1) := dk_42 (dk_at dksX2_bestLane_2 4 rfl rfl)
theorem dX2_bestLane_52 : decode cX2_bestLane 52 = .ok (.aload_n 0, 1) := dk_42 (dk_at dksX2_bestLane_2 5 rfl rfl)
theorem dX2_bestLane_53 : decode cX2_bestLane 53 = .ok (.getfield 41, 3) := dk_180 0 41 (dk_at dksX2_bestLane_2 6 rfl rfl)
theorem dX2_bestLane_56 : decode cX2_bestLane 56 = .ok (.iload_n 1, 1) := dk_27 (dk_at dksX2_bestLane_2 9 rfl rfl)
theorem dX2_bestLane_57 : decode cX2_bestLane 57 = .ok (.invokevirtual 297, 3) := dk_182 1 41 (dk_at dksX2_bestLane_2 10 rfl rfl)
theorem dX2_bestLane_60 : decode cX2_bestLane 60 = .ok (.istore_n 2, 1) := dk_61 (dk_at dksX2_bestLane_2 13 rfl rfl)
theorem dX2_bestLane_61 : decode cX2_bestLane 61 = .ok (.aload_n 0, 1) := dk_42 (dk_at dksX2_bestLane_2 14 rfl rfl)
theorem dX2_bestLane_62 : decode cX2_bestLane 62 = .ok (.getfield 41, 3) := dk_180 0 41 (dk_at dksX2_bestLane_2 15 rfl rfl)
theorem dX2_bestLane_65 : decode cX2_bestLane 65 = .ok (.iconst 5, 1) := dk_8 (dk_at dksX2_bestLane_2 18 rfl rfl)
theorem dX2_bestLane_66 : decode cX2_bestLane 66 = .ok (.dup2, 1) := dk_92 (dk_at dksX2_bestLane_2 19 rfl rfl)
theorem dX2_bestLane_67 : decode cX2_bestLane 67 = .ok (.iaload, 1) := dk_46 (dk_at dksX2_bestLane_2 20 rfl rfl)
theorem dX2_bestLane_68 : decode cX2_bestLane 68 = .ok (.iconst 1, 1) := dk_4 (dk_at dksX2_bestLane_2 21 rfl rfl)
theorem dX2_bestLane_69 : decode cX2_bestLane 69 = .ok (.iload_n 1, 1) := dk_27 (dk_at dksX2_bestLane_2 22 rfl rfl)
theorem dX2_bestLane_70 : decode cX2_bestLane 70 = .ok (.ishl, 1) := dk_120 (dk_at dksX2_bestLane_2 23 rfl rfl)
theorem dX2_bestLane_71 : decode cX2_bestLane 71 = .ok (.ior, 1) := dk_128 (dk_at dksX2_bestLane_3 0 rfl rfl)
theorem dX2_bestLane_72 : decode cX2_bestLane 72 = .ok (.iastore, 1) := dk_79 (dk_at dksX2_bestLane_3 1 rfl rfl)
theorem dX2_bestLane_73 : decode cX2_bestLane 73 = .ok (.aload_n 0, 1) := dk_42 (dk_at dksX2_bestLane_3 2 rfl rfl)
theorem dX2_bestLane_74 : decode cX2_bestLane 74 = .ok (.aload_n 0, 1) := dk_42 (dk_at dksX2_bestLane_3 3 rfl rfl)
theorem dX2_bestLane_75 : decode cX2_bestLane 75 = .ok (.getfield 41, 3) := dk_180 0 41 (dk_at dksX2_bestLane_3 4 rfl rfl)
theorem dX2_bestLane_78 : decode cX2_bestLane 78 = .ok (.iload_n 1, 1) := dk_27 (dk_at dksX2_bestLane_3 7 rfl rfl)
theorem dX2_bestLane_79 : decode cX2_bestLane 79 = .ok (.invokevirtual 297, 3) := dk_182 1 41 (dk_at dksX2_bestLane_3 8 rfl rfl)
theorem dX2_bestLane_82 : decode cX2_bestLane 82 = .ok (.iload_n 2, 1) := dk_28 (dk_at dksX2_bestLane_3 11 rfl rfl)
theorem dX2_bestLane_83 : decode cX2_bestLane 83 = .ok (.if_icmp .ge 7, 3) := dk_162 0 7 (dk_at dksX2_bestLane_3 12 rfl rfl)
theorem dX2_bestLane_86 : decode cX2_bestLane 86 = .ok (.iconst 1, 1) := dk_4 (dk_at dksX2_bestLane_3 15 rfl rfl)
theorem dX2_bestLane_87 : decode cX2_bestLane 87 = .ok (.goto 4, 3) := dk_167 0 4 (dk_at dksX2_bestLane_3 16 rfl rfl)
theorem dX2_bestLane_90 : decode cX2_bestLane 90 = .ok (.iconst 0, 1) := dk_3 (dk_at dksX2_bestLane_3 19 rfl rfl)
theorem dX2_bestLane_91 : decode cX2_bestLane 91 = .ok (.ireturn, 1) := dk_172 (dk_at dksX2_bestLane_3 20 rfl rfl)
abbrev cX2_waterFor : ByteArray := prog_15_method_96_code
def yX2_waterFor : MethodName := ⟨RX2, "waterFor", "(II)I"⟩
def dkwX2_waterFor_4 : List UInt8 := [172]
abbrev dktX2_waterFor_4 : List UInt8 := dkwX2_waterFor_4 ++ []
def dkwX2_waterFor_3 : List UInt8 := [42, 42, 180, 0, 41, 27, 182, 1, 41, 28, 163, 0, 6, 21, 4, 172, 132, 4, 1, 167, 255, 221, 16, 254]
abbrev dktX2_waterFor_3 : List UInt8 := dkwX2_waterFor_3 ++ dktX2_waterFor_4
def dkwX2_waterFor_2 : List UInt8 := [16, 8, 184, 0, 172, 4, 54, 4, 21, 4, 16, 20, 163, 0, 34, 42, 180, 0, 41, 16, 7, 21, 4, 79]
abbrev dktX2_waterFor_2 : List UInt8 := dkwX2_waterFor_2 ++ dktX2_waterFor_3
def dkwX2_waterFor_1 : List UInt8 := [182, 1, 108, 62, 29, 153, 0, 9, 42, 29, 182, 0, 166, 172, 42, 180, 0, 26, 3, 42, 180, 0, 41, 3]
abbrev dktX2_waterFor_1 : List UInt8 := dkwX2_waterFor_1 ++ dktX2_waterFor_2
def dkwX2_waterFor_0 : List UInt8 := [42, 182, 0, 163, 42, 182, 1, 50, 42, 42, 27, 182, 1, 53, 28, 3, 17, 117, 48, 184, 0, 144]
abbrev dktX2_waterFor_0 : List UInt8 := dkwX2_waterFor_0 ++ dktX2_waterFor_1
theorem dksX2_waterFor_0 : cX2_waterFor.data.toList.drop 0 = dktX2_waterFor_0 := by decide +kernel
theorem dksX2_waterFor_1 : cX2_waterFor.data.toList.drop 22 = dktX2_waterFor_1 := dk_seg dksX2_waterFor_0 22 rfl rfl
theorem dksX2_waterFor_2 : cX2_waterFor.data.toList.drop 46 = dktX2_waterFor_2 := dk_seg dksX2_waterFor_1 24 rfl rfl
theorem dksX2_waterFor_3 : cX2_waterFor.data.toList.drop 70 = dktX2_waterFor_3 := dk_seg dksX2_waterFor_2 24 rfl rfl
theorem dksX2_waterFor_4 : cX2_waterFor.data.toList.drop 94 = dktX2_waterFor_4 := dk_seg dksX2_waterFor_3 24 rfl rfl
theorem dX2_waterFor_0 : decode cX2_waterFor 0 = .ok (.aload_n 0, 1) := dk_42 (dk_at dksX2_waterFor_0 0 rfl rfl)
theorem dX2_waterFor_1 : decode cX2_waterFor 1 = .ok (.invokevirtual 163, 3) := dk_182 0 163 (dk_at dksX2_waterFor_0 1 rfl rfl)
theorem dX2_waterFor_4 : decode cX2_waterFor 4 = .ok (.aload_n 0, 1) := dk_42 (dk_at dksX2_waterFor_0 4 rfl rfl)
theorem dX2_waterFor_5 : decode cX2_waterFor 5 = .ok (.invokevirtual 306, 3) := dk_182 1 50 (dk_at dksX2_waterFor_0 5 rfl rfl)
theorem dX2_waterFor_8 : decode cX2_waterFor 8 = .ok (.aload_n 0, 1) := dk_42 (dk_at dksX2_waterFor_0 8 rfl rfl)
theorem dX2_waterFor_9 : decode cX2_waterFor 9 = .ok (.aload_n 0, 1) := dk_42 (dk_at dksX2_waterFor_0 9 rfl rfl)
theorem dX2_waterFor_10 : decode cX2_waterFor 10 = .ok (.iload_n 1, 1) := dk_27 (dk_at dksX2_waterFor_0 10 rfl rfl)
theorem dX2_waterFor_11 : decode cX2_waterFor 11 = .ok (.invokevirtual 309, 3) := dk_182 1 53 (dk_at dksX2_waterFor_0 11 rfl rfl)
theorem dX2_waterFor_14 : decode cX2_waterFor 14 = .ok (.iload_n 2, 1) := dk_28 (dk_at dksX2_waterFor_0 14 rfl rfl)
theorem dX2_waterFor_15 : decode cX2_waterFor 15 = .ok (.iconst 0, 1) := dk_3 (dk_at dksX2_waterFor_0 15 rfl rfl)
theorem dX2_waterFor_16 : decode cX2_waterFor 16 = .ok (.sipush 30000, 3) := dk_17 117 48 (dk_at dksX2_waterFor_0 16 rfl rfl)
theorem dX2_waterFor_19 : decode cX2_waterFor 19 = .ok (.invokestatic 144, 3) := dk_184 0 144 (dk_at dksX2_waterFor_0 19 rfl rfl)
theorem dX2_waterFor_22 : decode cX2_waterFor 22 = .ok (.invokevirtual 364, 3) := dk_182 1 108 (dk_at dksX2_waterFor_1 0 rfl rfl)
theorem dX2_waterFor_25 : decode cX2_waterFor 25 = .ok (.istore_n 3, 1) := dk_62 (dk_at dksX2_waterFor_1 3 rfl rfl)
theorem dX2_waterFor_26 : decode cX2_waterFor 26 = .ok (.iload_n 3, 1) := dk_29 (dk_at dksX2_waterFor_1 4 rfl rfl)
theorem dX2_waterFor_27 : decode cX2_waterFor 27 = .ok (.ifCond .eq 9, 3) := dk_153 0 9 (dk_at dksX2_waterFor_1 5 rfl rfl)
theorem dX2_waterFor_30 : decode cX2_waterFor 30 = .ok (.aload_n 0, 1) := dk_42 (dk_at dksX2_waterFor_1 8 rfl rfl)
theorem dX2_waterFor_31 : decode cX2_waterFor 31 = .ok (.iload_n 3, 1) := dk_29 (dk_at dksX2_waterFor_1 9 rfl rfl)
theorem dX2_waterFor_32 : decode cX2_waterFor 32 = .ok (.invokevirtual 166, 3) := dk_182 0 166 (dk_at dksX2_waterFor_1 10 rfl rfl)
theorem dX2_waterFor_35 : decode cX2_waterFor 35 = .ok (.ireturn, 1) := dk_172 (dk_at dksX2_waterFor_1 13 rfl rfl)
theorem dX2_waterFor_36 : decode cX2_waterFor 36 = .ok (.aload_n 0, 1) := dk_42 (dk_at dksX2_waterFor_1 14 rfl rfl)
theorem dX2_waterFor_37 : decode cX2_waterFor 37 = .ok (.getfield 26, 3) := dk_180 0 26 (dk_at dksX2_waterFor_1 15 rfl rfl)
theorem dX2_waterFor_40 : decode cX2_waterFor 40 = .ok (.iconst 0, 1) := dk_3 (dk_at dksX2_waterFor_1 18 rfl rfl)
theorem dX2_waterFor_41 : decode cX2_waterFor 41 = .ok (.aload_n 0, 1) := dk_42 (dk_at dksX2_waterFor_1 19 rfl rfl)
theorem dX2_waterFor_42 : decode cX2_waterFor 42 = .ok (.getfield 41, 3) := dk_180 0 41 (dk_at dksX2_waterFor_1 20 rfl rfl)
theorem dX2_waterFor_45 : decode cX2_waterFor 45 = .ok (.iconst 0, 1) := dk_3 (dk_at dksX2_waterFor_1 23 rfl rfl)
theorem dX2_waterFor_46 : decode cX2_waterFor 46 = .ok (.bipush 8, 2) := dk_16 8 (dk_at dksX2_waterFor_2 0 rfl rfl)
theorem dX2_waterFor_48 : decode cX2_waterFor 48 = .ok (.invokestatic 172, 3) := dk_184 0 172 (dk_at dksX2_waterFor_2 2 rfl rfl)
theorem dX2_waterFor_51 : decode cX2_waterFor 51 = .ok (.iconst 1, 1) := dk_4 (dk_at dksX2_waterFor_2 5 rfl rfl)
theorem dX2_waterFor_52 : decode cX2_waterFor 52 = .ok (.istore 4, 2) := dk_54 4 (dk_at dksX2_waterFor_2 6 rfl rfl)
theorem dX2_waterFor_54 : decode cX2_waterFor 54 = .ok (.iload 4, 2) := dk_21 4 (dk_at dksX2_waterFor_2 8 rfl rfl)
theorem dX2_waterFor_56 : decode cX2_waterFor 56 = .ok (.bipush 20, 2) := dk_16 20 (dk_at dksX2_waterFor_2 10 rfl rfl)
theorem dX2_waterFor_58 : decode cX2_waterFor 58 = .ok (.if_icmp .gt 34, 3) := dk_163 0 34 (dk_at dksX2_waterFor_2 12 rfl rfl)
theorem dX2_waterFor_61 : decode cX2_waterFor 61 = .ok (.aload_n 0, 1) := dk_42 (dk_at dksX2_waterFor_2 15 rfl rfl)
theorem dX2_waterFor_62 : decode cX2_waterFor 62 = .ok (.getfield 41, 3) := dk_180 0 41 (dk_at dksX2_waterFor_2 16 rfl rfl)
theorem dX2_waterFor_65 : decode cX2_waterFor 65 = .ok (.bipush 7, 2) := dk_16 7 (dk_at dksX2_waterFor_2 19 rfl rfl)
theorem dX2_waterFor_67 : decode cX2_waterFor 67 = .ok (.iload 4, 2) := dk_21 4 (dk_at dksX2_waterFor_2 21 rfl rfl)
theorem dX2_waterFor_69 : decode cX2_waterFor 69 = .ok (.iastore, 1) := dk_79 (dk_at dksX2_waterFor_2 23 rfl rfl)
theorem dX2_waterFor_70 : decode cX2_waterFor 70 = .ok (.aload_n 0, 1) := dk_42 (dk_at dksX2_waterFor_3 0 rfl rfl)
theorem dX2_waterFor_71 : decode cX2_waterFor 71 = .ok (.aload_n 0, 1) := dk_42 (dk_at dksX2_waterFor_3 1 rfl rfl)
theorem dX2_waterFor_72 : decode cX2_waterFor 72 = .ok (.getfield 41, 3) := dk_180 0 41 (dk_at dksX2_waterFor_3 2 rfl rfl)
theorem dX2_waterFor_75 : decode cX2_waterFor 75 = .ok (.iload_n 1, 1) := dk_27 (dk_at dksX2_waterFor_3 5 rfl rfl)
theorem dX2_waterFor_76 : decode cX2_waterFor 76 = .ok (.invokevirtual 297, 3) := dk_182 1 41 (dk_at dksX2_waterFor_3 6 rfl rfl)
theorem dX2_waterFor_79 : decode cX2_waterFor 79 = .ok (.iload_n 2, 1) := dk_28 (dk_at dksX2_waterFor_3 9 rfl rfl)
theorem dX2_waterFor_80 : decode cX2_waterFor 80 = .ok (.if_icmp .gt 6, 3) := dk_163 0 6 (dk_at dksX2_waterFor_3 10 rfl rfl)
theorem dX2_waterFor_83 : decode cX2_waterFor 83 = .ok (.iload 4, 2) := dk_21 4 (dk_at dksX2_waterFor_3 13 rfl rfl)
theorem dX2_waterFor_85 : decode cX2_waterFor 85 = .ok (.ireturn, 1) := dk_172 (dk_at dksX2_waterFor_3 15 rfl rfl)
theorem dX2_waterFor_86 : decode cX2_waterFor 86 = .ok (.iinc 4 1, 3) := dk_132 4 1 (dk_at dksX2_waterFor_3 16 rfl rfl)
theorem dX2_waterFor_89 : decode cX2_waterFor 89 = .ok (.goto (-35), 3) := dk_167 255 221 (dk_at dksX2_waterFor_3 19 rfl rfl)
theorem dX2_waterFor_92 : decode cX2_waterFor 92 = .ok (.bipush (-2), 2) := dk_16 254 (dk_at dksX2_waterFor_3 22 rfl rfl)
theorem dX2_waterFor_94 : decode cX2_waterFor 94 = .ok (.ireturn, 1) := dk_172 (dk_at dksX2_waterFor_4 0 rfl rfl)
abbrev cX2_fires : ByteArray := prog_15_method_99_code
def yX2_fires : MethodName := ⟨RX2, "fires", "()I"⟩
def dkwX2_fires_1 : List UInt8 := [180, 1, 112, 172]
abbrev dktX2_fires_1 : List UInt8 := dkwX2_fires_1 ++ []
def dkwX2_fires_0 : List UInt8 := [42, 182, 0, 163, 42, 180, 0, 176, 154, 0, 9, 42, 4, 182, 0, 166, 172, 42, 2, 182, 1, 124, 87, 42]
abbrev dktX2_fires_0 : List UInt8 := dkwX2_fires_0 ++ dktX2_fires_1
theorem dksX2_fires_0 : cX2_fires.data.toList.drop 0 = dktX2_fires_0 := by decide +kernel
theorem dksX2_fires_1 : cX2_fires.data.toList.drop 24 = dktX2_fires_1 := dk_seg dksX2_fires_0 24 rfl rfl
theorem dX2_fires_0 : decode cX2_fires 0 = .ok (.aload_n 0, 1) := dk_42 (dk_at dksX2_fires_0 0 rfl rfl)
theorem dX2_fires_1 : decode cX2_fires 1 = .ok (.invokevirtual 163, 3) := dk_182 0 163 (dk_at dksX2_fires_0 1 rfl rfl)
theorem dX2_fires_4 : decode cX2_fires 4 = .ok (.aload_n 0, 1) := dk_42 (dk_at dksX2_fires_0 4 rfl rfl)
theorem dX2_fires_5 : decode cX2_fires 5 = .ok (.getfield 176, 3) := dk_180 0 176 (dk_at dksX2_fires_0 5 rfl rfl)
theorem dX2_fires_8 : decode cX2_fires 8 = .ok (.ifCond .ne 9, 3) := dk_154 0 9 (dk_at dksX2_fires_0 8 rfl rfl)
theorem dX2_fires_11 : decode cX2_fires 11 = .ok (.aload_n 0, 1) := dk_42 (dk_at dksX2_fires_0 11 rfl rfl)
theorem dX2_fires_12 : decode cX2_fires 12 = .ok (.iconst 1, 1) := dk_4 (dk_at dksX2_fires_0 12 rfl rfl)
theorem dX2_fires_13 : decode cX2_fires 13 = .ok (.invokevirtual 166, 3) := dk_182 0 166 (dk_at dksX2_fires_0 13 rfl rfl)
theorem dX2_fires_16 : decode cX2_fires 16 = .ok (.ireturn, 1) := dk_172 (dk_at dksX2_fires_0 16 rfl rfl)
theorem dX2_fires_17 : decode cX2_fires 17 = .ok (.aload_n 0, 1) := dk_42 (dk_at dksX2_fires_0 17 rfl rfl)
theorem dX2_fires_18 : decode cX2_fires 18 = .ok (.iconst (-1), 1) := dk_2 (dk_at dksX2_fires_0 18 rfl rfl)
theorem dX2_fires_19 : decode cX2_fires 19 = .ok (.invokevirtual 380, 3) := dk_182 1 124 (dk_at dksX2_fires_0 19 rfl rfl)
theorem dX2_fires_22 : decode cX2_fires 22 = .ok (.pop, 1) := dk_87 (dk_at dksX2_fires_0 22 rfl rfl)
theorem dX2_fires_23 : decode cX2_fires 23 = .ok (.aload_n 0, 1) := dk_42 (dk_at dksX2_fires_0 23 rfl rfl)
theorem dX2_fires_24 : decode cX2_fires 24 = .ok (.getfield 368, 3) := dk_180 1 112 (dk_at dksX2_fires_1 0 rfl rfl)
theorem dX2_fires_27 : decode cX2_fires 27 = .ok (.ireturn, 1) := dk_172 (dk_at dksX2_fires_1 3 rfl rfl)
abbrev cX2_seekFires : ByteArray := prog_15_method_98_code
def yX2_seekFires : MethodName := ⟨RX2, "seekFires", "(I)I"⟩
def dkwX2_seekFires_7 : List UInt8 := [154, 0, 8, 42, 3, 181, 1, 118, 28, 172]
abbrev dktX2_seekFires_7 : List UInt8 := dkwX2_seekFires_7 ++ []
def dkwX2_seekFires_6 : List UInt8 := [21, 4, 122, 4, 126, 96, 79, 132, 4, 1, 167, 255, 225, 132, 3, 1, 167, 255, 150, 42, 180, 1, 112]
abbrev dktX2_seekFires_6 : List UInt8 := dkwX2_seekFires_6 ++ dktX2_seekFires_7
def dkwX2_seekFires_5 : List UInt8 := [3, 54, 4, 21, 4, 42, 180, 0, 20, 16, 6, 46, 162, 0, 25, 42, 180, 0, 47, 21, 4, 92, 46, 29]
abbrev dktX2_seekFires_5 : List UInt8 := dkwX2_seekFires_5 ++ dktX2_seekFires_6
def dkwX2_seekFires_4 : List UInt8 := [96, 181, 1, 112, 42, 89, 180, 1, 115, 29, 128, 181, 1, 115, 42, 89, 180, 1, 118, 29, 126, 181, 1, 118]
abbrev dktX2_seekFires_4 : List UInt8 := dkwX2_seekFires_4 ++ dktX2_seekFires_5
def dkwX2_seekFires_3 : List UInt8 := [16, 254, 159, 0, 6, 167, 0, 80, 42, 180, 1, 112, 27, 160, 0, 5, 29, 61, 42, 89, 180, 1, 112, 4]
abbrev dktX2_seekFires_3 : List UInt8 := dkwX2_seekFires_3 ++ dktX2_seekFires_4
def dkwX2_seekFires_2 : List UInt8 := [167, 255, 241, 3, 62, 29, 4, 42, 180, 0, 20, 16, 6, 46, 120, 162, 0, 99, 42, 29, 182, 1, 121]
abbrev dktX2_seekFires_2 : List UInt8 := dkwX2_seekFires_2 ++ dktX2_seekFires_3
def dkwX2_seekFires_1 : List UInt8 := [46, 120, 4, 100, 181, 1, 118, 3, 62, 29, 7, 162, 0, 16, 42, 180, 0, 47, 29, 3, 79, 132, 3, 1]
abbrev dktX2_seekFires_1 : List UInt8 := dkwX2_seekFires_1 ++ dktX2_seekFires_2
def dkwX2_seekFires_0 : List UInt8 := [42, 182, 1, 50, 2, 61, 42, 3, 181, 1, 112, 42, 3, 181, 1, 115, 42, 4, 42, 180, 0, 20, 16, 6]
abbrev dktX2_seekFires_0 : List UInt8 := dkwX2_seekFires_0 ++ dktX2_seekFires_1
theorem dksX2_seekFires_0 : cX2_seekFires.data.toList.drop 0 = dktX2_seekFires_0 := by decide +kernel
theorem dksX2_seekFires_1 : cX2_seekFires.data.toList.drop 24 = dktX2_seekFires_1 := dk_seg dksX2_seekFires_0 24 rfl rfl
theorem dksX2_seekFires_2 : cX2_seekFires.data.toList.drop 48 = dktX2_seekFires_2 := dk_seg dksX2_seekFires_1 24 rfl rfl
theorem dksX2_seekFires_3 : cX2_seekFires.data.toList.drop 71 = dktX2_seekFires_3 := dk_seg dksX2_seekFires_2 23 rfl rfl
theorem dksX2_seekFires_4 : cX2_seekFires.data.toList.drop 95 = dktX2_seekFires_4 := dk_seg dksX2_seekFires_3 24 rfl rfl
theorem dksX2_seekFires_5 : cX2_seekFires.data.toList.drop 119 = dktX2_seekFires_5 := dk_seg dksX2_seekFires_4 24 rfl rfl
theorem dksX2_seekFires_6 : cX2_seekFires.data.toList.drop 143 = dktX2_seekFires_6 := dk_seg dksX2_seekFires_5 24 rfl rfl
theorem dksX2_seekFires_7 : cX2_seekFires.data.toList.drop 166 = dktX2_seekFires_7 := dk_seg dksX2_seekFires_6 23 rfl rfl
theorem dX2_seekFires_0 : decode cX2_seekFires 0 = .ok (.aload_n 0, 1) := dk_42 (dk_at dksX2_seekFires_0 0 rfl rfl)
theorem dX2_seekFires_1 : decode cX2_seekFires 1 = .ok (.invokevirtual 306, 3) := dk_182 1 50 (dk_at dksX2_seekFires_0 1 rfl rfl)
theorem dX2_seekFires_4 : decode cX2_seekFires 4 = .ok (.iconst (-1), 1) := dk_2 (dk_at dksX2_seekFires_0 4 rfl rfl)
theorem dX2_seekFires_5 : decode cX2_seekFires 5 = .ok (.istore_n 2, 1) := dk_61 (dk_at dksX2_seekFires_0 5 rfl rfl)
theorem dX2_seekFires_6 : decode cX2_seekFires 6 = .ok (.aload_n 0, 1) := dk_42 (dk_at dksX2_seekFires_0 6 rfl rfl)
theorem dX2_seekFires_7 : decode cX2_seekFires 7 = .ok (.iconst 0, 1) := dk_3 (dk_at dksX2_seekFires_0 7 rfl rfl)
theorem dX2_seekFires_8 : decode cX2_seekFires 8 = .ok (.putfield 368, 3) := dk_181 1 112 (dk_at dksX2_seekFires_0 8 rfl rfl)
theorem dX2_seekFires_11 : decode cX2_seekFires 11 = .ok (.aload_n 0, 1) := dk_42 (dk_at dksX2_seekFires_0 11 rfl rfl)
theorem dX2_seekFires_12 : decode cX2_seekFires 12 = .ok (.iconst 0, 1) := dk_3 (dk_at dksX2_seekFires_0 12 rfl rfl)
theorem dX2_seekFires_13 : decode cX2_seekFires 13 = .ok (.putfield 371, 3) := dk_181 1 115 (dk_at dksX2_seekFires_0 13 rfl rfl)
theorem dX2_seekFires_16 : decode cX2_seekFires 16 = .ok (.aload_n 0, 1) := dk_42 (dk_at dksX2_seekFires_0 16 rfl rfl)
theorem dX2_seekFires_17 : decode cX2_seekFires 17 = .ok (.iconst 1, 1) := dk_4 (dk_at dksX2_seekFires_0 17 rfl rfl)
theorem dX2_seekFires_18 : decode cX2_seekFires 18 = .ok (.aload_n 0, 1) := dk_42 (dk_at dksX2_seekFires_0 18 rfl rfl)
theorem dX2_seekFires_19 : decode cX2_seekFires 19 = .ok (.getfield 20, 3) := dk_180 0 20 (dk_at dksX2_seekFires_0 19 rfl rfl)
theorem dX2_seekFires_22 : decode cX2_seekFires 22 = .ok (.bipush 6, 2) := dk_16 6 (dk_at dksX2_seekFires_0 22 rfl rfl)
theorem dX2_seekFires_24 : decode cX2_seekFires 24 = .ok (.iaload, 1) := dk_46 (dk_at dksX2_seekFires_1 0 rfl rfl)
theorem dX2_seekFires_25 : decode cX2_seekFires 25 = .ok (.ishl, 1) := dk_120 (dk_at dksX2_seekFires_1 1 rfl rfl)
theorem dX2_seekFires_26 : decode cX2_seekFires 26 = .ok (.iconst 1, 1) := dk_4 (dk_at dksX2_seekFires_1 2 rfl rfl)
theorem dX2_seekFires_27 : decode cX2_seekFires 27 = .ok (.isub, 1) := dk_100 (dk_at dksX2_seekFires_1 3 rfl rfl)
theorem dX2_seekFires_28 : decode cX2_seekFires 28 = .ok (.putfield 374, 3) := dk_181 1 118 (dk_at dksX2_seekFires_1 4 rfl rfl)
theorem dX2_seekFires_31 : decode cX2_seekFires 31 = .ok (.iconst 0, 1) := dk_3 (dk_at dksX2_seekFires_1 7 rfl rfl)
theorem dX2_seekFires_32 : decode cX2_seekFires 32 = .ok (.istore_n 3, 1) := dk_62 (dk_at dksX2_seekFires_1 8 rfl rfl)
theorem dX2_seekFires_33 : decode cX2_seekFires 33 = .ok (.iload_n 3, 1) := dk_29 (dk_at dksX2_seekFires_1 9 rfl rfl)
theorem dX2_seekFires_34 : decode cX2_seekFires 34 = .ok (.iconst 4, 1) := dk_7 (dk_at dksX2_seekFires_1 10 rfl rfl)
theorem dX2_seekFires_35 : decode cX2_seekFires 35 = .ok (.if_icmp .ge 16, 3) := dk_162 0 16 (dk_at dksX2_seekFires_1 11 rfl rfl)
theorem dX2_seekFires_38 : decode cX2_seekFires 38 = .ok (.aload_n 0, 1) := dk_42 (dk_at dksX2_seekFires_1 14 rfl rfl)
theorem dX2_seekFires_39 : decode cX2_seekFires 39 = .ok (.getfield 47, 3) := dk_180 0 47 (dk_at dksX2_seekFires_1 15 rfl rfl)
theorem dX2_seekFires_42 : decode cX2_seekFires 42 = .ok (.iload_n 3, 1) := dk_29 (dk_at dksX2_seekFires_1 18 rfl rfl)
theorem dX2_seekFires_43 : decode cX2_seekFires 43 = .ok (.iconst 0, 1) := dk_3 (dk_at dksX2_seekFires_1 19 rfl rfl)
theorem dX2_seekFires_44 : decode cX2_seekFires 44 = .ok (.iastore, 1) := dk_79 (dk_at dksX2_seekFires_1 20 rfl rfl)
theorem dX2_seekFires_45 : decode cX2_seekFires 45 = .ok (.iinc 3 1, 3) := dk_132 3 1 (dk_at dksX2_seekFires_1 21 rfl rfl)
theorem dX2_seekFires_48 : decode cX2_seekFires 48 = .ok (.goto (-15), 3) := dk_167 255 241 (dk_at dksX2_seekFires_2 0 rfl rfl)
theorem dX2_seekFires_51 : decode cX2_seekFires 51 = .ok (.iconst 0, 1) := dk_3 (dk_at dksX2_seekFires_2 3 rfl rfl)
theorem dX2_seekFires_52 : decode cX2_seekFires 52 = .ok (.istore_n 3, 1) := dk_62 (dk_at dksX2_seekFires_2 4 rfl rfl)
theorem dX2_seekFires_53 : decode cX2_seekFires 53 = .ok (.iload_n 3, 1) := dk_29 (dk_at dksX2_seekFires_2 5 rfl rfl)
theorem dX2_seekFires_54 : decode cX2_seekFires 54 = .ok (.iconst 1, 1) := dk_4 (dk_at dksX2_seekFires_2 6 rfl rfl)
theorem dX2_seekFires_55 : decode cX2_seekFires 55 = .ok (.aload_n 0, 1) := dk_42 (dk_at dksX2_seekFires_2 7 rfl rfl)
theorem dX2_seekFires_56 : decode cX2_seekFires 56 = .ok (.getfield 20, 3) := dk_180 0 20 (dk_at dksX2_seekFires_2 8 rfl rfl)
theorem dX2_seekFires_59 : decode cX2_seekFires 59 = .ok (.bipush 6, 2) := dk_16 6 (dk_at dksX2_seekFires_2 11 rfl rfl)
theorem dX2_seekFires_61 : decode cX2_seekFires 61 = .ok (.iaload, 1) := dk_46 (dk_at dksX2_seekFires_2 13 rfl rfl)
theorem dX2_seekFires_62 : decode cX2_seekFires 62 = .ok (.ishl, 1) := dk_120 (dk_at dksX2_seekFires_2 14 rfl rfl)
theorem dX2_seekFires_63 : decode cX2_seekFires 63 = .ok (.if_icmp .ge 99, 3) := dk_162 0 99 (dk_at dksX2_seekFires_2 15 rfl rfl)
theorem dX2_seekFires_66 : decode cX2_seekFires 66 = .ok (.aload_n 0, 1) := dk_42 (dk_at dksX2_seekFires_2 18 rfl rfl)
theorem dX2_seekFires_67 : decode cX2_seekFires 67 = .ok (.iload_n 3, 1) := dk_29 (dk_at dksX2_seekFires_2 19 rfl rfl)
theorem dX2_seekFires_68 : decode cX2_seekFires 68 = .ok (.invokevirtual 377, 3) := dk_182 1 121 (dk_at dksX2_seekFires_2 20 rfl rfl)
theorem dX2_seekFires_71 : decode cX2_seekFires 71 = .ok (.bipush (-2), 2) := dk_16 254 (dk_at dksX2_seekFires_3 0 rfl rfl)
theorem dX2_seekFires_73 : decode cX2_seekFires 73 = .ok (.if_icmp .eq 6, 3) := dk_159 0 6 (dk_at dksX2_seekFires_3 2 rfl rfl)
theorem dX2_seekFires_76 : decode cX2_seekFires 76 = .ok (.goto 80, 3) := dk_167 0 80 (dk_at dksX2_seekFires_3 5 rfl rfl)
theorem dX2_seekFires_79 : decode cX2_seekFires 79 = .ok (.aload_n 0, 1) := dk_42 (dk_at dksX2_seekFires_3 8 rfl rfl)
theorem dX2_seekFires_80 : decode cX2_seekFires 80 = .ok (.getfield 368, 3) := dk_180 1 112 (dk_at dksX2_seekFires_3 9 rfl rfl)
theorem dX2_seekFires_83 : decode cX2_seekFires 83 = .ok (.iload_n 1, 1) := dk_27 (dk_at dksX2_seekFires_3 12 rfl rfl)
theorem dX2_seekFires_84 : decode cX2_seekFires 84 = .ok (.if_icmp .ne 5, 3) := dk_160 0 5 (dk_at dksX2_seekFires_3 13 rfl rfl)
theorem dX2_seekFires_87 : decode cX2_seekFires 87 = .ok (.iload_n 3, 1) := dk_29 (dk_at dksX2_seekFires_3 16 rfl rfl)
theorem dX2_seekFires_88 : decode cX2_seekFires 88 = .ok (.istore_n 2, 1) := dk_61 (dk_at dksX2_seekFires_3 17 rfl rfl)
theorem dX2_seekFires_89 : decode cX2_seekFires 89 = .ok (.aload_n 0, 1) := dk_42 (dk_at dksX2_seekFires_3 18 rfl rfl)
theorem dX2_seekFires_90 : decode cX2_seekFires 90 = .ok (.dup, 1) := dk_89 (dk_at dksX2_seekFires_3 19 rfl rfl)
theorem dX2_seekFires_91 : decode cX2_seekFires 91 = .ok (.getfield 368, 3) := dk_180 1 112 (dk_at dksX2_seekFires_3 20 rfl rfl)
theorem dX2_seekFires_94 : decode cX2_seekFires 94 = .ok (.iconst 1, 1) := dk_4 (dk_at dksX2_seekFires_3 23 rfl rfl)
theorem dX2_seekFires_95 : decode cX2_seekFires 95 = .ok (.iadd, 1) := dk_96 (dk_at dksX2_seekFires_4 0 rfl rfl)
theorem dX2_seekFires_96 : decode cX2_seekFires 96 = .ok (.putfield 368, 3) := dk_181 1 112 (dk_at dksX2_seekFires_4 1 rfl rfl)
theorem dX2_seekFires_99 : decode cX2_seekFires 99 = .ok (.aload_n 0, 1) := dk_42 (dk_at dksX2_seekFires_4 4 rfl rfl)
theorem dX2_seekFires_100 : decode cX2_seekFires 100 = .ok (.dup, 1) := dk_89 (dk_at dksX2_seekFires_4 5 rfl rfl)
theorem dX2_seekFires_101 : decode cX2_seekFires 101 = .ok (.getfield 371, 3) := dk_180 1 115 (dk_at dksX2_seekFires_4 6 rfl rfl)
theorem dX2_seekFires_104 : decode cX2_seekFires 104 = .ok (.iload_n 3, 1) := dk_29 (dk_at dksX2_seekFires_4 9 rfl rfl)
theorem dX2_seekFires_105 : decode cX2_seekFires 105 = .ok (.ior, 1) := dk_128 (dk_at dksX2_seekFires_4 10 rfl rfl)
theorem dX2_seekFires_106 : decode cX2_seekFires 106 = .ok (.putfield 371, 3) := dk_181 1 115 (dk_at dksX2_seekFires_4 11 rfl rfl)
theorem dX2_seekFires_109 : decode cX2_seekFires 109 = .ok (.aload_n 0, 1) := dk_42 (dk_at dksX2_seekFires_4 14 rfl rfl)
theorem dX2_seekFires_110 : decode cX2_seekFires 110 = .ok (.dup, 1) := dk_89 (dk_at dksX2_seekFires_4 15 rfl rfl)
theorem dX2_seekFires_111 : decode cX2_seekFires 111 = .ok (.getfield 374, 3) := dk_180 1 118 (dk_at dksX2_seekFires_4 16 rfl rfl)
theorem dX2_seekFires_114 : decode cX2_seekFires 114 = .ok (.iload_n 3, 1) := dk_29 (dk_at dksX2_seekFires_4 19 rfl rfl)
theorem dX2_seekFires_115 : decode cX2_seekFires 115 = .ok (.iand, 1) := dk_126 (dk_at dksX2_seekFires_4 20 rfl rfl)
theorem dX2_seekFires_116 : decode cX2_seekFires 116 = .ok (.putfield 374, 3) := dk_181 1 118 (dk_at dksX2_seekFires_4 21 rfl rfl)
theorem dX2_seekFires_119 : decode cX2_seekFires 119 = .ok (.iconst 0, 1) := dk_3 (dk_at dksX2_seekFires_5 0 rfl rfl)
theorem dX2_seekFires_120 : decode cX2_seekFires 120 = .ok (.istore 4, 2) := dk_54 4 (dk_at dksX2_seekFires_5 1 rfl rfl)
theorem dX2_seekFires_122 : decode cX2_seekFires 122 = .ok (.iload 4, 2) := dk_21 4 (dk_at dksX2_seekFires_5 3 rfl rfl)
theorem dX2_seekFires_124 : decode cX2_seekFires 124 = .ok (.aload_n 0, 1) := dk_42 (dk_at dksX2_seekFires_5 5 rfl rfl)
theorem dX2_seekFires_125 : decode cX2_seekFires 125 = .ok (.getfield 20, 3) := dk_180 0 20 (dk_at dksX2_seekFires_5 6 rfl rfl)
theorem dX2_seekFires_128 : decode cX2_seekFires 128 = .ok (.bipush 6, 2) := dk_16 6 (dk_at dksX2_seekFires_5 9 rfl rfl)
theorem dX2_seekFires_130 : decode cX2_seekFires 130 = .ok (.iaload, 1) := dk_46 (dk_at dksX2_seekFires_5 11 rfl rfl)
theorem dX2_seekFires_131 : decode cX2_seekFires 131 = .ok (.if_icmp .ge 25, 3) := dk_162 0 25 (dk_at dksX2_seekFires_5 12 rfl rfl)
theorem dX2_seekFires_134 : decode cX2_seekFires 134 = .ok (.aload_n 0, 1) := dk_42 (dk_at dksX2_seekFires_5 15 rfl rfl)
theorem dX2_seekFires_135 : decode cX2_seekFires 135 = .ok (.getfield 47, 3) := dk_180 0 47 (dk_at dksX2_seekFires_5 16 rfl rfl)
theorem dX2_seekFires_138 : decode cX2_seekFires 138 = .ok (.iload 4, 2) := dk_21 4 (dk_at dksX2_seekFires_5 19 rfl rfl)
theorem dX2_seekFires_140 : decode cX2_seekFires 140 = .ok (.dup2, 1) := dk_92 (dk_at dksX2_seekFires_5 21 rfl rfl)
theorem dX2_seekFires_141 : decode cX2_seekFires 141 = .ok (.iaload, 1) := dk_46 (dk_at dksX2_seekFires_5 22 rfl rfl)
theorem dX2_seekFires_142 : decode cX2_seekFires 142 = .ok (.iload_n 3, 1) := dk_29 (dk_at dksX2_seekFires_5 23 rfl rfl)
theorem dX2_seekFires_143 : decode cX2_seekFires 143 = .ok (.iload 4, 2) := dk_21 4 (dk_at dksX2_seekFires_6 0 rfl rfl)
theorem dX2_seekFires_145 : decode cX2_seekFires 145 = .ok (.ishr, 1) := dk_122 (dk_at dksX2_seekFires_6 2 rfl rfl)
theorem dX2_seekFires_146 : decode cX2_seekFires 146 = .ok (.iconst 1, 1) := dk_4 (dk_at dksX2_seekFires_6 3 rfl rfl)
theorem dX2_seekFires_147 : decode cX2_seekFires 147 = .ok (.iand, 1) := dk_126 (dk_at dksX2_seekFires_6 4 rfl rfl)
theorem dX2_seekFires_148 : decode cX2_seekFires 148 = .ok (.iadd, 1) := dk_96 (dk_at dksX2_seekFires_6 5 rfl rfl)
theorem dX2_seekFires_149 : decode cX2_seekFires 149 = .ok (.iastore, 1) := dk_79 (dk_at dksX2_seekFires_6 6 rfl rfl)
theorem dX2_seekFires_150 : decode cX2_seekFires 150 = .ok (.iinc 4 1, 3) := dk_132 4 1 (dk_at dksX2_seekFires_6 7 rfl rfl)
theorem dX2_seekFires_153 : decode cX2_seekFires 153 = .ok (.goto (-31), 3) := dk_167 255 225 (dk_at dksX2_seekFires_6 10 rfl rfl)
theorem dX2_seekFires_156 : decode cX2_seekFires 156 = .ok (.iinc 3 1, 3) := dk_132 3 1 (dk_at dksX2_seekFires_6 13 rfl rfl)
theorem dX2_seekFires_159 : decode cX2_seekFires 159 = .ok (.goto (-106), 3) := dk_167 255 150 (dk_at dksX2_seekFires_6 16 rfl rfl)
theorem dX2_seekFires_162 : decode cX2_seekFires 162 = .ok (.aload_n 0, 1) := dk_42 (dk_at dksX2_seekFires_6 19 rfl rfl)
theorem dX2_seekFires_163 : decode cX2_seekFires 163 = .ok (.getfield 368, 3) := dk_180 1 112 (dk_at dksX2_seekFires_6 20 rfl rfl)
theorem dX2_seekFires_166 : decode cX2_seekFires 166 = .ok (.ifCond .ne 8, 3) := dk_154 0 8 (dk_at dksX2_seekFires_7 0 rfl rfl)
theorem dX2_seekFires_169 : decode cX2_seekFires 169 = .ok (.aload_n 0, 1) := dk_42 (dk_at dksX2_seekFires_7 3 rfl rfl)
theorem dX2_seekFires_170 : decode cX2_seekFires 170 = .ok (.iconst 0, 1) := dk_3 (dk_at dksX2_seekFires_7 4 rfl rfl)
theorem dX2_seekFires_171 : decode cX2_seekFires 171 = .ok (.putfield 374, 3) := dk_181 1 118 (dk_at dksX2_seekFires_7 5 rfl rfl)
theorem dX2_seekFires_174 : decode cX2_seekFires 174 = .ok (.iload_n 2, 1) := dk_28 (dk_at dksX2_seekFires_7 8 rfl rfl)
theorem dX2_seekFires_175 : decode cX2_seekFires 175 = .ok (.ireturn, 1) := dk_172 (dk_at dksX2_seekFires_7 9 rfl rfl)
abbrev cX2_wrongSeen : ByteArray := prog_15_method_97_code
def yX2_wrongSeen : MethodName := ⟨RX2, "wrongSeen", "(I)I"⟩
def dkwX2_wrongSeen_3 : List UInt8 := [28, 104, 96, 5, 96, 46, 182, 1, 72, 154, 0, 5, 28, 172, 132, 2, 1, 167, 255, 192, 16, 254, 172]
abbrev dktX2_wrongSeen_3 : List UInt8 := dkwX2_wrongSeen_3 ++ []
def dkwX2_wrongSeen_2 : List UInt8 := [28, 104, 96, 46, 42, 180, 0, 20, 16, 59, 6, 28, 104, 96, 4, 96, 46, 42, 180, 0, 20, 16, 59, 6]
abbrev dktX2_wrongSeen_2 : List UInt8 := dkwX2_wrongSeen_2 ++ dktX2_wrongSeen_3
def dkwX2_wrongSeen_1 : List UInt8 := [61, 28, 42, 180, 0, 20, 16, 10, 46, 162, 0, 59, 42, 42, 180, 0, 41, 42, 180, 0, 20, 16, 59, 6]
abbrev dktX2_wrongSeen_1 : List UInt8 := dkwX2_wrongSeen_1 ++ dktX2_wrongSeen_2
def dkwX2_wrongSeen_0 : List UInt8 := [42, 180, 0, 26, 3, 42, 180, 0, 41, 3, 16, 8, 184, 0, 172, 42, 180, 0, 41, 16, 6, 27, 79, 3]
abbrev dktX2_wrongSeen_0 : List UInt8 := dkwX2_wrongSeen_0 ++ dktX2_wrongSeen_1
theorem dksX2_wrongSeen_0 : cX2_wrongSeen.data.toList.drop 0 = dktX2_wrongSeen_0 := by decide +kernel
theorem dksX2_wrongSeen_1 : cX2_wrongSeen.data.toList.drop 24 = dktX2_wrongSeen_1 := dk_seg dksX2_wrongSeen_0 24 rfl rfl
theorem dksX2_wrongSeen_2 : cX2_wrongSeen.data.toList.drop 48 = dktX2_wrongSeen_2 := dk_seg dksX2_wrongSeen_1 24 rfl rfl
theorem dksX2_wrongSeen_3 : cX2_wrongSeen.data.toList.drop 72 = dktX2_wrongSeen_3 := dk_seg dksX2_wrongSeen_2 24 rfl rfl
theorem dX2_wrongSeen_0 : decode cX2_wrongSeen 0 = .ok (.aload_n 0, 1) := dk_42 (dk_at dksX2_wrongSeen_0 0 rfl rfl)
theorem dX2_wrongSeen_1 : decode cX2_wrongSeen 1 = .ok (.getfield 26, 3) := dk_180 0 26 (dk_at dksX2_wrongSeen_0 1 rfl rfl)
theorem dX2_wrongSeen_4 : decode cX2_wrongSeen 4 = .ok (.iconst 0, 1) := dk_3 (dk_at dksX2_wrongSeen_0 4 rfl rfl)
theorem dX2_wrongSeen_5 : decode cX2_wrongSeen 5 = .ok (.aload_n 0, 1) := dk_42 (dk_at dksX2_wrongSeen_0 5 rfl rfl)
theorem dX2_wrongSeen_6 : decode cX2_wrongSeen 6 = .ok (.getfield 41, 3) := dk_180 0 41 (dk_at dksX2_wrongSeen_0 6 rfl rfl)
theorem dX2_wrongSeen_9 : decode cX2_wrongSeen 9 = .ok (.iconst 0, 1) := dk_3 (dk_at dksX2_wrongSeen_0 9 rfl rfl)
theorem dX2_wrongSeen_10 : decode cX2_wrongSeen 10 = .ok (.bipush 8, 2) := dk_16 8 (dk_at dksX2_wrongSeen_0 10 rfl rfl)
theorem dX2_wrongSeen_12 : decode cX2_wrongSeen 12 = .ok (.invokestatic 172, 3) := dk_184 0 172 (dk_at dksX2_wrongSeen_0 12 rfl rfl)
theorem dX2_wrongSeen_15 : decode cX2_wrongSeen 15 = .ok (.aload_n 0, 1) := dk_42 (dk_at dksX2_wrongSeen_0 15 rfl rfl)
theorem dX2_wrongSeen_16 : decode cX2_wrongSeen 16 = .ok (.getfield 41, 3) := dk_180 0 41 (dk_at dksX2_wrongSeen_0 16 rfl rfl)
theorem dX2_wrongSeen_19 : decode cX2_wrongSeen 19 = .ok (.bipush 6, 2) := dk_16 6 (dk_at dksX2_wrongSeen_0 19 rfl rfl)
theorem dX2_wrongSeen_21 : decode cX2_wrongSeen 21 = .ok (.iload_n 1, 1) := dk_27 (dk_at dksX2_wrongSeen_0 21 rfl rfl)
theorem dX2_wrongSeen_22 : decode cX2_wrongSeen 22 = .ok (.iastore, 1) := dk_79 (dk_at dksX2_wrongSeen_0 22 rfl rfl)
theorem dX2_wrongSeen_23 : decode cX2_wrongSeen 23 = .ok (.iconst 0, 1) := dk_3 (dk_at dksX2_wrongSeen_0 23 rfl rfl)
theorem dX2_wrongSeen_24 : decode cX2_wrongSeen 24 = .ok (.istore_n 2, 1) := dk_61 (dk_at dksX2_wrongSeen_1 0 rfl rfl)
theorem dX2_wrongSeen_25 : decode cX2_wrongSeen 25 = .ok (.iload_n 2, 1) := dk_28 (dk_at dksX2_wrongSeen_1 1 rfl rfl)
theorem dX2_wrongSeen_26 : decode cX2_wrongSeen 26 = .ok (.aload_n 0, 1) := dk_42 (dk_at dksX2_wrongSeen_1 2 rfl rfl)
theorem dX2_wrongSeen_27 : decode cX2_wrongSeen 27 = .ok (.getfield 20, 3) := dk_180 0 20 (dk_at dksX2_wrongSeen_1 3 rfl rfl)
theorem dX2_wrongSeen_30 : decode cX2_wrongSeen 30 = .ok (.bipush 10, 2) := dk_16 10 (dk_at dksX2_wrongSeen_1 6 rfl rfl)
theorem dX2_wrongSeen_32 : decode cX2_wrongSeen 32 = .ok (.iaload, 1) := dk_46 (dk_at dksX2_wrongSeen_1 8 rfl rfl)
theorem dX2_wrongSeen_33 : decode cX2_wrongSeen 33 = .ok (.if_icmp .ge 59, 3) := dk_162 0 59 (dk_at dksX2_wrongSeen_1 9 rfl rfl)
theorem dX2_wrongSeen_36 : decode cX2_wrongSeen 36 = .ok (.aload_n 0, 1) := dk_42 (dk_at dksX2_wrongSeen_1 12 rfl rfl)
theorem dX2_wrongSeen_37 : decode cX2_wrongSeen 37 = .ok (.aload_n 0, 1) := dk_42 (dk_at dksX2_wrongSeen_1 13 rfl rfl)
theorem dX2_wrongSeen_38 : decode cX2_wrongSeen 38 = .ok (.getfield 41, 3) := dk_180 0 41 (dk_at dksX2_wrongSeen_1 14 rfl rfl)
theorem dX2_wrongSeen_41 : decode cX2_wrongSeen 41 = .ok (.aload_n 0, 1) := dk_42 (dk_at dksX2_wrongSeen_1 17 rfl rfl)
theorem dX2_wrongSeen_42 : decode cX2_wrongSeen 42 = .ok (.getfield 20, 3) := dk_180 0 20 (dk_at dksX2_wrongSeen_1 18 rfl rfl)
theorem dX2_wrongSeen_45 : decode cX2_wrongSeen 45 = .ok (.bipush 59, 2) := dk_16 59 (dk_at dksX2_wrongSeen_1 21 rfl rfl)
theorem dX2_wrongSeen_47 : decode cX2_wrongSeen 47 = .ok (.iconst 3, 1) := dk_6 (dk_at dksX2_wrongSeen_1 23 rfl rfl)
theorem dX2_wrongSeen_48 : decode cX2_wrongSeen 48 = .ok (.iload_n 2, 1) := dk_28 (dk_at dksX2_wrongSeen_2 0 rfl rfl)
theorem dX2_wrongSeen_49 : decode cX2_wrongSeen 49 = .ok (.imul, 1) := dk_104 (dk_at dksX2_wrongSeen_2 1 rfl rfl)
theorem dX2_wrongSeen_50 : decode cX2_wrongSeen 50 = .ok (.iadd, 1) := dk_96 (dk_at dksX2_wrongSeen_2 2 rfl rfl)
theorem dX2_wrongSeen_51 : decode cX2_wrongSeen 51 = .ok (.iaload, 1) := dk_46 (dk_at dksX2_wrongSeen_2 3 rfl rfl)
theorem dX2_wrongSeen_52 : decode cX2_wrongSeen 52 = .ok (.aload_n 0, 1) := dk_42 (dk_at dksX2_wrongSeen_2 4 rfl rfl)
theorem dX2_wrongSeen_53 : decode cX2_wrongSeen 53 = .ok (.getfield 20, 3) := dk_180 0 20 (dk_at dksX2_wrongSeen_2 5 rfl rfl)
theorem dX2_wrongSeen_56 : decode cX2_wrongSeen 56 = .ok (.bipush 59, 2) := dk_16 59 (dk_at dksX2_wrongSeen_2 8 rfl rfl)
theorem dX2_wrongSeen_58 : decode cX2_wrongSeen 58 = .ok (.iconst 3, 1) := dk_6 (dk_at dksX2_wrongSeen_2 10 rfl rfl)
theorem dX2_wrongSeen_59 : decode cX2_wrongSeen 59 = .ok (.iload_n 2, 1) := dk_28 (dk_at dksX2_wrongSeen_2 11 rfl rfl)
theorem dX2_wrongSeen_60 : decode cX2_wrongSeen 60 = .ok (.imul, 1) := dk_104 (dk_at dksX2_wrongSeen_2 12 rfl rfl)
theorem dX2_wrongSeen_61 : decode cX2_wrongSeen 61 = .ok (.iadd, 1) := dk_96 (dk_at dksX2_wrongSeen_2 13 rfl rfl)
theorem dX2_wrongSeen_62 : decode cX2_wrongSeen 62 = .ok (.iconst 1, 1) := dk_4 (dk_at dksX2_wrongSeen_2 14 rfl rfl)
theorem dX2_wrongSeen_63 : decode cX2_wrongSeen 63 = .ok (.iadd, 1) := dk_96 (dk_at dksX2_wrongSeen_2 15 rfl rfl)
theorem dX2_wrongSeen_64 : decode cX2_wrongSeen 64 = .ok (.iaload, 1) := dk_46 (dk_at dksX2_wrongSeen_2 16 rfl rfl)
theorem dX2_wrongSeen_65 : decode cX2_wrongSeen 65 = .ok (.aload_n 0, 1) := dk_42 (dk_at dksX2_wrongSeen_2 17 rfl rfl)
theorem dX2_wrongSeen_66 : decode cX2_wrongSeen 66 = .ok (.getfield 20, 3) := dk_180 0 20 (dk_at dksX2_wrongSeen_2 18 rfl rfl)
theorem dX2_wrongSeen_69 : decode cX2_wrongSeen 69 = .ok (.bipush 59, 2) := dk_16 59 (dk_at dksX2_wrongSeen_2 21 rfl rfl)
theorem dX2_wrongSeen_71 : decode cX2_wrongSeen 71 = .ok (.iconst 3, 1) := dk_6 (dk_at dksX2_wrongSeen_2 23 rfl rfl)
theorem dX2_wrongSeen_72 : decode cX2_wrongSeen 72 = .ok (.iload_n 2, 1) := dk_28 (dk_at dksX2_wrongSeen_3 0 rfl rfl)
theorem dX2_wrongSeen_73 : decode cX2_wrongSeen 73 = .ok (.imul, 1) := dk_104 (dk_at dksX2_wrongSeen_3 1 rfl rfl)
theorem dX2_wrongSeen_74 : decode cX2_wrongSeen 74 = .ok (.iadd, 1) := dk_96 (dk_at dksX2_wrongSeen_3 2 rfl rfl)
theorem dX2_wrongSeen_75 : decode cX2_wrongSeen 75 = .ok (.iconst 2, 1) := dk_5 (dk_at dksX2_wrongSeen_3 3 rfl rfl)
theorem dX2_wrongSeen_76 : decode cX2_wrongSeen 76 = .ok (.iadd, 1) := dk_96 (dk_at dksX2_wrongSeen_3 4 rfl rfl)
theorem dX2_wrongSeen_77 : decode cX2_wrongSeen 77 = .ok (.iaload, 1) := dk_46 (dk_at dksX2_wrongSeen_3 5 rfl rfl)
theorem dX2_wrongSeen_78 : decode cX2_wrongSeen 78 = .ok (.invokevirtual 328, 3) := dk_182 1 72 (dk_at dksX2_wrongSeen_3 6 rfl rfl)
theorem dX2_wrongSeen_81 : decode cX2_wrongSeen 81 = .ok (.ifCond .ne 5, 3) := dk_154 0 5 (dk_at dksX2_wrongSeen_3 9 rfl rfl)
theorem dX2_wrongSeen_84 : decode cX2_wrongSeen 84 = .ok (.iload_n 2, 1) := dk_28 (dk_at dksX2_wrongSeen_3 12 rfl rfl)
theorem dX2_wrongSeen_85 : decode cX2_wrongSeen 85 = .ok (.ireturn, 1) := dk_172 (dk_at dksX2_wrongSeen_3 13 rfl rfl)
theorem dX2_wrongSeen_86 : decode cX2_wrongSeen 86 = .ok (.iinc 2 1, 3) := dk_132 2 1 (dk_at dksX2_wrongSeen_3 14 rfl rfl)
theorem dX2_wrongSeen_89 : decode cX2_wrongSeen 89 = .ok (.goto (-64), 3) := dk_167 255 192 (dk_at dksX2_wrongSeen_3 17 rfl rfl)
theorem dX2_wrongSeen_92 : decode cX2_wrongSeen 92 = .ok (.bipush (-2), 2) := dk_16 254 (dk_at dksX2_wrongSeen_3 20 rfl rfl)
theorem dX2_wrongSeen_94 : decode cX2_wrongSeen 94 = .ok (.ireturn, 1) := dk_172 (dk_at dksX2_wrongSeen_3 22 rfl rfl)
abbrev cX2_fireAt : ByteArray := prog_15_method_100_code
def yX2_fireAt : MethodName := ⟨RX2, "fireAt", "(I)I"⟩
def dkwX2_fireAt_1 : List UInt8 := [182, 1, 124, 61, 28, 156, 0, 11, 42, 4, 182, 0, 166, 167, 0, 4, 28, 172]
abbrev dktX2_fireAt_1 : List UInt8 := dkwX2_fireAt_1 ++ []
def dkwX2_fireAt_0 : List UInt8 := [42, 182, 0, 163, 42, 180, 0, 176, 153, 0, 7, 27, 156, 0, 9, 42, 4, 182, 0, 166, 172, 42, 27]
abbrev dktX2_fireAt_0 : List UInt8 := dkwX2_fireAt_0 ++ dktX2_fireAt_1
theorem dksX2_fireAt_0 : cX2_fireAt.data.toList.drop 0 = dktX2_fireAt_0 := by decide +kernel
theorem dksX2_fireAt_1 : cX2_fireAt.data.toList.drop 23 = dktX2_fireAt_1 := dk_seg dksX2_fireAt_0 23 rfl rfl
theorem dX2_fireAt_0 : decode cX2_fireAt 0 = .ok (.aload_n 0, 1) := dk_42 (dk_at dksX2_fireAt_0 0 rfl rfl)
theorem dX2_fireAt_1 : decode cX2_fireAt 1 = .ok (.invokevirtual 163, 3) := dk_182 0 163 (dk_at dksX2_fireAt_0 1 rfl rfl)
theorem dX2_fireAt_4 : decode cX2_fireAt 4 = .ok (.aload_n 0, 1) := dk_42 (dk_at dksX2_fireAt_0 4 rfl rfl)
theorem dX2_fireAt_5 : decode cX2_fireAt 5 = .ok (.getfield 176, 3) := dk_180 0 176 (dk_at dksX2_fireAt_0 5 rfl rfl)
theorem dX2_fireAt_8 : decode cX2_fireAt 8 = .ok (.ifCond .eq 7, 3) := dk_153 0 7 (dk_at dksX2_fireAt_0 8 rfl rfl)
theorem dX2_fireAt_11 : decode cX2_fireAt 11 = .ok (.iload_n 1, 1) := dk_27 (dk_at dksX2_fireAt_0 11 rfl rfl)
theorem dX2_fireAt_12 : decode cX2_fireAt 12 = .ok (.ifCond .ge 9, 3) := dk_156 0 9 (dk_at dksX2_fireAt_0 12 rfl rfl)
theorem dX2_fireAt_15 : decode cX2_fireAt 15 = .ok (.aload_n 0, 1) := dk_42 (dk_at dksX2_fireAt_0 15 rfl rfl)
theorem dX2_fireAt_16 : decode cX2_fireAt 16 = .ok (.iconst 1, 1) := dk_4 (dk_at dksX2_fireAt_0 16 rfl rfl)
theorem dX2_fireAt_17 : decode cX2_fireAt 17 = .ok (.invokevirtual 166, 3) := dk_182 0 166 (dk_at dksX2_fireAt_0 17 rfl rfl)
theorem dX2_fireAt_20 : decode cX2_fireAt 20 = .ok (.ireturn, 1) := dk_172 (dk_at dksX2_fireAt_0 20 rfl rfl)
theorem dX2_fireAt_21 : decode cX2_fireAt 21 = .ok (.aload_n 0, 1) := dk_42 (dk_at dksX2_fireAt_0 21 rfl rfl)
theorem dX2_fireAt_22 : decode cX2_fireAt 22 = .ok (.iload_n 1, 1) := dk_27 (dk_at dksX2_fireAt_0 22 rfl rfl)
theorem dX2_fireAt_23 : decode cX2_fireAt 23 = .ok (.invokevirtual 380, 3) := dk_182 1 124 (dk_at dksX2_fireAt_1 0 rfl rfl)
theorem dX2_fireAt_26 : decode cX2_fireAt 26 = .ok (.istore_n 2, 1) := dk_61 (dk_at dksX2_fireAt_1 3 rfl rfl)
theorem dX2_fireAt_27 : decode cX2_fireAt 27 = .ok (.iload_n 2, 1) := dk_28 (dk_at dksX2_fireAt_1 4 rfl rfl)
theorem dX2_fireAt_28 : decode cX2_fireAt 28 = .ok (.ifCond .ge 11, 3) := dk_156 0 11 (dk_at dksX2_fireAt_1 5 rfl rfl)
theorem dX2_fireAt_31 : decode cX2_fireAt 31 = .ok (.aload_n 0, 1) := dk_42 (dk_at dksX2_fireAt_1 8 rfl rfl)
theorem dX2_fireAt_32 : decode cX2_fireAt 32 = .ok (.iconst 1, 1) := dk_4 (dk_at dksX2_fireAt_1 9 rfl rfl)
theorem dX2_fireAt_33 : decode cX2_fireAt 33 = .ok (.invokevirtual 166, 3) := dk_182 0 166 (dk_at dksX2_fireAt_1 10 rfl rfl)
theorem dX2_fireAt_36 : decode cX2_fireAt 36 = .ok (.goto 4, 3) := dk_167 0 4 (dk_at dksX2_fireAt_1 13 rfl rfl)
theorem dX2_fireAt_39 : decode cX2_fireAt 39 = .ok (.iload_n 2, 1) := dk_28 (dk_at dksX2_fireAt_1 16 rfl rfl)
theorem dX2_fireAt_40 : decode cX2_fireAt 40 = .ok (.ireturn, 1) := dk_172 (dk_at dksX2_fireAt_1 17 rfl rfl)
abbrev cX2_could : ByteArray := prog_15_method_101_code
def yX2_could : MethodName := ⟨RX2, "could", "()I"⟩
def dkwX2_could_1 : List UInt8 := [180, 1, 115, 172]
abbrev dktX2_could_1 : List UInt8 := dkwX2_could_1 ++ []
def dkwX2_could_0 : List UInt8 := [42, 182, 0, 163, 42, 180, 0, 176, 154, 0, 9, 42, 4, 182, 0, 166, 172, 42, 2, 182, 1, 124, 87, 42]
abbrev dktX2_could_0 : List UInt8 := dkwX2_could_0 ++ dktX2_could_1
theorem dksX2_could_0 : cX2_could.data.toList.drop 0 = dktX2_could_0 := by decide +kernel
theorem dksX2_could_1 : cX2_could.data.toList.drop 24 = dktX2_could_1 := dk_seg dksX2_could_0 24 rfl rfl
theorem dX2_could_0 : decode cX2_could 0 = .ok (.aload_n 0, 1) := dk_42 (dk_at dksX2_could_0 0 rfl rfl)
theorem dX2_could_1 : decode cX2_could 1 = .ok (.invokevirtual 163, 3) := dk_182 0 163 (dk_at dksX2_could_0 1 rfl rfl)
theorem dX2_could_4 : decode cX2_could 4 = .ok (.aload_n 0, 1) := dk_42 (dk_at dksX2_could_0 4 rfl rfl)
theorem dX2_could_5 : decode cX2_could 5 = .ok (.getfield 176, 3) := dk_180 0 176 (dk_at dksX2_could_0 5 rfl rfl)
theorem dX2_could_8 : decode cX2_could 8 = .ok (.ifCond .ne 9, 3) := dk_154 0 9 (dk_at dksX2_could_0 8 rfl rfl)
theorem dX2_could_11 : decode cX2_could 11 = .ok (.aload_n 0, 1) := dk_42 (dk_at dksX2_could_0 11 rfl rfl)
theorem dX2_could_12 : decode cX2_could 12 = .ok (.iconst 1, 1) := dk_4 (dk_at dksX2_could_0 12 rfl rfl)
theorem dX2_could_13 : decode cX2_could 13 = .ok (.invokevirtual 166, 3) := dk_182 0 166 (dk_at dksX2_could_0 13 rfl rfl)
theorem dX2_could_16 : decode cX2_could 16 = .ok (.ireturn, 1) := dk_172 (dk_at dksX2_could_0 16 rfl rfl)
theorem dX2_could_17 : decode cX2_could 17 = .ok (.aload_n 0, 1) := dk_42 (dk_at dksX2_could_0 17 rfl rfl)
theorem dX2_could_18 : decode cX2_could 18 = .ok (.iconst (-1), 1) := dk_2 (dk_at dksX2_could_0 18 rfl rfl)
theorem dX2_could_19 : decode cX2_could 19 = .ok (.invokevirtual 380, 3) := dk_182 1 124 (dk_at dksX2_could_0 19 rfl rfl)
theorem dX2_could_22 : decode cX2_could 22 = .ok (.pop, 1) := dk_87 (dk_at dksX2_could_0 22 rfl rfl)
theorem dX2_could_23 : decode cX2_could 23 = .ok (.aload_n 0, 1) := dk_42 (dk_at dksX2_could_0 23 rfl rfl)
theorem dX2_could_24 : decode cX2_could 24 = .ok (.getfield 371, 3) := dk_180 1 115 (dk_at dksX2_could_1 0 rfl rfl)
theorem dX2_could_27 : decode cX2_could 27 = .ok (.ireturn, 1) := dk_172 (dk_at dksX2_could_1 3 rfl rfl)
abbrev cX2_surely : ByteArray := prog_15_method_102_code
def yX2_surely : MethodName := ⟨RX2, "surely", "()I"⟩
def dkwX2_surely_1 : List UInt8 := [180, 1, 118, 172]
abbrev dktX2_surely_1 : List UInt8 := dkwX2_surely_1 ++ []
def dkwX2_surely_0 : List UInt8 := [42, 182, 0, 163, 42, 180, 0, 176, 154, 0, 9, 42, 4, 182, 0, 166, 172, 42, 2, 182, 1, 124, 87, 42]
abbrev dktX2_surely_0 : List UInt8 := dkwX2_surely_0 ++ dktX2_surely_1
theorem dksX2_surely_0 : cX2_surely.data.toList.drop 0 = dktX2_surely_0 := by decide +kernel
theorem dksX2_surely_1 : cX2_surely.data.toList.drop 24 = dktX2_surely_1 := dk_seg dksX2_surely_0 24 rfl rfl
theorem dX2_surely_0 : decode cX2_surely 0 = .ok (.aload_n 0, 1) := dk_42 (dk_at dksX2_surely_0 0 rfl rfl)
theorem dX2_surely_1 : decode cX2_surely 1 = .ok (.invokevirtual 163, 3) := dk_182 0 163 (dk_at dksX2_surely_0 1 rfl rfl)
theorem dX2_surely_4 : decode cX2_surely 4 = .ok (.aload_n 0, 1) := dk_42 (dk_at dksX2_surely_0 4 rfl rfl)
theorem dX2_surely_5 : decode cX2_surely 5 = .ok (.getfield 176, 3) := dk_180 0 176 (dk_at dksX2_surely_0 5 rfl rfl)
theorem dX2_surely_8 : decode cX2_surely 8 = .ok (.ifCond .ne 9, 3) := dk_154 0 9 (dk_at dksX2_surely_0 8 rfl rfl)
theorem dX2_surely_11 : decode cX2_surely 11 = .ok (.aload_n 0, 1) := dk_42 (dk_at dksX2_surely_0 11 rfl rfl)
theorem dX2_surely_12 : decode cX2_surely 12 = .ok (.iconst 1, 1) := dk_4 (dk_at dksX2_surely_0 12 rfl rfl)
theorem dX2_surely_13 : decode cX2_surely 13 = .ok (.invokevirtual 166, 3) := dk_182 0 166 (dk_at dksX2_surely_0 13 rfl rfl)
theorem dX2_surely_16 : decode cX2_surely 16 = .ok (.ireturn, 1) := dk_172 (dk_at dksX2_surely_0 16 rfl rfl)
theorem dX2_surely_17 : decode cX2_surely 17 = .ok (.aload_n 0, 1) := dk_42 (dk_at dksX2_surely_0 17 rfl rfl)
theorem dX2_surely_18 : decode cX2_surely 18 = .ok (.iconst (-1), 1) := dk_2 (dk_at dksX2_surely_0 18 rfl rfl)
theorem dX2_surely_19 : decode cX2_surely 19 = .ok (.invokevirtual 380, 3) := dk_182 1 124 (dk_at dksX2_surely_0 19 rfl rfl)
theorem dX2_surely_22 : decode cX2_surely 22 = .ok (.pop, 1) := dk_87 (dk_at dksX2_surely_0 22 rfl rfl)
theorem dX2_surely_23 : decode cX2_surely 23 = .ok (.aload_n 0, 1) := dk_42 (dk_at dksX2_surely_0 23 rfl rfl)
theorem dX2_surely_24 : decode cX2_surely 24 = .ok (.getfield 374, 3) := dk_180 1 118 (dk_at dksX2_surely_1 0 rfl rfl)
theorem dX2_surely_27 : decode cX2_surely 27 = .ok (.ireturn, 1) := dk_172 (dk_at dksX2_surely_1 3 rfl rfl)
abbrev cX2_ask : ByteArray := prog_15_method_105_code
def yX2_ask : MethodName := ⟨RX2, "ask", "()I"⟩
def dkwX2_ask_0 : List UInt8 := [42, 182, 0, 163, 42, 180, 0, 176, 153, 0, 10, 42, 182, 1, 130, 167, 0, 8, 42, 4, 182, 0, 166, 172]
abbrev dktX2_ask_0 : List UInt8 := dkwX2_ask_0 ++ []
theorem dksX2_ask_0 : cX2_ask.data.toList.drop 0 = dktX2_ask_0 := by decide +kernel
theorem dX2_ask_0 : decode cX2_ask 0 = .ok (.aload_n 0, 1) := dk_42 (dk_at dksX2_ask_0 0 rfl rfl)
theorem dX2_ask_1 : decode cX2_ask 1 = .ok (.invokevirtual 163, 3) := dk_182 0 163 (dk_at dksX2_ask_0 1 rfl rfl)
theorem dX2_ask_4 : decode cX2_ask 4 = .ok (.aload_n 0, 1) := dk_42 (dk_at dksX2_ask_0 4 rfl rfl)
theorem dX2_ask_5 : decode cX2_ask 5 = .ok (.getfield 176, 3) := dk_180 0 176 (dk_at dksX2_ask_0 5 rfl rfl)
theorem dX2_ask_8 : decode cX2_ask 8 = .ok (.ifCond .eq 10, 3) := dk_153 0 10 (dk_at dksX2_ask_0 8 rfl rfl)
theorem dX2_ask_11 : decode cX2_ask 11 = .ok (.aload_n 0, 1) := dk_42 (dk_at dksX2_ask_0 11 rfl rfl)
theorem dX2_ask_12 : decode cX2_ask 12 = .ok (.invokevirtual 386, 3) := dk_182 1 130 (dk_at dksX2_ask_0 12 rfl rfl)
theorem dX2_ask_15 : decode cX2_ask 15 = .ok (.goto 8, 3) := dk_167 0 8 (dk_at dksX2_ask_0 15 rfl rfl)
theorem dX2_ask_18 : decode cX2_ask 18 = .ok (.aload_n 0, 1) := dk_42 (dk_at dksX2_ask_0 18 rfl rfl)
theorem dX2_ask_19 : decode cX2_ask 19 = .ok (.iconst 1, 1) := dk_4 (dk_at dksX2_ask_0 19 rfl rfl)
theorem dX2_ask_20 : decode cX2_ask 20 = .ok (.invokevirtual 166, 3) := dk_182 0 166 (dk_at dksX2_ask_0 20 rfl rfl)
theorem dX2_ask_23 : decode cX2_ask 23 = .ok (.ireturn, 1) := dk_172 (dk_at dksX2_ask_0 23 rfl rfl)
abbrev cX2_askOf : ByteArray := prog_15_method_104_code
def yX2_askOf : MethodName := ⟨RX2, "askOf", "()I"⟩
def dkwX2_askOf_2 : List UInt8 := [60, 132, 2, 1, 167, 255, 216, 27, 172]
abbrev dktX2_askOf_2 : List UInt8 := dkwX2_askOf_2 ++ []
def dkwX2_askOf_1 : List UInt8 := [180, 1, 112, 158, 0, 28, 27, 155, 0, 16, 42, 28, 182, 1, 127, 42, 27, 182, 1, 127, 162, 0, 5, 28]
abbrev dktX2_askOf_1 : List UInt8 := dkwX2_askOf_1 ++ dktX2_askOf_2
def dkwX2_askOf_0 : List UInt8 := [42, 2, 182, 1, 124, 87, 16, 254, 60, 3, 61, 28, 42, 180, 0, 20, 16, 6, 46, 162, 0, 35, 42]
abbrev dktX2_askOf_0 : List UInt8 := dkwX2_askOf_0 ++ dktX2_askOf_1
theorem dksX2_askOf_0 : cX2_askOf.data.toList.drop 0 = dktX2_askOf_0 := by decide +kernel
theorem dksX2_askOf_1 : cX2_askOf.data.toList.drop 23 = dktX2_askOf_1 := dk_seg dksX2_askOf_0 23 rfl rfl
theorem dksX2_askOf_2 : cX2_askOf.data.toList.drop 47 = dktX2_askOf_2 := dk_seg dksX2_askOf_1 24 rfl rfl
theorem dX2_askOf_0 : decode cX2_askOf 0 = .ok (.aload_n 0, 1) := dk_42 (dk_at dksX2_askOf_0 0 rfl rfl)
theorem dX2_askOf_1 : decode cX2_askOf 1 = .ok (.iconst (-1), 1) := dk_2 (dk_at dksX2_askOf_0 1 rfl rfl)
theorem dX2_askOf_2 : decode cX2_askOf 2 = .ok (.invokevirtual 380, 3) := dk_182 1 124 (dk_at dksX2_askOf_0 2 rfl rfl)
theorem dX2_askOf_5 : decode cX2_askOf 5 = .ok (.pop, 1) := dk_87 (dk_at dksX2_askOf_0 5 rfl rfl)
theorem dX2_askOf_6 : decode cX2_askOf 6 = .ok (.bipush (-2), 2) := dk_16 254 (dk_at dksX2_askOf_0 6 rfl rfl)
theorem dX2_askOf_8 : decode cX2_askOf 8 = .ok (.istore_n 1, 1) := dk_60 (dk_at dksX2_askOf_0 8 rfl rfl)
theorem dX2_askOf_9 : decode cX2_askOf 9 = .ok (.iconst 0, 1) := dk_3 (dk_at dksX2_askOf_0 9 rfl rfl)
theorem dX2_askOf_10 : decode cX2_askOf 10 = .ok (.istore_n 2, 1) := dk_61 (dk_at dksX2_askOf_0 10 rfl rfl)
theorem dX2_askOf_11 : decode cX2_askOf 11 = .ok (.iload_n 2, 1) := dk_28 (dk_at dksX2_askOf_0 11 rfl rfl)
theorem dX2_askOf_12 : decode cX2_askOf 12 = .ok (.aload_n 0, 1) := dk_42 (dk_at dksX2_askOf_0 12 rfl rfl)
theorem dX2_askOf_13 : decode cX2_askOf 13 = .ok (.getfield 20, 3) := dk_180 0 20 (dk_at dksX2_askOf_0 13 rfl rfl)
theorem dX2_askOf_16 : decode cX2_askOf 16 = .ok (.bipush 6, 2) := dk_16 6 (dk_at dksX2_askOf_0 16 rfl rfl)
theorem dX2_askOf_18 : decode cX2_askOf 18 = .ok (.iaload, 1) := dk_46 (dk_at dksX2_askOf_0 18 rfl rfl)
theorem dX2_askOf_19 : decode cX2_askOf 19 = .ok (.if_icmp .ge 35, 3) := dk_162 0 35 (dk_at dksX2_askOf_0 19 rfl rfl)
theorem dX2_askOf_22 : decode cX2_askOf 22 = .ok (.aload_n 0, 1) := dk_42 (dk_at dksX2_askOf_0 22 rfl rfl)
theorem dX2_askOf_23 : decode cX2_askOf 23 = .ok (.getfield 368, 3) := dk_180 1 112 (dk_at dksX2_askOf_1 0 rfl rfl)
theorem dX2_askOf_26 : decode cX2_askOf 26 = .ok (.ifCond .le 28, 3) := dk_158 0 28 (dk_at dksX2_askOf_1 3 rfl rfl)
theorem dX2_askOf_29 : decode cX2_askOf 29 = .ok (.iload_n 1, 1) := dk_27 (dk_at dksX2_askOf_1 6 rfl rfl)
theorem dX2_askOf_30 : decode cX2_askOf 30 = .ok (.ifCond .lt 16, 3) := dk_155 0 16 (dk_at dksX2_askOf_1 7 rfl rfl)
theorem dX2_askOf_33 : decode cX2_askOf 33 = .ok (.aload_n 0, 1) := dk_42 (dk_at dksX2_askOf_1 10 rfl rfl)
theorem dX2_askOf_34 : decode cX2_askOf 34 = .ok (.iload_n 2, 1) := dk_28 (dk_at dksX2_askOf_1 11 rfl rfl)
theorem dX2_askOf_35 : decode cX2_askOf 35 = .ok (.invokevirtual 383, 3) := dk_182 1 127 (dk_at dksX2_askOf_1 12 rfl rfl)
theorem dX2_askOf_38 : decode cX2_askOf 38 = .ok (.aload_n 0, 1) := dk_42 (dk_at dksX2_askOf_1 15 rfl rfl)
theorem dX2_askOf_39 : decode cX2_askOf 39 = .ok (.iload_n 1, 1) := dk_27 (dk_at dksX2_askOf_1 16 rfl rfl)
theorem dX2_askOf_40 : decode cX2_askOf 40 = .ok (.invokevirtual 383, 3) := dk_182 1 127 (dk_at dksX2_askOf_1 17 rfl rfl)
theorem dX2_askOf_43 : decode cX2_askOf 43 = .ok (.if_icmp .ge 5, 3) := dk_162 0 5 (dk_at dksX2_askOf_1 20 rfl rfl)
theorem dX2_askOf_46 : decode cX2_askOf 46 = .ok (.iload_n 2, 1) := dk_28 (dk_at dksX2_askOf_1 23 rfl rfl)
theorem dX2_askOf_47 : decode cX2_askOf 47 = .ok (.istore_n 1, 1) := dk_60 (dk_at dksX2_askOf_2 0 rfl rfl)
theorem dX2_askOf_48 : decode cX2_askOf 48 = .ok (.iinc 2 1, 3) := dk_132 2 1 (dk_at dksX2_askOf_2 1 rfl rfl)
theorem dX2_askOf_51 : decode cX2_askOf 51 = .ok (.goto (-40), 3) := dk_167 255 216 (dk_at dksX2_askOf_2 4 rfl rfl)
theorem dX2_askOf_54 : decode cX2_askOf 54 = .ok (.iload_n 1, 1) := dk_27 (dk_at dksX2_askOf_2 7 rfl rfl)
theorem dX2_askOf_55 : decode cX2_askOf 55 = .ok (.ireturn, 1) := dk_172 (dk_at dksX2_askOf_2 8 rfl rfl)
abbrev cX2_leavesOf : ByteArray := prog_15_method_103_code
def yX2_leavesOf : MethodName := ⟨RX2, "leavesOf", "(I)I"⟩
def dkwX2_leavesOf_1 : List UInt8 := [27, 46, 167, 0, 14, 42, 180, 1, 112, 42, 180, 0, 47, 27, 46, 100, 172]
abbrev dktX2_leavesOf_1 : List UInt8 := dkwX2_leavesOf_1 ++ []
def dkwX2_leavesOf_0 : List UInt8 := [42, 180, 0, 47, 27, 46, 42, 180, 1, 112, 42, 180, 0, 47, 27, 46, 100, 164, 0, 12, 42, 180, 0, 47]
abbrev dktX2_leavesOf_0 : List UInt8 := dkwX2_leavesOf_0 ++ dktX2_leavesOf_1
theorem dksX2_leavesOf_0 : cX2_leavesOf.data.toList.drop 0 = dktX2_leavesOf_0 := by decide +kernel
theorem dksX2_leavesOf_1 : cX2_leavesOf.data.toList.drop 24 = dktX2_leavesOf_1 := dk_seg dksX2_leavesOf_0 24 rfl rfl
theorem dX2_leavesOf_0 : decode cX2_leavesOf 0 = .ok (.aload_n 0, 1) := dk_42 (dk_at dksX2_leavesOf_0 0 rfl rfl)
theorem dX2_leavesOf_1 : decode cX2_leavesOf 1 = .ok (.getfield 47, 3) := dk_180 0 47 (dk_at dksX2_leavesOf_0 1 rfl rfl)
theorem dX2_leavesOf_4 : decode cX2_leavesOf 4 = .ok (.iload_n 1, 1) := dk_27 (dk_at dksX2_leavesOf_0 4 rfl rfl)
theorem dX2_leavesOf_5 : decode cX2_leavesOf 5 = .ok (.iaload, 1) := dk_46 (dk_at dksX2_leavesOf_0 5 rfl rfl)
theorem dX2_leavesOf_6 : decode cX2_leavesOf 6 = .ok (.aload_n 0, 1) := dk_42 (dk_at dksX2_leavesOf_0 6 rfl rfl)
theorem dX2_leavesOf_7 : decode cX2_leavesOf 7 = .ok (.getfield 368, 3) := dk_180 1 112 (dk_at dksX2_leavesOf_0 7 rfl rfl)
theorem dX2_leavesOf_10 : decode cX2_leavesOf 10 = .ok (.aload_n 0, 1) := dk_42 (dk_at dksX2_leavesOf_0 10 rfl rfl)
theorem dX2_leavesOf_11 : decode cX2_leavesOf 11 = .ok (.getfield 47, 3) := dk_180 0 47 (dk_at dksX2_leavesOf_0 11 rfl rfl)
theorem dX2_leavesOf_14 : decode cX2_leavesOf 14 = .ok (.iload_n 1, 1) := dk_27 (dk_at dksX2_leavesOf_0 14 rfl rfl)
theorem dX2_leavesOf_15 : decode cX2_leavesOf 15 = .ok (.iaload, 1) := dk_46 (dk_at dksX2_leavesOf_0 15 rfl rfl)
theorem dX2_leavesOf_16 : decode cX2_leavesOf 16 = .ok (.isub, 1) := dk_100 (dk_at dksX2_leavesOf_0 16 rfl rfl)
theorem dX2_leavesOf_17 : decode cX2_leavesOf 17 = .ok (.if_icmp .le 12, 3) := dk_164 0 12 (dk_at dksX2_leavesOf_0 17 rfl rfl)
theorem dX2_leavesOf_20 : decode cX2_leavesOf 20 = .ok (.aload_n 0, 1) := dk_42 (dk_at dksX2_leavesOf_0 20 rfl rfl)
theorem dX2_leavesOf_21 : decode cX2_leavesOf 21 = .ok (.getfield 47, 3) := dk_180 0 47 (dk_at dksX2_leavesOf_0 21 rfl rfl)
theorem dX2_leavesOf_24 : decode cX2_leavesOf 24 = .ok (.iload_n 1, 1) := dk_27 (dk_at dksX2_leavesOf_1 0 rfl rfl)
theorem dX2_leavesOf_25 : decode cX2_leavesOf 25 = .ok (.iaload, 1) := dk_46 (dk_at dksX2_leavesOf_1 1 rfl rfl)
theorem dX2_leavesOf_26 : decode cX2_leavesOf 26 = .ok (.goto 14, 3) := dk_167 0 14 (dk_at dksX2_leavesOf_1 2 rfl rfl)
theorem dX2_leavesOf_29 : decode cX2_leavesOf 29 = .ok (.aload_n 0, 1) := dk_42 (dk_at dksX2_leavesOf_1 5 rfl rfl)
theorem dX2_leavesOf_30 : decode cX2_leavesOf 30 = .ok (.getfield 368, 3) := dk_180 1 112 (dk_at dksX2_leavesOf_1 6 rfl rfl)
theorem dX2_leavesOf_33 : decode cX2_leavesOf 33 = .ok (.aload_n 0, 1) := dk_42 (dk_at dksX2_leavesOf_1 9 rfl rfl)
theorem dX2_leavesOf_34 : decode cX2_leavesOf 34 = .ok (.getfield 47, 3) := dk_180 0 47 (dk_at dksX2_leavesOf_1 10 rfl rfl)
theorem dX2_leavesOf_37 : decode cX2_leavesOf 37 = .ok (.iload_n 1, 1) := dk_27 (dk_at dksX2_leavesOf_1 13 rfl rfl)
theorem dX2_leavesOf_38 : decode cX2_leavesOf 38 = .ok (.iaload, 1) := dk_46 (dk_at dksX2_leavesOf_1 14 rfl rfl)
theorem dX2_leavesOf_39 : decode cX2_leavesOf 39 = .ok (.isub, 1) := dk_100 (dk_at dksX2_leavesOf_1 15 rfl rfl)
theorem dX2_leavesOf_40 : decode cX2_leavesOf 40 = .ok (.ireturn, 1) := dk_172 (dk_at dksX2_leavesOf_1 16 rfl rfl)
abbrev cX2_askLeaves : ByteArray := prog_15_method_106_code
def yX2_askLeaves : MethodName := ⟨RX2, "askLeaves", "()I"⟩
def dkwX2_askLeaves_1 : List UInt8 := [156, 0, 8, 16, 254, 167, 0, 8, 42, 27, 182, 1, 127, 172]
abbrev dktX2_askLeaves_1 : List UInt8 := dkwX2_askLeaves_1 ++ []
def dkwX2_askLeaves_0 : List UInt8 := [42, 182, 0, 163, 42, 180, 0, 176, 154, 0, 9, 42, 4, 182, 0, 166, 172, 42, 182, 1, 130, 60, 27]
abbrev dktX2_askLeaves_0 : List UInt8 := dkwX2_askLeaves_0 ++ dktX2_askLeaves_1
theorem dksX2_askLeaves_0 : cX2_askLeaves.data.toList.drop 0 = dktX2_askLeaves_0 := by decide +kernel
theorem dksX2_askLeaves_1 : cX2_askLeaves.data.toList.drop 23 = dktX2_askLeaves_1 := dk_seg dksX2_askLeaves_0 23 rfl rfl
theorem dX2_askLeaves_0 : decode cX2_askLeaves 0 = .ok (.aload_n 0, 1) := dk_42 (dk_at dksX2_askLeaves_0 0 rfl rfl)
theorem dX2_askLeaves_1 : decode cX2_askLeaves 1 = .ok (.invokevirtual 163, 3) := dk_182 0 163 (dk_at dksX2_askLeaves_0 1 rfl rfl)
theorem dX2_askLeaves_4 : decode cX2_askLeaves 4 = .ok (.aload_n 0, 1) := dk_42 (dk_at dksX2_askLeaves_0 4 rfl rfl)
theorem dX2_askLeaves_5 : decode cX2_askLeaves 5 = .ok (.getfield 176, 3) := dk_180 0 176 (dk_at dksX2_askLeaves_0 5 rfl rfl)
theorem dX2_askLeaves_8 : decode cX2_askLeaves 8 = .ok (.ifCond .ne 9, 3) := dk_154 0 9 (dk_at dksX2_askLeaves_0 8 rfl rfl)
theorem dX2_askLeaves_11 : decode cX2_askLeaves 11 = .ok (.aload_n 0, 1) := dk_42 (dk_at dksX2_askLeaves_0 11 rfl rfl)
theorem dX2_askLeaves_12 : decode cX2_askLeaves 12 = .ok (.iconst 1, 1) := dk_4 (dk_at dksX2_askLeaves_0 12 rfl rfl)
theorem dX2_askLeaves_13 : decode cX2_askLeaves 13 = .ok (.invokevirtual 166, 3) := dk_182 0 166 (dk_at dksX2_askLeaves_0 13 rfl rfl)
theorem dX2_askLeaves_16 : decode cX2_askLeaves 16 = .ok (.ireturn, 1) := dk_172 (dk_at dksX2_askLeaves_0 16 rfl rfl)
theorem dX2_askLeaves_17 : decode cX2_askLeaves 17 = .ok (.aload_n 0, 1) := dk_42 (dk_at dksX2_askLeaves_0 17 rfl rfl)
theorem dX2_askLeaves_18 : decode cX2_askLeaves 18 = .ok (.invokevirtual 386, 3) := dk_182 1 130 (dk_at dksX2_askLeaves_0 18 rfl rfl)
theorem dX2_askLeaves_21 : decode cX2_askLeaves 21 = .ok (.istore_n 1, 1) := dk_60 (dk_at dksX2_askLeaves_0 21 rfl rfl)
theorem dX2_askLeaves_22 : decode cX2_askLeaves 22 = .ok (.iload_n 1, 1) := dk_27 (dk_at dksX2_askLeaves_0 22 rfl rfl)
theorem dX2_askLeaves_23 : decode cX2_askLeaves 23 = .ok (.ifCond .ge 8, 3) := dk_156 0 8 (dk_at dksX2_askLeaves_1 0 rfl rfl)
theorem dX2_askLeaves_26 : decode cX2_askLeaves 26 = .ok (.bipush (-2), 2) := dk_16 254 (dk_at dksX2_askLeaves_1 3 rfl rfl)
theorem dX2_askLeaves_28 : decode cX2_askLeaves 28 = .ok (.goto 8, 3) := dk_167 0 8 (dk_at dksX2_askLeaves_1 5 rfl rfl)
theorem dX2_askLeaves_31 : decode cX2_askLeaves 31 = .ok (.aload_n 0, 1) := dk_42 (dk_at dksX2_askLeaves_1 8 rfl rfl)
theorem dX2_askLeaves_32 : decode cX2_askLeaves 32 = .ok (.iload_n 1, 1) := dk_27 (dk_at dksX2_askLeaves_1 9 rfl rfl)
theorem dX2_askLeaves_33 : decode cX2_askLeaves 33 = .ok (.invokevirtual 383, 3) := dk_182 1 127 (dk_at dksX2_askLeaves_1 10 rfl rfl)
theorem dX2_askLeaves_36 : decode cX2_askLeaves 36 = .ok (.ireturn, 1) := dk_172 (dk_at dksX2_askLeaves_1 13 rfl rfl)
abbrev cX2_judge : ByteArray := prog_15_method_107_code
def yX2_judge : MethodName := ⟨RX2, "judge", "()I"⟩
def dkwX2_judge_1 : List UInt8 := [182, 1, 121, 167, 0, 8, 42, 4, 182, 0, 166, 172]
abbrev dktX2_judge_1 : List UInt8 := dkwX2_judge_1 ++ []
def dkwX2_judge_0 : List UInt8 := [42, 182, 0, 163, 42, 182, 1, 50, 42, 180, 0, 176, 153, 0, 17, 42, 42, 180, 0, 26, 16, 6, 46]
abbrev dktX2_judge_0 : List UInt8 := dkwX2_judge_0 ++ dktX2_judge_1
theorem dksX2_judge_0 : cX2_judge.data.toList.drop 0 = dktX2_judge_0 := by decide +kernel
theorem dksX2_judge_1 : cX2_judge.data.toList.drop 23 = dktX2_judge_1 := dk_seg dksX2_judge_0 23 rfl rfl
theorem dX2_judge_0 : decode cX2_judge 0 = .ok (.aload_n 0, 1) := dk_42 (dk_at dksX2_judge_0 0 rfl rfl)
theorem dX2_judge_1 : decode cX2_judge 1 = .ok (.invokevirtual 163, 3) := dk_182 0 163 (dk_at dksX2_judge_0 1 rfl rfl)
theorem dX2_judge_4 : decode cX2_judge 4 = .ok (.aload_n 0, 1) := dk_42 (dk_at dksX2_judge_0 4 rfl rfl)
theorem dX2_judge_5 : decode cX2_judge 5 = .ok (.invokevirtual 306, 3) := dk_182 1 50 (dk_at dksX2_judge_0 5 rfl rfl)
theorem dX2_judge_8 : decode cX2_judge 8 = .ok (.aload_n 0, 1) := dk_42 (dk_at dksX2_judge_0 8 rfl rfl)
theorem dX2_judge_9 : decode cX2_judge 9 = .ok (.getfield 176, 3) := dk_180 0 176 (dk_at dksX2_judge_0 9 rfl rfl)
theorem dX2_judge_12 : decode cX2_judge 12 = .ok (.ifCond .eq 17, 3) := dk_153 0 17 (dk_at dksX2_judge_0 12 rfl rfl)
theorem dX2_judge_15 : decode cX2_judge 15 = .ok (.aload_n 0, 1) := dk_42 (dk_at dksX2_judge_0 15 rfl rfl)
theorem dX2_judge_16 : decode cX2_judge 16 = .ok (.aload_n 0, 1) := dk_42 (dk_at dksX2_judge_0 16 rfl rfl)
theorem dX2_judge_17 : decode cX2_judge 17 = .ok (.getfield 26, 3) := dk_180 0 26 (dk_at dksX2_judge_0 17 rfl rfl)
theorem dX2_judge_20 : decode cX2_judge 20 = .ok (.bipush 6, 2) := dk_16 6 (dk_at dksX2_judge_0 20 rfl rfl)
theorem dX2_judge_22 : decode cX2_judge 22 = .ok (.iaload, 1) := dk_46 (dk_at dksX2_judge_0 22 rfl rfl)
theorem dX2_judge_23 : decode cX2_judge 23 = .ok (.invokevirtual 377, 3) := dk_182 1 121 (dk_at dksX2_judge_1 0 rfl rfl)
theorem dX2_judge_26 : decode cX2_judge 26 = .ok (.goto 8, 3) := dk_167 0 8 (dk_at dksX2_judge_1 3 rfl rfl)
theorem dX2_judge_29 : decode cX2_judge 29 = .ok (.aload_n 0, 1) := dk_42 (dk_at dksX2_judge_1 6 rfl rfl)
theorem dX2_judge_30 : decode cX2_judge 30 = .ok (.iconst 1, 1) := dk_4 (dk_at dksX2_judge_1 7 rfl rfl)
theorem dX2_judge_31 : decode cX2_judge 31 = .ok (.invokevirtual 166, 3) := dk_182 0 166 (dk_at dksX2_judge_1 8 rfl rfl)
theorem dX2_judge_34 : decode cX2_judge 34 = .ok (.ireturn, 1) := dk_172 (dk_at dksX2_judge_1 11 rfl rfl)
abbrev cX2_odds : ByteArray := prog_15_method_109_code
def yX2_odds : MethodName := ⟨RX2, "odds", "(IIZ)J"⟩
def dkwX2_odds_1 : List UInt8 := [182, 0, 166, 133, 173, 42, 27, 28, 182, 1, 148, 42, 180, 1, 137, 42, 180, 1, 133, 29, 184, 1, 151, 173]
abbrev dktX2_odds_1 : List UInt8 := dkwX2_odds_1 ++ []
def dkwX2_odds_0 : List UInt8 := [42, 182, 0, 163, 42, 27, 182, 1, 53, 153, 0, 11, 42, 28, 182, 1, 53, 154, 0, 10, 42, 4]
abbrev dktX2_odds_0 : List UInt8 := dkwX2_odds_0 ++ dktX2_odds_1
theorem dksX2_odds_0 : cX2_odds.data.toList.drop 0 = dktX2_odds_0 := by decide +kernel
theorem dksX2_odds_1 : cX2_odds.data.toList.drop 22 = dktX2_odds_1 := dk_seg dksX2_odds_0 22 rfl rfl
theorem dX2_odds_0 : decode cX2_odds 0 = .ok (.aload_n 0, 1) := dk_42 (dk_at dksX2_odds_0 0 rfl rfl)
theorem dX2_odds_1 : decode cX2_odds 1 = .ok (.invokevirtual 163, 3) := dk_182 0 163 (dk_at dksX2_odds_0 1 rfl rfl)
theorem dX2_odds_4 : decode cX2_odds 4 = .ok (.aload_n 0, 1) := dk_42 (dk_at dksX2_odds_0 4 rfl rfl)
theorem dX2_odds_5 : decode cX2_odds 5 = .ok (.iload_n 1, 1) := dk_27 (dk_at dksX2_odds_0 5 rfl rfl)
theorem dX2_odds_6 : decode cX2_odds 6 = .ok (.invokevirtual 309, 3) := dk_182 1 53 (dk_at dksX2_odds_0 6 rfl rfl)
theorem dX2_odds_9 : decode cX2_odds 9 = .ok (.ifCond .eq 11, 3) := dk_153 0 11 (dk_at dksX2_odds_0 9 rfl rfl)
theorem dX2_odds_12 : decode cX2_odds 12 = .ok (.aload_n 0, 1) := dk_42 (dk_at dksX2_odds_0 12 rfl rfl)
theorem dX2_odds_13 : decode cX2_odds 13 = .ok (.iload_n 2, 1) := dk_28 (dk_at dksX2_odds_0 13 rfl rfl)
theorem dX2_odds_14 : decode cX2_odds 14 = .ok (.invokevirtual 309, 3) := dk_182 1 53 (dk_at dksX2_odds_0 14 rfl rfl)
theorem dX2_odds_17 : decode cX2_odds 17 = .ok (.ifCond .ne 10, 3) := dk_154 0 10 (dk_at dksX2_odds_0 17 rfl rfl)
theorem dX2_odds_20 : decode cX2_odds 20 = .ok (.aload_n 0, 1) := dk_42 (dk_at dksX2_odds_0 20 rfl rfl)
theorem dX2_odds_21 : decode cX2_odds 21 = .ok (.iconst 1, 1) := dk_4 (dk_at dksX2_odds_0 21 rfl rfl)
theorem dX2_odds_22 : decode cX2_odds 22 = .ok (.invokevirtual 166, 3) := dk_182 0 166 (dk_at dksX2_odds_1 0 rfl rfl)
theorem dX2_odds_25 : decode cX2_odds 25 = .ok (.i2l, 1) := dk_133 (dk_at dksX2_odds_1 3 rfl rfl)
theorem dX2_odds_26 : decode cX2_odds 26 = .ok (.lreturn, 1) := dk_173 (dk_at dksX2_odds_1 4 rfl rfl)
theorem dX2_odds_27 : decode cX2_odds 27 = .ok (.aload_n 0, 1) := dk_42 (dk_at dksX2_odds_1 5 rfl rfl)
theorem dX2_odds_28 : decode cX2_odds 28 = .ok (.iload_n 1, 1) := dk_27 (dk_at dksX2_odds_1 6 rfl rfl)
theorem dX2_odds_29 : decode cX2_odds 29 = .ok (.iload_n 2, 1) := dk_28 (dk_at dksX2_odds_1 7 rfl rfl)
theorem dX2_odds_30 : decode cX2_odds 30 = .ok (.invokevirtual 404, 3) := dk_182 1 148 (dk_at dksX2_odds_1 8 rfl rfl)
theorem dX2_odds_33 : decode cX2_odds 33 = .ok (.aload_n 0, 1) := dk_42 (dk_at dksX2_odds_1 11 rfl rfl)
theorem dX2_odds_34 : decode cX2_odds 34 = .ok (.getfield 393, 3) := dk_180 1 137 (dk_at dksX2_odds_1 12 rfl rfl)
theorem dX2_odds_37 : decode cX2_odds 37 = .ok (.aload_n 0, 1) := dk_42 (dk_at dksX2_odds_1 15 rfl rfl)
theorem dX2_odds_38 : decode cX2_odds 38 = .ok (.getfield 389, 3) := dk_180 1 133 (dk_at dksX2_odds_1 16 rfl rfl)
theorem dX2_odds_41 : decode cX2_odds 41 = .ok (.iload_n 3, 1) := dk_29 (dk_at dksX2_odds_1 19 rfl rfl)
theorem dX2_odds_42 : decode cX2_odds 42 = .ok (.invokestatic 407, 3) := dk_184 1 151 (dk_at dksX2_odds_1 20 rfl rfl)
theorem dX2_odds_45 : decode cX2_odds 45 = .ok (.lreturn, 1) := dk_173 (dk_at dksX2_odds_1 23 rfl rfl)
abbrev cX2_tryRain : ByteArray := prog_15_method_108_code
def yX2_tryRain : MethodName := ⟨RX2, "tryRain", "(II)V"⟩
def dkwX2_tryRain_9 : List UInt8 := [177]
abbrev dktX2_tryRain_9 : List UInt8 := dkwX2_tryRain_9 ++ []
def dkwX2_tryRain_8 : List UInt8 := [180, 0, 38, 27, 46, 182, 1, 66, 133, 105, 97, 181, 1, 143, 132, 3, 1, 167, 255, 104, 42, 182, 1, 50]
abbrev dktX2_tryRain_8 : List UInt8 := dkwX2_tryRain_8 ++ dktX2_tryRain_9
def dkwX2_tryRain_7 : List UInt8 := [22, 4, 42, 180, 0, 35, 27, 46, 133, 105, 97, 181, 1, 140, 42, 89, 180, 1, 143, 22, 4, 42, 42]
abbrev dktX2_tryRain_7 : List UInt8 := dkwX2_tryRain_7 ++ dktX2_tryRain_8
def dkwX2_tryRain_6 : List UInt8 := [180, 0, 38, 27, 46, 28, 160, 0, 8, 22, 4, 167, 0, 4, 9, 97, 181, 1, 137, 42, 89, 180, 1, 140]
abbrev dktX2_tryRain_6 : List UInt8 := dkwX2_tryRain_6 ++ dktX2_tryRain_7
def dkwX2_tryRain_5 : List UInt8 := [55, 4, 132, 6, 1, 167, 255, 208, 42, 42, 180, 0, 26, 182, 1, 62, 42, 89, 180, 1, 137, 42]
abbrev dktX2_tryRain_5 : List UInt8 := dkwX2_tryRain_5 ++ dktX2_tryRain_6
def dkwX2_tryRain_4 : List UInt8 := [153, 0, 13, 42, 180, 0, 20, 6, 46, 133, 167, 0, 13, 16, 100, 42, 180, 0, 20, 6, 46, 100, 133, 105]
abbrev dktX2_tryRain_4 : List UInt8 := dkwX2_tryRain_4 ++ dktX2_tryRain_5
def dkwX2_tryRain_3 : List UInt8 := [55, 4, 3, 54, 6, 21, 6, 42, 180, 0, 20, 8, 46, 162, 0, 43, 22, 4, 29, 21, 6, 184, 1, 5]
abbrev dktX2_tryRain_3 : List UInt8 := dkwX2_tryRain_3 ++ dktX2_tryRain_4
def dkwX2_tryRain_2 : List UInt8 := [167, 255, 231, 3, 62, 29, 4, 42, 180, 0, 20, 8, 46, 120, 162, 0, 146, 42, 29, 181, 1, 25, 10]
abbrev dktX2_tryRain_2 : List UInt8 := dkwX2_tryRain_2 ++ dktX2_tryRain_3
def dkwX2_tryRain_1 : List UInt8 := [180, 0, 20, 8, 46, 162, 0, 21, 42, 89, 180, 1, 133, 20, 1, 146, 105, 181, 1, 133, 132, 3, 1]
abbrev dktX2_tryRain_1 : List UInt8 := dkwX2_tryRain_1 ++ dktX2_tryRain_2
def dkwX2_tryRain_0 : List UInt8 := [42, 10, 181, 1, 133, 42, 9, 181, 1, 137, 42, 9, 181, 1, 140, 42, 9, 181, 1, 143, 3, 62, 29, 42]
abbrev dktX2_tryRain_0 : List UInt8 := dkwX2_tryRain_0 ++ dktX2_tryRain_1
theorem dksX2_tryRain_0 : cX2_tryRain.data.toList.drop 0 = dktX2_tryRain_0 := by decide +kernel
theorem dksX2_tryRain_1 : cX2_tryRain.data.toList.drop 24 = dktX2_tryRain_1 := dk_seg dksX2_tryRain_0 24 rfl rfl
theorem dksX2_tryRain_2 : cX2_tryRain.data.toList.drop 47 = dktX2_tryRain_2 := dk_seg dksX2_tryRain_1 23 rfl rfl
theorem dksX2_tryRain_3 : cX2_tryRain.data.toList.drop 70 = dktX2_tryRain_3 := dk_seg dksX2_tryRain_2 23 rfl rfl
theorem dksX2_tryRain_4 : cX2_tryRain.data.toList.drop 94 = dktX2_tryRain_4 := dk_seg dksX2_tryRain_3 24 rfl rfl
theorem dksX2_tryRain_5 : cX2_tryRain.data.toList.drop 118 = dktX2_tryRain_5 := dk_seg dksX2_tryRain_4 24 rfl rfl
theorem dksX2_tryRain_6 : cX2_tryRain.data.toList.drop 140 = dktX2_tryRain_6 := dk_seg dksX2_tryRain_5 22 rfl rfl
theorem dksX2_tryRain_7 : cX2_tryRain.data.toList.drop 164 = dktX2_tryRain_7 := dk_seg dksX2_tryRain_6 24 rfl rfl
theorem dksX2_tryRain_8 : cX2_tryRain.data.toList.drop 187 = dktX2_tryRain_8 := dk_seg dksX2_tryRain_7 23 rfl rfl
theorem dksX2_tryRain_9 : cX2_tryRain.data.toList.drop 211 = dktX2_tryRain_9 := dk_seg dksX2_tryRain_8 24 rfl rfl
theorem dX2_tryRain_0 : decode cX2_tryRain 0 = .ok (.aload_n 0, 1) := dk_42 (dk_at dksX2_tryRain_0 0 rfl rfl)
theorem dX2_tryRain_1 : decode cX2_tryRain 1 = .ok (.lconst 1, 1) := dk_10 (dk_at dksX2_tryRain_0 1 rfl rfl)
theorem dX2_tryRain_2 : decode cX2_tryRain 2 = .ok (.putfield 389, 3) := dk_181 1 133 (dk_at dksX2_tryRain_0 2 rfl rfl)
theorem dX2_tryRain_5 : decode cX2_tryRain 5 = .ok (.aload_n 0, 1) := dk_42 (dk_at dksX2_tryRain_0 5 rfl rfl)
theorem dX2_tryRain_6 : decode cX2_tryRain 6 = .ok (.lconst 0, 1) := dk_9 (dk_at dksX2_tryRain_0 6 rfl rfl)
theorem dX2_tryRain_7 : decode cX2_tryRain 7 = .ok (.putfield 393, 3) := dk_181 1 137 (dk_at dksX2_tryRain_0 7 rfl rfl)
theorem dX2_tryRain_10 : decode cX2_tryRain 10 = .ok (.aload_n 0, 1) := dk_42 (dk_at dksX2_tryRain_0 10 rfl rfl)
theorem dX2_tryRain_11 : decode cX2_tryRain 11 = .ok (.lconst 0, 1) := dk_9 (dk_at dksX2_tryRain_0 11 rfl rfl)
theorem dX2_tryRain_12 : decode cX2_tryRain 12 = .ok (.putfield 396, 3) := dk_181 1 140 (dk_at dksX2_tryRain_0 12 rfl rfl)
theorem dX2_tryRain_15 : decode cX2_tryRain 15 = .ok (.aload_n 0, 1) := dk_42 (dk_at dksX2_tryRain_0 15 rfl rfl)
theorem dX2_tryRain_16 : decode cX2_tryRain 16 = .ok (.lconst 0, 1) := dk_9 (dk_at dksX2_tryRain_0 16 rfl rfl)
theorem dX2_tryRain_17 : decode cX2_tryRain 17 = .ok (.putfield 399, 3) := dk_181 1 143 (dk_at dksX2_tryRain_0 17 rfl rfl)
theorem dX2_tryRain_20 : decode cX2_tryRain 20 = .ok (.iconst 0, 1) := dk_3 (dk_at dksX2_tryRain_0 20 rfl rfl)
theorem dX2_tryRain_21 : decode cX2_tryRain 21 = .ok (.istore_n 3, 1) := dk_62 (dk_at dksX2_tryRain_0 21 rfl rfl)
theorem dX2_tryRain_22 : decode cX2_tryRain 22 = .ok (.iload_n 3, 1) := dk_29 (dk_at dksX2_tryRain_0 22 rfl rfl)
theorem dX2_tryRain_23 : decode cX2_tryRain 23 = .ok (.aload_n 0, 1) := dk_42 (dk_at dksX2_tryRain_0 23 rfl rfl)
theorem dX2_tryRain_24 : decode cX2_tryRain 24 = .ok (.getfield 20, 3) := dk_180 0 20 (dk_at dksX2_tryRain_1 0 rfl rfl)
theorem dX2_tryRain_27 : decode cX2_tryRain 27 = .ok (.iconst 5, 1) := dk_8 (dk_at dksX2_tryRain_1 3 rfl rfl)
theorem dX2_tryRain_28 : decode cX2_tryRain 28 = .ok (.iaload, 1) := dk_46 (dk_at dksX2_tryRain_1 4 rfl rfl)
theorem dX2_tryRain_29 : decode cX2_tryRain 29 = .ok (.if_icmp .ge 21, 3) := dk_162 0 21 (dk_at dksX2_tryRain_1 5 rfl rfl)
theorem dX2_tryRain_32 : decode cX2_tryRain 32 = .ok (.aload_n 0, 1) := dk_42 (dk_at dksX2_tryRain_1 8 rfl rfl)
theorem dX2_tryRain_33 : decode cX2_tryRain 33 = .ok (.dup, 1) := dk_89 (dk_at dksX2_tryRain_1 9 rfl rfl)
theorem dX2_tryRain_34 : decode cX2_tryRain 34 = .ok (.getfield 389, 3) := dk_180 1 133 (dk_at dksX2_tryRain_1 10 rfl rfl)
theorem dX2_tryRain_37 : decode cX2_tryRain 37 = .ok (.ldc2_w 402, 3) := dk_20 1 146 (dk_at dksX2_tryRain_1 13 rfl rfl)
theorem dX2_tryRain_40 : decode cX2_tryRain 40 = .ok (.lmul, 1) := dk_105 (dk_at dksX2_tryRain_1 16 rfl rfl)
theorem dX2_tryRain_41 : decode cX2_tryRain 41 = .ok (.putfield 389, 3) := dk_181 1 133 (dk_at dksX2_tryRain_1 17 rfl rfl)
theorem dX2_tryRain_44 : decode cX2_tryRain 44 = .ok (.iinc 3 1, 3) := dk_132 3 1 (dk_at dksX2_tryRain_1 20 rfl rfl)
theorem dX2_tryRain_47 : decode cX2_tryRain 47 = .ok (.goto (-25), 3) := dk_167 255 231 (dk_at dksX2_tryRain_2 0 rfl rfl)
theorem dX2_tryRain_50 : decode cX2_tryRain 50 = .ok (.iconst 0, 1) := dk_3 (dk_at dksX2_tryRain_2 3 rfl rfl)
theorem dX2_tryRain_51 : decode cX2_tryRain 51 = .ok (.istore_n 3, 1) := dk_62 (dk_at dksX2_tryRain_2 4 rfl rfl)
theorem dX2_tryRain_52 : decode cX2_tryRain 52 = .ok (.iload_n 3, 1) := dk_29 (dk_at dksX2_tryRain_2 5 rfl rfl)
theorem dX2_tryRain_53 : decode cX2_tryRain 53 = .ok (.iconst 1, 1) := dk_4 (dk_at dksX2_tryRain_2 6 rfl rfl)
theorem dX2_tryRain_54 : decode cX2_tryRain 54 = .ok (.aload_n 0, 1) := dk_42 (dk_at dksX2_tryRain_2 7 rfl rfl)
theorem dX2_tryRain_55 : decode cX2_tryRain 55 = .ok (.getfield 20, 3) := dk_180 0 20 (dk_at dksX2_tryRain_2 8 rfl rfl)
theorem dX2_tryRain_58 : decode cX2_tryRain 58 = .ok (.iconst 5, 1) := dk_8 (dk_at dksX2_tryRain_2 11 rfl rfl)
theorem dX2_tryRain_59 : decode cX2_tryRain 59 = .ok (.iaload, 1) := dk_46 (dk_at dksX2_tryRain_2 12 rfl rfl)
theorem dX2_tryRain_60 : decode cX2_tryRain 60 = .ok (.ishl, 1) := dk_120 (dk_at dksX2_tryRain_2 13 rfl rfl)
theorem dX2_tryRain_61 : decode cX2_tryRain 61 = .ok (.if_icmp .ge 146, 3) := dk_162 0 146 (dk_at dksX2_tryRain_2 14 rfl rfl)
theorem dX2_tryRain_64 : decode cX2_tryRain 64 = .ok (.aload_n 0, 1) := dk_42 (dk_at dksX2_tryRain_2 17 rfl rfl)
theorem dX2_tryRain_65 : decode cX2_tryRain 65 = .ok (.iload_n 3, 1) := dk_29 (dk_at dksX2_tryRain_2 18 rfl rfl)
theorem dX2_tryRain_66 : decode cX2_tryRain 66 = .ok (.putfield 281, 3) := dk_181 1 25 (dk_at dksX2_tryRain_2 19 rfl rfl)
theorem dX2_tryRain_69 : decode cX2_tryRain 69 = .ok (.lconst 1, 1) := dk_10 (dk_at dksX2_tryRain_2 22 rfl rfl)
theorem dX2_tryRain_70 : decode cX2_tryRain 70 = .ok (.lstore 4, 2) := dk_55 4 (dk_at dksX2_tryRain_3 0 rfl rfl)
theorem dX2_tryRain_72 : decode cX2_tryRain 72 = .ok (.iconst 0, 1) := dk_3 (dk_at dksX2_tryRain_3 2 rfl rfl)
theorem dX2_tryRain_73 : decode cX2_tryRain 73 = .ok (.istore 6, 2) := dk_54 6 (dk_at dksX2_tryRain_3 3 rfl rfl)
theorem dX2_tryRain_75 : decode cX2_tryRain 75 = .ok (.iload 6, 2) := dk_21 6 (dk_at dksX2_tryRain_3 5 rfl rfl)
theorem dX2_tryRain_77 : decode cX2_tryRain 77 = .ok (.aload_n 0, 1) := dk_42 (dk_at dksX2_tryRain_3 7 rfl rfl)
theorem dX2_tryRain_78 : decode cX2_tryRain 78 = .ok (.getfield 20, 3) := dk_180 0 20 (dk_at dksX2_tryRain_3 8 rfl rfl)
theorem dX2_tryRain_81 : decode cX2_tryRain 81 = .ok (.iconst 5, 1) := dk_8 (dk_at dksX2_tryRain_3 11 rfl rfl)
theorem dX2_tryRain_82 : decode cX2_tryRain 82 = .ok (.iaload, 1) := dk_46 (dk_at dksX2_tryRain_3 12 rfl rfl)
theorem dX2_tryRain_83 : decode cX2_tryRain 83 = .ok (.if_icmp .ge 43, 3) := dk_162 0 43 (dk_at dksX2_tryRain_3 13 rfl rfl)
theorem dX2_tryRain_86 : decode cX2_tryRain 86 = .ok (.lload 4, 2) := dk_22 4 (dk_at dksX2_tryRain_3 16 rfl rfl)
theorem dX2_tryRain_88 : decode cX2_tryRain 88 = .ok (.iload_n 3, 1) := dk_29 (dk_at dksX2_tryRain_3 18 rfl rfl)
theorem dX2_tryRain_89 : decode cX2_tryRain 89 = .ok (.iload 6, 2) := dk_21 6 (dk_at dksX2_tryRain_3 19 rfl rfl)
theorem dX2_tryRain_91 : decode cX2_tryRain 91 = .ok (.invokestatic 261, 3) := dk_184 1 5 (dk_at dksX2_tryRain_3 21 rfl rfl)
theorem dX2_tryRain_94 : decode cX2_tryRain 94 = .ok (.ifCond .eq 13, 3) := dk_153 0 13 (dk_at dksX2_tryRain_4 0 rfl rfl)
theorem dX2_tryRain_97 : decode cX2_tryRain 97 = .ok (.aload_n 0, 1) := dk_42 (dk_at dksX2_tryRain_4 3 rfl rfl)
theorem dX2_tryRain_98 : decode cX2_tryRain 98 = .ok (.getfield 20, 3) := dk_180 0 20 (dk_at dksX2_tryRain_4 4 rfl rfl)
theorem dX2_tryRain_101 : decode cX2_tryRain 101 = .ok (.iconst 3, 1) := dk_6 (dk_at dksX2_tryRain_4 7 rfl rfl)
theorem dX2_tryRain_102 : decode cX2_tryRain 102 = .ok (.iaload, 1) := dk_46 (dk_at dksX2_tryRain_4 8 rfl rfl)
theorem dX2_tryRain_103 : decode cX2_tryRain 103 = .ok (.i2l, 1) := dk_133 (dk_at dksX2_tryRain_4 9 rfl rfl)
theorem dX2_tryRain_104 : decode cX2_tryRain 104 = .ok (.goto 13, 3) := dk_167 0 13 (dk_at dksX2_tryRain_4 10 rfl rfl)
theorem dX2_tryRain_107 : decode cX2_tryRain 107 = .ok (.bipush 100, 2) := dk_16 100 (dk_at dksX2_tryRain_4 13 rfl rfl)
theorem dX2_tryRain_109 : decode cX2_tryRain 109 = .ok (.aload_n 0, 1) := dk_42 (dk_at dksX2_tryRain_4 15 rfl rfl)
theorem dX2_tryRain_110 : decode cX2_tryRain 110 = .ok (.getfield 20, 3) := dk_180 0 20 (dk_at dksX2_tryRain_4 16 rfl rfl)
theorem dX2_tryRain_113 : decode cX2_tryRain 113 = .ok (.iconst 3, 1) := dk_6 (dk_at dksX2_tryRain_4 19 rfl rfl)
theorem dX2_tryRain_114 : decode cX2_tryRain 114 = .ok (.iaload, 1) := dk_46 (dk_at dksX2_tryRain_4 20 rfl rfl)
theorem dX2_tryRain_115 : decode cX2_tryRain 115 = .ok (.isub, 1) := dk_100 (dk_at dksX2_tryRain_4 21 rfl rfl)
theorem dX2_tryRain_116 : decode cX2_tryRain 116 = .ok (.i2l, 1) := dk_133 (dk_at dksX2_tryRain_4 22 rfl rfl)
theorem dX2_tryRain_117 : decode cX2_tryRain 117 = .ok (.lmul, 1) := dk_105 (dk_at dksX2_tryRain_4 23 rfl rfl)
theorem dX2_tryRain_118 : decode cX2_tryRain 118 = .ok (.lstore 4, 2) := dk_55 4 (dk_at dksX2_tryRain_5 0 rfl rfl)
theorem dX2_tryRain_120 : decode cX2_tryRain 120 = .ok (.iinc 6 1, 3) := dk_132 6 1 (dk_at dksX2_tryRain_5 2 rfl rfl)
theorem dX2_tryRain_123 : decode cX2_tryRain 123 = .ok (.goto (-48), 3) := dk_167 255 208 (dk_at dksX2_tryRain_5 5 rfl rfl)
theorem dX2_tryRain_126 : decode cX2_tryRain 126 = .ok (.aload_n 0, 1) := dk_42 (dk_at dksX2_tryRain_5 8 rfl rfl)
theorem dX2_tryRain_127 : decode cX2_tryRain 127 = .ok (.aload_n 0, 1) := dk_42 (dk_at dksX2_tryRain_5 9 rfl rfl)
theorem dX2_tryRain_128 : decode cX2_tryRain 128 = .ok (.getfield 26, 3) := dk_180 0 26 (dk_at dksX2_tryRain_5 10 rfl rfl)
theorem dX2_tryRain_131 : decode cX2_tryRain 131 = .ok (.invokevirtual 318, 3) := dk_182 1 62 (dk_at dksX2_tryRain_5 13 rfl rfl)
theorem dX2_tryRain_134 : decode cX2_tryRain 134 = .ok (.aload_n 0, 1) := dk_42 (dk_at dksX2_tryRain_5 16 rfl rfl)
theorem dX2_tryRain_135 : decode cX2_tryRain 135 = .ok (.dup, 1) := dk_89 (dk_at dksX2_tryRain_5 17 rfl rfl)
theorem dX2_tryRain_136 : decode cX2_tryRain 136 = .ok (.getfield 393, 3) := dk_180 1 137 (dk_at dksX2_tryRain_5 18 rfl rfl)
theorem dX2_tryRain_139 : decode cX2_tryRain 139 = .ok (.aload_n 0, 1) := dk_42 (dk_at dksX2_tryRain_5 21 rfl rfl)
theorem dX2_tryRain_140 : decode cX2_tryRain 140 = .ok (.getfield 38, 3) := dk_180 0 38 (dk_at dksX2_tryRain_6 0 rfl rfl)
theorem dX2_tryRain_143 : decode cX2_tryRain 143 = .ok (.iload_n 1, 1) := dk_27 (dk_at dksX2_tryRain_6 3 rfl rfl)
theorem dX2_tryRain_144 : decode cX2_tryRain 144 = .ok (.iaload, 1) := dk_46 (dk_at dksX2_tryRain_6 4 rfl rfl)
theorem dX2_tryRain_145 : decode cX2_tryRain 145 = .ok (.iload_n 2, 1) := dk_28 (dk_at dksX2_tryRain_6 5 rfl rfl)
theorem dX2_tryRain_146 : decode cX2_tryRain 146 = .ok (.if_icmp .ne 8, 3) := dk_160 0 8 (dk_at dksX2_tryRain_6 6 rfl rfl)
theorem dX2_tryRain_149 : decode cX2_tryRain 149 = .ok (.lload 4, 2) := dk_22 4 (dk_at dksX2_tryRain_6 9 rfl rfl)
theorem dX2_tryRain_151 : decode cX2_tryRain 151 = .ok (.goto 4, 3) := dk_167 0 4 (dk_at dksX2_tryRain_6 11 rfl rfl)
theorem dX2_tryRain_154 : decode cX2_tryRain 154 = .ok (.lconst 0, 1) := dk_9 (dk_at dksX2_tryRain_6 14 rfl rfl)
theorem dX2_tryRain_155 : decode cX2_tryRain 155 = .ok (.ladd, 1) := dk_97 (dk_at dksX2_tryRain_6 15 rfl rfl)
theorem dX2_tryRain_156 : decode cX2_tryRain 156 = .ok (.putfield 393, 3) := dk_181 1 137 (dk_at dksX2_tryRain_6 16 rfl rfl)
theorem dX2_tryRain_159 : decode cX2_tryRain 159 = .ok (.aload_n 0, 1) := dk_42 (dk_at dksX2_tryRain_6 19 rfl rfl)
theorem dX2_tryRain_160 : decode cX2_tryRain 160 = .ok (.dup, 1) := dk_89 (dk_at dksX2_tryRain_6 20 rfl rfl)
theorem dX2_tryRain_161 : decode cX2_tryRain 161 = .ok (.getfield 396, 3) := dk_180 1 140 (dk_at dksX2_tryRain_6 21 rfl rfl)
theorem dX2_tryRain_164 : decode cX2_tryRain 164 = .ok (.lload 4, 2) := dk_22 4 (dk_at dksX2_tryRain_7 0 rfl rfl)
theorem dX2_tryRain_166 : decode cX2_tryRain 166 = .ok (.aload_n 0, 1) := dk_42 (dk_at dksX2_tryRain_7 2 rfl rfl)
theorem dX2_tryRain_167 : decode cX2_tryRain 167 = .ok (.getfield 35, 3) := dk_180 0 35 (dk_at dksX2_tryRain_7 3 rfl rfl)
theorem dX2_tryRain_170 : decode cX2_tryRain 170 = .ok (.iload_n 1, 1) := dk_27 (dk_at dksX2_tryRain_7 6 rfl rfl)
theorem dX2_tryRain_171 : decode cX2_tryRain 171 = .ok (.iaload, 1) := dk_46 (dk_at dksX2_tryRain_7 7 rfl rfl)
theorem dX2_tryRain_172 : decode cX2_tryRain 172 = .ok (.i2l, 1) := dk_133 (dk_at dksX2_tryRain_7 8 rfl rfl)
theorem dX2_tryRain_173 : decode cX2_tryRain 173 = .ok (.lmul, 1) := dk_105 (dk_at dksX2_tryRain_7 9 rfl rfl)
theorem dX2_tryRain_174 : decode cX2_tryRain 174 = .ok (.ladd, 1) := dk_97 (dk_at dksX2_tryRain_7 10 rfl rfl)
theorem dX2_tryRain_175 : decode cX2_tryRain 175 = .ok (.putfield 396, 3) := dk_181 1 140 (dk_at dksX2_tryRain_7 11 rfl rfl)
theorem dX2_tryRain_178 : decode cX2_tryRain 178 = .ok (.aload_n 0, 1) := dk_42 (dk_at dksX2_tryRain_7 14 rfl rfl)
theorem dX2_tryRain_179 : decode cX2_tryRain 179 = .ok (.dup, 1) := dk_89 (dk_at dksX2_tryRain_7 15 rfl rfl)
theorem dX2_tryRain_180 : decode cX2_tryRain 180 = .ok (.getfield 399, 3) := dk_180 1 143 (dk_at dksX2_tryRain_7 16 rfl rfl)
theorem dX2_tryRain_183 : decode cX2_tryRain 183 = .ok (.lload 4, 2) := dk_22 4 (dk_at dksX2_tryRain_7 19 rfl rfl)
theorem dX2_tryRain_185 : decode cX2_tryRain 185 = .ok (.aload_n 0, 1) := dk_42 (dk_at dksX2_tryRain_7 21 rfl rfl)
theorem dX2_tryRain_186 : decode cX2_tryRain 186 = .ok (.aload_n 0, 1) := dk_42 (dk_at dksX2_tryRain_7 22 rfl rfl)
theorem dX2_tryRain_187 : decode cX2_tryRain 187 = .ok (.getfield 38, 3) := dk_180 0 38 (dk_at dksX2_tryRain_8 0 rfl rfl)
theorem dX2_tryRain_190 : decode cX2_tryRain 190 = .ok (.iload_n 1, 1) := dk_27 (dk_at dksX2_tryRain_8 3 rfl rfl)
theorem dX2_tryRain_191 : decode cX2_tryRain 191 = .ok (.iaload, 1) := dk_46 (dk_at dksX2_tryRain_8 4 rfl rfl)
theorem dX2_tryRain_192 : decode cX2_tryRain 192 = .ok (.invokevirtual 322, 3) := dk_182 1 66 (dk_at dksX2_tryRain_8 5 rfl rfl)
theorem dX2_tryRain_195 : decode cX2_tryRain 195 = .ok (.i2l, 1) := dk_133 (dk_at dksX2_tryRain_8 8 rfl rfl)
theorem dX2_tryRain_196 : decode cX2_tryRain 196 = .ok (.lmul, 1) := dk_105 (dk_at dksX2_tryRain_8 9 rfl rfl)
theorem dX2_tryRain_197 : decode cX2_tryRain 197 = .ok (.ladd, 1) := dk_97 (dk_at dksX2_tryRain_8 10 rfl rfl)
theorem dX2_tryRain_198 : decode cX2_tryRain 198 = .ok (.putfield 399, 3) := dk_181 1 143 (dk_at dksX2_tryRain_8 11 rfl rfl)
theorem dX2_tryRain_201 : decode cX2_tryRain 201 = .ok (.iinc 3 1, 3) := dk_132 3 1 (dk_at dksX2_tryRain_8 14 rfl rfl)
theorem dX2_tryRain_204 : decode cX2_tryRain 204 = .ok (.goto (-152), 3) := dk_167 255 104 (dk_at dksX2_tryRain_8 17 rfl rfl)
theorem dX2_tryRain_207 : decode cX2_tryRain 207 = .ok (.aload_n 0, 1) := dk_42 (dk_at dksX2_tryRain_8 20 rfl rfl)
theorem dX2_tryRain_208 : decode cX2_tryRain 208 = .ok (.invokevirtual 306, 3) := dk_182 1 50 (dk_at dksX2_tryRain_8 21 rfl rfl)
theorem dX2_tryRain_211 : decode cX2_tryRain 211 = .ok (.return_, 1) := dk_177 (dk_at dksX2_tryRain_9 0 rfl rfl)
abbrev cX2_lowest : ByteArray := prog_15_method_10_code
def yX2_lowest : MethodName := ⟨RX2, "lowest", "(JJZ)J"⟩
def dkwX2_lowest_1 : List UInt8 := [22, 9, 55, 7, 167, 255, 234, 21, 4, 153, 0, 7, 32, 167, 0, 4, 30, 22, 5, 109, 173]
abbrev dktX2_lowest_1 : List UInt8 := dkwX2_lowest_1 ++ []
def dkwX2_lowest_0 : List UInt8 := [32, 55, 5, 30, 55, 7, 22, 7, 9, 148, 153, 0, 21, 22, 5, 22, 7, 113, 55, 9, 22, 7, 55, 5]
abbrev dktX2_lowest_0 : List UInt8 := dkwX2_lowest_0 ++ dktX2_lowest_1
theorem dksX2_lowest_0 : cX2_lowest.data.toList.drop 0 = dktX2_lowest_0 := by decide +kernel
theorem dksX2_lowest_1 : cX2_lowest.data.toList.drop 24 = dktX2_lowest_1 := dk_seg dksX2_lowest_0 24 rfl rfl
theorem dX2_lowest_0 : decode cX2_lowest 0 = .ok (.lload_n 2, 1) := dk_32 (dk_at dksX2_lowest_0 0 rfl rfl)
theorem dX2_lowest_1 : decode cX2_lowest 1 = .ok (.lstore 5, 2) := dk_55 5 (dk_at dksX2_lowest_0 1 rfl rfl)
theorem dX2_lowest_3 : decode cX2_lowest 3 = .ok (.lload_n 0, 1) := dk_30 (dk_at dksX2_lowest_0 3 rfl rfl)
theorem dX2_lowest_4 : decode cX2_lowest 4 = .ok (.lstore 7, 2) := dk_55 7 (dk_at dksX2_lowest_0 4 rfl rfl)
theorem dX2_lowest_6 : decode cX2_lowest 6 = .ok (.lload 7, 2) := dk_22 7 (dk_at dksX2_lowest_0 6 rfl rfl)
theorem dX2_lowest_8 : decode cX2_lowest 8 = .ok (.lconst 0, 1) := dk_9 (dk_at dksX2_lowest_0 8 rfl rfl)
theorem dX2_lowest_9 : decode cX2_lowest 9 = .ok (.lcmp, 1) := dk_148 (dk_at dksX2_lowest_0 9 rfl rfl)
theorem dX2_lowest_10 : decode cX2_lowest 10 = .ok (.ifCond .eq 21, 3) := dk_153 0 21 (dk_at dksX2_lowest_0 10 rfl rfl)
theorem dX2_lowest_13 : decode cX2_lowest 13 = .ok (.lload 5, 2) := dk_22 5 (dk_at dksX2_lowest_0 13 rfl rfl)
theorem dX2_lowest_15 : decode cX2_lowest 15 = .ok (.lload 7, 2) := dk_22 7 (dk_at dksX2_lowest_0 15 rfl rfl)
theorem dX2_lowest_17 : decode cX2_lowest 17 = .ok (.lrem, 1) := dk_113 (dk_at dksX2_lowest_0 17 rfl rfl)
theorem dX2_lowest_18 : decode cX2_lowest 18 = .ok (.lstore 9, 2) := dk_55 9 (dk_at dksX2_lowest_0 18 rfl rfl)
theorem dX2_lowest_20 : decode cX2_lowest 20 = .ok (.lload 7, 2) := dk_22 7 (dk_at dksX2_lowest_0 20 rfl rfl)
theorem dX2_lowest_22 : decode cX2_lowest 22 = .ok (.lstore 5, 2) := dk_55 5 (dk_at dksX2_lowest_0 22 rfl rfl)
theorem dX2_lowest_24 : decode cX2_lowest 24 = .ok (.lload 9, 2) := dk_22 9 (dk_at dksX2_lowest_1 0 rfl rfl)
theorem dX2_lowest_26 : decode cX2_lowest 26 = .ok (.lstore 7, 2) := dk_55 7 (dk_at dksX2_lowest_1 2 rfl rfl)
theorem dX2_lowest_28 : decode cX2_lowest 28 = .ok (.goto (-22), 3) := dk_167 255 234 (dk_at dksX2_lowest_1 4 rfl rfl)
theorem dX2_lowest_31 : decode cX2_lowest 31 = .ok (.iload 4, 2) := dk_21 4 (dk_at dksX2_lowest_1 7 rfl rfl)
theorem dX2_lowest_33 : decode cX2_lowest 33 = .ok (.ifCond .eq 7, 3) := dk_153 0 7 (dk_at dksX2_lowest_1 9 rfl rfl)
theorem dX2_lowest_36 : decode cX2_lowest 36 = .ok (.lload_n 2, 1) := dk_32 (dk_at dksX2_lowest_1 12 rfl rfl)
theorem dX2_lowest_37 : decode cX2_lowest 37 = .ok (.goto 4, 3) := dk_167 0 4 (dk_at dksX2_lowest_1 13 rfl rfl)
theorem dX2_lowest_40 : decode cX2_lowest 40 = .ok (.lload_n 0, 1) := dk_30 (dk_at dksX2_lowest_1 16 rfl rfl)
theorem dX2_lowest_41 : decode cX2_lowest 41 = .ok (.lload 5, 2) := dk_22 5 (dk_at dksX2_lowest_1 17 rfl rfl)
theorem dX2_lowest_43 : decode cX2_lowest 43 = .ok (.ldiv, 1) := dk_109 (dk_at dksX2_lowest_1 19 rfl rfl)
theorem dX2_lowest_44 : decode cX2_lowest 44 = .ok (.lreturn, 1) := dk_173 (dk_at dksX2_lowest_1 20 rfl rfl)
abbrev cX2_mean : ByteArray := prog_15_method_110_code
def yX2_mean : MethodName := ⟨RX2, "mean", "(IZ)J"⟩
def dkwX2_mean_1 : List UInt8 := [182, 1, 148, 42, 180, 1, 140, 42, 180, 1, 133, 28, 184, 1, 151, 173]
abbrev dktX2_mean_1 : List UInt8 := dkwX2_mean_1 ++ []
def dkwX2_mean_0 : List UInt8 := [42, 182, 0, 163, 42, 27, 182, 1, 53, 154, 0, 10, 42, 4, 182, 0, 166, 133, 173, 42, 27, 3]
abbrev dktX2_mean_0 : List UInt8 := dkwX2_mean_0 ++ dktX2_mean_1
theorem dksX2_mean_0 : cX2_mean.data.toList.drop 0 = dktX2_mean_0 := by decide +kernel
theorem dksX2_mean_1 : cX2_mean.data.toList.drop 22 = dktX2_mean_1 := dk_seg dksX2_mean_0 22 rfl rfl
theorem dX2_mean_0 : decode cX2_mean 0 = .ok (.aload_n 0, 1) := dk_42 (dk_at dksX2_mean_0 0 rfl rfl)
theorem dX2_mean_1 : decode cX2_mean 1 = .ok (.invokevirtual 163, 3) := dk_182 0 163 (dk_at dksX2_mean_0 1 rfl rfl)
theorem dX2_mean_4 : decode cX2_mean 4 = .ok (.aload_n 0, 1) := dk_42 (dk_at dksX2_mean_0 4 rfl rfl)
theorem dX2_mean_5 : decode cX2_mean 5 = .ok (.iload_n 1, 1) := dk_27 (dk_at dksX2_mean_0 5 rfl rfl)
theorem dX2_mean_6 : decode cX2_mean 6 = .ok (.invokevirtual 309, 3) := dk_182 1 53 (dk_at dksX2_mean_0 6 rfl rfl)
theorem dX2_mean_9 : decode cX2_mean 9 = .ok (.ifCond .ne 10, 3) := dk_154 0 10 (dk_at dksX2_mean_0 9 rfl rfl)
theorem dX2_mean_12 : decode cX2_mean 12 = .ok (.aload_n 0, 1) := dk_42 (dk_at dksX2_mean_0 12 rfl rfl)
theorem dX2_mean_13 : decode cX2_mean 13 = .ok (.iconst 1, 1) := dk_4 (dk_at dksX2_mean_0 13 rfl rfl)
theorem dX2_mean_14 : decode cX2_mean 14 = .ok (.invokevirtual 166, 3) := dk_182 0 166 (dk_at dksX2_mean_0 14 rfl rfl)
theorem dX2_mean_17 : decode cX2_mean 17 = .ok (.i2l, 1) := dk_133 (dk_at dksX2_mean_0 17 rfl rfl)
theorem dX2_mean_18 : decode cX2_mean 18 = .ok (.lreturn, 1) := dk_173 (dk_at dksX2_mean_0 18 rfl rfl)
theorem dX2_mean_19 : decode cX2_mean 19 = .ok (.aload_n 0, 1) := dk_42 (dk_at dksX2_mean_0 19 rfl rfl)
theorem dX2_mean_20 : decode cX2_mean 20 = .ok (.iload_n 1, 1) := dk_27 (dk_at dksX2_mean_0 20 rfl rfl)
theorem dX2_mean_21 : decode cX2_mean 21 = .ok (.iconst 0, 1) := dk_3 (dk_at dksX2_mean_0 21 rfl rfl)
theorem dX2_mean_22 : decode cX2_mean 22 = .ok (.invokevirtual 404, 3) := dk_182 1 148 (dk_at dksX2_mean_1 0 rfl rfl)
theorem dX2_mean_25 : decode cX2_mean 25 = .ok (.aload_n 0, 1) := dk_42 (dk_at dksX2_mean_1 3 rfl rfl)
theorem dX2_mean_26 : decode cX2_mean 26 = .ok (.getfield 396, 3) := dk_180 1 140 (dk_at dksX2_mean_1 4 rfl rfl)
theorem dX2_mean_29 : decode cX2_mean 29 = .ok (.aload_n 0, 1) := dk_42 (dk_at dksX2_mean_1 7 rfl rfl)
theorem dX2_mean_30 : decode cX2_mean 30 = .ok (.getfield 389, 3) := dk_180 1 133 (dk_at dksX2_mean_1 8 rfl rfl)
theorem dX2_mean_33 : decode cX2_mean 33 = .ok (.iload_n 2, 1) := dk_28 (dk_at dksX2_mean_1 11 rfl rfl)
theorem dX2_mean_34 : decode cX2_mean 34 = .ok (.invokestatic 407, 3) := dk_184 1 151 (dk_at dksX2_mean_1 12 rfl rfl)
theorem dX2_mean_37 : decode cX2_mean 37 = .ok (.lreturn, 1) := dk_173 (dk_at dksX2_mean_1 15 rfl rfl)
abbrev cX2_hopes : ByteArray := prog_15_method_111_code
def yX2_hopes : MethodName := ⟨RX2, "hopes", "(IZ)J"⟩
def dkwX2_hopes_1 : List UInt8 := [182, 1, 148, 42, 180, 1, 143, 42, 180, 1, 133, 28, 184, 1, 151, 173]
abbrev dktX2_hopes_1 : List UInt8 := dkwX2_hopes_1 ++ []
def dkwX2_hopes_0 : List UInt8 := [42, 182, 0, 163, 42, 27, 182, 1, 53, 154, 0, 10, 42, 4, 182, 0, 166, 133, 173, 42, 27, 3]
abbrev dktX2_hopes_0 : List UInt8 := dkwX2_hopes_0 ++ dktX2_hopes_1
theorem dksX2_hopes_0 : cX2_hopes.data.toList.drop 0 = dktX2_hopes_0 := by decide +kernel
theorem dksX2_hopes_1 : cX2_hopes.data.toList.drop 22 = dktX2_hopes_1 := dk_seg dksX2_hopes_0 22 rfl rfl
theorem dX2_hopes_0 : decode cX2_hopes 0 = .ok (.aload_n 0, 1) := dk_42 (dk_at dksX2_hopes_0 0 rfl rfl)
theorem dX2_hopes_1 : decode cX2_hopes 1 = .ok (.invokevirtual 163, 3) := dk_182 0 163 (dk_at dksX2_hopes_0 1 rfl rfl)
theorem dX2_hopes_4 : decode cX2_hopes 4 = .ok (.aload_n 0, 1) := dk_42 (dk_at dksX2_hopes_0 4 rfl rfl)
theorem dX2_hopes_5 : decode cX2_hopes 5 = .ok (.iload_n 1, 1) := dk_27 (dk_at dksX2_hopes_0 5 rfl rfl)
theorem dX2_hopes_6 : decode cX2_hopes 6 = .ok (.invokevirtual 309, 3) := dk_182 1 53 (dk_at dksX2_hopes_0 6 rfl rfl)
theorem dX2_hopes_9 : decode cX2_hopes 9 = .ok (.ifCond .ne 10, 3) := dk_154 0 10 (dk_at dksX2_hopes_0 9 rfl rfl)
theorem dX2_hopes_12 : decode cX2_hopes 12 = .ok (.aload_n 0, 1) := dk_42 (dk_at dksX2_hopes_0 12 rfl rfl)
theorem dX2_hopes_13 : decode cX2_hopes 13 = .ok (.iconst 1, 1) := dk_4 (dk_at dksX2_hopes_0 13 rfl rfl)
theorem dX2_hopes_14 : decode cX2_hopes 14 = .ok (.invokevirtual 166, 3) := dk_182 0 166 (dk_at dksX2_hopes_0 14 rfl rfl)
theorem dX2_hopes_17 : decode cX2_hopes 17 = .ok (.i2l, 1) := dk_133 (dk_at dksX2_hopes_0 17 rfl rfl)
theorem dX2_hopes_18 : decode cX2_hopes 18 = .ok (.lreturn, 1) := dk_173 (dk_at dksX2_hopes_0 18 rfl rfl)
theorem dX2_hopes_19 : decode cX2_hopes 19 = .ok (.aload_n 0, 1) := dk_42 (dk_at dksX2_hopes_0 19 rfl rfl)
theorem dX2_hopes_20 : decode cX2_hopes 20 = .ok (.iload_n 1, 1) := dk_27 (dk_at dksX2_hopes_0 20 rfl rfl)
theorem dX2_hopes_21 : decode cX2_hopes 21 = .ok (.iconst 0, 1) := dk_3 (dk_at dksX2_hopes_0 21 rfl rfl)
theorem dX2_hopes_22 : decode cX2_hopes 22 = .ok (.invokevirtual 404, 3) := dk_182 1 148 (dk_at dksX2_hopes_1 0 rfl rfl)
theorem dX2_hopes_25 : decode cX2_hopes 25 = .ok (.aload_n 0, 1) := dk_42 (dk_at dksX2_hopes_1 3 rfl rfl)
theorem dX2_hopes_26 : decode cX2_hopes 26 = .ok (.getfield 399, 3) := dk_180 1 143 (dk_at dksX2_hopes_1 4 rfl rfl)
theorem dX2_hopes_29 : decode cX2_hopes 29 = .ok (.aload_n 0, 1) := dk_42 (dk_at dksX2_hopes_1 7 rfl rfl)
theorem dX2_hopes_30 : decode cX2_hopes 30 = .ok (.getfield 389, 3) := dk_180 1 133 (dk_at dksX2_hopes_1 8 rfl rfl)
theorem dX2_hopes_33 : decode cX2_hopes 33 = .ok (.iload_n 2, 1) := dk_28 (dk_at dksX2_hopes_1 11 rfl rfl)
theorem dX2_hopes_34 : decode cX2_hopes 34 = .ok (.invokestatic 407, 3) := dk_184 1 151 (dk_at dksX2_hopes_1 12 rfl rfl)
theorem dX2_hopes_37 : decode cX2_hopes 37 = .ok (.lreturn, 1) := dk_173 (dk_at dksX2_hopes_1 15 rfl rfl)
abbrev cX2_wins : ByteArray := prog_15_method_113_code
def yX2_wins : MethodName := ⟨RX2, "wins", "(III)I"⟩
def dkwX2_wins_1 : List UInt8 := [21, 4, 182, 0, 166, 167, 0, 9, 42, 180, 0, 50, 27, 46, 172]
abbrev dktX2_wins_1 : List UInt8 := dkwX2_wins_1 ++ []
def dkwX2_wins_0 : List UInt8 := [42, 182, 0, 163, 42, 42, 27, 182, 1, 53, 28, 29, 3, 182, 1, 160, 54, 4, 21, 4, 153, 0, 12, 42]
abbrev dktX2_wins_0 : List UInt8 := dkwX2_wins_0 ++ dktX2_wins_1
theorem dksX2_wins_0 : cX2_wins.data.toList.drop 0 = dktX2_wins_0 := by decide +kernel
theorem dksX2_wins_1 : cX2_wins.data.toList.drop 24 = dktX2_wins_1 := dk_seg dksX2_wins_0 24 rfl rfl
theorem dX2_wins_0 : decode cX2_wins 0 = .ok (.aload_n 0, 1) := dk_42 (dk_at dksX2_wins_0 0 rfl rfl)
theorem dX2_wins_1 : decode cX2_wins 1 = .ok (.invokevirtual 163, 3) := dk_182 0 163 (dk_at dksX2_wins_0 1 rfl rfl)
theorem dX2_wins_4 : decode cX2_wins 4 = .ok (.aload_n 0, 1) := dk_42 (dk_at dksX2_wins_0 4 rfl rfl)
theorem dX2_wins_5 : decode cX2_wins 5 = .ok (.aload_n 0, 1) := dk_42 (dk_at dksX2_wins_0 5 rfl rfl)
theorem dX2_wins_6 : decode cX2_wins 6 = .ok (.iload_n 1, 1) := dk_27 (dk_at dksX2_wins_0 6 rfl rfl)
theorem dX2_wins_7 : decode cX2_wins 7 = .ok (.invokevirtual 309, 3) := dk_182 1 53 (dk_at dksX2_wins_0 7 rfl rfl)
theorem dX2_wins_10 : decode cX2_wins 10 = .ok (.iload_n 2, 1) := dk_28 (dk_at dksX2_wins_0 10 rfl rfl)
theorem dX2_wins_11 : decode cX2_wins 11 = .ok (.iload_n 3, 1) := dk_29 (dk_at dksX2_wins_0 11 rfl rfl)
theorem dX2_wins_12 : decode cX2_wins 12 = .ok (.iconst 0, 1) := dk_3 (dk_at dksX2_wins_0 12 rfl rfl)
theorem dX2_wins_13 : decode cX2_wins 13 = .ok (.invokevirtual 416, 3) := dk_182 1 160 (dk_at dksX2_wins_0 13 rfl rfl)
theorem dX2_wins_16 : decode cX2_wins 16 = .ok (.istore 4, 2) := dk_54 4 (dk_at dksX2_wins_0 16 rfl rfl)
theorem dX2_wins_18 : decode cX2_wins 18 = .ok (.iload 4, 2) := dk_21 4 (dk_at dksX2_wins_0 18 rfl rfl)
theorem dX2_wins_20 : decode cX2_wins 20 = .ok (.ifCond .eq 12, 3) := dk_153 0 12 (dk_at dksX2_wins_0 20 rfl rfl)
theorem dX2_wins_23 : decode cX2_wins 23 = .ok (.aload_n 0, 1) := dk_42 (dk_at dksX2_wins_0 23 rfl rfl)
theorem dX2_wins_24 : decode cX2_wins 24 = .ok (.iload 4, 2) := dk_21 4 (dk_at dksX2_wins_1 0 rfl rfl)
theorem dX2_wins_26 : decode cX2_wins 26 = .ok (.invokevirtual 166, 3) := dk_182 0 166 (dk_at dksX2_wins_1 2 rfl rfl)
theorem dX2_wins_29 : decode cX2_wins 29 = .ok (.goto 9, 3) := dk_167 0 9 (dk_at dksX2_wins_1 5 rfl rfl)
theorem dX2_wins_32 : decode cX2_wins 32 = .ok (.aload_n 0, 1) := dk_42 (dk_at dksX2_wins_1 8 rfl rfl)
theorem dX2_wins_33 : decode cX2_wins 33 = .ok (.getfield 50, 3) := dk_180 0 50 (dk_at dksX2_wins_1 9 rfl rfl)
theorem dX2_wins_36 : decode cX2_wins 36 = .ok (.iload_n 1, 1) := dk_27 (dk_at dksX2_wins_1 12 rfl rfl)
theorem dX2_wins_37 : decode cX2_wins 37 = .ok (.iaload, 1) := dk_46 (dk_at dksX2_wins_1 13 rfl rfl)
theorem dX2_wins_38 : decode cX2_wins 38 = .ok (.ireturn, 1) := dk_172 (dk_at dksX2_wins_1 14 rfl rfl)
abbrev cX2_racesWhy : ByteArray := prog_15_method_112_code
def yX2_racesWhy : MethodName := ⟨RX2, "racesWhy", "(ZIII)I"⟩
def dkwX2_racesWhy_10 : List UInt8 := [132, 6, 1, 167, 255, 91, 42, 182, 1, 50, 3, 172]
abbrev dktX2_racesWhy_10 : List UInt8 := dkwX2_racesWhy_10 ++ []
def dkwX2_racesWhy_9 : List UInt8 := [180, 0, 35, 21, 7, 46, 167, 0, 7, 42, 180, 1, 156, 181, 1, 156, 132, 7, 1, 167, 255, 184]
abbrev dktX2_racesWhy_9 : List UInt8 := dkwX2_racesWhy_9 ++ dktX2_racesWhy_10
def dkwX2_racesWhy_8 : List UInt8 := [167, 0, 4, 3, 96, 79, 42, 42, 180, 0, 35, 21, 7, 46, 42, 180, 1, 156, 162, 0, 13, 42]
abbrev dktX2_racesWhy_8 : List UInt8 := dkwX2_racesWhy_8 ++ dktX2_racesWhy_9
def dkwX2_racesWhy_7 : List UInt8 := [162, 0, 66, 42, 180, 0, 50, 21, 7, 92, 46, 42, 180, 0, 38, 21, 7, 46, 154, 0, 7, 4]
abbrev dktX2_racesWhy_7 : List UInt8 := dkwX2_racesWhy_7 ++ dktX2_racesWhy_8
def dkwX2_racesWhy_6 : List UInt8 := [167, 255, 197, 42, 42, 180, 0, 26, 182, 1, 62, 3, 54, 7, 21, 7, 42, 180, 0, 20, 16, 6, 46]
abbrev dktX2_racesWhy_6 : List UInt8 := dkwX2_racesWhy_6 ++ dktX2_racesWhy_7
def dkwX2_racesWhy_5 : List UInt8 := [180, 0, 20, 6, 46, 162, 0, 10, 4, 21, 7, 120, 167, 0, 4, 3, 128, 181, 1, 25, 132, 7, 1]
abbrev dktX2_racesWhy_5 : List UInt8 := dkwX2_racesWhy_5 ++ dktX2_racesWhy_6
def dkwX2_racesWhy_4 : List UInt8 := [21, 5, 104, 16, 74, 96, 19, 1, 159, 112, 54, 5, 42, 89, 180, 1, 25, 21, 5, 16, 100, 112, 42]
abbrev dktX2_racesWhy_4 : List UInt8 := dkwX2_racesWhy_4 ++ dktX2_racesWhy_5
def dkwX2_racesWhy_3 : List UInt8 := [162, 0, 165, 42, 3, 181, 1, 25, 3, 54, 7, 21, 7, 42, 180, 0, 20, 8, 46, 162, 0, 54, 16, 75]
abbrev dktX2_racesWhy_3 : List UInt8 := dkwX2_racesWhy_3 ++ dktX2_racesWhy_4
def dkwX2_racesWhy_2 : List UInt8 := [79, 132, 5, 1, 167, 255, 239, 42, 19, 1, 101, 181, 1, 156, 28, 54, 5, 3, 54, 6, 21, 6, 29]
abbrev dktX2_racesWhy_2 : List UInt8 := dkwX2_racesWhy_2 ++ dktX2_racesWhy_3
def dkwX2_racesWhy_1 : List UInt8 := [184, 0, 144, 154, 0, 5, 5, 172, 3, 54, 5, 21, 5, 7, 162, 0, 17, 42, 180, 0, 50, 21, 5, 3]
abbrev dktX2_racesWhy_1 : List UInt8 := dkwX2_racesWhy_1 ++ dktX2_racesWhy_2
def dkwX2_racesWhy_0 : List UInt8 := [27, 154, 0, 5, 4, 172, 28, 3, 19, 1, 155, 184, 0, 144, 153, 0, 14, 29, 21, 4, 16, 60]
abbrev dktX2_racesWhy_0 : List UInt8 := dkwX2_racesWhy_0 ++ dktX2_racesWhy_1
theorem dksX2_racesWhy_0 : cX2_racesWhy.data.toList.drop 0 = dktX2_racesWhy_0 := by decide +kernel
theorem dksX2_racesWhy_1 : cX2_racesWhy.data.toList.drop 22 = dktX2_racesWhy_1 := dk_seg dksX2_racesWhy_0 22 rfl rfl
theorem dksX2_racesWhy_2 : cX2_racesWhy.data.toList.drop 46 = dktX2_racesWhy_2 := dk_seg dksX2_racesWhy_1 24 rfl rfl
theorem dksX2_racesWhy_3 : cX2_racesWhy.data.toList.drop 69 = dktX2_racesWhy_3 := dk_seg dksX2_racesWhy_2 23 rfl rfl
theorem dksX2_racesWhy_4 : cX2_racesWhy.data.toList.drop 93 = dktX2_racesWhy_4 := dk_seg dksX2_racesWhy_3 24 rfl rfl
theorem dksX2_racesWhy_5 : cX2_racesWhy.data.toList.drop 116 = dktX2_racesWhy_5 := dk_seg dksX2_racesWhy_4 23 rfl rfl
theorem dksX2_racesWhy_6 : cX2_racesWhy.data.toList.drop 139 = dktX2_racesWhy_6 := dk_seg dksX2_racesWhy_5 23 rfl rfl
theorem dksX2_racesWhy_7 : cX2_racesWhy.data.toList.drop 162 = dktX2_racesWhy_7 := dk_seg dksX2_racesWhy_6 23 rfl rfl
theorem dksX2_racesWhy_8 : cX2_racesWhy.data.toList.drop 184 = dktX2_racesWhy_8 := dk_seg dksX2_racesWhy_7 22 rfl rfl
theorem dksX2_racesWhy_9 : cX2_racesWhy.data.toList.drop 206 = dktX2_racesWhy_9 := dk_seg dksX2_racesWhy_8 22 rfl rfl
theorem dksX2_racesWhy_10 : cX2_racesWhy.data.toList.drop 228 = dktX2_racesWhy_10 := dk_seg dksX2_racesWhy_9 22 rfl rfl
theorem dX2_racesWhy_0 : decode cX2_racesWhy 0 = .ok (.iload_n 1, 1) := dk_27 (dk_at dksX2_racesWhy_0 0 rfl rfl)
theorem dX2_racesWhy_1 : decode cX2_racesWhy 1 = .ok (.ifCond .ne 5, 3) := dk_154 0 5 (dk_at dksX2_racesWhy_0 1 rfl rfl)
theorem dX2_racesWhy_4 : decode cX2_racesWhy 4 = .ok (.iconst 1, 1) := dk_4 (dk_at dksX2_racesWhy_0 4 rfl rfl)
theorem dX2_racesWhy_5 : decode cX2_racesWhy 5 = .ok (.ireturn, 1) := dk_172 (dk_at dksX2_racesWhy_0 5 rfl rfl)
theorem dX2_racesWhy_6 : decode cX2_racesWhy 6 = .ok (.iload_n 2, 1) := dk_28 (dk_at dksX2_racesWhy_0 6 rfl rfl)
theorem dX2_racesWhy_7 : decode cX2_racesWhy 7 = .ok (.iconst 0, 1) := dk_3 (dk_at dksX2_racesWhy_0 7 rfl rfl)
theorem dX2_racesWhy_8 : decode cX2_racesWhy 8 = .ok (.ldc_w 411, 3) := dk_19 1 155 (dk_at dksX2_racesWhy_0 8 rfl rfl)
theorem dX2_racesWhy_11 : decode cX2_racesWhy 11 = .ok (.invokestatic 144, 3) := dk_184 0 144 (dk_at dksX2_racesWhy_0 11 rfl rfl)
theorem dX2_racesWhy_14 : decode cX2_racesWhy 14 = .ok (.ifCond .eq 14, 3) := dk_153 0 14 (dk_at dksX2_racesWhy_0 14 rfl rfl)
theorem dX2_racesWhy_17 : decode cX2_racesWhy 17 = .ok (.iload_n 3, 1) := dk_29 (dk_at dksX2_racesWhy_0 17 rfl rfl)
theorem dX2_racesWhy_18 : decode cX2_racesWhy 18 = .ok (.iload 4, 2) := dk_21 4 (dk_at dksX2_racesWhy_0 18 rfl rfl)
theorem dX2_racesWhy_20 : decode cX2_racesWhy 20 = .ok (.bipush 60, 2) := dk_16 60 (dk_at dksX2_racesWhy_0 20 rfl rfl)
theorem dX2_racesWhy_22 : decode cX2_racesWhy 22 = .ok (.invokestatic 144, 3) := dk_184 0 144 (dk_at dksX2_racesWhy_1 0 rfl rfl)
theorem dX2_racesWhy_25 : decode cX2_racesWhy 25 = .ok (.ifCond .ne 5, 3) := dk_154 0 5 (dk_at dksX2_racesWhy_1 3 rfl rfl)
theorem dX2_racesWhy_28 : decode cX2_racesWhy 28 = .ok (.iconst 2, 1) := dk_5 (dk_at dksX2_racesWhy_1 6 rfl rfl)
theorem dX2_racesWhy_29 : decode cX2_racesWhy 29 = .ok (.ireturn, 1) := dk_172 (dk_at dksX2_racesWhy_1 7 rfl rfl)
theorem dX2_racesWhy_30 : decode cX2_racesWhy 30 = .ok (.iconst 0, 1) := dk_3 (dk_at dksX2_racesWhy_1 8 rfl rfl)
theorem dX2_racesWhy_31 : decode cX2_racesWhy 31 = .ok (.istore 5, 2) := dk_54 5 (dk_at dksX2_racesWhy_1 9 rfl rfl)
theorem dX2_racesWhy_33 : decode cX2_racesWhy 33 = .ok (.iload 5, 2) := dk_21 5 (dk_at dksX2_racesWhy_1 11 rfl rfl)
theorem dX2_racesWhy_35 : decode cX2_racesWhy 35 = .ok (.iconst 4, 1) := dk_7 (dk_at dksX2_racesWhy_1 13 rfl rfl)
theorem dX2_racesWhy_36 : decode cX2_racesWhy 36 = .ok (.if_icmp .ge 17, 3) := dk_162 0 17 (dk_at dksX2_racesWhy_1 14 rfl rfl)
theorem dX2_racesWhy_39 : decode cX2_racesWhy 39 = .ok (.aload_n 0, 1) := dk_42 (dk_at dksX2_racesWhy_1 17 rfl rfl)
theorem dX2_racesWhy_40 : decode cX2_racesWhy 40 = .ok (.getfield 50, 3) := dk_180 0 50 (dk_at dksX2_racesWhy_1 18 rfl rfl)
theorem dX2_racesWhy_43 : decode cX2_racesWhy 43 = .ok (.iload 5, 2) := dk_21 5 (dk_at dksX2_racesWhy_1 21 rfl rfl)
theorem dX2_racesWhy_45 : decode cX2_racesWhy 45 = .ok (.iconst 0, 1) := dk_3 (dk_at dksX2_racesWhy_1 23 rfl rfl)
theorem dX2_racesWhy_46 : decode cX2_racesWhy 46 = .ok (.iastore, 1) := dk_79 (dk_at dksX2_racesWhy_2 0 rfl rfl)
theorem dX2_racesWhy_47 : decode cX2_racesWhy 47 = .ok (.iinc 5 1, 3) := dk_132 5 1 (dk_at dksX2_racesWhy_2 1 rfl rfl)
theorem dX2_racesWhy_50 : decode cX2_racesWhy 50 = .ok (.goto (-17), 3) := dk_167 255 239 (dk_at dksX2_racesWhy_2 4 rfl rfl)
theorem dX2_racesWhy_53 : decode cX2_racesWhy 53 = .ok (.aload_n 0, 1) := dk_42 (dk_at dksX2_racesWhy_2 7 rfl rfl)
theorem dX2_racesWhy_54 : decode cX2_racesWhy 54 = .ok (.ldc_w 357, 3) := dk_19 1 101 (dk_at dksX2_racesWhy_2 8 rfl rfl)
theorem dX2_racesWhy_57 : decode cX2_racesWhy 57 = .ok (.putfield 412, 3) := dk_181 1 156 (dk_at dksX2_racesWhy_2 11 rfl rfl)
theorem dX2_racesWhy_60 : decode cX2_racesWhy 60 = .ok (.iload_n 2, 1) := dk_28 (dk_at dksX2_racesWhy_2 14 rfl rfl)
theorem dX2_racesWhy_61 : decode cX2_racesWhy 61 = .ok (.istore 5, 2) := dk_54 5 (dk_at dksX2_racesWhy_2 15 rfl rfl)
theorem dX2_racesWhy_63 : decode cX2_racesWhy 63 = .ok (.iconst 0, 1) := dk_3 (dk_at dksX2_racesWhy_2 17 rfl rfl)
theorem dX2_racesWhy_64 : decode cX2_racesWhy 64 = .ok (.istore 6, 2) := dk_54 6 (dk_at dksX2_racesWhy_2 18 rfl rfl)
theorem dX2_racesWhy_66 : decode cX2_racesWhy 66 = .ok (.iload 6, 2) := dk_21 6 (dk_at dksX2_racesWhy_2 20 rfl rfl)
theorem dX2_racesWhy_68 : decode cX2_racesWhy 68 = .ok (.iload_n 3, 1) := dk_29 (dk_at dksX2_racesWhy_2 22 rfl rfl)
theorem dX2_racesWhy_69 : decode cX2_racesWhy 69 = .ok (.if_icmp .ge 165, 3) := dk_162 0 165 (dk_at dksX2_racesWhy_3 0 rfl rfl)
theorem dX2_racesWhy_72 : decode cX2_racesWhy 72 = .ok (.aload_n 0, 1) := dk_42 (dk_at dksX2_racesWhy_3 3 rfl rfl)
theorem dX2_racesWhy_73 : decode cX2_racesWhy 73 = .ok (.iconst 0, 1) := dk_3 (dk_at dksX2_racesWhy_3 4 rfl rfl)
theorem dX2_racesWhy_74 : decode cX2_racesWhy 74 = .ok (.putfield 281, 3) := dk_181 1 25 (dk_at dksX2_racesWhy_3 5 rfl rfl)
theorem dX2_racesWhy_77 : decode cX2_racesWhy 77 = .ok (.iconst 0, 1) := dk_3 (dk_at dksX2_racesWhy_3 8 rfl rfl)
theorem dX2_racesWhy_78 : decode cX2_racesWhy 78 = .ok (.istore 7, 2) := dk_54 7 (dk_at dksX2_racesWhy_3 9 rfl rfl)
theorem dX2_racesWhy_80 : decode cX2_racesWhy 80 = .ok (.iload 7, 2) := dk_21 7 (dk_at dksX2_racesWhy_3 11 rfl rfl)
theorem dX2_racesWhy_82 : decode cX2_racesWhy 82 = .ok (.aload_n 0, 1) := dk_42 (dk_at dksX2_racesWhy_3 13 rfl rfl)
theorem dX2_racesWhy_83 : decode cX2_racesWhy 83 = .ok (.getfield 20, 3) := dk_180 0 20 (dk_at dksX2_racesWhy_3 14 rfl rfl)
theorem dX2_racesWhy_86 : decode cX2_racesWhy 86 = .ok (.iconst 5, 1) := dk_8 (dk_at dksX2_racesWhy_3 17 rfl rfl)
theorem dX2_racesWhy_87 : decode cX2_racesWhy 87 = .ok (.iaload, 1) := dk_46 (dk_at dksX2_racesWhy_3 18 rfl rfl)
theorem dX2_racesWhy_88 : decode cX2_racesWhy 88 = .ok (.if_icmp .ge 54, 3) := dk_162 0 54 (dk_at dksX2_racesWhy_3 19 rfl rfl)
theorem dX2_racesWhy_91 : decode cX2_racesWhy 91 = .ok (.bipush 75, 2) := dk_16 75 (dk_at dksX2_racesWhy_3 22 rfl rfl)
theorem dX2_racesWhy_93 : decode cX2_racesWhy 93 = .ok (.iload 5, 2) := dk_21 5 (dk_at dksX2_racesWhy_4 0 rfl rfl)
theorem dX2_racesWhy_95 : decode cX2_racesWhy 95 = .ok (.imul, 1) := dk_104 (dk_at dksX2_racesWhy_4 2 rfl rfl)
theorem dX2_racesWhy_96 : decode cX2_racesWhy 96 = .ok (.bipush 74, 2) := dk_16 74 (dk_at dksX2_racesWhy_4 3 rfl rfl)
theorem dX2_racesWhy_98 : decode cX2_racesWhy 98 = .ok (.iadd, 1) := dk_96 (dk_at dksX2_racesWhy_4 5 rfl rfl)
theorem dX2_racesWhy_99 : decode cX2_racesWhy 99 = .ok (.ldc_w 415, 3) := dk_19 1 159 (dk_at dksX2_racesWhy_4 6 rfl rfl)
theorem dX2_racesWhy_102 : decode cX2_racesWhy 102 = .ok (.irem, 1) := dk_112 (dk_at dksX2_racesWhy_4 9 rfl rfl)
theorem dX2_racesWhy_103 : decode cX2_racesWhy 103 = .ok (.istore 5, 2) := dk_54 5 (dk_at dksX2_racesWhy_4 10 rfl rfl)
theorem dX2_racesWhy_105 : decode cX2_racesWhy 105 = .ok (.aload_n 0, 1) := dk_42 (dk_at dksX2_racesWhy_4 12 rfl rfl)
theorem dX2_racesWhy_106 : decode cX2_racesWhy 106 = .ok (.dup, 1) := dk_89 (dk_at dksX2_racesWhy_4 13 rfl rfl)
theorem dX2_racesWhy_107 : decode cX2_racesWhy 107 = .ok (.getfield 281, 3) := dk_180 1 25 (dk_at dksX2_racesWhy_4 14 rfl rfl)
theorem dX2_racesWhy_110 : decode cX2_racesWhy 110 = .ok (.iload 5, 2) := dk_21 5 (dk_at dksX2_racesWhy_4 17 rfl rfl)
theorem dX2_racesWhy_112 : decode cX2_racesWhy 112 = .ok (.bipush 100, 2) := dk_16 100 (dk_at dksX2_racesWhy_4 19 rfl rfl)
theorem dX2_racesWhy_114 : decode cX2_racesWhy 114 = .ok (.irem, 1) := dk_112 (dk_at dksX2_racesWhy_4 21 rfl rfl)
theorem dX2_racesWhy_115 : decode cX2_racesWhy 115 = .ok (.aload_n 0, 1) := dk_42 (dk_at dksX2_racesWhy_4 22 rfl rfl)
theorem dX2_racesWhy_116 : decode cX2_racesWhy 116 = .ok (.getfield 20, 3) := dk_180 0 20 (dk_at dksX2_racesWhy_5 0 rfl rfl)
theorem dX2_racesWhy_119 : decode cX2_racesWhy 119 = .ok (.iconst 3, 1) := dk_6 (dk_at dksX2_racesWhy_5 3 rfl rfl)
theorem dX2_racesWhy_120 : decode cX2_racesWhy 120 = .ok (.iaload, 1) := dk_46 (dk_at dksX2_racesWhy_5 4 rfl rfl)
theorem dX2_racesWhy_121 : decode cX2_racesWhy 121 = .ok (.if_icmp .ge 10, 3) := dk_162 0 10 (dk_at dksX2_racesWhy_5 5 rfl rfl)
theorem dX2_racesWhy_124 : decode cX2_racesWhy 124 = .ok (.iconst 1, 1) := dk_4 (dk_at dksX2_racesWhy_5 8 rfl rfl)
theorem dX2_racesWhy_125 : decode cX2_racesWhy 125 = .ok (.iload 7, 2) := dk_21 7 (dk_at dksX2_racesWhy_5 9 rfl rfl)
theorem dX2_racesWhy_127 : decode cX2_racesWhy 127 = .ok (.ishl, 1) := dk_120 (dk_at dksX2_racesWhy_5 11 rfl rfl)
theorem dX2_racesWhy_128 : decode cX2_racesWhy 128 = .ok (.goto 4, 3) := dk_167 0 4 (dk_at dksX2_racesWhy_5 12 rfl rfl)
theorem dX2_racesWhy_131 : decode cX2_racesWhy 131 = .ok (.iconst 0, 1) := dk_3 (dk_at dksX2_racesWhy_5 15 rfl rfl)
theorem dX2_racesWhy_132 : decode cX2_racesWhy 132 = .ok (.ior, 1) := dk_128 (dk_at dksX2_racesWhy_5 16 rfl rfl)
theorem dX2_racesWhy_133 : decode cX2_racesWhy 133 = .ok (.putfield 281, 3) := dk_181 1 25 (dk_at dksX2_racesWhy_5 17 rfl rfl)
theorem dX2_racesWhy_136 : decode cX2_racesWhy 136 = .ok (.iinc 7 1, 3) := dk_132 7 1 (dk_at dksX2_racesWhy_5 20 rfl rfl)
theorem dX2_racesWhy_139 : decode cX2_racesWhy 139 = .ok (.goto (-59), 3) := dk_167 255 197 (dk_at dksX2_racesWhy_6 0 rfl rfl)
theorem dX2_racesWhy_142 : decode cX2_racesWhy 142 = .ok (.aload_n 0, 1) := dk_42 (dk_at dksX2_racesWhy_6 3 rfl rfl)
theorem dX2_racesWhy_143 : decode cX2_racesWhy 143 = .ok (.aload_n 0, 1) := dk_42 (dk_at dksX2_racesWhy_6 4 rfl rfl)
theorem dX2_racesWhy_144 : decode cX2_racesWhy 144 = .ok (.getfield 26, 3) := dk_180 0 26 (dk_at dksX2_racesWhy_6 5 rfl rfl)
theorem dX2_racesWhy_147 : decode cX2_racesWhy 147 = .ok (.invokevirtual 318, 3) := dk_182 1 62 (dk_at dksX2_racesWhy_6 8 rfl rfl)
theorem dX2_racesWhy_150 : decode cX2_racesWhy 150 = .ok (.iconst 0, 1) := dk_3 (dk_at dksX2_racesWhy_6 11 rfl rfl)
theorem dX2_racesWhy_151 : decode cX2_racesWhy 151 = .ok (.istore 7, 2) := dk_54 7 (dk_at dksX2_racesWhy_6 12 rfl rfl)
theorem dX2_racesWhy_153 : decode cX2_racesWhy 153 = .ok (.iload 7, 2) := dk_21 7 (dk_at dksX2_racesWhy_6 14 rfl rfl)
theorem dX2_racesWhy_155 : decode cX2_racesWhy 155 = .ok (.aload_n 0, 1) := dk_42 (dk_at dksX2_racesWhy_6 16 rfl rfl)
theorem dX2_racesWhy_156 : decode cX2_racesWhy 156 = .ok (.getfield 20, 3) := dk_180 0 20 (dk_at dksX2_racesWhy_6 17 rfl rfl)
theorem dX2_racesWhy_159 : decode cX2_racesWhy 159 = .ok (.bipush 6, 2) := dk_16 6 (dk_at dksX2_racesWhy_6 20 rfl rfl)
theorem dX2_racesWhy_161 : decode cX2_racesWhy 161 = .ok (.iaload, 1) := dk_46 (dk_at dksX2_racesWhy_6 22 rfl rfl)
theorem dX2_racesWhy_162 : decode cX2_racesWhy 162 = .ok (.if_icmp .ge 66, 3) := dk_162 0 66 (dk_at dksX2_racesWhy_7 0 rfl rfl)
theorem dX2_racesWhy_165 : decode cX2_racesWhy 165 = .ok (.aload_n 0, 1) := dk_42 (dk_at dksX2_racesWhy_7 3 rfl rfl)
theorem dX2_racesWhy_166 : decode cX2_racesWhy 166 = .ok (.getfield 50, 3) := dk_180 0 50 (dk_at dksX2_racesWhy_7 4 rfl rfl)
theorem dX2_racesWhy_169 : decode cX2_racesWhy 169 = .ok (.iload 7, 2) := dk_21 7 (dk_at dksX2_racesWhy_7 7 rfl rfl)
theorem dX2_racesWhy_171 : decode cX2_racesWhy 171 = .ok (.dup2, 1) := dk_92 (dk_at dksX2_racesWhy_7 9 rfl rfl)
theorem dX2_racesWhy_172 : decode cX2_racesWhy 172 = .ok (.iaload, 1) := dk_46 (dk_at dksX2_racesWhy_7 10 rfl rfl)
theorem dX2_racesWhy_173 : decode cX2_racesWhy 173 = .ok (.aload_n 0, 1) := dk_42 (dk_at dksX2_racesWhy_7 11 rfl rfl)
theorem dX2_racesWhy_174 : decode cX2_racesWhy 174 = .ok (.getfield 38, 3) := dk_180 0 38 (dk_at dksX2_racesWhy_7 12 rfl rfl)
theorem dX2_racesWhy_177 : decode cX2_racesWhy 177 = .ok (.iload 7, 2) := dk_21 7 (dk_at dksX2_racesWhy_7 15 rfl rfl)
theorem dX2_racesWhy_179 : decode cX2_racesWhy 179 = .ok (.iaload, 1) := dk_46 (dk_at dksX2_racesWhy_7 17 rfl rfl)
theorem dX2_racesWhy_180 : decode cX2_racesWhy 180 = .ok (.ifCond .ne 7, 3) := dk_154 0 7 (dk_at dksX2_racesWhy_7 18 rfl rfl)
theorem dX2_racesWhy_183 : decode cX2_racesWhy 183 = .ok (.iconst 1, 1) := dk_4 (dk_at dksX2_racesWhy_7 21 rfl rfl)
theorem dX2_racesWhy_184 : decode cX2_racesWhy 184 = .ok (.goto 4, 3) := dk_167 0 4 (dk_at dksX2_racesWhy_8 0 rfl rfl)
theorem dX2_racesWhy_187 : decode cX2_racesWhy 187 = .ok (.iconst 0, 1) := dk_3 (dk_at dksX2_racesWhy_8 3 rfl rfl)
theorem dX2_racesWhy_188 : decode cX2_racesWhy 188 = .ok (.iadd, 1) := dk_96 (dk_at dksX2_racesWhy_8 4 rfl rfl)
theorem dX2_racesWhy_189 : decode cX2_racesWhy 189 = .ok (.iastore, 1) := dk_79 (dk_at dksX2_racesWhy_8 5 rfl rfl)
theorem dX2_racesWhy_190 : decode cX2_racesWhy 190 = .ok (.aload_n 0, 1) := dk_42 (dk_at dksX2_racesWhy_8 6 rfl rfl)
theorem dX2_racesWhy_191 : decode cX2_racesWhy 191 = .ok (.aload_n 0, 1) := dk_42 (dk_at dksX2_racesWhy_8 7 rfl rfl)
theorem dX2_racesWhy_192 : decode cX2_racesWhy 192 = .ok (.getfield 35, 3) := dk_180 0 35 (dk_at dksX2_racesWhy_8 8 rfl rfl)
theorem dX2_racesWhy_195 : decode cX2_racesWhy 195 = .ok (.iload 7, 2) := dk_21 7 (dk_at dksX2_racesWhy_8 11 rfl rfl)
theorem dX2_racesWhy_197 : decode cX2_racesWhy 197 = .ok (.iaload, 1) := dk_46 (dk_at dksX2_racesWhy_8 13 rfl rfl)
theorem dX2_racesWhy_198 : decode cX2_racesWhy 198 = .ok (.aload_n 0, 1) := dk_42 (dk_at dksX2_racesWhy_8 14 rfl rfl)
theorem dX2_racesWhy_199 : decode cX2_racesWhy 199 = .ok (.getfield 412, 3) := dk_180 1 156 (dk_at dksX2_racesWhy_8 15 rfl rfl)
theorem dX2_racesWhy_202 : decode cX2_racesWhy 202 = .ok (.if_icmp .ge 13, 3) := dk_162 0 13 (dk_at dksX2_racesWhy_8 18 rfl rfl)
theorem dX2_racesWhy_205 : decode cX2_racesWhy 205 = .ok (.aload_n 0, 1) := dk_42 (dk_at dksX2_racesWhy_8 21 rfl rfl)
theorem dX2_racesWhy_206 : decode cX2_racesWhy 206 = .ok (.getfield 35, 3) := dk_180 0 35 (dk_at dksX2_racesWhy_9 0 rfl rfl)
theorem dX2_racesWhy_209 : decode cX2_racesWhy 209 = .ok (.iload 7, 2) := dk_21 7 (dk_at dksX2_racesWhy_9 3 rfl rfl)
theorem dX2_racesWhy_211 : decode cX2_racesWhy 211 = .ok (.iaload, 1) := dk_46 (dk_at dksX2_racesWhy_9 5 rfl rfl)
theorem dX2_racesWhy_212 : decode cX2_racesWhy 212 = .ok (.goto 7, 3) := dk_167 0 7 (dk_at dksX2_racesWhy_9 6 rfl rfl)
theorem dX2_racesWhy_215 : decode cX2_racesWhy 215 = .ok (.aload_n 0, 1) := dk_42 (dk_at dksX2_racesWhy_9 9 rfl rfl)
theorem dX2_racesWhy_216 : decode cX2_racesWhy 216 = .ok (.getfield 412, 3) := dk_180 1 156 (dk_at dksX2_racesWhy_9 10 rfl rfl)
theorem dX2_racesWhy_219 : decode cX2_racesWhy 219 = .ok (.putfield 412, 3) := dk_181 1 156 (dk_at dksX2_racesWhy_9 13 rfl rfl)
theorem dX2_racesWhy_222 : decode cX2_racesWhy 222 = .ok (.iinc 7 1, 3) := dk_132 7 1 (dk_at dksX2_racesWhy_9 16 rfl rfl)
theorem dX2_racesWhy_225 : decode cX2_racesWhy 225 = .ok (.goto (-72), 3) := dk_167 255 184 (dk_at dksX2_racesWhy_9 19 rfl rfl)
theorem dX2_racesWhy_228 : decode cX2_racesWhy 228 = .ok (.iinc 6 1, 3) := dk_132 6 1 (dk_at dksX2_racesWhy_10 0 rfl rfl)
theorem dX2_racesWhy_231 : decode cX2_racesWhy 231 = .ok (.goto (-165), 3) := dk_167 255 91 (dk_at dksX2_racesWhy_10 3 rfl rfl)
theorem dX2_racesWhy_234 : decode cX2_racesWhy 234 = .ok (.aload_n 0, 1) := dk_42 (dk_at dksX2_racesWhy_10 6 rfl rfl)
theorem dX2_racesWhy_235 : decode cX2_racesWhy 235 = .ok (.invokevirtual 306, 3) := dk_182 1 50 (dk_at dksX2_racesWhy_10 7 rfl rfl)
theorem dX2_racesWhy_238 : decode cX2_racesWhy 238 = .ok (.iconst 0, 1) := dk_3 (dk_at dksX2_racesWhy_10 10 rfl rfl)
theorem dX2_racesWhy_239 : decode cX2_racesWhy 239 = .ok (.ireturn, 1) := dk_172 (dk_at dksX2_racesWhy_10 11 rfl rfl)
abbrev cX2_record : ByteArray := prog_15_method_114_code
def yX2_record : MethodName := ⟨RX2, "record", "(II)I"⟩
def dkwX2_record_1 : List UInt8 := [182, 0, 166, 167, 0, 7, 42, 180, 1, 156, 172]
abbrev dktX2_record_1 : List UInt8 := dkwX2_record_1 ++ []
def dkwX2_record_0 : List UInt8 := [42, 182, 0, 163, 42, 42, 180, 0, 176, 27, 28, 4, 182, 1, 160, 62, 29, 153, 0, 11, 42, 29]
abbrev dktX2_record_0 : List UInt8 := dkwX2_record_0 ++ dktX2_record_1
theorem dksX2_record_0 : cX2_record.data.toList.drop 0 = dktX2_record_0 := by decide +kernel
theorem dksX2_record_1 : cX2_record.data.toList.drop 22 = dktX2_record_1 := dk_seg dksX2_record_0 22 rfl rfl
theorem dX2_record_0 : decode cX2_record 0 = .ok (.aload_n 0, 1) := dk_42 (dk_at dksX2_record_0 0 rfl rfl)
theorem dX2_record_1 : decode cX2_record 1 = .ok (.invokevirtual 163, 3) := dk_182 0 163 (dk_at dksX2_record_0 1 rfl rfl)
theorem dX2_record_4 : decode cX2_record 4 = .ok (.aload_n 0, 1) := dk_42 (dk_at dksX2_record_0 4 rfl rfl)
theorem dX2_record_5 : decode cX2_record 5 = .ok (.aload_n 0, 1) := dk_42 (dk_at dksX2_record_0 5 rfl rfl)
theorem dX2_record_6 : decode cX2_record 6 = .ok (.getfield 176, 3) := dk_180 0 176 (dk_at dksX2_record_0 6 rfl rfl)
theorem dX2_record_9 : decode cX2_record 9 = .ok (.iload_n 1, 1) := dk_27 (dk_at dksX2_record_0 9 rfl rfl)
theorem dX2_record_10 : decode cX2_record 10 = .ok (.iload_n 2, 1) := dk_28 (dk_at dksX2_record_0 10 rfl rfl)
theorem dX2_record_11 : decode cX2_record 11 = .ok (.iconst 1, 1) := dk_4 (dk_at dksX2_record_0 11 rfl rfl)
theorem dX2_record_12 : decode cX2_record 12 = .ok (.invokevirtual 416, 3) := dk_182 1 160 (dk_at dksX2_record_0 12 rfl rfl)
theorem dX2_record_15 : decode cX2_record 15 = .ok (.istore_n 3, 1) := dk_62 (dk_at dksX2_record_0 15 rfl rfl)
theorem dX2_record_16 : decode cX2_record 16 = .ok (.iload_n 3, 1) := dk_29 (dk_at dksX2_record_0 16 rfl rfl)
theorem dX2_record_17 : decode cX2_record 17 = .ok (.ifCond .eq 11, 3) := dk_153 0 11 (dk_at dksX2_record_0 17 rfl rfl)
theorem dX2_record_20 : decode cX2_record 20 = .ok (.aload_n 0, 1) := dk_42 (dk_at dksX2_record_0 20 rfl rfl)
theorem dX2_record_21 : decode cX2_record 21 = .ok (.iload_n 3, 1) := dk_29 (dk_at dksX2_record_0 21 rfl rfl)
theorem dX2_record_22 : decode cX2_record 22 = .ok (.invokevirtual 166, 3) := dk_182 0 166 (dk_at dksX2_record_1 0 rfl rfl)
theorem dX2_record_25 : decode cX2_record 25 = .ok (.goto 7, 3) := dk_167 0 7 (dk_at dksX2_record_1 3 rfl rfl)
theorem dX2_record_28 : decode cX2_record 28 = .ok (.aload_n 0, 1) := dk_42 (dk_at dksX2_record_1 6 rfl rfl)
theorem dX2_record_29 : decode cX2_record 29 = .ok (.getfield 412, 3) := dk_180 1 156 (dk_at dksX2_record_1 7 rfl rfl)
theorem dX2_record_32 : decode cX2_record 32 = .ok (.ireturn, 1) := dk_172 (dk_at dksX2_record_1 10 rfl rfl)
abbrev cX2_weir : ByteArray := prog_15_method_116_code
def yX2_weir : MethodName := ⟨RX2, "weir", "(IZZZ)I"⟩
def dkwX2_weir_2 : List UInt8 := [42, 21, 5, 181, 0, 56, 16, 156, 172]
abbrev dktX2_weir_2 : List UInt8 := dkwX2_weir_2 ++ []
def dkwX2_weir_1 : List UInt8 := [154, 0, 24, 21, 4, 153, 0, 12, 27, 29, 28, 184, 1, 164, 167, 0, 9, 27, 28, 29, 184, 1, 164, 172]
abbrev dktX2_weir_1 : List UInt8 := dkwX2_weir_1 ++ dktX2_weir_2
def dkwX2_weir_0 : List UInt8 := [42, 182, 0, 163, 42, 42, 180, 0, 176, 27, 3, 16, 9, 184, 0, 144, 182, 1, 108, 54, 5, 21, 5]
abbrev dktX2_weir_0 : List UInt8 := dkwX2_weir_0 ++ dktX2_weir_1
theorem dksX2_weir_0 : cX2_weir.data.toList.drop 0 = dktX2_weir_0 := by decide +kernel
theorem dksX2_weir_1 : cX2_weir.data.toList.drop 23 = dktX2_weir_1 := dk_seg dksX2_weir_0 23 rfl rfl
theorem dksX2_weir_2 : cX2_weir.data.toList.drop 47 = dktX2_weir_2 := dk_seg dksX2_weir_1 24 rfl rfl
theorem dX2_weir_0 : decode cX2_weir 0 = .ok (.aload_n 0, 1) := dk_42 (dk_at dksX2_weir_0 0 rfl rfl)
theorem dX2_weir_1 : decode cX2_weir 1 = .ok (.invokevirtual 163, 3) := dk_182 0 163 (dk_at dksX2_weir_0 1 rfl rfl)
theorem dX2_weir_4 : decode cX2_weir 4 = .ok (.aload_n 0, 1) := dk_42 (dk_at dksX2_weir_0 4 rfl rfl)
theorem dX2_weir_5 : decode cX2_weir 5 = .ok (.aload_n 0, 1) := dk_42 (dk_at dksX2_weir_0 5 rfl rfl)
theorem dX2_weir_6 : decode cX2_weir 6 = .ok (.getfield 176, 3) := dk_180 0 176 (dk_at dksX2_weir_0 6 rfl rfl)
theorem dX2_weir_9 : decode cX2_weir 9 = .ok (.iload_n 1, 1) := dk_27 (dk_at dksX2_weir_0 9 rfl rfl)
theorem dX2_weir_10 : decode cX2_weir 10 = .ok (.iconst 0, 1) := dk_3 (dk_at dksX2_weir_0 10 rfl rfl)
theorem dX2_weir_11 : decode cX2_weir 11 = .ok (.bipush 9, 2) := dk_16 9 (dk_at dksX2_weir_0 11 rfl rfl)
theorem dX2_weir_13 : decode cX2_weir 13 = .ok (.invokestatic 144, 3) := dk_184 0 144 (dk_at dksX2_weir_0 13 rfl rfl)
theorem dX2_weir_16 : decode cX2_weir 16 = .ok (.invokevirtual 364, 3) := dk_182 1 108 (dk_at dksX2_weir_0 16 rfl rfl)
theorem dX2_weir_19 : decode cX2_weir 19 = .ok (.istore 5, 2) := dk_54 5 (dk_at dksX2_weir_0 19 rfl rfl)
theorem dX2_weir_21 : decode cX2_weir 21 = .ok (.iload 5, 2) := dk_21 5 (dk_at dksX2_weir_0 21 rfl rfl)
theorem dX2_weir_23 : decode cX2_weir 23 = .ok (.ifCond .ne 24, 3) := dk_154 0 24 (dk_at dksX2_weir_1 0 rfl rfl)
theorem dX2_weir_26 : decode cX2_weir 26 = .ok (.iload 4, 2) := dk_21 4 (dk_at dksX2_weir_1 3 rfl rfl)
theorem dX2_weir_28 : decode cX2_weir 28 = .ok (.ifCond .eq 12, 3) := dk_153 0 12 (dk_at dksX2_weir_1 5 rfl rfl)
theorem dX2_weir_31 : decode cX2_weir 31 = .ok (.iload_n 1, 1) := dk_27 (dk_at dksX2_weir_1 8 rfl rfl)
theorem dX2_weir_32 : decode cX2_weir 32 = .ok (.iload_n 3, 1) := dk_29 (dk_at dksX2_weir_1 9 rfl rfl)
theorem dX2_weir_33 : decode cX2_weir 33 = .ok (.iload_n 2, 1) := dk_28 (dk_at dksX2_weir_1 10 rfl rfl)
theorem dX2_weir_34 : decode cX2_weir 34 = .ok (.invokestatic 420, 3) := dk_184 1 164 (dk_at dksX2_weir_1 11 rfl rfl)
theorem dX2_weir_37 : decode cX2_weir 37 = .ok (.goto 9, 3) := dk_167 0 9 (dk_at dksX2_weir_1 14 rfl rfl)
theorem dX2_weir_40 : decode cX2_weir 40 = .ok (.iload_n 1, 1) := dk_27 (dk_at dksX2_weir_1 17 rfl rfl)
theorem dX2_weir_41 : decode cX2_weir 41 = .ok (.iload_n 2, 1) := dk_28 (dk_at dksX2_weir_1 18 rfl rfl)
theorem dX2_weir_42 : decode cX2_weir 42 = .ok (.iload_n 3, 1) := dk_29 (dk_at dksX2_weir_1 19 rfl rfl)
theorem dX2_weir_43 : decode cX2_weir 43 = .ok (.invokestatic 420, 3) := dk_184 1 164 (dk_at dksX2_weir_1 20 rfl rfl)
theorem dX2_weir_46 : decode cX2_weir 46 = .ok (.ireturn, 1) := dk_172 (dk_at dksX2_weir_1 23 rfl rfl)
theorem dX2_weir_47 : decode cX2_weir 47 = .ok (.aload_n 0, 1) := dk_42 (dk_at dksX2_weir_2 0 rfl rfl)
theorem dX2_weir_48 : decode cX2_weir 48 = .ok (.iload 5, 2) := dk_21 5 (dk_at dksX2_weir_2 1 rfl rfl)
theorem dX2_weir_50 : decode cX2_weir 50 = .ok (.putfield 56, 3) := dk_181 0 56 (dk_at dksX2_weir_2 3 rfl rfl)
theorem dX2_weir_53 : decode cX2_weir 53 = .ok (.bipush (-100), 2) := dk_16 156 (dk_at dksX2_weir_2 6 rfl rfl)
theorem dX2_weir_55 : decode cX2_weir 55 = .ok (.ireturn, 1) := dk_172 (dk_at dksX2_weir_2 8 rfl rfl)
abbrev cX2_weirOf : ByteArray := prog_15_method_115_code
def yX2_weirOf : MethodName := ⟨RX2, "weirOf", "(IZZ)I"⟩
def dkwX2_weirOf_1 : List UInt8 := [167, 0, 4, 6, 172]
abbrev dktX2_weirOf_1 : List UInt8 := dkwX2_weirOf_1 ++ []
def dkwX2_weirOf_0 : List UInt8 := [27, 153, 0, 16, 28, 153, 0, 8, 26, 116, 167, 0, 16, 8, 167, 0, 12, 28, 153, 0, 7, 4]
abbrev dktX2_weirOf_0 : List UInt8 := dkwX2_weirOf_0 ++ dktX2_weirOf_1
theorem dksX2_weirOf_0 : cX2_weirOf.data.toList.drop 0 = dktX2_weirOf_0 := by decide +kernel
theorem dksX2_weirOf_1 : cX2_weirOf.data.toList.drop 22 = dktX2_weirOf_1 := dk_seg dksX2_weirOf_0 22 rfl rfl
theorem dX2_weirOf_0 : decode cX2_weirOf 0 = .ok (.iload_n 1, 1) := dk_27 (dk_at dksX2_weirOf_0 0 rfl rfl)
theorem dX2_weirOf_1 : decode cX2_weirOf 1 = .ok (.ifCond .eq 16, 3) := dk_153 0 16 (dk_at dksX2_weirOf_0 1 rfl rfl)
theorem dX2_weirOf_4 : decode cX2_weirOf 4 = .ok (.iload_n 2, 1) := dk_28 (dk_at dksX2_weirOf_0 4 rfl rfl)
theorem dX2_weirOf_5 : decode cX2_weirOf 5 = .ok (.ifCond .eq 8, 3) := dk_153 0 8 (dk_at dksX2_weirOf_0 5 rfl rfl)
theorem dX2_weirOf_8 : decode cX2_weirOf 8 = .ok (.iload_n 0, 1) := dk_26 (dk_at dksX2_weirOf_0 8 rfl rfl)
theorem dX2_weirOf_9 : decode cX2_weirOf 9 = .ok (.ineg, 1) := dk_116 (dk_at dksX2_weirOf_0 9 rfl rfl)
theorem dX2_weirOf_10 : decode cX2_weirOf 10 = .ok (.goto 16, 3) := dk_167 0 16 (dk_at dksX2_weirOf_0 10 rfl rfl)
theorem dX2_weirOf_13 : decode cX2_weirOf 13 = .ok (.iconst 5, 1) := dk_8 (dk_at dksX2_weirOf_0 13 rfl rfl)
theorem dX2_weirOf_14 : decode cX2_weirOf 14 = .ok (.goto 12, 3) := dk_167 0 12 (dk_at dksX2_weirOf_0 14 rfl rfl)
theorem dX2_weirOf_17 : decode cX2_weirOf 17 = .ok (.iload_n 2, 1) := dk_28 (dk_at dksX2_weirOf_0 17 rfl rfl)
theorem dX2_weirOf_18 : decode cX2_weirOf 18 = .ok (.ifCond .eq 7, 3) := dk_153 0 7 (dk_at dksX2_weirOf_0 18 rfl rfl)
theorem dX2_weirOf_21 : decode cX2_weirOf 21 = .ok (.iconst 1, 1) := dk_4 (dk_at dksX2_weirOf_0 21 rfl rfl)
theorem dX2_weirOf_22 : decode cX2_weirOf 22 = .ok (.goto 4, 3) := dk_167 0 4 (dk_at dksX2_weirOf_1 0 rfl rfl)
theorem dX2_weirOf_25 : decode cX2_weirOf 25 = .ok (.iconst 3, 1) := dk_6 (dk_at dksX2_weirOf_1 3 rfl rfl)
theorem dX2_weirOf_26 : decode cX2_weirOf 26 = .ok (.ireturn, 1) := dk_172 (dk_at dksX2_weirOf_1 4 rfl rfl)
abbrev cX2_rests : ByteArray := prog_15_method_119_code
def yX2_rests : MethodName := ⟨RX2, "rests", "(I)I"⟩
def dkwX2_rests_1 : List UInt8 := [42, 28, 182, 0, 166, 167, 0, 8, 42, 27, 182, 1, 175, 172]
abbrev dktX2_rests_1 : List UInt8 := dkwX2_rests_1 ++ []
def dkwX2_rests_0 : List UInt8 := [42, 182, 0, 163, 42, 42, 180, 0, 176, 27, 3, 16, 9, 184, 0, 144, 182, 1, 108, 61, 28, 153, 0, 11]
abbrev dktX2_rests_0 : List UInt8 := dkwX2_rests_0 ++ dktX2_rests_1
theorem dksX2_rests_0 : cX2_rests.data.toList.drop 0 = dktX2_rests_0 := by decide +kernel
theorem dksX2_rests_1 : cX2_rests.data.toList.drop 24 = dktX2_rests_1 := dk_seg dksX2_rests_0 24 rfl rfl
theorem dX2_rests_0 : decode cX2_rests 0 = .ok (.aload_n 0, 1) := dk_42 (dk_at dksX2_rests_0 0 rfl rfl)
theorem dX2_rests_1 : decode cX2_rests 1 = .ok (.invokevirtual 163, 3) := dk_182 0 163 (dk_at dksX2_rests_0 1 rfl rfl)
theorem dX2_rests_4 : decode cX2_rests 4 = .ok (.aload_n 0, 1) := dk_42 (dk_at dksX2_rests_0 4 rfl rfl)
theorem dX2_rests_5 : decode cX2_rests 5 = .ok (.aload_n 0, 1) := dk_42 (dk_at dksX2_rests_0 5 rfl rfl)
theorem dX2_rests_6 : decode cX2_rests 6 = .ok (.getfield 176, 3) := dk_180 0 176 (dk_at dksX2_rests_0 6 rfl rfl)
theorem dX2_rests_9 : decode cX2_rests 9 = .ok (.iload_n 1, 1) := dk_27 (dk_at dksX2_rests_0 9 rfl rfl)
theorem dX2_rests_10 : decode cX2_rests 10 = .ok (.iconst 0, 1) := dk_3 (dk_at dksX2_rests_0 10 rfl rfl)
theorem dX2_rests_11 : decode cX2_rests 11 = .ok (.bipush 9, 2) := dk_16 9 (dk_at dksX2_rests_0 11 rfl rfl)
theorem dX2_rests_13 : decode cX2_rests 13 = .ok (.invokestatic 144, 3) := dk_184 0 144 (dk_at dksX2_rests_0 13 rfl rfl)
theorem dX2_rests_16 : decode cX2_rests 16 = .ok (.invokevirtual 364, 3) := dk_182 1 108 (dk_at dksX2_rests_0 16 rfl rfl)
theorem dX2_rests_19 : decode cX2_rests 19 = .ok (.istore_n 2, 1) := dk_61 (dk_at dksX2_rests_0 19 rfl rfl)
theorem dX2_rests_20 : decode cX2_rests 20 = .ok (.iload_n 2, 1) := dk_28 (dk_at dksX2_rests_0 20 rfl rfl)
theorem dX2_rests_21 : decode cX2_rests 21 = .ok (.ifCond .eq 11, 3) := dk_153 0 11 (dk_at dksX2_rests_0 21 rfl rfl)
theorem dX2_rests_24 : decode cX2_rests 24 = .ok (.aload_n 0, 1) := dk_42 (dk_at dksX2_rests_1 0 rfl rfl)
theorem dX2_rests_25 : decode cX2_rests 25 = .ok (.iload_n 2, 1) := dk_28 (dk_at dksX2_rests_1 1 rfl rfl)
theorem dX2_rests_26 : decode cX2_rests 26 = .ok (.invokevirtual 166, 3) := dk_182 0 166 (dk_at dksX2_rests_1 2 rfl rfl)
theorem dX2_rests_29 : decode cX2_rests 29 = .ok (.goto 8, 3) := dk_167 0 8 (dk_at dksX2_rests_1 5 rfl rfl)
theorem dX2_rests_32 : decode cX2_rests 32 = .ok (.aload_n 0, 1) := dk_42 (dk_at dksX2_rests_1 8 rfl rfl)
theorem dX2_rests_33 : decode cX2_rests 33 = .ok (.iload_n 1, 1) := dk_27 (dk_at dksX2_rests_1 9 rfl rfl)
theorem dX2_rests_34 : decode cX2_rests 34 = .ok (.invokevirtual 431, 3) := dk_182 1 175 (dk_at dksX2_rests_1 10 rfl rfl)
theorem dX2_rests_37 : decode cX2_rests 37 = .ok (.ireturn, 1) := dk_172 (dk_at dksX2_rests_1 13 rfl rfl)
abbrev cX2_seekRests : ByteArray := prog_15_method_118_code
def yX2_seekRests : MethodName := ⟨RX2, "seekRests", "(I)I"⟩
def dkwX2_seekRests_3 : List UInt8 := [132, 3, 1, 167, 255, 195, 28, 172]
abbrev dktX2_seekRests_3 : List UInt8 := dkwX2_seekRests_3 ++ []
def dkwX2_seekRests_2 : List UInt8 := [167, 0, 24, 28, 154, 0, 17, 42, 16, 10, 29, 5, 108, 104, 29, 5, 112, 96, 181, 1, 168, 132, 2, 1]
abbrev dktX2_seekRests_2 : List UInt8 := dkwX2_seekRests_2 ++ dktX2_seekRests_3
def dkwX2_seekRests_1 : List UInt8 := [167, 0, 4, 3, 29, 5, 112, 4, 160, 0, 7, 4, 167, 0, 4, 3, 184, 1, 171, 154, 0, 6]
abbrev dktX2_seekRests_1 : List UInt8 := dkwX2_seekRests_1 ++ dktX2_seekRests_2
def dkwX2_seekRests_0 : List UInt8 := [3, 61, 42, 16, 254, 181, 1, 168, 3, 62, 29, 7, 162, 0, 62, 27, 29, 4, 164, 0, 7, 4]
abbrev dktX2_seekRests_0 : List UInt8 := dkwX2_seekRests_0 ++ dktX2_seekRests_1
theorem dksX2_seekRests_0 : cX2_seekRests.data.toList.drop 0 = dktX2_seekRests_0 := by decide +kernel
theorem dksX2_seekRests_1 : cX2_seekRests.data.toList.drop 22 = dktX2_seekRests_1 := dk_seg dksX2_seekRests_0 22 rfl rfl
theorem dksX2_seekRests_2 : cX2_seekRests.data.toList.drop 44 = dktX2_seekRests_2 := dk_seg dksX2_seekRests_1 22 rfl rfl
theorem dksX2_seekRests_3 : cX2_seekRests.data.toList.drop 68 = dktX2_seekRests_3 := dk_seg dksX2_seekRests_2 24 rfl rfl
theorem dX2_seekRests_0 : decode cX2_seekRests 0 = .ok (.iconst 0, 1) := dk_3 (dk_at dksX2_seekRests_0 0 rfl rfl)
theorem dX2_seekRests_1 : decode cX2_seekRests 1 = .ok (.istore_n 2, 1) := dk_61 (dk_at dksX2_seekRests_0 1 rfl rfl)
theorem dX2_seekRests_2 : decode cX2_seekRests 2 = .ok (.aload_n 0, 1) := dk_42 (dk_at dksX2_seekRests_0 2 rfl rfl)
theorem dX2_seekRests_3 : decode cX2_seekRests 3 = .ok (.bipush (-2), 2) := dk_16 254 (dk_at dksX2_seekRests_0 3 rfl rfl)
theorem dX2_seekRests_5 : decode cX2_seekRests 5 = .ok (.putfield 424, 3) := dk_181 1 168 (dk_at dksX2_seekRests_0 5 rfl rfl)
theorem dX2_seekRests_8 : decode cX2_seekRests 8 = .ok (.iconst 0, 1) := dk_3 (dk_at dksX2_seekRests_0 8 rfl rfl)
theorem dX2_seekRests_9 : decode cX2_seekRests 9 = .ok (.istore_n 3, 1) := dk_62 (dk_at dksX2_seekRests_0 9 rfl rfl)
theorem dX2_seekRests_10 : decode cX2_seekRests 10 = .ok (.iload_n 3, 1) := dk_29 (dk_at dksX2_seekRests_0 10 rfl rfl)
theorem dX2_seekRests_11 : decode cX2_seekRests 11 = .ok (.iconst 4, 1) := dk_7 (dk_at dksX2_seekRests_0 11 rfl rfl)
theorem dX2_seekRests_12 : decode cX2_seekRests 12 = .ok (.if_icmp .ge 62, 3) := dk_162 0 62 (dk_at dksX2_seekRests_0 12 rfl rfl)
theorem dX2_seekRests_15 : decode cX2_seekRests 15 = .ok (.iload_n 1, 1) := dk_27 (dk_at dksX2_seekRests_0 15 rfl rfl)
theorem dX2_seekRests_16 : decode cX2_seekRests 16 = .ok (.iload_n 3, 1) := dk_29 (dk_at dksX2_seekRests_0 16 rfl rfl)
theorem dX2_seekRests_17 : decode cX2_seekRests 17 = .ok (.iconst 1, 1) := dk_4 (dk_at dksX2_seekRests_0 17 rfl rfl)
theorem dX2_seekRests_18 : decode cX2_seekRests 18 = .ok (.if_icmp .le 7, 3) := dk_164 0 7 (dk_at dksX2_seekRests_0 18 rfl rfl)
theorem dX2_seekRests_21 : decode cX2_seekRests 21 = .ok (.iconst 1, 1) := dk_4 (dk_at dksX2_seekRests_0 21 rfl rfl)
theorem dX2_seekRests_22 : decode cX2_seekRests 22 = .ok (.goto 4, 3) := dk_167 0 4 (dk_at dksX2_seekRests_1 0 rfl rfl)
theorem dX2_seekRests_25 : decode cX2_seekRests 25 = .ok (.iconst 0, 1) := dk_3 (dk_at dksX2_seekRests_1 3 rfl rfl)
theorem dX2_seekRests_26 : decode cX2_seekRests 26 = .ok (.iload_n 3, 1) := dk_29 (dk_at dksX2_seekRests_1 4 rfl rfl)
theorem dX2_seekRests_27 : decode cX2_seekRests 27 = .ok (.iconst 2, 1) := dk_5 (dk_at dksX2_seekRests_1 5 rfl rfl)
theorem dX2_seekRests_28 : decode cX2_seekRests 28 = .ok (.irem, 1) := dk_112 (dk_at dksX2_seekRests_1 6 rfl rfl)
theorem dX2_seekRests_29 : decode cX2_seekRests 29 = .ok (.iconst 1, 1) := dk_4 (dk_at dksX2_seekRests_1 7 rfl rfl)
theorem dX2_seekRests_30 : decode cX2_seekRests 30 = .ok (.if_icmp .ne 7, 3) := dk_160 0 7 (dk_at dksX2_seekRests_1 8 rfl rfl)
theorem dX2_seekRests_33 : decode cX2_seekRests 33 = .ok (.iconst 1, 1) := dk_4 (dk_at dksX2_seekRests_1 11 rfl rfl)
theorem dX2_seekRests_34 : decode cX2_seekRests 34 = .ok (.goto 4, 3) := dk_167 0 4 (dk_at dksX2_seekRests_1 12 rfl rfl)
theorem dX2_seekRests_37 : decode cX2_seekRests 37 = .ok (.iconst 0, 1) := dk_3 (dk_at dksX2_seekRests_1 15 rfl rfl)
theorem dX2_seekRests_38 : decode cX2_seekRests 38 = .ok (.invokestatic 427, 3) := dk_184 1 171 (dk_at dksX2_seekRests_1 16 rfl rfl)
theorem dX2_seekRests_41 : decode cX2_seekRests 41 = .ok (.ifCond .ne 6, 3) := dk_154 0 6 (dk_at dksX2_seekRests_1 19 rfl rfl)
theorem dX2_seekRests_44 : decode cX2_seekRests 44 = .ok (.goto 24, 3) := dk_167 0 24 (dk_at dksX2_seekRests_2 0 rfl rfl)
theorem dX2_seekRests_47 : decode cX2_seekRests 47 = .ok (.iload_n 2, 1) := dk_28 (dk_at dksX2_seekRests_2 3 rfl rfl)
theorem dX2_seekRests_48 : decode cX2_seekRests 48 = .ok (.ifCond .ne 17, 3) := dk_154 0 17 (dk_at dksX2_seekRests_2 4 rfl rfl)
theorem dX2_seekRests_51 : decode cX2_seekRests 51 = .ok (.aload_n 0, 1) := dk_42 (dk_at dksX2_seekRests_2 7 rfl rfl)
theorem dX2_seekRests_52 : decode cX2_seekRests 52 = .ok (.bipush 10, 2) := dk_16 10 (dk_at dksX2_seekRests_2 8 rfl rfl)
theorem dX2_seekRests_54 : decode cX2_seekRests 54 = .ok (.iload_n 3, 1) := dk_29 (dk_at dksX2_seekRests_2 10 rfl rfl)
theorem dX2_seekRests_55 : decode cX2_seekRests 55 = .ok (.iconst 2, 1) := dk_5 (dk_at dksX2_seekRests_2 11 rfl rfl)
theorem dX2_seekRests_56 : decode cX2_seekRests 56 = .ok (.idiv, 1) := dk_108 (dk_at dksX2_seekRests_2 12 rfl rfl)
theorem dX2_seekRests_57 : decode cX2_seekRests 57 = .ok (.imul, 1) := dk_104 (dk_at dksX2_seekRests_2 13 rfl rfl)
theorem dX2_seekRests_58 : decode cX2_seekRests 58 = .ok (.iload_n 3, 1) := dk_29 (dk_at dksX2_seekRests_2 14 rfl rfl)
theorem dX2_seekRests_59 : decode cX2_seekRests 59 = .ok (.iconst 2, 1) := dk_5 (dk_at dksX2_seekRests_2 15 rfl rfl)
theorem dX2_seekRests_60 : decode cX2_seekRests 60 = .ok (.irem, 1) := dk_112 (dk_at dksX2_seekRests_2 16 rfl rfl)
theorem dX2_seekRests_61 : decode cX2_seekRests 61 = .ok (.iadd, 1) := dk_96 (dk_at dksX2_seekRests_2 17 rfl rfl)
theorem dX2_seekRests_62 : decode cX2_seekRests 62 = .ok (.putfield 424, 3) := dk_181 1 168 (dk_at dksX2_seekRests_2 18 rfl rfl)
theorem dX2_seekRests_65 : decode cX2_seekRests 65 = .ok (.iinc 2 1, 3) := dk_132 2 1 (dk_at dksX2_seekRests_2 21 rfl rfl)
theorem dX2_seekRests_68 : decode cX2_seekRests 68 = .ok (.iinc 3 1, 3) := dk_132 3 1 (dk_at dksX2_seekRests_3 0 rfl rfl)
theorem dX2_seekRests_71 : decode cX2_seekRests 71 = .ok (.goto (-61), 3) := dk_167 255 195 (dk_at dksX2_seekRests_3 3 rfl rfl)
theorem dX2_seekRests_74 : decode cX2_seekRests 74 = .ok (.iload_n 2, 1) := dk_28 (dk_at dksX2_seekRests_3 6 rfl rfl)
theorem dX2_seekRests_75 : decode cX2_seekRests 75 = .ok (.ireturn, 1) := dk_172 (dk_at dksX2_seekRests_3 7 rfl rfl)
abbrev cX2_isRest : ByteArray := prog_15_method_117_code
def yX2_isRest : MethodName := ⟨RX2, "isRest", "(IZZ)Z"⟩
def dkwX2_isRest_2 : List UInt8 := [167, 0, 4, 3, 172]
abbrev dktX2_isRest_2 : List UInt8 := dkwX2_isRest_2 ++ []
def dkwX2_isRest_1 : List UInt8 := [28, 154, 0, 7, 4, 167, 0, 4, 3, 27, 184, 1, 164, 26, 28, 27, 184, 1, 164, 163, 0, 7, 4]
abbrev dktX2_isRest_1 : List UInt8 := dkwX2_isRest_1 ++ dktX2_isRest_2
def dkwX2_isRest_0 : List UInt8 := [26, 27, 154, 0, 7, 4, 167, 0, 4, 3, 28, 184, 1, 164, 26, 27, 28, 184, 1, 164, 163, 0, 30, 26]
abbrev dktX2_isRest_0 : List UInt8 := dkwX2_isRest_0 ++ dktX2_isRest_1
theorem dksX2_isRest_0 : cX2_isRest.data.toList.drop 0 = dktX2_isRest_0 := by decide +kernel
theorem dksX2_isRest_1 : cX2_isRest.data.toList.drop 24 = dktX2_isRest_1 := dk_seg dksX2_isRest_0 24 rfl rfl
theorem dksX2_isRest_2 : cX2_isRest.data.toList.drop 47 = dktX2_isRest_2 := dk_seg dksX2_isRest_1 23 rfl rfl
theorem dX2_isRest_0 : decode cX2_isRest 0 = .ok (.iload_n 0, 1) := dk_26 (dk_at dksX2_isRest_0 0 rfl rfl)
theorem dX2_isRest_1 : decode cX2_isRest 1 = .ok (.iload_n 1, 1) := dk_27 (dk_at dksX2_isRest_0 1 rfl rfl)
theorem dX2_isRest_2 : decode cX2_isRest 2 = .ok (.ifCond .ne 7, 3) := dk_154 0 7 (dk_at dksX2_isRest_0 2 rfl rfl)
theorem dX2_isRest_5 : decode cX2_isRest 5 = .ok (.iconst 1, 1) := dk_4 (dk_at dksX2_isRest_0 5 rfl rfl)
theorem dX2_isRest_6 : decode cX2_isRest 6 = .ok (.goto 4, 3) := dk_167 0 4 (dk_at dksX2_isRest_0 6 rfl rfl)
theorem dX2_isRest_9 : decode cX2_isRest 9 = .ok (.iconst 0, 1) := dk_3 (dk_at dksX2_isRest_0 9 rfl rfl)
theorem dX2_isRest_10 : decode cX2_isRest 10 = .ok (.iload_n 2, 1) := dk_28 (dk_at dksX2_isRest_0 10 rfl rfl)
theorem dX2_isRest_11 : decode cX2_isRest 11 = .ok (.invokestatic 420, 3) := dk_184 1 164 (dk_at dksX2_isRest_0 11 rfl rfl)
theorem dX2_isRest_14 : decode cX2_isRest 14 = .ok (.iload_n 0, 1) := dk_26 (dk_at dksX2_isRest_0 14 rfl rfl)
theorem dX2_isRest_15 : decode cX2_isRest 15 = .ok (.iload_n 1, 1) := dk_27 (dk_at dksX2_isRest_0 15 rfl rfl)
theorem dX2_isRest_16 : decode cX2_isRest 16 = .ok (.iload_n 2, 1) := dk_28 (dk_at dksX2_isRest_0 16 rfl rfl)
theorem dX2_isRest_17 : decode cX2_isRest 17 = .ok (.invokestatic 420, 3) := dk_184 1 164 (dk_at dksX2_isRest_0 17 rfl rfl)
theorem dX2_isRest_20 : decode cX2_isRest 20 = .ok (.if_icmp .gt 30, 3) := dk_163 0 30 (dk_at dksX2_isRest_0 20 rfl rfl)
theorem dX2_isRest_23 : decode cX2_isRest 23 = .ok (.iload_n 0, 1) := dk_26 (dk_at dksX2_isRest_0 23 rfl rfl)
theorem dX2_isRest_24 : decode cX2_isRest 24 = .ok (.iload_n 2, 1) := dk_28 (dk_at dksX2_isRest_1 0 rfl rfl)
theorem dX2_isRest_25 : decode cX2_isRest 25 = .ok (.ifCond .ne 7, 3) := dk_154 0 7 (dk_at dksX2_isRest_1 1 rfl rfl)
theorem dX2_isRest_28 : decode cX2_isRest 28 = .ok (.iconst 1, 1) := dk_4 (dk_at dksX2_isRest_1 4 rfl rfl)
theorem dX2_isRest_29 : decode cX2_isRest 29 = .ok (.goto 4, 3) := dk_167 0 4 (dk_at dksX2_isRest_1 5 rfl rfl)
theorem dX2_isRest_32 : decode cX2_isRest 32 = .ok (.iconst 0, 1) := dk_3 (dk_at dksX2_isRest_1 8 rfl rfl)
theorem dX2_isRest_33 : decode cX2_isRest 33 = .ok (.iload_n 1, 1) := dk_27 (dk_at dksX2_isRest_1 9 rfl rfl)
theorem dX2_isRest_34 : decode cX2_isRest 34 = .ok (.invokestatic 420, 3) := dk_184 1 164 (dk_at dksX2_isRest_1 10 rfl rfl)
theorem dX2_isRest_37 : decode cX2_isRest 37 = .ok (.iload_n 0, 1) := dk_26 (dk_at dksX2_isRest_1 13 rfl rfl)
theorem dX2_isRest_38 : decode cX2_isRest 38 = .ok (.iload_n 2, 1) := dk_28 (dk_at dksX2_isRest_1 14 rfl rfl)
theorem dX2_isRest_39 : decode cX2_isRest 39 = .ok (.iload_n 1, 1) := dk_27 (dk_at dksX2_isRest_1 15 rfl rfl)
theorem dX2_isRest_40 : decode cX2_isRest 40 = .ok (.invokestatic 420, 3) := dk_184 1 164 (dk_at dksX2_isRest_1 16 rfl rfl)
theorem dX2_isRest_43 : decode cX2_isRest 43 = .ok (.if_icmp .gt 7, 3) := dk_163 0 7 (dk_at dksX2_isRest_1 19 rfl rfl)
theorem dX2_isRest_46 : decode cX2_isRest 46 = .ok (.iconst 1, 1) := dk_4 (dk_at dksX2_isRest_1 22 rfl rfl)
theorem dX2_isRest_47 : decode cX2_isRest 47 = .ok (.goto 4, 3) := dk_167 0 4 (dk_at dksX2_isRest_2 0 rfl rfl)
theorem dX2_isRest_50 : decode cX2_isRest 50 = .ok (.iconst 0, 1) := dk_3 (dk_at dksX2_isRest_2 3 rfl rfl)
theorem dX2_isRest_51 : decode cX2_isRest 51 = .ok (.ireturn, 1) := dk_172 (dk_at dksX2_isRest_2 4 rfl rfl)
abbrev cX2_rest : ByteArray := prog_15_method_120_code
def yX2_rest : MethodName := ⟨RX2, "rest", "(I)I"⟩
def dkwX2_rest_1 : List UInt8 := [42, 28, 182, 0, 166, 172, 42, 27, 182, 1, 175, 87, 42, 180, 1, 168, 172]
abbrev dktX2_rest_1 : List UInt8 := dkwX2_rest_1 ++ []
def dkwX2_rest_0 : List UInt8 := [42, 182, 0, 163, 42, 42, 180, 0, 176, 27, 3, 16, 9, 184, 0, 144, 182, 1, 108, 61, 28, 153, 0, 9]
abbrev dktX2_rest_0 : List UInt8 := dkwX2_rest_0 ++ dktX2_rest_1
theorem dksX2_rest_0 : cX2_rest.data.toList.drop 0 = dktX2_rest_0 := by decide +kernel
theorem dksX2_rest_1 : cX2_rest.data.toList.drop 24 = dktX2_rest_1 := dk_seg dksX2_rest_0 24 rfl rfl
theorem dX2_rest_0 : decode cX2_rest 0 = .ok (.aload_n 0, 1) := dk_42 (dk_at dksX2_rest_0 0 rfl rfl)
theorem dX2_rest_1 : decode cX2_rest 1 = .ok (.invokevirtual 163, 3) := dk_182 0 163 (dk_at dksX2_rest_0 1 rfl rfl)
theorem dX2_rest_4 : decode cX2_rest 4 = .ok (.aload_n 0, 1) := dk_42 (dk_at dksX2_rest_0 4 rfl rfl)
theorem dX2_rest_5 : decode cX2_rest 5 = .ok (.aload_n 0, 1) := dk_42 (dk_at dksX2_rest_0 5 rfl rfl)
theorem dX2_rest_6 : decode cX2_rest 6 = .ok (.getfield 176, 3) := dk_180 0 176 (dk_at dksX2_rest_0 6 rfl rfl)
theorem dX2_rest_9 : decode cX2_rest 9 = .ok (.iload_n 1, 1) := dk_27 (dk_at dksX2_rest_0 9 rfl rfl)
theorem dX2_rest_10 : decode cX2_rest 10 = .ok (.iconst 0, 1) := dk_3 (dk_at dksX2_rest_0 10 rfl rfl)
theorem dX2_rest_11 : decode cX2_rest 11 = .ok (.bipush 9, 2) := dk_16 9 (dk_at dksX2_rest_0 11 rfl rfl)
theorem dX2_rest_13 : decode cX2_rest 13 = .ok (.invokestatic 144, 3) := dk_184 0 144 (dk_at dksX2_rest_0 13 rfl rfl)
theorem dX2_rest_16 : decode cX2_rest 16 = .ok (.invokevirtual 364, 3) := dk_182 1 108 (dk_at dksX2_rest_0 16 rfl rfl)
theorem dX2_rest_19 : decode cX2_rest 19 = .ok (.istore_n 2, 1) := dk_61 (dk_at dksX2_rest_0 19 rfl rfl)
theorem dX2_rest_20 : decode cX2_rest 20 = .ok (.iload_n 2, 1) := dk_28 (dk_at dksX2_rest_0 20 rfl rfl)
theorem dX2_rest_21 : decode cX2_rest 21 = .ok (.ifCond .eq 9, 3) := dk_153 0 9 (dk_at dksX2_rest_0 21 rfl rfl)
theorem dX2_rest_24 : decode cX2_rest 24 = .ok (.aload_n 0, 1) := dk_42 (dk_at dksX2_rest_1 0 rfl rfl)
theorem dX2_rest_25 : decode cX2_rest 25 = .ok (.iload_n 2, 1) := dk_28 (dk_at dksX2_rest_1 1 rfl rfl)
theorem dX2_rest_26 : decode cX2_rest 26 = .ok (.invokevirtual 166, 3) := dk_182 0 166 (dk_at dksX2_rest_1 2 rfl rfl)
theorem dX2_rest_29 : decode cX2_rest 29 = .ok (.ireturn, 1) := dk_172 (dk_at dksX2_rest_1 5 rfl rfl)
theorem dX2_rest_30 : decode cX2_rest 30 = .ok (.aload_n 0, 1) := dk_42 (dk_at dksX2_rest_1 6 rfl rfl)
theorem dX2_rest_31 : decode cX2_rest 31 = .ok (.iload_n 1, 1) := dk_27 (dk_at dksX2_rest_1 7 rfl rfl)
theorem dX2_rest_32 : decode cX2_rest 32 = .ok (.invokevirtual 431, 3) := dk_182 1 175 (dk_at dksX2_rest_1 8 rfl rfl)
theorem dX2_rest_35 : decode cX2_rest 35 = .ok (.pop, 1) := dk_87 (dk_at dksX2_rest_1 11 rfl rfl)
theorem dX2_rest_36 : decode cX2_rest 36 = .ok (.aload_n 0, 1) := dk_42 (dk_at dksX2_rest_1 12 rfl rfl)
theorem dX2_rest_37 : decode cX2_rest 37 = .ok (.getfield 424, 3) := dk_180 1 168 (dk_at dksX2_rest_1 13 rfl rfl)
theorem dX2_rest_40 : decode cX2_rest 40 = .ok (.ireturn, 1) := dk_172 (dk_at dksX2_rest_1 16 rfl rfl)
abbrev cX2_board : ByteArray := prog_15_method_122_code
def yX2_board : MethodName := ⟨RX2, "board", "(II)I"⟩
def dkwX2_board_4 : List UInt8 := [184, 1, 16, 172]
abbrev dktX2_board_4 : List UInt8 := dkwX2_board_4 ++ []
def dkwX2_board_3 : List UInt8 := [42, 182, 1, 178, 42, 180, 0, 26, 27, 28, 4, 96, 79, 42, 42, 180, 0, 26, 28, 182, 1, 12]
abbrev dktX2_board_3 : List UInt8 := dkwX2_board_3 ++ dktX2_board_4
def dkwX2_board_2 : List UInt8 := [180, 0, 26, 28, 182, 1, 12, 184, 1, 16, 42, 28, 182, 1, 28, 161, 0, 9, 42, 6, 182, 0, 166, 172]
abbrev dktX2_board_2 : List UInt8 := dkwX2_board_2 ++ dktX2_board_3
def dkwX2_board_1 : List UInt8 := [182, 0, 166, 172, 42, 180, 0, 26, 27, 46, 28, 4, 96, 160, 0, 9, 42, 8, 182, 0, 166, 172, 42, 42]
abbrev dktX2_board_1 : List UInt8 := dkwX2_board_1 ++ dktX2_board_2
def dkwX2_board_0 : List UInt8 := [42, 182, 0, 163, 42, 27, 182, 1, 56, 153, 0, 11, 42, 28, 182, 1, 53, 154, 0, 9, 42, 4]
abbrev dktX2_board_0 : List UInt8 := dkwX2_board_0 ++ dktX2_board_1
theorem dksX2_board_0 : cX2_board.data.toList.drop 0 = dktX2_board_0 := by decide +kernel
theorem dksX2_board_1 : cX2_board.data.toList.drop 22 = dktX2_board_1 := dk_seg dksX2_board_0 22 rfl rfl
theorem dksX2_board_2 : cX2_board.data.toList.drop 46 = dktX2_board_2 := dk_seg dksX2_board_1 24 rfl rfl
theorem dksX2_board_3 : cX2_board.data.toList.drop 70 = dktX2_board_3 := dk_seg dksX2_board_2 24 rfl rfl
theorem dksX2_board_4 : cX2_board.data.toList.drop 92 = dktX2_board_4 := dk_seg dksX2_board_3 22 rfl rfl
theorem dX2_board_0 : decode cX2_board 0 = .ok (.aload_n 0, 1) := dk_42 (dk_at dksX2_board_0 0 rfl rfl)
theorem dX2_board_1 : decode cX2_board 1 = .ok (.invokevirtual 163, 3) := dk_182 0 163 (dk_at dksX2_board_0 1 rfl rfl)
theorem dX2_board_4 : decode cX2_board 4 = .ok (.aload_n 0, 1) := dk_42 (dk_at dksX2_board_0 4 rfl rfl)
theorem dX2_board_5 : decode cX2_board 5 = .ok (.iload_n 1, 1) := dk_27 (dk_at dksX2_board_0 5 rfl rfl)
theorem dX2_board_6 : decode cX2_board 6 = .ok (.invokevirtual 312, 3) := dk_182 1 56 (dk_at dksX2_board_0 6 rfl rfl)
theorem dX2_board_9 : decode cX2_board 9 = .ok (.ifCond .eq 11, 3) := dk_153 0 11 (dk_at dksX2_board_0 9 rfl rfl)
theorem dX2_board_12 : decode cX2_board 12 = .ok (.aload_n 0, 1) := dk_42 (dk_at dksX2_board_0 12 rfl rfl)
theorem dX2_board_13 : decode cX2_board 13 = .ok (.iload_n 2, 1) := dk_28 (dk_at dksX2_board_0 13 rfl rfl)
theorem dX2_board_14 : decode cX2_board 14 = .ok (.invokevirtual 309, 3) := dk_182 1 53 (dk_at dksX2_board_0 14 rfl rfl)
theorem dX2_board_17 : decode cX2_board 17 = .ok (.ifCond .ne 9, 3) := dk_154 0 9 (dk_at dksX2_board_0 17 rfl rfl)
theorem dX2_board_20 : decode cX2_board 20 = .ok (.aload_n 0, 1) := dk_42 (dk_at dksX2_board_0 20 rfl rfl)
theorem dX2_board_21 : decode cX2_board 21 = .ok (.iconst 1, 1) := dk_4 (dk_at dksX2_board_0 21 rfl rfl)
theorem dX2_board_22 : decode cX2_board 22 = .ok (.invokevirtual 166, 3) := dk_182 0 166 (dk_at dksX2_board_1 0 rfl rfl)
theorem dX2_board_25 : decode cX2_board 25 = .ok (.ireturn, 1) := dk_172 (dk_at dksX2_board_1 3 rfl rfl)
theorem dX2_board_26 : decode cX2_board 26 = .ok (.aload_n 0, 1) := dk_42 (dk_at dksX2_board_1 4 rfl rfl)
theorem dX2_board_27 : decode cX2_board 27 = .ok (.getfield 26, 3) := dk_180 0 26 (dk_at dksX2_board_1 5 rfl rfl)
theorem dX2_board_30 : decode cX2_board 30 = .ok (.iload_n 1, 1) := dk_27 (dk_at dksX2_board_1 8 rfl rfl)
theorem dX2_board_31 : decode cX2_board 31 = .ok (.iaload, 1) := dk_46 (dk_at dksX2_board_1 9 rfl rfl)
theorem dX2_board_32 : decode cX2_board 32 = .ok (.iload_n 2, 1) := dk_28 (dk_at dksX2_board_1 10 rfl rfl)
theorem dX2_board_33 : decode cX2_board 33 = .ok (.iconst 1, 1) := dk_4 (dk_at dksX2_board_1 11 rfl rfl)
theorem dX2_board_34 : decode cX2_board 34 = .ok (.iadd, 1) := dk_96 (dk_at dksX2_board_1 12 rfl rfl)
theorem dX2_board_35 : decode cX2_board 35 = .ok (.if_icmp .ne 9, 3) := dk_160 0 9 (dk_at dksX2_board_1 13 rfl rfl)
theorem dX2_board_38 : decode cX2_board 38 = .ok (.aload_n 0, 1) := dk_42 (dk_at dksX2_board_1 16 rfl rfl)
theorem dX2_board_39 : decode cX2_board 39 = .ok (.iconst 5, 1) := dk_8 (dk_at dksX2_board_1 17 rfl rfl)
theorem dX2_board_40 : decode cX2_board 40 = .ok (.invokevirtual 166, 3) := dk_182 0 166 (dk_at dksX2_board_1 18 rfl rfl)
theorem dX2_board_43 : decode cX2_board 43 = .ok (.ireturn, 1) := dk_172 (dk_at dksX2_board_1 21 rfl rfl)
theorem dX2_board_44 : decode cX2_board 44 = .ok (.aload_n 0, 1) := dk_42 (dk_at dksX2_board_1 22 rfl rfl)
theorem dX2_board_45 : decode cX2_board 45 = .ok (.aload_n 0, 1) := dk_42 (dk_at dksX2_board_1 23 rfl rfl)
theorem dX2_board_46 : decode cX2_board 46 = .ok (.getfield 26, 3) := dk_180 0 26 (dk_at dksX2_board_2 0 rfl rfl)
theorem dX2_board_49 : decode cX2_board 49 = .ok (.iload_n 2, 1) := dk_28 (dk_at dksX2_board_2 3 rfl rfl)
theorem dX2_board_50 : decode cX2_board 50 = .ok (.invokevirtual 268, 3) := dk_182 1 12 (dk_at dksX2_board_2 4 rfl rfl)
theorem dX2_board_53 : decode cX2_board 53 = .ok (.invokestatic 272, 3) := dk_184 1 16 (dk_at dksX2_board_2 7 rfl rfl)
theorem dX2_board_56 : decode cX2_board 56 = .ok (.aload_n 0, 1) := dk_42 (dk_at dksX2_board_2 10 rfl rfl)
theorem dX2_board_57 : decode cX2_board 57 = .ok (.iload_n 2, 1) := dk_28 (dk_at dksX2_board_2 11 rfl rfl)
theorem dX2_board_58 : decode cX2_board 58 = .ok (.invokevirtual 284, 3) := dk_182 1 28 (dk_at dksX2_board_2 12 rfl rfl)
theorem dX2_board_61 : decode cX2_board 61 = .ok (.if_icmp .lt 9, 3) := dk_161 0 9 (dk_at dksX2_board_2 15 rfl rfl)
theorem dX2_board_64 : decode cX2_board 64 = .ok (.aload_n 0, 1) := dk_42 (dk_at dksX2_board_2 18 rfl rfl)
theorem dX2_board_65 : decode cX2_board 65 = .ok (.iconst 3, 1) := dk_6 (dk_at dksX2_board_2 19 rfl rfl)
theorem dX2_board_66 : decode cX2_board 66 = .ok (.invokevirtual 166, 3) := dk_182 0 166 (dk_at dksX2_board_2 20 rfl rfl)
theorem dX2_board_69 : decode cX2_board 69 = .ok (.ireturn, 1) := dk_172 (dk_at dksX2_board_2 23 rfl rfl)
theorem dX2_board_70 : decode cX2_board 70 = .ok (.aload_n 0, 1) := dk_42 (dk_at dksX2_board_3 0 rfl rfl)
theorem dX2_board_71 : decode cX2_board 71 = .ok (.invokevirtual 434, 3) := dk_182 1 178 (dk_at dksX2_board_3 1 rfl rfl)
theorem dX2_board_74 : decode cX2_board 74 = .ok (.aload_n 0, 1) := dk_42 (dk_at dksX2_board_3 4 rfl rfl)
theorem dX2_board_75 : decode cX2_board 75 = .ok (.getfield 26, 3) := dk_180 0 26 (dk_at dksX2_board_3 5 rfl rfl)
theorem dX2_board_78 : decode cX2_board 78 = .ok (.iload_n 1, 1) := dk_27 (dk_at dksX2_board_3 8 rfl rfl)
theorem dX2_board_79 : decode cX2_board 79 = .ok (.iload_n 2, 1) := dk_28 (dk_at dksX2_board_3 9 rfl rfl)
theorem dX2_board_80 : decode cX2_board 80 = .ok (.iconst 1, 1) := dk_4 (dk_at dksX2_board_3 10 rfl rfl)
theorem dX2_board_81 : decode cX2_board 81 = .ok (.iadd, 1) := dk_96 (dk_at dksX2_board_3 11 rfl rfl)
theorem dX2_board_82 : decode cX2_board 82 = .ok (.iastore, 1) := dk_79 (dk_at dksX2_board_3 12 rfl rfl)
theorem dX2_board_83 : decode cX2_board 83 = .ok (.aload_n 0, 1) := dk_42 (dk_at dksX2_board_3 13 rfl rfl)
theorem dX2_board_84 : decode cX2_board 84 = .ok (.aload_n 0, 1) := dk_42 (dk_at dksX2_board_3 14 rfl rfl)
theorem dX2_board_85 : decode cX2_board 85 = .ok (.getfield 26, 3) := dk_180 0 26 (dk_at dksX2_board_3 15 rfl rfl)
theorem dX2_board_88 : decode cX2_board 88 = .ok (.iload_n 2, 1) := dk_28 (dk_at dksX2_board_3 18 rfl rfl)
theorem dX2_board_89 : decode cX2_board 89 = .ok (.invokevirtual 268, 3) := dk_182 1 12 (dk_at dksX2_board_3 19 rfl rfl)
theorem dX2_board_92 : decode cX2_board 92 = .ok (.invokestatic 272, 3) := dk_184 1 16 (dk_at dksX2_board_4 0 rfl rfl)
theorem dX2_board_95 : decode cX2_board 95 = .ok (.ireturn, 1) := dk_172 (dk_at dksX2_board_4 3 rfl rfl)
abbrev cX2_note : ByteArray := prog_15_method_121_code
def yX2_note : MethodName := ⟨RX2, "note", "()V"⟩
def dkwX2_note_3 : List UInt8 := [42, 89, 180, 0, 179, 4, 96, 181, 0, 179, 177]
abbrev dktX2_note_3 : List UInt8 := dkwX2_note_3 ++ []
def dkwX2_note_2 : List UInt8 := [181, 0, 179, 42, 180, 0, 26, 3, 42, 180, 0, 29, 16, 8, 42, 180, 0, 179, 104, 16, 8, 184, 0, 172]
abbrev dktX2_note_2 : List UInt8 := dkwX2_note_2 ++ dktX2_note_3
def dkwX2_note_1 : List UInt8 := [180, 0, 29, 27, 16, 8, 96, 46, 79, 132, 1, 1, 167, 255, 232, 42, 89, 180, 0, 179, 4, 100]
abbrev dktX2_note_1 : List UInt8 := dkwX2_note_1 ++ dktX2_note_2
def dkwX2_note_0 : List UInt8 := [42, 180, 0, 179, 16, 16, 160, 0, 42, 3, 60, 27, 16, 120, 162, 0, 24, 42, 180, 0, 29, 27, 42]
abbrev dktX2_note_0 : List UInt8 := dkwX2_note_0 ++ dktX2_note_1
theorem dksX2_note_0 : cX2_note.data.toList.drop 0 = dktX2_note_0 := by decide +kernel
theorem dksX2_note_1 : cX2_note.data.toList.drop 23 = dktX2_note_1 := dk_seg dksX2_note_0 23 rfl rfl
theorem dksX2_note_2 : cX2_note.data.toList.drop 45 = dktX2_note_2 := dk_seg dksX2_note_1 22 rfl rfl
theorem dksX2_note_3 : cX2_note.data.toList.drop 69 = dktX2_note_3 := dk_seg dksX2_note_2 24 rfl rfl
theorem dX2_note_0 : decode cX2_note 0 = .ok (.aload_n 0, 1) := dk_42 (dk_at dksX2_note_0 0 rfl rfl)
theorem dX2_note_1 : decode cX2_note 1 = .ok (.getfield 179, 3) := dk_180 0 179 (dk_at dksX2_note_0 1 rfl rfl)
theorem dX2_note_4 : decode cX2_note 4 = .ok (.bipush 16, 2) := dk_16 16 (dk_at dksX2_note_0 4 rfl rfl)
theorem dX2_note_6 : decode cX2_note 6 = .ok (.if_icmp .ne 42, 3) := dk_160 0 42 (dk_at dksX2_note_0 6 rfl rfl)
theorem dX2_note_9 : decode cX2_note 9 = .ok (.iconst 0, 1) := dk_3 (dk_at dksX2_note_0 9 rfl rfl)
theorem dX2_note_10 : decode cX2_note 10 = .ok (.istore_n 1, 1) := dk_60 (dk_at dksX2_note_0 10 rfl rfl)
theorem dX2_note_11 : decode cX2_note 11 = .ok (.iload_n 1, 1) := dk_27 (dk_at dksX2_note_0 11 rfl rfl)
theorem dX2_note_12 : decode cX2_note 12 = .ok (.bipush 120, 2) := dk_16 120 (dk_at dksX2_note_0 12 rfl rfl)
theorem dX2_note_14 : decode cX2_note 14 = .ok (.if_icmp .ge 24, 3) := dk_162 0 24 (dk_at dksX2_note_0 14 rfl rfl)
theorem dX2_note_17 : decode cX2_note 17 = .ok (.aload_n 0, 1) := dk_42 (dk_at dksX2_note_0 17 rfl rfl)
theorem dX2_note_18 : decode cX2_note 18 = .ok (.getfield 29, 3) := dk_180 0 29 (dk_at dksX2_note_0 18 rfl rfl)
theorem dX2_note_21 : decode cX2_note 21 = .ok (.iload_n 1, 1) := dk_27 (dk_at dksX2_note_0 21 rfl rfl)
theorem dX2_note_22 : decode cX2_note 22 = .ok (.aload_n 0, 1) := dk_42 (dk_at dksX2_note_0 22 rfl rfl)
theorem dX2_note_23 : decode cX2_note 23 = .ok (.getfield 29, 3) := dk_180 0 29 (dk_at dksX2_note_1 0 rfl rfl)
theorem dX2_note_26 : decode cX2_note 26 = .ok (.iload_n 1, 1) := dk_27 (dk_at dksX2_note_1 3 rfl rfl)
theorem dX2_note_27 : decode cX2_note 27 = .ok (.bipush 8, 2) := dk_16 8 (dk_at dksX2_note_1 4 rfl rfl)
theorem dX2_note_29 : decode cX2_note 29 = .ok (.iadd, 1) := dk_96 (dk_at dksX2_note_1 6 rfl rfl)
theorem dX2_note_30 : decode cX2_note 30 = .ok (.iaload, 1) := dk_46 (dk_at dksX2_note_1 7 rfl rfl)
theorem dX2_note_31 : decode cX2_note 31 = .ok (.iastore, 1) := dk_79 (dk_at dksX2_note_1 8 rfl rfl)
theorem dX2_note_32 : decode cX2_note 32 = .ok (.iinc 1 1, 3) := dk_132 1 1 (dk_at dksX2_note_1 9 rfl rfl)
theorem dX2_note_35 : decode cX2_note 35 = .ok (.goto (-24), 3) := dk_167 255 232 (dk_at dksX2_note_1 12 rfl rfl)
theorem dX2_note_38 : decode cX2_note 38 = .ok (.aload_n 0, 1) := dk_42 (dk_at dksX2_note_1 15 rfl rfl)
theorem dX2_note_39 : decode cX2_note 39 = .ok (.dup, 1) := dk_89 (dk_at dksX2_note_1 16 rfl rfl)
theorem dX2_note_40 : decode cX2_note 40 = .ok (.getfield 179, 3) := dk_180 0 179 (dk_at dksX2_note_1 17 rfl rfl)
theorem dX2_note_43 : decode cX2_note 43 = .ok (.iconst 1, 1) := dk_4 (dk_at dksX2_note_1 20 rfl rfl)
theorem dX2_note_44 : decode cX2_note 44 = .ok (.isub, 1) := dk_100 (dk_at dksX2_note_1 21 rfl rfl)
theorem dX2_note_45 : decode cX2_note 45 = .ok (.putfield 179, 3) := dk_181 0 179 (dk_at dksX2_note_2 0 rfl rfl)
theorem dX2_note_48 : decode cX2_note 48 = .ok (.aload_n 0, 1) := dk_42 (dk_at dksX2_note_2 3 rfl rfl)
theorem dX2_note_49 : decode cX2_note 49 = .ok (.getfield 26, 3) := dk_180 0 26 (dk_at dksX2_note_2 4 rfl rfl)
theorem dX2_note_52 : decode cX2_note 52 = .ok (.iconst 0, 1) := dk_3 (dk_at dksX2_note_2 7 rfl rfl)
theorem dX2_note_53 : decode cX2_note 53 = .ok (.aload_n 0, 1) := dk_42 (dk_at dksX2_note_2 8 rfl rfl)
theorem dX2_note_54 : decode cX2_note 54 = .ok (.getfield 29, 3) := dk_180 0 29 (dk_at dksX2_note_2 9 rfl rfl)
theorem dX2_note_57 : decode cX2_note 57 = .ok (.bipush 8, 2) := dk_16 8 (dk_at dksX2_note_2 12 rfl rfl)
theorem dX2_note_59 : decode cX2_note 59 = .ok (.aload_n 0, 1) := dk_42 (dk_at dksX2_note_2 14 rfl rfl)
theorem dX2_note_60 : decode cX2_note 60 = .ok (.getfield 179, 3) := dk_180 0 179 (dk_at dksX2_note_2 15 rfl rfl)
theorem dX2_note_63 : decode cX2_note 63 = .ok (.imul, 1) := dk_104 (dk_at dksX2_note_2 18 rfl rfl)
theorem dX2_note_64 : decode cX2_note 64 = .ok (.bipush 8, 2) := dk_16 8 (dk_at dksX2_note_2 19 rfl rfl)
theorem dX2_note_66 : decode cX2_note 66 = .ok (.invokestatic 172, 3) := dk_184 0 172 (dk_at dksX2_note_2 21 rfl rfl)
theorem dX2_note_69 : decode cX2_note 69 = .ok (.aload_n 0, 1) := dk_42 (dk_at dksX2_note_3 0 rfl rfl)
theorem dX2_note_70 : decode cX2_note 70 = .ok (.dup, 1) := dk_89 (dk_at dksX2_note_3 1 rfl rfl)
theorem dX2_note_71 : decode cX2_note 71 = .ok (.getfield 179, 3) := dk_180 0 179 (dk_at dksX2_note_3 2 rfl rfl)
theorem dX2_note_74 : decode cX2_note 74 = .ok (.iconst 1, 1) := dk_4 (dk_at dksX2_note_3 5 rfl rfl)
theorem dX2_note_75 : decode cX2_note 75 = .ok (.iadd, 1) := dk_96 (dk_at dksX2_note_3 6 rfl rfl)
theorem dX2_note_76 : decode cX2_note 76 = .ok (.putfield 179, 3) := dk_181 0 179 (dk_at dksX2_note_3 7 rfl rfl)
theorem dX2_note_79 : decode cX2_note 79 = .ok (.return_, 1) := dk_177 (dk_at dksX2_note_3 10 rfl rfl)
abbrev cX2_ashore : ByteArray := prog_15_method_123_code
def yX2_ashore : MethodName := ⟨RX2, "ashore", "(I)Z"⟩
def dkwX2_ashore_1 : List UInt8 := [154, 0, 9, 42, 8, 182, 1, 181, 172, 42, 182, 1, 178, 42, 180, 0, 26, 27, 3, 79, 4, 172]
abbrev dktX2_ashore_1 : List UInt8 := dkwX2_ashore_1 ++ []
def dkwX2_ashore_0 : List UInt8 := [42, 182, 0, 163, 42, 27, 182, 1, 56, 154, 0, 9, 42, 4, 182, 1, 181, 172, 42, 180, 0, 26, 27, 46]
abbrev dktX2_ashore_0 : List UInt8 := dkwX2_ashore_0 ++ dktX2_ashore_1
theorem dksX2_ashore_0 : cX2_ashore.data.toList.drop 0 = dktX2_ashore_0 := by decide +kernel
theorem dksX2_ashore_1 : cX2_ashore.data.toList.drop 24 = dktX2_ashore_1 := dk_seg dksX2_ashore_0 24 rfl rfl
theorem dX2_ashore_0 : decode cX2_ashore 0 = .ok (.aload_n 0, 1) := dk_42 (dk_at dksX2_ashore_0 0 rfl rfl)
theorem dX2_ashore_1 : decode cX2_ashore 1 = .ok (.invokevirtual 163, 3) := dk_182 0 163 (dk_at dksX2_ashore_0 1 rfl rfl)
theorem dX2_ashore_4 : decode cX2_ashore 4 = .ok (.aload_n 0, 1) := dk_42 (dk_at dksX2_ashore_0 4 rfl rfl)
theorem dX2_ashore_5 : decode cX2_ashore 5 = .ok (.iload_n 1, 1) := dk_27 (dk_at dksX2_ashore_0 5 rfl rfl)
theorem dX2_ashore_6 : decode cX2_ashore 6 = .ok (.invokevirtual 312, 3) := dk_182 1 56 (dk_at dksX2_ashore_0 6 rfl rfl)
theorem dX2_ashore_9 : decode cX2_ashore 9 = .ok (.ifCond .ne 9, 3) := dk_154 0 9 (dk_at dksX2_ashore_0 9 rfl rfl)
theorem dX2_ashore_12 : decode cX2_ashore 12 = .ok (.aload_n 0, 1) := dk_42 (dk_at dksX2_ashore_0 12 rfl rfl)
theorem dX2_ashore_13 : decode cX2_ashore 13 = .ok (.iconst 1, 1) := dk_4 (dk_at dksX2_ashore_0 13 rfl rfl)
theorem dX2_ashore_14 : decode cX2_ashore 14 = .ok (.invokevirtual 437, 3) := dk_182 1 181 (dk_at dksX2_ashore_0 14 rfl rfl)
theorem dX2_ashore_17 : decode cX2_ashore 17 = .ok (.ireturn, 1) := dk_172 (dk_at dksX2_ashore_0 17 rfl rfl)
theorem dX2_ashore_18 : decode cX2_ashore 18 = .ok (.aload_n 0, 1) := dk_42 (dk_at dksX2_ashore_0 18 rfl rfl)
theorem dX2_ashore_19 : decode cX2_ashore 19 = .ok (.getfield 26, 3) := dk_180 0 26 (dk_at dksX2_ashore_0 19 rfl rfl)
theorem dX2_ashore_22 : decode cX2_ashore 22 = .ok (.iload_n 1, 1) := dk_27 (dk_at dksX2_ashore_0 22 rfl rfl)
theorem dX2_ashore_23 : decode cX2_ashore 23 = .ok (.iaload, 1) := dk_46 (dk_at dksX2_ashore_0 23 rfl rfl)
theorem dX2_ashore_24 : decode cX2_ashore 24 = .ok (.ifCond .ne 9, 3) := dk_154 0 9 (dk_at dksX2_ashore_1 0 rfl rfl)
theorem dX2_ashore_27 : decode cX2_ashore 27 = .ok (.aload_n 0, 1) := dk_42 (dk_at dksX2_ashore_1 3 rfl rfl)
theorem dX2_ashore_28 : decode cX2_ashore 28 = .ok (.iconst 5, 1) := dk_8 (dk_at dksX2_ashore_1 4 rfl rfl)
theorem dX2_ashore_29 : decode cX2_ashore 29 = .ok (.invokevirtual 437, 3) := dk_182 1 181 (dk_at dksX2_ashore_1 5 rfl rfl)
theorem dX2_ashore_32 : decode cX2_ashore 32 = .ok (.ireturn, 1) := dk_172 (dk_at dksX2_ashore_1 8 rfl rfl)
theorem dX2_ashore_33 : decode cX2_ashore 33 = .ok (.aload_n 0, 1) := dk_42 (dk_at dksX2_ashore_1 9 rfl rfl)
theorem dX2_ashore_34 : decode cX2_ashore 34 = .ok (.invokevirtual 434, 3) := dk_182 1 178 (dk_at dksX2_ashore_1 10 rfl rfl)
theorem dX2_ashore_37 : decode cX2_ashore 37 = .ok (.aload_n 0, 1) := dk_42 (dk_at dksX2_ashore_1 13 rfl rfl)
theorem dX2_ashore_38 : decode cX2_ashore 38 = .ok (.getfield 26, 3) := dk_180 0 26 (dk_at dksX2_ashore_1 14 rfl rfl)
theorem dX2_ashore_41 : decode cX2_ashore 41 = .ok (.iload_n 1, 1) := dk_27 (dk_at dksX2_ashore_1 17 rfl rfl)
theorem dX2_ashore_42 : decode cX2_ashore 42 = .ok (.iconst 0, 1) := dk_3 (dk_at dksX2_ashore_1 18 rfl rfl)
theorem dX2_ashore_43 : decode cX2_ashore 43 = .ok (.iastore, 1) := dk_79 (dk_at dksX2_ashore_1 19 rfl rfl)
theorem dX2_ashore_44 : decode cX2_ashore 44 = .ok (.iconst 1, 1) := dk_4 (dk_at dksX2_ashore_1 20 rfl rfl)
theorem dX2_ashore_45 : decode cX2_ashore 45 = .ok (.ireturn, 1) := dk_172 (dk_at dksX2_ashore_1 21 rfl rfl)
abbrev cX2_isNot : ByteArray := prog_15_method_5_code
def yX2_isNot : MethodName := ⟨RX2, "isNot", "(I)Z"⟩
def dkwX2_isNot_0 : List UInt8 := [42, 27, 181, 0, 56, 3, 172]
abbrev dktX2_isNot_0 : List UInt8 := dkwX2_isNot_0 ++ []
theorem dksX2_isNot_0 : cX2_isNot.data.toList.drop 0 = dktX2_isNot_0 := by decide +kernel
theorem dX2_isNot_0 : decode cX2_isNot 0 = .ok (.aload_n 0, 1) := dk_42 (dk_at dksX2_isNot_0 0 rfl rfl)
theorem dX2_isNot_1 : decode cX2_isNot 1 = .ok (.iload_n 1, 1) := dk_27 (dk_at dksX2_isNot_0 1 rfl rfl)
theorem dX2_isNot_2 : decode cX2_isNot 2 = .ok (.putfield 56, 3) := dk_181 0 56 (dk_at dksX2_isNot_0 2 rfl rfl)
theorem dX2_isNot_5 : decode cX2_isNot 5 = .ok (.iconst 0, 1) := dk_3 (dk_at dksX2_isNot_0 5 rfl rfl)
theorem dX2_isNot_6 : decode cX2_isNot 6 = .ok (.ireturn, 1) := dk_172 (dk_at dksX2_isNot_0 6 rfl rfl)
abbrev cX2_light : ByteArray := prog_15_method_124_code
def yX2_light : MethodName := ⟨RX2, "light", "(IZ)Z"⟩
def dkwX2_light_2 : List UInt8 := [16, 6, 92, 46, 4, 27, 120, 130, 79, 4, 172]
abbrev dktX2_light_2 : List UInt8 := dkwX2_light_2 ++ []
def dkwX2_light_1 : List UInt8 := [46, 27, 184, 1, 5, 28, 160, 0, 9, 42, 8, 182, 1, 181, 172, 42, 182, 1, 178, 42, 180, 0, 26]
abbrev dktX2_light_1 : List UInt8 := dkwX2_light_1 ++ dktX2_light_2
def dkwX2_light_0 : List UInt8 := [42, 182, 0, 163, 42, 27, 182, 1, 53, 154, 0, 9, 42, 4, 182, 1, 181, 172, 42, 180, 0, 26, 16, 6]
abbrev dktX2_light_0 : List UInt8 := dkwX2_light_0 ++ dktX2_light_1
theorem dksX2_light_0 : cX2_light.data.toList.drop 0 = dktX2_light_0 := by decide +kernel
theorem dksX2_light_1 : cX2_light.data.toList.drop 24 = dktX2_light_1 := dk_seg dksX2_light_0 24 rfl rfl
theorem dksX2_light_2 : cX2_light.data.toList.drop 47 = dktX2_light_2 := dk_seg dksX2_light_1 23 rfl rfl
theorem dX2_light_0 : decode cX2_light 0 = .ok (.aload_n 0, 1) := dk_42 (dk_at dksX2_light_0 0 rfl rfl)
theorem dX2_light_1 : decode cX2_light 1 = .ok (.invokevirtual 163, 3) := dk_182 0 163 (dk_at dksX2_light_0 1 rfl rfl)
theorem dX2_light_4 : decode cX2_light 4 = .ok (.aload_n 0, 1) := dk_42 (dk_at dksX2_light_0 4 rfl rfl)
theorem dX2_light_5 : decode cX2_light 5 = .ok (.iload_n 1, 1) := dk_27 (dk_at dksX2_light_0 5 rfl rfl)
theorem dX2_light_6 : decode cX2_light 6 = .ok (.invokevirtual 309, 3) := dk_182 1 53 (dk_at dksX2_light_0 6 rfl rfl)
theorem dX2_light_9 : decode cX2_light 9 = .ok (.ifCond .ne 9, 3) := dk_154 0 9 (dk_at dksX2_light_0 9 rfl rfl)
theorem dX2_light_12 : decode cX2_light 12 = .ok (.aload_n 0, 1) := dk_42 (dk_at dksX2_light_0 12 rfl rfl)
theorem dX2_light_13 : decode cX2_light 13 = .ok (.iconst 1, 1) := dk_4 (dk_at dksX2_light_0 13 rfl rfl)
theorem dX2_light_14 : decode cX2_light 14 = .ok (.invokevirtual 437, 3) := dk_182 1 181 (dk_at dksX2_light_0 14 rfl rfl)
theorem dX2_light_17 : decode cX2_light 17 = .ok (.ireturn, 1) := dk_172 (dk_at dksX2_light_0 17 rfl rfl)
theorem dX2_light_18 : decode cX2_light 18 = .ok (.aload_n 0, 1) := dk_42 (dk_at dksX2_light_0 18 rfl rfl)
theorem dX2_light_19 : decode cX2_light 19 = .ok (.getfield 26, 3) := dk_180 0 26 (dk_at dksX2_light_0 19 rfl rfl)
theorem dX2_light_22 : decode cX2_light 22 = .ok (.bipush 6, 2) := dk_16 6 (dk_at dksX2_light_0 22 rfl rfl)
theorem dX2_light_24 : decode cX2_light 24 = .ok (.iaload, 1) := dk_46 (dk_at dksX2_light_1 0 rfl rfl)
theorem dX2_light_25 : decode cX2_light 25 = .ok (.iload_n 1, 1) := dk_27 (dk_at dksX2_light_1 1 rfl rfl)
theorem dX2_light_26 : decode cX2_light 26 = .ok (.invokestatic 261, 3) := dk_184 1 5 (dk_at dksX2_light_1 2 rfl rfl)
theorem dX2_light_29 : decode cX2_light 29 = .ok (.iload_n 2, 1) := dk_28 (dk_at dksX2_light_1 5 rfl rfl)
theorem dX2_light_30 : decode cX2_light 30 = .ok (.if_icmp .ne 9, 3) := dk_160 0 9 (dk_at dksX2_light_1 6 rfl rfl)
theorem dX2_light_33 : decode cX2_light 33 = .ok (.aload_n 0, 1) := dk_42 (dk_at dksX2_light_1 9 rfl rfl)
theorem dX2_light_34 : decode cX2_light 34 = .ok (.iconst 5, 1) := dk_8 (dk_at dksX2_light_1 10 rfl rfl)
theorem dX2_light_35 : decode cX2_light 35 = .ok (.invokevirtual 437, 3) := dk_182 1 181 (dk_at dksX2_light_1 11 rfl rfl)
theorem dX2_light_38 : decode cX2_light 38 = .ok (.ireturn, 1) := dk_172 (dk_at dksX2_light_1 14 rfl rfl)
theorem dX2_light_39 : decode cX2_light 39 = .ok (.aload_n 0, 1) := dk_42 (dk_at dksX2_light_1 15 rfl rfl)
theorem dX2_light_40 : decode cX2_light 40 = .ok (.invokevirtual 434, 3) := dk_182 1 178 (dk_at dksX2_light_1 16 rfl rfl)
theorem dX2_light_43 : decode cX2_light 43 = .ok (.aload_n 0, 1) := dk_42 (dk_at dksX2_light_1 19 rfl rfl)
theorem dX2_light_44 : decode cX2_light 44 = .ok (.getfield 26, 3) := dk_180 0 26 (dk_at dksX2_light_1 20 rfl rfl)
theorem dX2_light_47 : decode cX2_light 47 = .ok (.bipush 6, 2) := dk_16 6 (dk_at dksX2_light_2 0 rfl rfl)
theorem dX2_light_49 : decode cX2_light 49 = .ok (.dup2, 1) := dk_92 (dk_at dksX2_light_2 2 rfl rfl)
theorem dX2_light_50 : decode cX2_light 50 = .ok (.iaload, 1) := dk_46 (dk_at dksX2_light_2 3 rfl rfl)
theorem dX2_light_51 : decode cX2_light 51 = .ok (.iconst 1, 1) := dk_4 (dk_at dksX2_light_2 4 rfl rfl)
theorem dX2_light_52 : decode cX2_light 52 = .ok (.iload_n 1, 1) := dk_27 (dk_at dksX2_light_2 5 rfl rfl)
theorem dX2_light_53 : decode cX2_light 53 = .ok (.ishl, 1) := dk_120 (dk_at dksX2_light_2 6 rfl rfl)
theorem dX2_light_54 : decode cX2_light 54 = .ok (.ixor, 1) := dk_130 (dk_at dksX2_light_2 7 rfl rfl)
theorem dX2_light_55 : decode cX2_light 55 = .ok (.iastore, 1) := dk_79 (dk_at dksX2_light_2 8 rfl rfl)
theorem dX2_light_56 : decode cX2_light 56 = .ok (.iconst 1, 1) := dk_4 (dk_at dksX2_light_2 9 rfl rfl)
theorem dX2_light_57 : decode cX2_light 57 = .ok (.ireturn, 1) := dk_172 (dk_at dksX2_light_2 10 rfl rfl)
abbrev cX2_cross : ByteArray := prog_15_method_125_code
def yX2_cross : MethodName := ⟨RX2, "cross", "(I)I"⟩
def dkwX2_cross_1 : List UInt8 := [180, 0, 26, 8, 92, 46, 4, 27, 120, 130, 79, 42, 180, 0, 26, 8, 46, 27, 122, 4, 126, 172]
abbrev dktX2_cross_1 : List UInt8 := dkwX2_cross_1 ++ []
def dkwX2_cross_0 : List UInt8 := [42, 182, 0, 163, 42, 27, 182, 1, 53, 154, 0, 9, 42, 4, 182, 0, 166, 172, 42, 182, 1, 178, 42]
abbrev dktX2_cross_0 : List UInt8 := dkwX2_cross_0 ++ dktX2_cross_1
theorem dksX2_cross_0 : cX2_cross.data.toList.drop 0 = dktX2_cross_0 := by decide +kernel
theorem dksX2_cross_1 : cX2_cross.data.toList.drop 23 = dktX2_cross_1 := dk_seg dksX2_cross_0 23 rfl rfl
theorem dX2_cross_0 : decode cX2_cross 0 = .ok (.aload_n 0, 1) := dk_42 (dk_at dksX2_cross_0 0 rfl rfl)
theorem dX2_cross_1 : decode cX2_cross 1 = .ok (.invokevirtual 163, 3) := dk_182 0 163 (dk_at dksX2_cross_0 1 rfl rfl)
theorem dX2_cross_4 : decode cX2_cross 4 = .ok (.aload_n 0, 1) := dk_42 (dk_at dksX2_cross_0 4 rfl rfl)
theorem dX2_cross_5 : decode cX2_cross 5 = .ok (.iload_n 1, 1) := dk_27 (dk_at dksX2_cross_0 5 rfl rfl)
theorem dX2_cross_6 : decode cX2_cross 6 = .ok (.invokevirtual 309, 3) := dk_182 1 53 (dk_at dksX2_cross_0 6 rfl rfl)
theorem dX2_cross_9 : decode cX2_cross 9 = .ok (.ifCond .ne 9, 3) := dk_154 0 9 (dk_at dksX2_cross_0 9 rfl rfl)
theorem dX2_cross_12 : decode cX2_cross 12 = .ok (.aload_n 0, 1) := dk_42 (dk_at dksX2_cross_0 12 rfl rfl)
theorem dX2_cross_13 : decode cX2_cross 13 = .ok (.iconst 1, 1) := dk_4 (dk_at dksX2_cross_0 13 rfl rfl)
theorem dX2_cross_14 : decode cX2_cross 14 = .ok (.invokevirtual 166, 3) := dk_182 0 166 (dk_at dksX2_cross_0 14 rfl rfl)
theorem dX2_cross_17 : decode cX2_cross 17 = .ok (.ireturn, 1) := dk_172 (dk_at dksX2_cross_0 17 rfl rfl)
theorem dX2_cross_18 : decode cX2_cross 18 = .ok (.aload_n 0, 1) := dk_42 (dk_at dksX2_cross_0 18 rfl rfl)
theorem dX2_cross_19 : decode cX2_cross 19 = .ok (.invokevirtual 434, 3) := dk_182 1 178 (dk_at dksX2_cross_0 19 rfl rfl)
theorem dX2_cross_22 : decode cX2_cross 22 = .ok (.aload_n 0, 1) := dk_42 (dk_at dksX2_cross_0 22 rfl rfl)
theorem dX2_cross_23 : decode cX2_cross 23 = .ok (.getfield 26, 3) := dk_180 0 26 (dk_at dksX2_cross_1 0 rfl rfl)
theorem dX2_cross_26 : decode cX2_cross 26 = .ok (.iconst 5, 1) := dk_8 (dk_at dksX2_cross_1 3 rfl rfl)
theorem dX2_cross_27 : decode cX2_cross 27 = .ok (.dup2, 1) := dk_92 (dk_at dksX2_cross_1 4 rfl rfl)
theorem dX2_cross_28 : decode cX2_cross 28 = .ok (.iaload, 1) := dk_46 (dk_at dksX2_cross_1 5 rfl rfl)
theorem dX2_cross_29 : decode cX2_cross 29 = .ok (.iconst 1, 1) := dk_4 (dk_at dksX2_cross_1 6 rfl rfl)
theorem dX2_cross_30 : decode cX2_cross 30 = .ok (.iload_n 1, 1) := dk_27 (dk_at dksX2_cross_1 7 rfl rfl)
theorem dX2_cross_31 : decode cX2_cross 31 = .ok (.ishl, 1) := dk_120 (dk_at dksX2_cross_1 8 rfl rfl)
theorem dX2_cross_32 : decode cX2_cross 32 = .ok (.ixor, 1) := dk_130 (dk_at dksX2_cross_1 9 rfl rfl)
theorem dX2_cross_33 : decode cX2_cross 33 = .ok (.iastore, 1) := dk_79 (dk_at dksX2_cross_1 10 rfl rfl)
theorem dX2_cross_34 : decode cX2_cross 34 = .ok (.aload_n 0, 1) := dk_42 (dk_at dksX2_cross_1 11 rfl rfl)
theorem dX2_cross_35 : decode cX2_cross 35 = .ok (.getfield 26, 3) := dk_180 0 26 (dk_at dksX2_cross_1 12 rfl rfl)
theorem dX2_cross_38 : decode cX2_cross 38 = .ok (.iconst 5, 1) := dk_8 (dk_at dksX2_cross_1 15 rfl rfl)
theorem dX2_cross_39 : decode cX2_cross 39 = .ok (.iaload, 1) := dk_46 (dk_at dksX2_cross_1 16 rfl rfl)
theorem dX2_cross_40 : decode cX2_cross 40 = .ok (.iload_n 1, 1) := dk_27 (dk_at dksX2_cross_1 17 rfl rfl)
theorem dX2_cross_41 : decode cX2_cross 41 = .ok (.ishr, 1) := dk_122 (dk_at dksX2_cross_1 18 rfl rfl)
theorem dX2_cross_42 : decode cX2_cross 42 = .ok (.iconst 1, 1) := dk_4 (dk_at dksX2_cross_1 19 rfl rfl)
theorem dX2_cross_43 : decode cX2_cross 43 = .ok (.iand, 1) := dk_126 (dk_at dksX2_cross_1 20 rfl rfl)
theorem dX2_cross_44 : decode cX2_cross 44 = .ok (.ireturn, 1) := dk_172 (dk_at dksX2_cross_1 21 rfl rfl)
abbrev cX2_raise : ByteArray := prog_15_method_126_code
def yX2_raise : MethodName := ⟨RX2, "raise", "(I)Z"⟩
def dkwX2_raise_2 : List UInt8 := [182, 1, 178, 42, 180, 0, 26, 16, 7, 27, 79, 4, 172]
abbrev dktX2_raise_2 : List UInt8 := dkwX2_raise_2 ++ []
def dkwX2_raise_1 : List UInt8 := [42, 28, 182, 1, 181, 172, 42, 180, 0, 26, 16, 7, 46, 27, 160, 0, 9, 42, 8, 182, 1, 181, 172, 42]
abbrev dktX2_raise_1 : List UInt8 := dkwX2_raise_1 ++ dktX2_raise_2
def dkwX2_raise_0 : List UInt8 := [42, 182, 0, 163, 42, 42, 180, 0, 176, 27, 4, 16, 20, 184, 0, 144, 182, 1, 108, 61, 28, 153, 0, 9]
abbrev dktX2_raise_0 : List UInt8 := dkwX2_raise_0 ++ dktX2_raise_1
theorem dksX2_raise_0 : cX2_raise.data.toList.drop 0 = dktX2_raise_0 := by decide +kernel
theorem dksX2_raise_1 : cX2_raise.data.toList.drop 24 = dktX2_raise_1 := dk_seg dksX2_raise_0 24 rfl rfl
theorem dksX2_raise_2 : cX2_raise.data.toList.drop 48 = dktX2_raise_2 := dk_seg dksX2_raise_1 24 rfl rfl
theorem dX2_raise_0 : decode cX2_raise 0 = .ok (.aload_n 0, 1) := dk_42 (dk_at dksX2_raise_0 0 rfl rfl)
theorem dX2_raise_1 : decode cX2_raise 1 = .ok (.invokevirtual 163, 3) := dk_182 0 163 (dk_at dksX2_raise_0 1 rfl rfl)
theorem dX2_raise_4 : decode cX2_raise 4 = .ok (.aload_n 0, 1) := dk_42 (dk_at dksX2_raise_0 4 rfl rfl)
theorem dX2_raise_5 : decode cX2_raise 5 = .ok (.aload_n 0, 1) := dk_42 (dk_at dksX2_raise_0 5 rfl rfl)
theorem dX2_raise_6 : decode cX2_raise 6 = .ok (.getfield 176, 3) := dk_180 0 176 (dk_at dksX2_raise_0 6 rfl rfl)
theorem dX2_raise_9 : decode cX2_raise 9 = .ok (.iload_n 1, 1) := dk_27 (dk_at dksX2_raise_0 9 rfl rfl)
theorem dX2_raise_10 : decode cX2_raise 10 = .ok (.iconst 1, 1) := dk_4 (dk_at dksX2_raise_0 10 rfl rfl)
theorem dX2_raise_11 : decode cX2_raise 11 = .ok (.bipush 20, 2) := dk_16 20 (dk_at dksX2_raise_0 11 rfl rfl)
theorem dX2_raise_13 : decode cX2_raise 13 = .ok (.invokestatic 144, 3) := dk_184 0 144 (dk_at dksX2_raise_0 13 rfl rfl)
theorem dX2_raise_16 : decode cX2_raise 16 = .ok (.invokevirtual 364, 3) := dk_182 1 108 (dk_at dksX2_raise_0 16 rfl rfl)
theorem dX2_raise_19 : decode cX2_raise 19 = .ok (.istore_n 2, 1) := dk_61 (dk_at dksX2_raise_0 19 rfl rfl)
theorem dX2_raise_20 : decode cX2_raise 20 = .ok (.iload_n 2, 1) := dk_28 (dk_at dksX2_raise_0 20 rfl rfl)
theorem dX2_raise_21 : decode cX2_raise 21 = .ok (.ifCond .eq 9, 3) := dk_153 0 9 (dk_at dksX2_raise_0 21 rfl rfl)
theorem dX2_raise_24 : decode cX2_raise 24 = .ok (.aload_n 0, 1) := dk_42 (dk_at dksX2_raise_1 0 rfl rfl)
theorem dX2_raise_25 : decode cX2_raise 25 = .ok (.iload_n 2, 1) := dk_28 (dk_at dksX2_raise_1 1 rfl rfl)
theorem dX2_raise_26 : decode cX2_raise 26 = .ok (.invokevirtual 437, 3) := dk_182 1 181 (dk_at dksX2_raise_1 2 rfl rfl)
theorem dX2_raise_29 : decode cX2_raise 29 = .ok (.ireturn, 1) := dk_172 (dk_at dksX2_raise_1 5 rfl rfl)
theorem dX2_raise_30 : decode cX2_raise 30 = .ok (.aload_n 0, 1) := dk_42 (dk_at dksX2_raise_1 6 rfl rfl)
theorem dX2_raise_31 : decode cX2_raise 31 = .ok (.getfield 26, 3) := dk_180 0 26 (dk_at dksX2_raise_1 7 rfl rfl)
theorem dX2_raise_34 : decode cX2_raise 34 = .ok (.bipush 7, 2) := dk_16 7 (dk_at dksX2_raise_1 10 rfl rfl)
theorem dX2_raise_36 : decode cX2_raise 36 = .ok (.iaload, 1) := dk_46 (dk_at dksX2_raise_1 12 rfl rfl)
theorem dX2_raise_37 : decode cX2_raise 37 = .ok (.iload_n 1, 1) := dk_27 (dk_at dksX2_raise_1 13 rfl rfl)
theorem dX2_raise_38 : decode cX2_raise 38 = .ok (.if_icmp .ne 9, 3) := dk_160 0 9 (dk_at dksX2_raise_1 14 rfl rfl)
theorem dX2_raise_41 : decode cX2_raise 41 = .ok (.aload_n 0, 1) := dk_42 (dk_at dksX2_raise_1 17 rfl rfl)
theorem dX2_raise_42 : decode cX2_raise 42 = .ok (.iconst 5, 1) := dk_8 (dk_at dksX2_raise_1 18 rfl rfl)
theorem dX2_raise_43 : decode cX2_raise 43 = .ok (.invokevirtual 437, 3) := dk_182 1 181 (dk_at dksX2_raise_1 19 rfl rfl)
theorem dX2_raise_46 : decode cX2_raise 46 = .ok (.ireturn, 1) := dk_172 (dk_at dksX2_raise_1 22 rfl rfl)
theorem dX2_raise_47 : decode cX2_raise 47 = .ok (.aload_n 0, 1) := dk_42 (dk_at dksX2_raise_1 23 rfl rfl)
theorem dX2_raise_48 : decode cX2_raise 48 = .ok (.invokevirtual 434, 3) := dk_182 1 178 (dk_at dksX2_raise_2 0 rfl rfl)
theorem dX2_raise_51 : decode cX2_raise 51 = .ok (.aload_n 0, 1) := dk_42 (dk_at dksX2_raise_2 3 rfl rfl)
theorem dX2_raise_52 : decode cX2_raise 52 = .ok (.getfield 26, 3) := dk_180 0 26 (dk_at dksX2_raise_2 4 rfl rfl)
theorem dX2_raise_55 : decode cX2_raise 55 = .ok (.bipush 7, 2) := dk_16 7 (dk_at dksX2_raise_2 7 rfl rfl)
theorem dX2_raise_57 : decode cX2_raise 57 = .ok (.iload_n 1, 1) := dk_27 (dk_at dksX2_raise_2 9 rfl rfl)
theorem dX2_raise_58 : decode cX2_raise 58 = .ok (.iastore, 1) := dk_79 (dk_at dksX2_raise_2 10 rfl rfl)
theorem dX2_raise_59 : decode cX2_raise 59 = .ok (.iconst 1, 1) := dk_4 (dk_at dksX2_raise_2 11 rfl rfl)
theorem dX2_raise_60 : decode cX2_raise 60 = .ok (.ireturn, 1) := dk_172 (dk_at dksX2_raise_2 12 rfl rfl)
abbrev cX2_undo : ByteArray := prog_15_method_127_code
def yX2_undo : MethodName := ⟨RX2, "undo", "()Z"⟩
def dkwX2_undo_2 : List UInt8 := [184, 0, 172, 4, 172]
abbrev dktX2_undo_2 : List UInt8 := dkwX2_undo_2 ++ []
def dkwX2_undo_1 : List UInt8 := [100, 181, 0, 179, 42, 180, 0, 29, 16, 8, 42, 180, 0, 179, 104, 42, 180, 0, 26, 3, 16, 8]
abbrev dktX2_undo_1 : List UInt8 := dkwX2_undo_1 ++ dktX2_undo_2
def dkwX2_undo_0 : List UInt8 := [42, 182, 0, 163, 42, 180, 0, 179, 154, 0, 10, 42, 16, 6, 182, 1, 181, 172, 42, 89, 180, 0, 179, 4]
abbrev dktX2_undo_0 : List UInt8 := dkwX2_undo_0 ++ dktX2_undo_1
theorem dksX2_undo_0 : cX2_undo.data.toList.drop 0 = dktX2_undo_0 := by decide +kernel
theorem dksX2_undo_1 : cX2_undo.data.toList.drop 24 = dktX2_undo_1 := dk_seg dksX2_undo_0 24 rfl rfl
theorem dksX2_undo_2 : cX2_undo.data.toList.drop 46 = dktX2_undo_2 := dk_seg dksX2_undo_1 22 rfl rfl
theorem dX2_undo_0 : decode cX2_undo 0 = .ok (.aload_n 0, 1) := dk_42 (dk_at dksX2_undo_0 0 rfl rfl)
theorem dX2_undo_1 : decode cX2_undo 1 = .ok (.invokevirtual 163, 3) := dk_182 0 163 (dk_at dksX2_undo_0 1 rfl rfl)
theorem dX2_undo_4 : decode cX2_undo 4 = .ok (.aload_n 0, 1) := dk_42 (dk_at dksX2_undo_0 4 rfl rfl)
theorem dX2_undo_5 : decode cX2_undo 5 = .ok (.getfield 179, 3) := dk_180 0 179 (dk_at dksX2_undo_0 5 rfl rfl)
theorem dX2_undo_8 : decode cX2_undo 8 = .ok (.ifCond .ne 10, 3) := dk_154 0 10 (dk_at dksX2_undo_0 8 rfl rfl)
theorem dX2_undo_11 : decode cX2_undo 11 = .ok (.aload_n 0, 1) := dk_42 (dk_at dksX2_undo_0 11 rfl rfl)
theorem dX2_undo_12 : decode cX2_undo 12 = .ok (.bipush 6, 2) := dk_16 6 (dk_at dksX2_undo_0 12 rfl rfl)
theorem dX2_undo_14 : decode cX2_undo 14 = .ok (.invokevirtual 437, 3) := dk_182 1 181 (dk_at dksX2_undo_0 14 rfl rfl)
theorem dX2_undo_17 : decode cX2_undo 17 = .ok (.ireturn, 1) := dk_172 (dk_at dksX2_undo_0 17 rfl rfl)
theorem dX2_undo_18 : decode cX2_undo 18 = .ok (.aload_n 0, 1) := dk_42 (dk_at dksX2_undo_0 18 rfl rfl)
theorem dX2_undo_19 : decode cX2_undo 19 = .ok (.dup, 1) := dk_89 (dk_at dksX2_undo_0 19 rfl rfl)
theorem dX2_undo_20 : decode cX2_undo 20 = .ok (.getfield 179, 3) := dk_180 0 179 (dk_at dksX2_undo_0 20 rfl rfl)
theorem dX2_undo_23 : decode cX2_undo 23 = .ok (.iconst 1, 1) := dk_4 (dk_at dksX2_undo_0 23 rfl rfl)
theorem dX2_undo_24 : decode cX2_undo 24 = .ok (.isub, 1) := dk_100 (dk_at dksX2_undo_1 0 rfl rfl)
theorem dX2_undo_25 : decode cX2_undo 25 = .ok (.putfield 179, 3) := dk_181 0 179 (dk_at dksX2_undo_1 1 rfl rfl)
theorem dX2_undo_28 : decode cX2_undo 28 = .ok (.aload_n 0, 1) := dk_42 (dk_at dksX2_undo_1 4 rfl rfl)
theorem dX2_undo_29 : decode cX2_undo 29 = .ok (.getfield 29, 3) := dk_180 0 29 (dk_at dksX2_undo_1 5 rfl rfl)
theorem dX2_undo_32 : decode cX2_undo 32 = .ok (.bipush 8, 2) := dk_16 8 (dk_at dksX2_undo_1 8 rfl rfl)
theorem dX2_undo_34 : decode cX2_undo 34 = .ok (.aload_n 0, 1) := dk_42 (dk_at dksX2_undo_1 10 rfl rfl)
theorem dX2_undo_35 : decode cX2_undo 35 = .ok (.getfield 179, 3) := dk_180 0 179 (dk_at dksX2_undo_1 11 rfl rfl)
theorem dX2_undo_38 : decode cX2_undo 38 = .ok (.imul, 1) := dk_104 (dk_at dksX2_undo_1 14 rfl rfl)
theorem dX2_undo_39 : decode cX2_undo 39 = .ok (.aload_n 0, 1) := dk_42 (dk_at dksX2_undo_1 15 rfl rfl)
theorem dX2_undo_40 : decode cX2_undo 40 = .ok (.getfield 26, 3) := dk_180 0 26 (dk_at dksX2_undo_1 16 rfl rfl)
theorem dX2_undo_43 : decode cX2_undo 43 = .ok (.iconst 0, 1) := dk_3 (dk_at dksX2_undo_1 19 rfl rfl)
theorem dX2_undo_44 : decode cX2_undo 44 = .ok (.bipush 8, 2) := dk_16 8 (dk_at dksX2_undo_1 20 rfl rfl)
theorem dX2_undo_46 : decode cX2_undo 46 = .ok (.invokestatic 172, 3) := dk_184 0 172 (dk_at dksX2_undo_2 0 rfl rfl)
theorem dX2_undo_49 : decode cX2_undo 49 = .ok (.iconst 1, 1) := dk_4 (dk_at dksX2_undo_2 3 rfl rfl)
theorem dX2_undo_50 : decode cX2_undo 50 = .ok (.ireturn, 1) := dk_172 (dk_at dksX2_undo_2 4 rfl rfl)
abbrev cX2_image : ByteArray := prog_15_method_128_code
def yX2_image : MethodName := ⟨RX2, "image", "()I"⟩
def dkwX2_image_2 : List UInt8 := [104, 16, 8, 184, 0, 172, 42, 89, 180, 0, 182, 4, 96, 181, 0, 182, 42, 180, 0, 182, 4, 100, 172]
abbrev dktX2_image_2 : List UInt8 := dkwX2_image_2 ++ []
def dkwX2_image_1 : List UInt8 := [160, 0, 9, 42, 6, 182, 0, 166, 172, 42, 180, 0, 26, 3, 42, 180, 0, 32, 16, 8, 42, 180, 0, 182]
abbrev dktX2_image_1 : List UInt8 := dkwX2_image_1 ++ dktX2_image_2
def dkwX2_image_0 : List UInt8 := [42, 182, 0, 163, 42, 180, 0, 176, 154, 0, 9, 42, 4, 182, 0, 166, 172, 42, 180, 0, 182, 6]
abbrev dktX2_image_0 : List UInt8 := dkwX2_image_0 ++ dktX2_image_1
theorem dksX2_image_0 : cX2_image.data.toList.drop 0 = dktX2_image_0 := by decide +kernel
theorem dksX2_image_1 : cX2_image.data.toList.drop 22 = dktX2_image_1 := dk_seg dksX2_image_0 22 rfl rfl
theorem dksX2_image_2 : cX2_image.data.toList.drop 46 = dktX2_image_2 := dk_seg dksX2_image_1 24 rfl rfl
theorem dX2_image_0 : decode cX2_image 0 = .ok (.aload_n 0, 1) := dk_42 (dk_at dksX2_image_0 0 rfl rfl)
theorem dX2_image_1 : decode cX2_image 1 = .ok (.invokevirtual 163, 3) := dk_182 0 163 (dk_at dksX2_image_0 1 rfl rfl)
theorem dX2_image_4 : decode cX2_image 4 = .ok (.aload_n 0, 1) := dk_42 (dk_at dksX2_image_0 4 rfl rfl)
theorem dX2_image_5 : decode cX2_image 5 = .ok (.getfield 176, 3) := dk_180 0 176 (dk_at dksX2_image_0 5 rfl rfl)
theorem dX2_image_8 : decode cX2_image 8 = .ok (.ifCond .ne 9, 3) := dk_154 0 9 (dk_at dksX2_image_0 8 rfl rfl)
theorem dX2_image_11 : decode cX2_image 11 = .ok (.aload_n 0, 1) := dk_42 (dk_at dksX2_image_0 11 rfl rfl)
theorem dX2_image_12 : decode cX2_image 12 = .ok (.iconst 1, 1) := dk_4 (dk_at dksX2_image_0 12 rfl rfl)
theorem dX2_image_13 : decode cX2_image 13 = .ok (.invokevirtual 166, 3) := dk_182 0 166 (dk_at dksX2_image_0 13 rfl rfl)
theorem dX2_image_16 : decode cX2_image 16 = .ok (.ireturn, 1) := dk_172 (dk_at dksX2_image_0 16 rfl rfl)
theorem dX2_image_17 : decode cX2_image 17 = .ok (.aload_n 0, 1) := dk_42 (dk_at dksX2_image_0 17 rfl rfl)
theorem dX2_image_18 : decode cX2_image 18 = .ok (.getfield 182, 3) := dk_180 0 182 (dk_at dksX2_image_0 18 rfl rfl)
theorem dX2_image_21 : decode cX2_image 21 = .ok (.iconst 3, 1) := dk_6 (dk_at dksX2_image_0 21 rfl rfl)
theorem dX2_image_22 : decode cX2_image 22 = .ok (.if_icmp .ne 9, 3) := dk_160 0 9 (dk_at dksX2_image_1 0 rfl rfl)
theorem dX2_image_25 : decode cX2_image 25 = .ok (.aload_n 0, 1) := dk_42 (dk_at dksX2_image_1 3 rfl rfl)
theorem dX2_image_26 : decode cX2_image 26 = .ok (.iconst 3, 1) := dk_6 (dk_at dksX2_image_1 4 rfl rfl)
theorem dX2_image_27 : decode cX2_image 27 = .ok (.invokevirtual 166, 3) := dk_182 0 166 (dk_at dksX2_image_1 5 rfl rfl)
theorem dX2_image_30 : decode cX2_image 30 = .ok (.ireturn, 1) := dk_172 (dk_at dksX2_image_1 8 rfl rfl)
theorem dX2_image_31 : decode cX2_image 31 = .ok (.aload_n 0, 1) := dk_42 (dk_at dksX2_image_1 9 rfl rfl)
theorem dX2_image_32 : decode cX2_image 32 = .ok (.getfield 26, 3) := dk_180 0 26 (dk_at dksX2_image_1 10 rfl rfl)
theorem dX2_image_35 : decode cX2_image 35 = .ok (.iconst 0, 1) := dk_3 (dk_at dksX2_image_1 13 rfl rfl)
theorem dX2_image_36 : decode cX2_image 36 = .ok (.aload_n 0, 1) := dk_42 (dk_at dksX2_image_1 14 rfl rfl)
theorem dX2_image_37 : decode cX2_image 37 = .ok (.getfield 32, 3) := dk_180 0 32 (dk_at dksX2_image_1 15 rfl rfl)
theorem dX2_image_40 : decode cX2_image 40 = .ok (.bipush 8, 2) := dk_16 8 (dk_at dksX2_image_1 18 rfl rfl)
theorem dX2_image_42 : decode cX2_image 42 = .ok (.aload_n 0, 1) := dk_42 (dk_at dksX2_image_1 20 rfl rfl)
theorem dX2_image_43 : decode cX2_image 43 = .ok (.getfield 182, 3) := dk_180 0 182 (dk_at dksX2_image_1 21 rfl rfl)
theorem dX2_image_46 : decode cX2_image 46 = .ok (.imul, 1) := dk_104 (dk_at dksX2_image_2 0 rfl rfl)
theorem dX2_image_47 : decode cX2_image 47 = .ok (.bipush 8, 2) := dk_16 8 (dk_at dksX2_image_2 1 rfl rfl)
theorem dX2_image_49 : decode cX2_image 49 = .ok (.invokestatic 172, 3) := dk_184 0 172 (dk_at dksX2_image_2 3 rfl rfl)
theorem dX2_image_52 : decode cX2_image 52 = .ok (.aload_n 0, 1) := dk_42 (dk_at dksX2_image_2 6 rfl rfl)
theorem dX2_image_53 : decode cX2_image 53 = .ok (.dup, 1) := dk_89 (dk_at dksX2_image_2 7 rfl rfl)
theorem dX2_image_54 : decode cX2_image 54 = .ok (.getfield 182, 3) := dk_180 0 182 (dk_at dksX2_image_2 8 rfl rfl)
theorem dX2_image_57 : decode cX2_image 57 = .ok (.iconst 1, 1) := dk_4 (dk_at dksX2_image_2 11 rfl rfl)
theorem dX2_image_58 : decode cX2_image 58 = .ok (.iadd, 1) := dk_96 (dk_at dksX2_image_2 12 rfl rfl)
theorem dX2_image_59 : decode cX2_image 59 = .ok (.putfield 182, 3) := dk_181 0 182 (dk_at dksX2_image_2 13 rfl rfl)
theorem dX2_image_62 : decode cX2_image 62 = .ok (.aload_n 0, 1) := dk_42 (dk_at dksX2_image_2 16 rfl rfl)
theorem dX2_image_63 : decode cX2_image 63 = .ok (.getfield 182, 3) := dk_180 0 182 (dk_at dksX2_image_2 17 rfl rfl)
theorem dX2_image_66 : decode cX2_image 66 = .ok (.iconst 1, 1) := dk_4 (dk_at dksX2_image_2 20 rfl rfl)
theorem dX2_image_67 : decode cX2_image 67 = .ok (.isub, 1) := dk_100 (dk_at dksX2_image_2 21 rfl rfl)
theorem dX2_image_68 : decode cX2_image 68 = .ok (.ireturn, 1) := dk_172 (dk_at dksX2_image_2 22 rfl rfl)
abbrev cX2_back : ByteArray := prog_15_method_129_code
def yX2_back : MethodName := ⟨RX2, "back", "(I)Z"⟩
def dkwX2_back_2 : List UInt8 := [172]
abbrev dktX2_back_2 : List UInt8 := dkwX2_back_2 ++ []
def dkwX2_back_1 : List UInt8 := [42, 180, 0, 32, 16, 8, 27, 104, 42, 180, 0, 26, 3, 16, 8, 184, 0, 172, 42, 3, 181, 0, 179, 4]
abbrev dktX2_back_1 : List UInt8 := dkwX2_back_1 ++ dktX2_back_2
def dkwX2_back_0 : List UInt8 := [42, 182, 0, 163, 27, 3, 42, 180, 0, 182, 4, 100, 184, 0, 144, 154, 0, 9, 42, 4, 182, 1, 181, 172]
abbrev dktX2_back_0 : List UInt8 := dkwX2_back_0 ++ dktX2_back_1
theorem dksX2_back_0 : cX2_back.data.toList.drop 0 = dktX2_back_0 := by decide +kernel
theorem dksX2_back_1 : cX2_back.data.toList.drop 24 = dktX2_back_1 := dk_seg dksX2_back_0 24 rfl rfl
theorem dksX2_back_2 : cX2_back.data.toList.drop 48 = dktX2_back_2 := dk_seg dksX2_back_1 24 rfl rfl
theorem dX2_back_0 : decode cX2_back 0 = .ok (.aload_n 0, 1) := dk_42 (dk_at dksX2_back_0 0 rfl rfl)
theorem dX2_back_1 : decode cX2_back 1 = .ok (.invokevirtual 163, 3) := dk_182 0 163 (dk_at dksX2_back_0 1 rfl rfl)
theorem dX2_back_4 : decode cX2_back 4 = .ok (.iload_n 1, 1) := dk_27 (dk_at dksX2_back_0 4 rfl rfl)
theorem dX2_back_5 : decode cX2_back 5 = .ok (.iconst 0, 1) := dk_3 (dk_at dksX2_back_0 5 rfl rfl)
theorem dX2_back_6 : decode cX2_back 6 = .ok (.aload_n 0, 1) := dk_42 (dk_at dksX2_back_0 6 rfl rfl)
theorem dX2_back_7 : decode cX2_back 7 = .ok (.getfield 182, 3) := dk_180 0 182 (dk_at dksX2_back_0 7 rfl rfl)
theorem dX2_back_10 : decode cX2_back 10 = .ok (.iconst 1, 1) := dk_4 (dk_at dksX2_back_0 10 rfl rfl)
theorem dX2_back_11 : decode cX2_back 11 = .ok (.isub, 1) := dk_100 (dk_at dksX2_back_0 11 rfl rfl)
theorem dX2_back_12 : decode cX2_back 12 = .ok (.invokestatic 144, 3) := dk_184 0 144 (dk_at dksX2_back_0 12 rfl rfl)
theorem dX2_back_15 : decode cX2_back 15 = .ok (.ifCond .ne 9, 3) := dk_154 0 9 (dk_at dksX2_back_0 15 rfl rfl)
theorem dX2_back_18 : decode cX2_back 18 = .ok (.aload_n 0, 1) := dk_42 (dk_at dksX2_back_0 18 rfl rfl)
theorem dX2_back_19 : decode cX2_back 19 = .ok (.iconst 1, 1) := dk_4 (dk_at dksX2_back_0 19 rfl rfl)
theorem dX2_back_20 : decode cX2_back 20 = .ok (.invokevirtual 437, 3) := dk_182 1 181 (dk_at dksX2_back_0 20 rfl rfl)
theorem dX2_back_23 : decode cX2_back 23 = .ok (.ireturn, 1) := dk_172 (dk_at dksX2_back_0 23 rfl rfl)
theorem dX2_back_24 : decode cX2_back 24 = .ok (.aload_n 0, 1) := dk_42 (dk_at dksX2_back_1 0 rfl rfl)
theorem dX2_back_25 : decode cX2_back 25 = .ok (.getfield 32, 3) := dk_180 0 32 (dk_at dksX2_back_1 1 rfl rfl)
theorem dX2_back_28 : decode cX2_back 28 = .ok (.bipush 8, 2) := dk_16 8 (dk_at dksX2_back_1 4 rfl rfl)
theorem dX2_back_30 : decode cX2_back 30 = .ok (.iload_n 1, 1) := dk_27 (dk_at dksX2_back_1 6 rfl rfl)
theorem dX2_back_31 : decode cX2_back 31 = .ok (.imul, 1) := dk_104 (dk_at dksX2_back_1 7 rfl rfl)
theorem dX2_back_32 : decode cX2_back 32 = .ok (.aload_n 0, 1) := dk_42 (dk_at dksX2_back_1 8 rfl rfl)
theorem dX2_back_33 : decode cX2_back 33 = .ok (.getfield 26, 3) := dk_180 0 26 (dk_at dksX2_back_1 9 rfl rfl)
theorem dX2_back_36 : decode cX2_back 36 = .ok (.iconst 0, 1) := dk_3 (dk_at dksX2_back_1 12 rfl rfl)
theorem dX2_back_37 : decode cX2_back 37 = .ok (.bipush 8, 2) := dk_16 8 (dk_at dksX2_back_1 13 rfl rfl)
theorem dX2_back_39 : decode cX2_back 39 = .ok (.invokestatic 172, 3) := dk_184 0 172 (dk_at dksX2_back_1 15 rfl rfl)
theorem dX2_back_42 : decode cX2_back 42 = .ok (.aload_n 0, 1) := dk_42 (dk_at dksX2_back_1 18 rfl rfl)
theorem dX2_back_43 : decode cX2_back 43 = .ok (.iconst 0, 1) := dk_3 (dk_at dksX2_back_1 19 rfl rfl)
theorem dX2_back_44 : decode cX2_back 44 = .ok (.putfield 179, 3) := dk_181 0 179 (dk_at dksX2_back_1 20 rfl rfl)
theorem dX2_back_47 : decode cX2_back 47 = .ok (.iconst 1, 1) := dk_4 (dk_at dksX2_back_1 23 rfl rfl)
theorem dX2_back_48 : decode cX2_back 48 = .ok (.ireturn, 1) := dk_172 (dk_at dksX2_back_2 0 rfl rfl)
abbrev cX2_led : ByteArray := prog_15_method_130_code
def yX2_led : MethodName := ⟨RX2, "led", "(I)I"⟩
def dkwX2_led_2 : List UInt8 := [132, 2, 1, 132, 3, 1, 167, 255, 208, 42, 4, 181, 0, 53, 3, 172]
abbrev dktX2_led_2 : List UInt8 := dkwX2_led_2 ++ []
def dkwX2_led_1 : List UInt8 := [180, 0, 26, 29, 46, 158, 0, 6, 167, 0, 18, 28, 27, 160, 0, 10, 42, 3, 181, 0, 53, 29, 172]
abbrev dktX2_led_1 : List UInt8 := dkwX2_led_1 ++ dktX2_led_2
def dkwX2_led_0 : List UInt8 := [3, 61, 3, 62, 42, 180, 0, 176, 153, 0, 47, 29, 42, 180, 0, 20, 16, 7, 46, 162, 0, 36, 42]
abbrev dktX2_led_0 : List UInt8 := dkwX2_led_0 ++ dktX2_led_1
theorem dksX2_led_0 : cX2_led.data.toList.drop 0 = dktX2_led_0 := by decide +kernel
theorem dksX2_led_1 : cX2_led.data.toList.drop 23 = dktX2_led_1 := dk_seg dksX2_led_0 23 rfl rfl
theorem dksX2_led_2 : cX2_led.data.toList.drop 46 = dktX2_led_2 := dk_seg dksX2_led_1 23 rfl rfl
theorem dX2_led_0 : decode cX2_led 0 = .ok (.iconst 0, 1) := dk_3 (dk_at dksX2_led_0 0 rfl rfl)
theorem dX2_led_1 : decode cX2_led 1 = .ok (.istore_n 2, 1) := dk_61 (dk_at dksX2_led_0 1 rfl rfl)
theorem dX2_led_2 : decode cX2_led 2 = .ok (.iconst 0, 1) := dk_3 (dk_at dksX2_led_0 2 rfl rfl)
theorem dX2_led_3 : decode cX2_led 3 = .ok (.istore_n 3, 1) := dk_62 (dk_at dksX2_led_0 3 rfl rfl)
theorem dX2_led_4 : decode cX2_led 4 = .ok (.aload_n 0, 1) := dk_42 (dk_at dksX2_led_0 4 rfl rfl)
theorem dX2_led_5 : decode cX2_led 5 = .ok (.getfield 176, 3) := dk_180 0 176 (dk_at dksX2_led_0 5 rfl rfl)
theorem dX2_led_8 : decode cX2_led 8 = .ok (.ifCond .eq 47, 3) := dk_153 0 47 (dk_at dksX2_led_0 8 rfl rfl)
theorem dX2_led_11 : decode cX2_led 11 = .ok (.iload_n 3, 1) := dk_29 (dk_at dksX2_led_0 11 rfl rfl)
theorem dX2_led_12 : decode cX2_led 12 = .ok (.aload_n 0, 1) := dk_42 (dk_at dksX2_led_0 12 rfl rfl)
theorem dX2_led_13 : decode cX2_led 13 = .ok (.getfield 20, 3) := dk_180 0 20 (dk_at dksX2_led_0 13 rfl rfl)
theorem dX2_led_16 : decode cX2_led 16 = .ok (.bipush 7, 2) := dk_16 7 (dk_at dksX2_led_0 16 rfl rfl)
theorem dX2_led_18 : decode cX2_led 18 = .ok (.iaload, 1) := dk_46 (dk_at dksX2_led_0 18 rfl rfl)
theorem dX2_led_19 : decode cX2_led 19 = .ok (.if_icmp .ge 36, 3) := dk_162 0 36 (dk_at dksX2_led_0 19 rfl rfl)
theorem dX2_led_22 : decode cX2_led 22 = .ok (.aload_n 0, 1) := dk_42 (dk_at dksX2_led_0 22 rfl rfl)
theorem dX2_led_23 : decode cX2_led 23 = .ok (.getfield 26, 3) := dk_180 0 26 (dk_at dksX2_led_1 0 rfl rfl)
theorem dX2_led_26 : decode cX2_led 26 = .ok (.iload_n 3, 1) := dk_29 (dk_at dksX2_led_1 3 rfl rfl)
theorem dX2_led_27 : decode cX2_led 27 = .ok (.iaload, 1) := dk_46 (dk_at dksX2_led_1 4 rfl rfl)
theorem dX2_led_28 : decode cX2_led 28 = .ok (.ifCond .le 6, 3) := dk_158 0 6 (dk_at dksX2_led_1 5 rfl rfl)
theorem dX2_led_31 : decode cX2_led 31 = .ok (.goto 18, 3) := dk_167 0 18 (dk_at dksX2_led_1 8 rfl rfl)
theorem dX2_led_34 : decode cX2_led 34 = .ok (.iload_n 2, 1) := dk_28 (dk_at dksX2_led_1 11 rfl rfl)
theorem dX2_led_35 : decode cX2_led 35 = .ok (.iload_n 1, 1) := dk_27 (dk_at dksX2_led_1 12 rfl rfl)
theorem dX2_led_36 : decode cX2_led 36 = .ok (.if_icmp .ne 10, 3) := dk_160 0 10 (dk_at dksX2_led_1 13 rfl rfl)
theorem dX2_led_39 : decode cX2_led 39 = .ok (.aload_n 0, 1) := dk_42 (dk_at dksX2_led_1 16 rfl rfl)
theorem dX2_led_40 : decode cX2_led 40 = .ok (.iconst 0, 1) := dk_3 (dk_at dksX2_led_1 17 rfl rfl)
theorem dX2_led_41 : decode cX2_led 41 = .ok (.putfield 53, 3) := dk_181 0 53 (dk_at dksX2_led_1 18 rfl rfl)
theorem dX2_led_44 : decode cX2_led 44 = .ok (.iload_n 3, 1) := dk_29 (dk_at dksX2_led_1 21 rfl rfl)
theorem dX2_led_45 : decode cX2_led 45 = .ok (.ireturn, 1) := dk_172 (dk_at dksX2_led_1 22 rfl rfl)
theorem dX2_led_46 : decode cX2_led 46 = .ok (.iinc 2 1, 3) := dk_132 2 1 (dk_at dksX2_led_2 0 rfl rfl)
theorem dX2_led_49 : decode cX2_led 49 = .ok (.iinc 3 1, 3) := dk_132 3 1 (dk_at dksX2_led_2 3 rfl rfl)
theorem dX2_led_52 : decode cX2_led 52 = .ok (.goto (-48), 3) := dk_167 255 208 (dk_at dksX2_led_2 6 rfl rfl)
theorem dX2_led_55 : decode cX2_led 55 = .ok (.aload_n 0, 1) := dk_42 (dk_at dksX2_led_2 9 rfl rfl)
theorem dX2_led_56 : decode cX2_led 56 = .ok (.iconst 1, 1) := dk_4 (dk_at dksX2_led_2 10 rfl rfl)
theorem dX2_led_57 : decode cX2_led 57 = .ok (.putfield 53, 3) := dk_181 0 53 (dk_at dksX2_led_2 11 rfl rfl)
theorem dX2_led_60 : decode cX2_led 60 = .ok (.iconst 0, 1) := dk_3 (dk_at dksX2_led_2 14 rfl rfl)
theorem dX2_led_61 : decode cX2_led 61 = .ok (.ireturn, 1) := dk_172 (dk_at dksX2_led_2 15 rfl rfl)
abbrev cX2_size : ByteArray := prog_15_method_131_code
def yX2_size : MethodName := ⟨RX2, "size", "(I)I"⟩
def dkwX2_size_4 : List UInt8 := [172]
abbrev dktX2_size_4 : List UInt8 := dkwX2_size_4 ++ []
def dkwX2_size_3 : List UInt8 := [160, 0, 10, 42, 180, 0, 179, 167, 0, 17, 27, 16, 12, 160, 0, 10, 42, 180, 0, 182, 167, 0, 4, 2]
abbrev dktX2_size_3 : List UInt8 := dkwX2_size_3 ++ dktX2_size_4
def dkwX2_size_2 : List UInt8 := [16, 7, 46, 172, 27, 4, 16, 10, 184, 0, 144, 153, 0, 10, 42, 180, 0, 20, 27, 46, 172, 27, 16, 11]
abbrev dktX2_size_2 : List UInt8 := dkwX2_size_2 ++ dktX2_size_3
def dkwX2_size_1 : List UInt8 := [3, 16, 12, 184, 0, 144, 153, 0, 7, 3, 167, 0, 4, 2, 172, 27, 154, 0, 11, 42, 180, 0, 26]
abbrev dktX2_size_1 : List UInt8 := dkwX2_size_1 ++ dktX2_size_2
def dkwX2_size_0 : List UInt8 := [42, 3, 181, 0, 53, 27, 16, 13, 160, 0, 8, 42, 180, 0, 59, 172, 42, 180, 0, 176, 154, 0, 19, 27]
abbrev dktX2_size_0 : List UInt8 := dkwX2_size_0 ++ dktX2_size_1
theorem dksX2_size_0 : cX2_size.data.toList.drop 0 = dktX2_size_0 := by decide +kernel
theorem dksX2_size_1 : cX2_size.data.toList.drop 24 = dktX2_size_1 := dk_seg dksX2_size_0 24 rfl rfl
theorem dksX2_size_2 : cX2_size.data.toList.drop 47 = dktX2_size_2 := dk_seg dksX2_size_1 23 rfl rfl
theorem dksX2_size_3 : cX2_size.data.toList.drop 71 = dktX2_size_3 := dk_seg dksX2_size_2 24 rfl rfl
theorem dksX2_size_4 : cX2_size.data.toList.drop 95 = dktX2_size_4 := dk_seg dksX2_size_3 24 rfl rfl
theorem dX2_size_0 : decode cX2_size 0 = .ok (.aload_n 0, 1) := dk_42 (dk_at dksX2_size_0 0 rfl rfl)
theorem dX2_size_1 : decode cX2_size 1 = .ok (.iconst 0, 1) := dk_3 (dk_at dksX2_size_0 1 rfl rfl)
theorem dX2_size_2 : decode cX2_size 2 = .ok (.putfield 53, 3) := dk_181 0 53 (dk_at dksX2_size_0 2 rfl rfl)
theorem dX2_size_5 : decode cX2_size 5 = .ok (.iload_n 1, 1) := dk_27 (dk_at dksX2_size_0 5 rfl rfl)
theorem dX2_size_6 : decode cX2_size 6 = .ok (.bipush 13, 2) := dk_16 13 (dk_at dksX2_size_0 6 rfl rfl)
theorem dX2_size_8 : decode cX2_size 8 = .ok (.if_icmp .ne 8, 3) := dk_160 0 8 (dk_at dksX2_size_0 8 rfl rfl)
theorem dX2_size_11 : decode cX2_size 11 = .ok (.aload_n 0, 1) := dk_42 (dk_at dksX2_size_0 11 rfl rfl)
theorem dX2_size_12 : decode cX2_size 12 = .ok (.getfield 59, 3) := dk_180 0 59 (dk_at dksX2_size_0 12 rfl rfl)
theorem dX2_size_15 : decode cX2_size 15 = .ok (.ireturn, 1) := dk_172 (dk_at dksX2_size_0 15 rfl rfl)
theorem dX2_size_16 : decode cX2_size 16 = .ok (.aload_n 0, 1) := dk_42 (dk_at dksX2_size_0 16 rfl rfl)
theorem dX2_size_17 : decode cX2_size 17 = .ok (.getfield 176, 3) := dk_180 0 176 (dk_at dksX2_size_0 17 rfl rfl)
theorem dX2_size_20 : decode cX2_size 20 = .ok (.ifCond .ne 19, 3) := dk_154 0 19 (dk_at dksX2_size_0 20 rfl rfl)
theorem dX2_size_23 : decode cX2_size 23 = .ok (.iload_n 1, 1) := dk_27 (dk_at dksX2_size_0 23 rfl rfl)
theorem dX2_size_24 : decode cX2_size 24 = .ok (.iconst 0, 1) := dk_3 (dk_at dksX2_size_1 0 rfl rfl)
theorem dX2_size_25 : decode cX2_size 25 = .ok (.bipush 12, 2) := dk_16 12 (dk_at dksX2_size_1 1 rfl rfl)
theorem dX2_size_27 : decode cX2_size 27 = .ok (.invokestatic 144, 3) := dk_184 0 144 (dk_at dksX2_size_1 3 rfl rfl)
theorem dX2_size_30 : decode cX2_size 30 = .ok (.ifCond .eq 7, 3) := dk_153 0 7 (dk_at dksX2_size_1 6 rfl rfl)
theorem dX2_size_33 : decode cX2_size 33 = .ok (.iconst 0, 1) := dk_3 (dk_at dksX2_size_1 9 rfl rfl)
theorem dX2_size_34 : decode cX2_size 34 = .ok (.goto 4, 3) := dk_167 0 4 (dk_at dksX2_size_1 10 rfl rfl)
theorem dX2_size_37 : decode cX2_size 37 = .ok (.iconst (-1), 1) := dk_2 (dk_at dksX2_size_1 13 rfl rfl)
theorem dX2_size_38 : decode cX2_size 38 = .ok (.ireturn, 1) := dk_172 (dk_at dksX2_size_1 14 rfl rfl)
theorem dX2_size_39 : decode cX2_size 39 = .ok (.iload_n 1, 1) := dk_27 (dk_at dksX2_size_1 15 rfl rfl)
theorem dX2_size_40 : decode cX2_size 40 = .ok (.ifCond .ne 11, 3) := dk_154 0 11 (dk_at dksX2_size_1 16 rfl rfl)
theorem dX2_size_43 : decode cX2_size 43 = .ok (.aload_n 0, 1) := dk_42 (dk_at dksX2_size_1 19 rfl rfl)
theorem dX2_size_44 : decode cX2_size 44 = .ok (.getfield 26, 3) := dk_180 0 26 (dk_at dksX2_size_1 20 rfl rfl)
theorem dX2_size_47 : decode cX2_size 47 = .ok (.bipush 7, 2) := dk_16 7 (dk_at dksX2_size_2 0 rfl rfl)
theorem dX2_size_49 : decode cX2_size 49 = .ok (.iaload, 1) := dk_46 (dk_at dksX2_size_2 2 rfl rfl)
theorem dX2_size_50 : decode cX2_size 50 = .ok (.ireturn, 1) := dk_172 (dk_at dksX2_size_2 3 rfl rfl)
theorem dX2_size_51 : decode cX2_size 51 = .ok (.iload_n 1, 1) := dk_27 (dk_at dksX2_size_2 4 rfl rfl)
theorem dX2_size_52 : decode cX2_size 52 = .ok (.iconst 1, 1) := dk_4 (dk_at dksX2_size_2 5 rfl rfl)
theorem dX2_size_53 : decode cX2_size 53 = .ok (.bipush 10, 2) := dk_16 10 (dk_at dksX2_size_2 6 rfl rfl)
theorem dX2_size_55 : decode cX2_size 55 = .ok (.invokestatic 144, 3) := dk_184 0 144 (dk_at dksX2_size_2 8 rfl rfl)
theorem dX2_size_58 : decode cX2_size 58 = .ok (.ifCond .eq 10, 3) := dk_153 0 10 (dk_at dksX2_size_2 11 rfl rfl)
theorem dX2_size_61 : decode cX2_size 61 = .ok (.aload_n 0, 1) := dk_42 (dk_at dksX2_size_2 14 rfl rfl)
theorem dX2_size_62 : decode cX2_size 62 = .ok (.getfield 20, 3) := dk_180 0 20 (dk_at dksX2_size_2 15 rfl rfl)
theorem dX2_size_65 : decode cX2_size 65 = .ok (.iload_n 1, 1) := dk_27 (dk_at dksX2_size_2 18 rfl rfl)
theorem dX2_size_66 : decode cX2_size 66 = .ok (.iaload, 1) := dk_46 (dk_at dksX2_size_2 19 rfl rfl)
theorem dX2_size_67 : decode cX2_size 67 = .ok (.ireturn, 1) := dk_172 (dk_at dksX2_size_2 20 rfl rfl)
theorem dX2_size_68 : decode cX2_size 68 = .ok (.iload_n 1, 1) := dk_27 (dk_at dksX2_size_2 21 rfl rfl)
theorem dX2_size_69 : decode cX2_size 69 = .ok (.bipush 11, 2) := dk_16 11 (dk_at dksX2_size_2 22 rfl rfl)
theorem dX2_size_71 : decode cX2_size 71 = .ok (.if_icmp .ne 10, 3) := dk_160 0 10 (dk_at dksX2_size_3 0 rfl rfl)
theorem dX2_size_74 : decode cX2_size 74 = .ok (.aload_n 0, 1) := dk_42 (dk_at dksX2_size_3 3 rfl rfl)
theorem dX2_size_75 : decode cX2_size 75 = .ok (.getfield 179, 3) := dk_180 0 179 (dk_at dksX2_size_3 4 rfl rfl)
theorem dX2_size_78 : decode cX2_size 78 = .ok (.goto 17, 3) := dk_167 0 17 (dk_at dksX2_size_3 7 rfl rfl)
theorem dX2_size_81 : decode cX2_size 81 = .ok (.iload_n 1, 1) := dk_27 (dk_at dksX2_size_3 10 rfl rfl)
theorem dX2_size_82 : decode cX2_size 82 = .ok (.bipush 12, 2) := dk_16 12 (dk_at dksX2_size_3 11 rfl rfl)
theorem dX2_size_84 : decode cX2_size 84 = .ok (.if_icmp .ne 10, 3) := dk_160 0 10 (dk_at dksX2_size_3 13 rfl rfl)
theorem dX2_size_87 : decode cX2_size 87 = .ok (.aload_n 0, 1) := dk_42 (dk_at dksX2_size_3 16 rfl rfl)
theorem dX2_size_88 : decode cX2_size 88 = .ok (.getfield 182, 3) := dk_180 0 182 (dk_at dksX2_size_3 17 rfl rfl)
theorem dX2_size_91 : decode cX2_size 91 = .ok (.goto 4, 3) := dk_167 0 4 (dk_at dksX2_size_3 20 rfl rfl)
theorem dX2_size_94 : decode cX2_size 94 = .ok (.iconst (-1), 1) := dk_2 (dk_at dksX2_size_3 23 rfl rfl)
theorem dX2_size_95 : decode cX2_size 95 = .ok (.ireturn, 1) := dk_172 (dk_at dksX2_size_4 0 rfl rfl)
abbrev cX2_trouble : ByteArray := prog_15_method_132_code
def yX2_trouble : MethodName := ⟨RX2, "trouble", "()I"⟩
def dkwX2_trouble_0 : List UInt8 := [42, 3, 181, 0, 53, 42, 180, 0, 56, 172]
abbrev dktX2_trouble_0 : List UInt8 := dkwX2_trouble_0 ++ []
theorem dksX2_trouble_0 : cX2_trouble.data.toList.drop 0 = dktX2_trouble_0 := by decide +kernel
theorem dX2_trouble_0 : decode cX2_trouble 0 = .ok (.aload_n 0, 1) := dk_42 (dk_at dksX2_trouble_0 0 rfl rfl)
theorem dX2_trouble_1 : decode cX2_trouble 1 = .ok (.iconst 0, 1) := dk_3 (dk_at dksX2_trouble_0 1 rfl rfl)
theorem dX2_trouble_2 : decode cX2_trouble 2 = .ok (.putfield 53, 3) := dk_181 0 53 (dk_at dksX2_trouble_0 2 rfl rfl)
theorem dX2_trouble_5 : decode cX2_trouble 5 = .ok (.aload_n 0, 1) := dk_42 (dk_at dksX2_trouble_0 5 rfl rfl)
theorem dX2_trouble_6 : decode cX2_trouble 6 = .ok (.getfield 56, 3) := dk_180 0 56 (dk_at dksX2_trouble_0 6 rfl rfl)
theorem dX2_trouble_9 : decode cX2_trouble 9 = .ok (.ireturn, 1) := dk_172 (dk_at dksX2_trouble_0 9 rfl rfl)
theorem q128 : (Jvm.Cond.initialized "RoofRegattaModel") ∈ lw_all := lw_g (lw_at lw_m1 5 rfl) rfl
theorem q836 : (Jvm.Cond.selects "RoofRegattaModel" ({ cls := "java/lang/Object", name := "getClass", desc := "()Ljava/lang/Class;" } : Jvm.MethodName) ({ cls := "java/lang/Object", name := "getClass", desc := "()Ljava/lang/Class;" } : Jvm.MethodName)) ∈ lw_all := lw_g (lw_at lw_m3 233 rfl) rfl
theorem q1652 : (Jvm.Cond.instantiable "RoofRegattaModel" (43 : Nat)) ∈ lw_all := lw_g (lw_at lw_m7 89 rfl) rfl
theorem q1654 : (Jvm.Cond.instanceMethod ({ cls := "RoofRegattaModel", name := "<init>", desc := "()V" } : Jvm.MethodName)) ∈ lw_all := lw_g (lw_at lw_m7 91 rfl) rfl
theorem q1655 : (Jvm.Cond.code ({ cls := "RoofRegattaModel", name := "<init>", desc := "()V" } : Jvm.MethodName) prog_15_method_1_code (1 : Nat) (Option.none : Option Jvm.ClassFile.FieldType)) ∈ lw_all := lw_g (lw_at lw_m7 92 rfl) rfl
theorem q1656 : (Jvm.Cond.methodLink "RoofRegattaModel" (1 : Nat) ({ cls := "java/lang/Object", name := "<init>", desc := "()V" } : Jvm.MethodName)) ∈ lw_all := lw_g (lw_at lw_m7 93 rfl) rfl
theorem q1657 : (Jvm.Cond.fieldLink "RoofRegattaModel" (53 : Nat) "RoofRegattaModel" "thrown" "I") ∈ lw_all := lw_g (lw_at lw_m7 94 rfl) rfl
theorem q1658 : (Jvm.Cond.fieldLink "RoofRegattaModel" (7 : Nat) "RoofRegattaModel" "tape" "[I") ∈ lw_all := lw_g (lw_at lw_m7 95 rfl) rfl
theorem q1659 : (Jvm.Cond.fieldLink "RoofRegattaModel" (59 : Nat) "RoofRegattaModel" "taped" "I") ∈ lw_all := lw_g (lw_at lw_m7 96 rfl) rfl
theorem q1660 : (Jvm.Cond.fieldLink "RoofRegattaModel" (62 : Nat) "RoofRegattaModel" "size" "I") ∈ lw_all := lw_g (lw_at lw_m7 97 rfl) rfl
theorem q1661 : (Jvm.Cond.fieldLink "RoofRegattaModel" (72 : Nat) "RoofRegattaModel" "at" "I") ∈ lw_all := lw_g (lw_at lw_m7 98 rfl) rfl
theorem q1662 : (Jvm.Cond.fieldLink "RoofRegattaModel" (65 : Nat) "RoofRegattaModel" "end" "I") ∈ lw_all := lw_g (lw_at lw_m7 99 rfl) rfl
theorem q1663 : (Jvm.Cond.fieldLink "RoofRegattaModel" (81 : Nat) "RoofRegattaModel" "token" "I") ∈ lw_all := lw_g (lw_at lw_m7 100 rfl) rfl
theorem q1664 : (Jvm.Cond.fieldLink "RoofRegattaModel" (78 : Nat) "RoofRegattaModel" "whole" "I") ∈ lw_all := lw_g (lw_at lw_m7 101 rfl) rfl
theorem q1665 : (Jvm.Cond.fieldLink "RoofRegattaModel" (75 : Nat) "RoofRegattaModel" "nameSize" "I") ∈ lw_all := lw_g (lw_at lw_m7 102 rfl) rfl
theorem q1666 : (Jvm.Cond.fieldLink "RoofRegattaModel" (95 : Nat) "RoofRegattaModel" "fault" "I") ∈ lw_all := lw_g (lw_at lw_m7 103 rfl) rfl
theorem q1667 : (Jvm.Cond.fieldLink "RoofRegattaModel" (13 : Nat) "RoofRegattaModel" "place" "I") ∈ lw_all := lw_g (lw_at lw_m7 104 rfl) rfl
theorem q1668 : (Jvm.Cond.fieldLink "RoofRegattaModel" (56 : Nat) "RoofRegattaModel" "trouble" "I") ∈ lw_all := lw_g (lw_at lw_m7 105 rfl) rfl
theorem q1669 : (Jvm.Cond.fieldLink "RoofRegattaModel" (17 : Nat) "RoofRegattaModel" "letters" "[I") ∈ lw_all := lw_g (lw_at lw_m7 106 rfl) rfl
theorem q1670 : (Jvm.Cond.fieldLink "RoofRegattaModel" (91 : Nat) "RoofRegattaModel" "failed" "Z") ∈ lw_all := lw_g (lw_at lw_m7 107 rfl) rfl
theorem q1671 : (Jvm.Cond.fieldLink "RoofRegattaModel" (176 : Nat) "RoofRegattaModel" "hasRegatta" "Z") ∈ lw_all := lw_g (lw_at lw_m7 108 rfl) rfl
theorem q1672 : (Jvm.Cond.fieldLink "RoofRegattaModel" (20 : Nat) "RoofRegattaModel" "\x72" "[I") ∈ lw_all := lw_g (lw_at lw_m7 109 rfl) rfl
theorem q1673 : (Jvm.Cond.fieldLink "RoofRegattaModel" (23 : Nat) "RoofRegattaModel" "fresh" "[I") ∈ lw_all := lw_g (lw_at lw_m7 110 rfl) rfl
theorem q1674 : (Jvm.Cond.fieldLink "RoofRegattaModel" (26 : Nat) "RoofRegattaModel" "st" "[I") ∈ lw_all := lw_g (lw_at lw_m7 111 rfl) rfl
theorem q1675 : (Jvm.Cond.fieldLink "RoofRegattaModel" (29 : Nat) "RoofRegattaModel" "undone" "[I") ∈ lw_all := lw_g (lw_at lw_m7 112 rfl) rfl
theorem q1676 : (Jvm.Cond.fieldLink "RoofRegattaModel" (32 : Nat) "RoofRegattaModel" "kept" "[I") ∈ lw_all := lw_g (lw_at lw_m7 113 rfl) rfl
theorem q1677 : (Jvm.Cond.fieldLink "RoofRegattaModel" (179 : Nat) "RoofRegattaModel" "undos" "I") ∈ lw_all := lw_g (lw_at lw_m7 114 rfl) rfl
theorem q1678 : (Jvm.Cond.fieldLink "RoofRegattaModel" (182 : Nat) "RoofRegattaModel" "images" "I") ∈ lw_all := lw_g (lw_at lw_m7 115 rfl) rfl
theorem q1679 : (Jvm.Cond.fieldLink "RoofRegattaModel" (281 : Nat) "RoofRegattaModel" "rainy" "I") ∈ lw_all := lw_g (lw_at lw_m7 116 rfl) rfl
theorem q1680 : (Jvm.Cond.fieldLink "RoofRegattaModel" (35 : Nat) "RoofRegattaModel" "totals" "[I") ∈ lw_all := lw_g (lw_at lw_m7 117 rfl) rfl
theorem q1681 : (Jvm.Cond.fieldLink "RoofRegattaModel" (38 : Nat) "RoofRegattaModel" "ranks" "[I") ∈ lw_all := lw_g (lw_at lw_m7 118 rfl) rfl
theorem q1682 : (Jvm.Cond.fieldLink "RoofRegattaModel" (300 : Nat) "RoofRegattaModel" "outs" "I") ∈ lw_all := lw_g (lw_at lw_m7 119 rfl) rfl
theorem q1683 : (Jvm.Cond.fieldLink "RoofRegattaModel" (41 : Nat) "RoofRegattaModel" "trial" "[I") ∈ lw_all := lw_g (lw_at lw_m7 120 rfl) rfl
theorem q1684 : (Jvm.Cond.fieldLink "RoofRegattaModel" (44 : Nat) "RoofRegattaModel" "bestLoad" "[I") ∈ lw_all := lw_g (lw_at lw_m7 121 rfl) rfl
theorem q1685 : (Jvm.Cond.fieldLink "RoofRegattaModel" (336 : Nat) "RoofRegattaModel" "wanted" "I") ∈ lw_all := lw_g (lw_at lw_m7 122 rfl) rfl
theorem q1686 : (Jvm.Cond.fieldLink "RoofRegattaModel" (345 : Nat) "RoofRegattaModel" "bestKey" "I") ∈ lw_all := lw_g (lw_at lw_m7 123 rfl) rfl
theorem q1687 : (Jvm.Cond.fieldLink "RoofRegattaModel" (348 : Nat) "RoofRegattaModel" "bestMoved" "I") ∈ lw_all := lw_g (lw_at lw_m7 124 rfl) rfl
theorem q1688 : (Jvm.Cond.fieldLink "RoofRegattaModel" (339 : Nat) "RoofRegattaModel" "leastSum" "I") ∈ lw_all := lw_g (lw_at lw_m7 125 rfl) rfl
theorem q1689 : (Jvm.Cond.fieldLink "RoofRegattaModel" (47 : Nat) "RoofRegattaModel" "litMany" "[I") ∈ lw_all := lw_g (lw_at lw_m7 126 rfl) rfl
theorem q1690 : (Jvm.Cond.fieldLink "RoofRegattaModel" (368 : Nat) "RoofRegattaModel" "setMany" "I") ∈ lw_all := lw_g (lw_at lw_m7 127 rfl) rfl
theorem q1691 : (Jvm.Cond.fieldLink "RoofRegattaModel" (371 : Nat) "RoofRegattaModel" "someLit" "I") ∈ lw_all := lw_g (lw_at lw_m7 128 rfl) rfl
theorem q1692 : (Jvm.Cond.fieldLink "RoofRegattaModel" (374 : Nat) "RoofRegattaModel" "allLit" "I") ∈ lw_all := lw_g (lw_at lw_m7 129 rfl) rfl
theorem q1693 : (Jvm.Cond.fieldLink "RoofRegattaModel" (389 : Nat) "RoofRegattaModel" "allWeight" "J") ∈ lw_all := lw_g (lw_at lw_m7 130 rfl) rfl
theorem q1694 : (Jvm.Cond.fieldLink "RoofRegattaModel" (393 : Nat) "RoofRegattaModel" "rankWeight" "J") ∈ lw_all := lw_g (lw_at lw_m7 131 rfl) rfl
theorem q1695 : (Jvm.Cond.fieldLink "RoofRegattaModel" (396 : Nat) "RoofRegattaModel" "totalSum" "J") ∈ lw_all := lw_g (lw_at lw_m7 132 rfl) rfl
theorem q1696 : (Jvm.Cond.fieldLink "RoofRegattaModel" (399 : Nat) "RoofRegattaModel" "prizeSum" "J") ∈ lw_all := lw_g (lw_at lw_m7 133 rfl) rfl
theorem q1697 : (Jvm.Cond.fieldLink "RoofRegattaModel" (50 : Nat) "RoofRegattaModel" "won" "[I") ∈ lw_all := lw_g (lw_at lw_m7 134 rfl) rfl
theorem q1698 : (Jvm.Cond.fieldLink "RoofRegattaModel" (412 : Nat) "RoofRegattaModel" "leastEver" "I") ∈ lw_all := lw_g (lw_at lw_m7 135 rfl) rfl
theorem q1699 : (Jvm.Cond.fieldLink "RoofRegattaModel" (424 : Nat) "RoofRegattaModel" "firstRest" "I") ∈ lw_all := lw_g (lw_at lw_m7 136 rfl) rfl
theorem q1700 : (Jvm.Cond.lays "RoofRegattaModel" "RoofRegattaModel" "thrown" "I") ∈ lw_all := lw_g (lw_at lw_m7 137 rfl) rfl
theorem q1701 : (Jvm.Cond.soleField "RoofRegattaModel" "thrown") ∈ lw_all := lw_g (lw_at lw_m7 138 rfl) rfl
theorem q1702 : (Jvm.Cond.laysFinal "RoofRegattaModel" "RoofRegattaModel" "tape" "[I") ∈ lw_all := lw_g (lw_at lw_m7 139 rfl) rfl
theorem q1703 : (Jvm.Cond.soleField "RoofRegattaModel" "tape") ∈ lw_all := lw_g (lw_at lw_m7 140 rfl) rfl
theorem q1704 : (Jvm.Cond.lays "RoofRegattaModel" "RoofRegattaModel" "taped" "I") ∈ lw_all := lw_g (lw_at lw_m7 141 rfl) rfl
theorem q1705 : (Jvm.Cond.soleField "RoofRegattaModel" "taped") ∈ lw_all := lw_g (lw_at lw_m7 142 rfl) rfl
theorem q1706 : (Jvm.Cond.lays "RoofRegattaModel" "RoofRegattaModel" "size" "I") ∈ lw_all := lw_g (lw_at lw_m7 143 rfl) rfl
theorem q1707 : (Jvm.Cond.soleField "RoofRegattaModel" "size") ∈ lw_all := lw_g (lw_at lw_m7 144 rfl) rfl
theorem q1708 : (Jvm.Cond.lays "RoofRegattaModel" "RoofRegattaModel" "at" "I") ∈ lw_all := lw_g (lw_at lw_m7 145 rfl) rfl
theorem q1709 : (Jvm.Cond.soleField "RoofRegattaModel" "at") ∈ lw_all := lw_g (lw_at lw_m7 146 rfl) rfl
theorem q1710 : (Jvm.Cond.lays "RoofRegattaModel" "RoofRegattaModel" "end" "I") ∈ lw_all := lw_g (lw_at lw_m7 147 rfl) rfl
theorem q1711 : (Jvm.Cond.soleField "RoofRegattaModel" "end") ∈ lw_all := lw_g (lw_at lw_m7 148 rfl) rfl
theorem q1712 : (Jvm.Cond.lays "RoofRegattaModel" "RoofRegattaModel" "token" "I") ∈ lw_all := lw_g (lw_at lw_m7 149 rfl) rfl
theorem q1713 : (Jvm.Cond.soleField "RoofRegattaModel" "token") ∈ lw_all := lw_g (lw_at lw_m7 150 rfl) rfl
theorem q1714 : (Jvm.Cond.lays "RoofRegattaModel" "RoofRegattaModel" "whole" "I") ∈ lw_all := lw_g (lw_at lw_m7 151 rfl) rfl
theorem q1715 : (Jvm.Cond.soleField "RoofRegattaModel" "whole") ∈ lw_all := lw_g (lw_at lw_m7 152 rfl) rfl
theorem q1716 : (Jvm.Cond.lays "RoofRegattaModel" "RoofRegattaModel" "nameSize" "I") ∈ lw_all := lw_g (lw_at lw_m7 153 rfl) rfl
theorem q1717 : (Jvm.Cond.soleField "RoofRegattaModel" "nameSize") ∈ lw_all := lw_g (lw_at lw_m7 154 rfl) rfl
theorem q1718 : (Jvm.Cond.lays "RoofRegattaModel" "RoofRegattaModel" "fault" "I") ∈ lw_all := lw_g (lw_at lw_m7 155 rfl) rfl
theorem q1719 : (Jvm.Cond.soleField "RoofRegattaModel" "fault") ∈ lw_all := lw_g (lw_at lw_m7 156 rfl) rfl
theorem q1720 : (Jvm.Cond.lays "RoofRegattaModel" "RoofRegattaModel" "place" "I") ∈ lw_all := lw_g (lw_at lw_m7 157 rfl) rfl
theorem q1721 : (Jvm.Cond.soleField "RoofRegattaModel" "place") ∈ lw_all := lw_g (lw_at lw_m7 158 rfl) rfl
theorem q1722 : (Jvm.Cond.lays "RoofRegattaModel" "RoofRegattaModel" "trouble" "I") ∈ lw_all := lw_g (lw_at lw_m7 159 rfl) rfl
theorem q1723 : (Jvm.Cond.soleField "RoofRegattaModel" "trouble") ∈ lw_all := lw_g (lw_at lw_m7 160 rfl) rfl
theorem q1724 : (Jvm.Cond.laysFinal "RoofRegattaModel" "RoofRegattaModel" "letters" "[I") ∈ lw_all := lw_g (lw_at lw_m7 161 rfl) rfl
theorem q1725 : (Jvm.Cond.soleField "RoofRegattaModel" "letters") ∈ lw_all := lw_g (lw_at lw_m7 162 rfl) rfl
theorem q1726 : (Jvm.Cond.lays "RoofRegattaModel" "RoofRegattaModel" "failed" "Z") ∈ lw_all := lw_g (lw_at lw_m7 163 rfl) rfl
theorem q1727 : (Jvm.Cond.soleField "RoofRegattaModel" "failed") ∈ lw_all := lw_g (lw_at lw_m7 164 rfl) rfl
theorem q1728 : (Jvm.Cond.lays "RoofRegattaModel" "RoofRegattaModel" "hasRegatta" "Z") ∈ lw_all := lw_g (lw_at lw_m7 165 rfl) rfl
theorem q1729 : (Jvm.Cond.soleField "RoofRegattaModel" "hasRegatta") ∈ lw_all := lw_g (lw_at lw_m7 166 rfl) rfl
theorem q1730 : (Jvm.Cond.laysFinal "RoofRegattaModel" "RoofRegattaModel" "\x72" "[I") ∈ lw_all := lw_g (lw_at lw_m7 167 rfl) rfl
theorem q1731 : (Jvm.Cond.soleField "RoofRegattaModel" "\x72") ∈ lw_all := lw_g (lw_at lw_m7 168 rfl) rfl
theorem q1732 : (Jvm.Cond.laysFinal "RoofRegattaModel" "RoofRegattaModel" "fresh" "[I") ∈ lw_all := lw_g (lw_at lw_m7 169 rfl) rfl
theorem q1733 : (Jvm.Cond.soleField "RoofRegattaModel" "fresh") ∈ lw_all := lw_g (lw_at lw_m7 170 rfl) rfl
theorem q1734 : (Jvm.Cond.laysFinal "RoofRegattaModel" "RoofRegattaModel" "st" "[I") ∈ lw_all := lw_g (lw_at lw_m7 171 rfl) rfl
theorem q1735 : (Jvm.Cond.soleField "RoofRegattaModel" "st") ∈ lw_all := lw_g (lw_at lw_m7 172 rfl) rfl
theorem q1736 : (Jvm.Cond.laysFinal "RoofRegattaModel" "RoofRegattaModel" "undone" "[I") ∈ lw_all := lw_g (lw_at lw_m7 173 rfl) rfl
theorem q1737 : (Jvm.Cond.soleField "RoofRegattaModel" "undone") ∈ lw_all := lw_g (lw_at lw_m7 174 rfl) rfl
theorem q1738 : (Jvm.Cond.laysFinal "RoofRegattaModel" "RoofRegattaModel" "kept" "[I") ∈ lw_all := lw_g (lw_at lw_m7 175 rfl) rfl
theorem q1739 : (Jvm.Cond.soleField "RoofRegattaModel" "kept") ∈ lw_all := lw_g (lw_at lw_m7 176 rfl) rfl
theorem q1740 : (Jvm.Cond.lays "RoofRegattaModel" "RoofRegattaModel" "undos" "I") ∈ lw_all := lw_g (lw_at lw_m7 177 rfl) rfl
theorem q1741 : (Jvm.Cond.soleField "RoofRegattaModel" "undos") ∈ lw_all := lw_g (lw_at lw_m7 178 rfl) rfl
theorem q1742 : (Jvm.Cond.lays "RoofRegattaModel" "RoofRegattaModel" "images" "I") ∈ lw_all := lw_g (lw_at lw_m7 179 rfl) rfl
theorem q1743 : (Jvm.Cond.soleField "RoofRegattaModel" "images") ∈ lw_all := lw_g (lw_at lw_m7 180 rfl) rfl
theorem q1744 : (Jvm.Cond.lays "RoofRegattaModel" "RoofRegattaModel" "rainy" "I") ∈ lw_all := lw_g (lw_at lw_m7 181 rfl) rfl
theorem q1745 : (Jvm.Cond.soleField "RoofRegattaModel" "rainy") ∈ lw_all := lw_g (lw_at lw_m7 182 rfl) rfl
theorem q1746 : (Jvm.Cond.laysFinal "RoofRegattaModel" "RoofRegattaModel" "totals" "[I") ∈ lw_all := lw_g (lw_at lw_m7 183 rfl) rfl
theorem q1747 : (Jvm.Cond.soleField "RoofRegattaModel" "totals") ∈ lw_all := lw_g (lw_at lw_m7 184 rfl) rfl
theorem q1748 : (Jvm.Cond.laysFinal "RoofRegattaModel" "RoofRegattaModel" "ranks" "[I") ∈ lw_all := lw_g (lw_at lw_m7 185 rfl) rfl
theorem q1749 : (Jvm.Cond.soleField "RoofRegattaModel" "ranks") ∈ lw_all := lw_g (lw_at lw_m7 186 rfl) rfl
theorem q1750 : (Jvm.Cond.lays "RoofRegattaModel" "RoofRegattaModel" "outs" "I") ∈ lw_all := lw_g (lw_at lw_m7 187 rfl) rfl
theorem q1751 : (Jvm.Cond.soleField "RoofRegattaModel" "outs") ∈ lw_all := lw_g (lw_at lw_m7 188 rfl) rfl
theorem q1752 : (Jvm.Cond.laysFinal "RoofRegattaModel" "RoofRegattaModel" "trial" "[I") ∈ lw_all := lw_g (lw_at lw_m7 189 rfl) rfl
theorem q1753 : (Jvm.Cond.soleField "RoofRegattaModel" "trial") ∈ lw_all := lw_g (lw_at lw_m7 190 rfl) rfl
theorem q1754 : (Jvm.Cond.laysFinal "RoofRegattaModel" "RoofRegattaModel" "bestLoad" "[I") ∈ lw_all := lw_g (lw_at lw_m7 191 rfl) rfl
theorem q1755 : (Jvm.Cond.soleField "RoofRegattaModel" "bestLoad") ∈ lw_all := lw_g (lw_at lw_m7 192 rfl) rfl
theorem q1756 : (Jvm.Cond.lays "RoofRegattaModel" "RoofRegattaModel" "wanted" "I") ∈ lw_all := lw_g (lw_at lw_m7 193 rfl) rfl
theorem q1757 : (Jvm.Cond.soleField "RoofRegattaModel" "wanted") ∈ lw_all := lw_g (lw_at lw_m7 194 rfl) rfl
theorem q1758 : (Jvm.Cond.lays "RoofRegattaModel" "RoofRegattaModel" "bestKey" "I") ∈ lw_all := lw_g (lw_at lw_m7 195 rfl) rfl
theorem q1759 : (Jvm.Cond.soleField "RoofRegattaModel" "bestKey") ∈ lw_all := lw_g (lw_at lw_m7 196 rfl) rfl
theorem q1760 : (Jvm.Cond.lays "RoofRegattaModel" "RoofRegattaModel" "bestMoved" "I") ∈ lw_all := lw_g (lw_at lw_m7 197 rfl) rfl
theorem q1761 : (Jvm.Cond.soleField "RoofRegattaModel" "bestMoved") ∈ lw_all := lw_g (lw_at lw_m7 198 rfl) rfl
theorem q1762 : (Jvm.Cond.lays "RoofRegattaModel" "RoofRegattaModel" "leastSum" "I") ∈ lw_all := lw_g (lw_at lw_m7 199 rfl) rfl
theorem q1763 : (Jvm.Cond.soleField "RoofRegattaModel" "leastSum") ∈ lw_all := lw_g (lw_at lw_m7 200 rfl) rfl
theorem q1764 : (Jvm.Cond.laysFinal "RoofRegattaModel" "RoofRegattaModel" "litMany" "[I") ∈ lw_all := lw_g (lw_at lw_m7 201 rfl) rfl
theorem q1765 : (Jvm.Cond.soleField "RoofRegattaModel" "litMany") ∈ lw_all := lw_g (lw_at lw_m7 202 rfl) rfl
theorem q1766 : (Jvm.Cond.lays "RoofRegattaModel" "RoofRegattaModel" "setMany" "I") ∈ lw_all := lw_g (lw_at lw_m7 203 rfl) rfl
theorem q1767 : (Jvm.Cond.soleField "RoofRegattaModel" "setMany") ∈ lw_all := lw_g (lw_at lw_m7 204 rfl) rfl
theorem q1768 : (Jvm.Cond.lays "RoofRegattaModel" "RoofRegattaModel" "someLit" "I") ∈ lw_all := lw_g (lw_at lw_m7 205 rfl) rfl
theorem q1769 : (Jvm.Cond.soleField "RoofRegattaModel" "someLit") ∈ lw_all := lw_g (lw_at lw_m7 206 rfl) rfl
theorem q1770 : (Jvm.Cond.lays "RoofRegattaModel" "RoofRegattaModel" "allLit" "I") ∈ lw_all := lw_g (lw_at lw_m7 207 rfl) rfl
theorem q1771 : (Jvm.Cond.soleField "RoofRegattaModel" "allLit") ∈ lw_all := lw_g (lw_at lw_m7 208 rfl) rfl
theorem q1772 : (Jvm.Cond.lays "RoofRegattaModel" "RoofRegattaModel" "allWeight" "J") ∈ lw_all := lw_g (lw_at lw_m7 209 rfl) rfl
theorem q1773 : (Jvm.Cond.soleField "RoofRegattaModel" "allWeight") ∈ lw_all := lw_g (lw_at lw_m7 210 rfl) rfl
theorem q1774 : (Jvm.Cond.lays "RoofRegattaModel" "RoofRegattaModel" "rankWeight" "J") ∈ lw_all := lw_g (lw_at lw_m7 211 rfl) rfl
theorem q1775 : (Jvm.Cond.soleField "RoofRegattaModel" "rankWeight") ∈ lw_all := lw_g (lw_at lw_m7 212 rfl) rfl
theorem q1776 : (Jvm.Cond.lays "RoofRegattaModel" "RoofRegattaModel" "totalSum" "J") ∈ lw_all := lw_g (lw_at lw_m7 213 rfl) rfl
theorem q1777 : (Jvm.Cond.soleField "RoofRegattaModel" "totalSum") ∈ lw_all := lw_g (lw_at lw_m7 214 rfl) rfl
theorem q1778 : (Jvm.Cond.lays "RoofRegattaModel" "RoofRegattaModel" "prizeSum" "J") ∈ lw_all := lw_g (lw_at lw_m7 215 rfl) rfl
theorem q1779 : (Jvm.Cond.soleField "RoofRegattaModel" "prizeSum") ∈ lw_all := lw_g (lw_at lw_m7 216 rfl) rfl
theorem q1780 : (Jvm.Cond.laysFinal "RoofRegattaModel" "RoofRegattaModel" "won" "[I") ∈ lw_all := lw_g (lw_at lw_m7 217 rfl) rfl
theorem q1781 : (Jvm.Cond.soleField "RoofRegattaModel" "won") ∈ lw_all := lw_g (lw_at lw_m7 218 rfl) rfl
theorem q1782 : (Jvm.Cond.lays "RoofRegattaModel" "RoofRegattaModel" "leastEver" "I") ∈ lw_all := lw_g (lw_at lw_m7 219 rfl) rfl
theorem q1783 : (Jvm.Cond.soleField "RoofRegattaModel" "leastEver") ∈ lw_all := lw_g (lw_at lw_m7 220 rfl) rfl
theorem q1784 : (Jvm.Cond.lays "RoofRegattaModel" "RoofRegattaModel" "firstRest" "I") ∈ lw_all := lw_g (lw_at lw_m7 221 rfl) rfl
theorem q1785 : (Jvm.Cond.soleField "RoofRegattaModel" "firstRest") ∈ lw_all := lw_g (lw_at lw_m7 222 rfl) rfl
theorem q1786 : (Jvm.Cond.superclass "RoofRegattaModel" "java/lang/Object") ∈ lw_all := lw_g (lw_at lw_m7 223 rfl) rfl
theorem q1788 : (Jvm.Cond.instanceMethod ({ cls := "RoofRegattaModel", name := "thrown", desc := "()I" } : Jvm.MethodName)) ∈ lw_all := lw_g (lw_at lw_m7 225 rfl) rfl
theorem q1789 : (Jvm.Cond.selects "RoofRegattaModel" ({ cls := "RoofRegattaModel", name := "thrown", desc := "()I" } : Jvm.MethodName) ({ cls := "RoofRegattaModel", name := "thrown", desc := "()I" } : Jvm.MethodName)) ∈ lw_all := lw_g (lw_at lw_m7 226 rfl) rfl
theorem q1790 : (Jvm.Cond.code ({ cls := "RoofRegattaModel", name := "thrown", desc := "()I" } : Jvm.MethodName) prog_15_method_2_code (1 : Nat) (Option.some Jvm.ClassFile.FieldType.int)) ∈ lw_all := lw_g (lw_at lw_m7 227 rfl) rfl
theorem q1792 : (Jvm.Cond.instanceMethod ({ cls := "RoofRegattaModel", name := "feed", desc := "(IIIII)I" } : Jvm.MethodName)) ∈ lw_all := lw_g (lw_at lw_m7 229 rfl) rfl
theorem q1793 : (Jvm.Cond.selects "RoofRegattaModel" ({ cls := "RoofRegattaModel", name := "feed", desc := "(IIIII)I" } : Jvm.MethodName) ({ cls := "RoofRegattaModel", name := "feed", desc := "(IIIII)I" } : Jvm.MethodName)) ∈ lw_all := lw_g (lw_at lw_m7 230 rfl) rfl
theorem q1794 : (Jvm.Cond.code ({ cls := "RoofRegattaModel", name := "feed", desc := "(IIIII)I" } : Jvm.MethodName) prog_15_method_11_code (8 : Nat) (Option.some Jvm.ClassFile.FieldType.int)) ∈ lw_all := lw_g (lw_at lw_m7 231 rfl) rfl
theorem q1796 : (Jvm.Cond.instanceMethod ({ cls := "RoofRegattaModel", name := "regatta", desc := "(I)I" } : Jvm.MethodName)) ∈ lw_all := lw_g (lw_at lw_m7 233 rfl) rfl
theorem q1797 : (Jvm.Cond.selects "RoofRegattaModel" ({ cls := "RoofRegattaModel", name := "regatta", desc := "(I)I" } : Jvm.MethodName) ({ cls := "RoofRegattaModel", name := "regatta", desc := "(I)I" } : Jvm.MethodName)) ∈ lw_all := lw_g (lw_at lw_m7 234 rfl) rfl
theorem q1798 : (Jvm.Cond.code ({ cls := "RoofRegattaModel", name := "regatta", desc := "(I)I" } : Jvm.MethodName) prog_15_method_30_code (3 : Nat) (Option.some Jvm.ClassFile.FieldType.int)) ∈ lw_all := lw_g (lw_at lw_m7 235 rfl) rfl
theorem q1799 : (Jvm.Cond.methodLink "RoofRegattaModel" (163 : Nat) ({ cls := "RoofRegattaModel", name := "good", desc := "()V" } : Jvm.MethodName)) ∈ lw_all := lw_g (lw_at lw_m7 236 rfl) rfl
theorem q1800 : (Jvm.Cond.privateMethod ({ cls := "RoofRegattaModel", name := "good", desc := "()V" } : Jvm.MethodName)) ∈ lw_tbl := lw_at lw_m7 237 rfl
theorem q1801 : (Jvm.Cond.instanceMethod ({ cls := "RoofRegattaModel", name := "good", desc := "()V" } : Jvm.MethodName)) ∈ lw_all := lw_g (lw_at lw_m7 238 rfl) rfl
theorem q1802 : (Jvm.Cond.code ({ cls := "RoofRegattaModel", name := "good", desc := "()V" } : Jvm.MethodName) prog_15_method_3_code (1 : Nat) (Option.none : Option Jvm.ClassFile.FieldType)) ∈ lw_all := lw_g (lw_at lw_m7 239 rfl) rfl
theorem q1803 : (Jvm.Cond.methodLink "RoofRegattaModel" (144 : Nat) ({ cls := "RoofRegattaModel", name := "in", desc := "(III)Z" } : Jvm.MethodName)) ∈ lw_all := lw_g (lw_at lw_m8 0 rfl) rfl
theorem q1804 : (Jvm.Cond.static ({ cls := "RoofRegattaModel", name := "in", desc := "(III)Z" } : Jvm.MethodName)) ∈ lw_all := lw_g (lw_at lw_m8 1 rfl) rfl
theorem q1805 : (Jvm.Cond.code ({ cls := "RoofRegattaModel", name := "in", desc := "(III)Z" } : Jvm.MethodName) prog_15_method_6_code (3 : Nat) (Option.some Jvm.ClassFile.FieldType.boolean)) ∈ lw_all := lw_g (lw_at lw_m8 2 rfl) rfl
theorem q1806 : (Jvm.Cond.methodLink "RoofRegattaModel" (166 : Nat) ({ cls := "RoofRegattaModel", name := "no", desc := "(I)I" } : Jvm.MethodName)) ∈ lw_all := lw_g (lw_at lw_m8 3 rfl) rfl
theorem q1807 : (Jvm.Cond.privateMethod ({ cls := "RoofRegattaModel", name := "no", desc := "(I)I" } : Jvm.MethodName)) ∈ lw_tbl := lw_at lw_m8 4 rfl
theorem q1808 : (Jvm.Cond.instanceMethod ({ cls := "RoofRegattaModel", name := "no", desc := "(I)I" } : Jvm.MethodName)) ∈ lw_all := lw_g (lw_at lw_m8 5 rfl) rfl
theorem q1809 : (Jvm.Cond.code ({ cls := "RoofRegattaModel", name := "no", desc := "(I)I" } : Jvm.MethodName) prog_15_method_4_code (2 : Nat) (Option.some Jvm.ClassFile.FieldType.int)) ∈ lw_all := lw_g (lw_at lw_m8 6 rfl) rfl
theorem q1810 : (Jvm.Cond.methodLink "RoofRegattaModel" (112 : Nat) ({ cls := "RoofRegattaModel", name := "next", desc := "()V" } : Jvm.MethodName)) ∈ lw_all := lw_g (lw_at lw_m8 7 rfl) rfl
theorem q1811 : (Jvm.Cond.privateMethod ({ cls := "RoofRegattaModel", name := "next", desc := "()V" } : Jvm.MethodName)) ∈ lw_tbl := lw_at lw_m8 8 rfl
theorem q1812 : (Jvm.Cond.instanceMethod ({ cls := "RoofRegattaModel", name := "next", desc := "()V" } : Jvm.MethodName)) ∈ lw_all := lw_g (lw_at lw_m8 9 rfl) rfl
theorem q1813 : (Jvm.Cond.code ({ cls := "RoofRegattaModel", name := "next", desc := "()V" } : Jvm.MethodName) prog_15_method_15_code (4 : Nat) (Option.none : Option Jvm.ClassFile.FieldType)) ∈ lw_all := lw_g (lw_at lw_m8 10 rfl) rfl
theorem q1814 : (Jvm.Cond.methodLink "RoofRegattaModel" (68 : Nat) ({ cls := "RoofRegattaModel", name := "see", desc := "(I)I" } : Jvm.MethodName)) ∈ lw_all := lw_g (lw_at lw_m8 11 rfl) rfl
theorem q1815 : (Jvm.Cond.privateMethod ({ cls := "RoofRegattaModel", name := "see", desc := "(I)I" } : Jvm.MethodName)) ∈ lw_tbl := lw_at lw_m8 12 rfl
theorem q1816 : (Jvm.Cond.instanceMethod ({ cls := "RoofRegattaModel", name := "see", desc := "(I)I" } : Jvm.MethodName)) ∈ lw_all := lw_g (lw_at lw_m8 13 rfl) rfl
theorem q1817 : (Jvm.Cond.code ({ cls := "RoofRegattaModel", name := "see", desc := "(I)I" } : Jvm.MethodName) prog_15_method_12_code (2 : Nat) (Option.some Jvm.ClassFile.FieldType.int)) ∈ lw_all := lw_g (lw_at lw_m8 14 rfl) rfl
theorem q1818 : (Jvm.Cond.methodLink "RoofRegattaModel" (84 : Nat) ({ cls := "RoofRegattaModel", name := "isSmall", desc := "(I)Z" } : Jvm.MethodName)) ∈ lw_all := lw_g (lw_at lw_m8 15 rfl) rfl
theorem q1819 : (Jvm.Cond.static ({ cls := "RoofRegattaModel", name := "isSmall", desc := "(I)Z" } : Jvm.MethodName)) ∈ lw_all := lw_g (lw_at lw_m8 16 rfl) rfl
theorem q1820 : (Jvm.Cond.code ({ cls := "RoofRegattaModel", name := "isSmall", desc := "(I)Z" } : Jvm.MethodName) prog_15_method_13_code (1 : Nat) (Option.some Jvm.ClassFile.FieldType.boolean)) ∈ lw_all := lw_g (lw_at lw_m8 17 rfl) rfl
theorem q1821 : (Jvm.Cond.methodLink "RoofRegattaModel" (88 : Nat) ({ cls := "RoofRegattaModel", name := "isDigit", desc := "(I)Z" } : Jvm.MethodName)) ∈ lw_all := lw_g (lw_at lw_m8 18 rfl) rfl
theorem q1822 : (Jvm.Cond.static ({ cls := "RoofRegattaModel", name := "isDigit", desc := "(I)Z" } : Jvm.MethodName)) ∈ lw_all := lw_g (lw_at lw_m8 19 rfl) rfl
theorem q1823 : (Jvm.Cond.code ({ cls := "RoofRegattaModel", name := "isDigit", desc := "(I)Z" } : Jvm.MethodName) prog_15_method_14_code (1 : Nat) (Option.some Jvm.ClassFile.FieldType.boolean)) ∈ lw_all := lw_g (lw_at lw_m8 20 rfl) rfl
theorem q1824 : (Jvm.Cond.methodLink "RoofRegattaModel" (169 : Nat) ({ cls := "RoofRegattaModel", name := "readLine", desc := "()V" } : Jvm.MethodName)) ∈ lw_all := lw_g (lw_at lw_m8 21 rfl) rfl
theorem q1825 : (Jvm.Cond.privateMethod ({ cls := "RoofRegattaModel", name := "readLine", desc := "()V" } : Jvm.MethodName)) ∈ lw_tbl := lw_at lw_m8 22 rfl
theorem q1826 : (Jvm.Cond.instanceMethod ({ cls := "RoofRegattaModel", name := "readLine", desc := "()V" } : Jvm.MethodName)) ∈ lw_all := lw_g (lw_at lw_m8 23 rfl) rfl
theorem q1827 : (Jvm.Cond.code ({ cls := "RoofRegattaModel", name := "readLine", desc := "()V" } : Jvm.MethodName) prog_15_method_32_code (1 : Nat) (Option.none : Option Jvm.ClassFile.FieldType)) ∈ lw_all := lw_g (lw_at lw_m8 24 rfl) rfl
theorem q1828 : (Jvm.Cond.stringRef "RoofRegattaModel" (122 : Nat) "regatta") ∈ lw_tbl := lw_at lw_m8 25 rfl
theorem q1829 : (Jvm.Cond.methodLink "RoofRegattaModel" (108 : Nat) ({ cls := "RoofRegattaModel", name := "isWord", desc := "(Ljava/lang/String;)Z" } : Jvm.MethodName)) ∈ lw_all := lw_g (lw_at lw_m8 26 rfl) rfl
theorem q1830 : (Jvm.Cond.privateMethod ({ cls := "RoofRegattaModel", name := "isWord", desc := "(Ljava/lang/String;)Z" } : Jvm.MethodName)) ∈ lw_tbl := lw_at lw_m8 27 rfl
theorem q1831 : (Jvm.Cond.instanceMethod ({ cls := "RoofRegattaModel", name := "isWord", desc := "(Ljava/lang/String;)Z" } : Jvm.MethodName)) ∈ lw_all := lw_g (lw_at lw_m8 28 rfl) rfl
theorem q1832 : (Jvm.Cond.code ({ cls := "RoofRegattaModel", name := "isWord", desc := "(Ljava/lang/String;)Z" } : Jvm.MethodName) prog_15_method_17_code (4 : Nat) (Option.some Jvm.ClassFile.FieldType.boolean)) ∈ lw_all := lw_g (lw_at lw_m8 29 rfl) rfl
theorem q1833 : (Jvm.Cond.methodLink "RoofRegattaModel" (98 : Nat) ({ cls := "java/lang/String", name := "length", desc := "()I" } : Jvm.MethodName)) ∈ lw_all := lw_g (lw_at lw_m8 30 rfl) rfl
theorem q1841 : (Jvm.Cond.methodLink "RoofRegattaModel" (104 : Nat) ({ cls := "java/lang/String", name := "charAt", desc := "(I)C" } : Jvm.MethodName)) ∈ lw_all := lw_g (lw_at lw_m8 38 rfl) rfl
theorem q1852 : (Jvm.Cond.methodLink "RoofRegattaModel" (185 : Nat) ({ cls := "RoofRegattaModel", name := "regattaLine", desc := "()V" } : Jvm.MethodName)) ∈ lw_all := lw_g (lw_at lw_m8 49 rfl) rfl
theorem q1853 : (Jvm.Cond.privateMethod ({ cls := "RoofRegattaModel", name := "regattaLine", desc := "()V" } : Jvm.MethodName)) ∈ lw_tbl := lw_at lw_m8 50 rfl
theorem q1854 : (Jvm.Cond.instanceMethod ({ cls := "RoofRegattaModel", name := "regattaLine", desc := "()V" } : Jvm.MethodName)) ∈ lw_all := lw_g (lw_at lw_m8 51 rfl) rfl
theorem q1855 : (Jvm.Cond.code ({ cls := "RoofRegattaModel", name := "regattaLine", desc := "()V" } : Jvm.MethodName) prog_15_method_33_code (2 : Nat) (Option.none : Option Jvm.ClassFile.FieldType)) ∈ lw_all := lw_g (lw_at lw_m8 52 rfl) rfl
theorem q1856 : (Jvm.Cond.methodLink "RoofRegattaModel" (118 : Nat) ({ cls := "RoofRegattaModel", name := "wrong", desc := "(II)V" } : Jvm.MethodName)) ∈ lw_all := lw_g (lw_at lw_m8 53 rfl) rfl
theorem q1857 : (Jvm.Cond.privateMethod ({ cls := "RoofRegattaModel", name := "wrong", desc := "(II)V" } : Jvm.MethodName)) ∈ lw_tbl := lw_at lw_m8 54 rfl
theorem q1858 : (Jvm.Cond.instanceMethod ({ cls := "RoofRegattaModel", name := "wrong", desc := "(II)V" } : Jvm.MethodName)) ∈ lw_all := lw_g (lw_at lw_m8 55 rfl) rfl
theorem q1859 : (Jvm.Cond.code ({ cls := "RoofRegattaModel", name := "wrong", desc := "(II)V" } : Jvm.MethodName) prog_15_method_16_code (3 : Nat) (Option.none : Option Jvm.ClassFile.FieldType)) ∈ lw_all := lw_g (lw_at lw_m8 56 rfl) rfl
theorem q1860 : (Jvm.Cond.stringRef "RoofRegattaModel" (213 : Nat) "water") ∈ lw_tbl := lw_at lw_m8 57 rfl
theorem q1861 : (Jvm.Cond.methodLink "RoofRegattaModel" (215 : Nat) ({ cls := "RoofRegattaModel", name := "after", desc := "(Ljava/lang/String;II)I" } : Jvm.MethodName)) ∈ lw_all := lw_g (lw_at lw_m8 58 rfl) rfl
theorem q1862 : (Jvm.Cond.privateMethod ({ cls := "RoofRegattaModel", name := "after", desc := "(Ljava/lang/String;II)I" } : Jvm.MethodName)) ∈ lw_tbl := lw_at lw_m8 59 rfl
theorem q1863 : (Jvm.Cond.instanceMethod ({ cls := "RoofRegattaModel", name := "after", desc := "(Ljava/lang/String;II)I" } : Jvm.MethodName)) ∈ lw_all := lw_g (lw_at lw_m8 60 rfl) rfl
theorem q1864 : (Jvm.Cond.code ({ cls := "RoofRegattaModel", name := "after", desc := "(Ljava/lang/String;II)I" } : Jvm.MethodName) prog_15_method_28_code (4 : Nat) (Option.some Jvm.ClassFile.FieldType.int)) ∈ lw_all := lw_g (lw_at lw_m8 61 rfl) rfl
theorem q1865 : (Jvm.Cond.methodLink "RoofRegattaModel" (152 : Nat) ({ cls := "RoofRegattaModel", name := "must", desc := "(Ljava/lang/String;)V" } : Jvm.MethodName)) ∈ lw_all := lw_g (lw_at lw_m8 62 rfl) rfl
theorem q1866 : (Jvm.Cond.privateMethod ({ cls := "RoofRegattaModel", name := "must", desc := "(Ljava/lang/String;)V" } : Jvm.MethodName)) ∈ lw_tbl := lw_at lw_m8 63 rfl
theorem q1867 : (Jvm.Cond.instanceMethod ({ cls := "RoofRegattaModel", name := "must", desc := "(Ljava/lang/String;)V" } : Jvm.MethodName)) ∈ lw_all := lw_g (lw_at lw_m8 64 rfl) rfl
theorem q1868 : (Jvm.Cond.code ({ cls := "RoofRegattaModel", name := "must", desc := "(Ljava/lang/String;)V" } : Jvm.MethodName) prog_15_method_19_code (2 : Nat) (Option.none : Option Jvm.ClassFile.FieldType)) ∈ lw_all := lw_g (lw_at lw_m8 65 rfl) rfl
theorem q1869 : (Jvm.Cond.methodLink "RoofRegattaModel" (115 : Nat) ({ cls := "RoofRegattaModel", name := "takesWord", desc := "(Ljava/lang/String;)Z" } : Jvm.MethodName)) ∈ lw_all := lw_g (lw_at lw_m8 66 rfl) rfl
theorem q1870 : (Jvm.Cond.privateMethod ({ cls := "RoofRegattaModel", name := "takesWord", desc := "(Ljava/lang/String;)Z" } : Jvm.MethodName)) ∈ lw_tbl := lw_at lw_m8 67 rfl
theorem q1871 : (Jvm.Cond.instanceMethod ({ cls := "RoofRegattaModel", name := "takesWord", desc := "(Ljava/lang/String;)Z" } : Jvm.MethodName)) ∈ lw_all := lw_g (lw_at lw_m8 68 rfl) rfl
theorem q1872 : (Jvm.Cond.code ({ cls := "RoofRegattaModel", name := "takesWord", desc := "(Ljava/lang/String;)Z" } : Jvm.MethodName) prog_15_method_18_code (2 : Nat) (Option.some Jvm.ClassFile.FieldType.boolean)) ∈ lw_all := lw_g (lw_at lw_m8 69 rfl) rfl
theorem q1873 : (Jvm.Cond.methodLink "RoofRegattaModel" (156 : Nat) ({ cls := "RoofRegattaModel", name := "number", desc := "(II)I" } : Jvm.MethodName)) ∈ lw_all := lw_g (lw_at lw_m8 70 rfl) rfl
theorem q1874 : (Jvm.Cond.privateMethod ({ cls := "RoofRegattaModel", name := "number", desc := "(II)I" } : Jvm.MethodName)) ∈ lw_tbl := lw_at lw_m8 71 rfl
theorem q1875 : (Jvm.Cond.instanceMethod ({ cls := "RoofRegattaModel", name := "number", desc := "(II)I" } : Jvm.MethodName)) ∈ lw_all := lw_g (lw_at lw_m8 72 rfl) rfl
theorem q1876 : (Jvm.Cond.code ({ cls := "RoofRegattaModel", name := "number", desc := "(II)I" } : Jvm.MethodName) prog_15_method_27_code (4 : Nat) (Option.some Jvm.ClassFile.FieldType.int)) ∈ lw_all := lw_g (lw_at lw_m8 73 rfl) rfl
theorem q1877 : (Jvm.Cond.stringRef "RoofRegattaModel" (219 : Nat) "bridge") ∈ lw_tbl := lw_at lw_m8 74 rfl
theorem q1878 : (Jvm.Cond.stringRef "RoofRegattaModel" (221 : Nat) "storey") ∈ lw_tbl := lw_at lw_m8 75 rfl
theorem q1879 : (Jvm.Cond.stringRef "RoofRegattaModel" (223 : Nat) "rain") ∈ lw_tbl := lw_at lw_m8 76 rfl
theorem q1880 : (Jvm.Cond.stringRef "RoofRegattaModel" (225 : Nat) "by") ∈ lw_tbl := lw_at lw_m8 77 rfl
theorem q1881 : (Jvm.Cond.stringRef "RoofRegattaModel" (124 : Nat) "bend") ∈ lw_tbl := lw_at lw_m8 78 rfl
theorem q1882 : (Jvm.Cond.methodLink "RoofRegattaModel" (188 : Nat) ({ cls := "RoofRegattaModel", name := "begins", desc := "(Ljava/lang/String;Z)Z" } : Jvm.MethodName)) ∈ lw_all := lw_g (lw_at lw_m8 79 rfl) rfl
theorem q1883 : (Jvm.Cond.privateMethod ({ cls := "RoofRegattaModel", name := "begins", desc := "(Ljava/lang/String;Z)Z" } : Jvm.MethodName)) ∈ lw_tbl := lw_at lw_m8 80 rfl
theorem q1884 : (Jvm.Cond.instanceMethod ({ cls := "RoofRegattaModel", name := "begins", desc := "(Ljava/lang/String;Z)Z" } : Jvm.MethodName)) ∈ lw_all := lw_g (lw_at lw_m8 81 rfl) rfl
theorem q1885 : (Jvm.Cond.code ({ cls := "RoofRegattaModel", name := "begins", desc := "(Ljava/lang/String;Z)Z" } : Jvm.MethodName) prog_15_method_31_code (3 : Nat) (Option.some Jvm.ClassFile.FieldType.boolean)) ∈ lw_all := lw_g (lw_at lw_m8 82 rfl) rfl
theorem q1886 : (Jvm.Cond.methodLink "RoofRegattaModel" (192 : Nat) ({ cls := "RoofRegattaModel", name := "bendLine", desc := "()V" } : Jvm.MethodName)) ∈ lw_all := lw_g (lw_at lw_m8 83 rfl) rfl
theorem q1887 : (Jvm.Cond.privateMethod ({ cls := "RoofRegattaModel", name := "bendLine", desc := "()V" } : Jvm.MethodName)) ∈ lw_tbl := lw_at lw_m8 84 rfl
theorem q1888 : (Jvm.Cond.instanceMethod ({ cls := "RoofRegattaModel", name := "bendLine", desc := "()V" } : Jvm.MethodName)) ∈ lw_all := lw_g (lw_at lw_m8 85 rfl) rfl
theorem q1889 : (Jvm.Cond.code ({ cls := "RoofRegattaModel", name := "bendLine", desc := "()V" } : Jvm.MethodName) prog_15_method_34_code (2 : Nat) (Option.none : Option Jvm.ClassFile.FieldType)) ∈ lw_all := lw_g (lw_at lw_m8 86 rfl) rfl
theorem q1890 : (Jvm.Cond.methodLink "RoofRegattaModel" (227 : Nat) ({ cls := "RoofRegattaModel", name := "newName", desc := "(I)V" } : Jvm.MethodName)) ∈ lw_all := lw_g (lw_at lw_m8 87 rfl) rfl
theorem q1891 : (Jvm.Cond.privateMethod ({ cls := "RoofRegattaModel", name := "newName", desc := "(I)V" } : Jvm.MethodName)) ∈ lw_tbl := lw_at lw_m8 88 rfl
theorem q1892 : (Jvm.Cond.instanceMethod ({ cls := "RoofRegattaModel", name := "newName", desc := "(I)V" } : Jvm.MethodName)) ∈ lw_all := lw_g (lw_at lw_m8 89 rfl) rfl
theorem q1893 : (Jvm.Cond.code ({ cls := "RoofRegattaModel", name := "newName", desc := "(I)V" } : Jvm.MethodName) prog_15_method_22_code (3 : Nat) (Option.none : Option Jvm.ClassFile.FieldType)) ∈ lw_all := lw_g (lw_at lw_m8 90 rfl) rfl
theorem q1894 : (Jvm.Cond.methodLink "RoofRegattaModel" (138 : Nat) ({ cls := "RoofRegattaModel", name := "mustName", desc := "()V" } : Jvm.MethodName)) ∈ lw_all := lw_g (lw_at lw_m8 91 rfl) rfl
theorem q1895 : (Jvm.Cond.privateMethod ({ cls := "RoofRegattaModel", name := "mustName", desc := "()V" } : Jvm.MethodName)) ∈ lw_tbl := lw_at lw_m8 92 rfl
theorem q1896 : (Jvm.Cond.instanceMethod ({ cls := "RoofRegattaModel", name := "mustName", desc := "()V" } : Jvm.MethodName)) ∈ lw_all := lw_g (lw_at lw_m8 93 rfl) rfl
theorem q1897 : (Jvm.Cond.code ({ cls := "RoofRegattaModel", name := "mustName", desc := "()V" } : Jvm.MethodName) prog_15_method_20_code (1 : Nat) (Option.none : Option Jvm.ClassFile.FieldType)) ∈ lw_all := lw_g (lw_at lw_m8 94 rfl) rfl
theorem q1898 : (Jvm.Cond.stringRef "RoofRegattaModel" (126 : Nat) "house") ∈ lw_tbl := lw_at lw_m8 95 rfl
theorem q1899 : (Jvm.Cond.stringRef "RoofRegattaModel" (128 : Nat) "lodger") ∈ lw_tbl := lw_at lw_m8 96 rfl
theorem q1900 : (Jvm.Cond.stringRef "RoofRegattaModel" (130 : Nat) "aboard") ∈ lw_tbl := lw_at lw_m8 97 rfl
theorem q1901 : (Jvm.Cond.stringRef "RoofRegattaModel" (132 : Nat) "friend") ∈ lw_tbl := lw_at lw_m8 98 rfl
theorem q1902 : (Jvm.Cond.stringRef "RoofRegattaModel" (134 : Nat) "prize") ∈ lw_tbl := lw_at lw_m8 99 rfl
theorem q1903 : (Jvm.Cond.stringRef "RoofRegattaModel" (136 : Nat) "saw") ∈ lw_tbl := lw_at lw_m8 100 rfl
theorem q1904 : (Jvm.Cond.methodLink "RoofRegattaModel" (141 : Nat) ({ cls := "RoofRegattaModel", name := "find", desc := "()I" } : Jvm.MethodName)) ∈ lw_all := lw_g (lw_at lw_m8 101 rfl) rfl
theorem q1905 : (Jvm.Cond.privateMethod ({ cls := "RoofRegattaModel", name := "find", desc := "()I" } : Jvm.MethodName)) ∈ lw_tbl := lw_at lw_m8 102 rfl
theorem q1906 : (Jvm.Cond.instanceMethod ({ cls := "RoofRegattaModel", name := "find", desc := "()I" } : Jvm.MethodName)) ∈ lw_all := lw_g (lw_at lw_m8 103 rfl) rfl
theorem q1907 : (Jvm.Cond.code ({ cls := "RoofRegattaModel", name := "find", desc := "()I" } : Jvm.MethodName) prog_15_method_21_code (4 : Nat) (Option.some Jvm.ClassFile.FieldType.int)) ∈ lw_all := lw_g (lw_at lw_m8 104 rfl) rfl
theorem q1908 : (Jvm.Cond.stringRef "RoofRegattaModel" (231 : Nat) "long") ∈ lw_tbl := lw_at lw_m8 105 rfl
theorem q1909 : (Jvm.Cond.methodLink "RoofRegattaModel" (233 : Nat) ({ cls := "RoofRegattaModel", name := "side", desc := "()I" } : Jvm.MethodName)) ∈ lw_all := lw_g (lw_at lw_m8 106 rfl) rfl
theorem q1910 : (Jvm.Cond.privateMethod ({ cls := "RoofRegattaModel", name := "side", desc := "()I" } : Jvm.MethodName)) ∈ lw_tbl := lw_at lw_m8 107 rfl
theorem q1911 : (Jvm.Cond.instanceMethod ({ cls := "RoofRegattaModel", name := "side", desc := "()I" } : Jvm.MethodName)) ∈ lw_all := lw_g (lw_at lw_m8 108 rfl) rfl
theorem q1912 : (Jvm.Cond.code ({ cls := "RoofRegattaModel", name := "side", desc := "()I" } : Jvm.MethodName) prog_15_method_29_code (1 : Nat) (Option.some Jvm.ClassFile.FieldType.int)) ∈ lw_all := lw_g (lw_at lw_m8 109 rfl) rfl
theorem q1913 : (Jvm.Cond.stringRef "RoofRegattaModel" (159 : Nat) "left") ∈ lw_tbl := lw_at lw_m8 110 rfl
theorem q1914 : (Jvm.Cond.stringRef "RoofRegattaModel" (161 : Nat) "right") ∈ lw_tbl := lw_at lw_m8 111 rfl
theorem q1915 : (Jvm.Cond.methodLink "RoofRegattaModel" (195 : Nat) ({ cls := "RoofRegattaModel", name := "houseLine", desc := "()V" } : Jvm.MethodName)) ∈ lw_all := lw_g (lw_at lw_m8 112 rfl) rfl
theorem q1916 : (Jvm.Cond.privateMethod ({ cls := "RoofRegattaModel", name := "houseLine", desc := "()V" } : Jvm.MethodName)) ∈ lw_tbl := lw_at lw_m8 113 rfl
theorem q1917 : (Jvm.Cond.instanceMethod ({ cls := "RoofRegattaModel", name := "houseLine", desc := "()V" } : Jvm.MethodName)) ∈ lw_all := lw_g (lw_at lw_m8 114 rfl) rfl
theorem q1918 : (Jvm.Cond.code ({ cls := "RoofRegattaModel", name := "houseLine", desc := "()V" } : Jvm.MethodName) prog_15_method_35_code (3 : Nat) (Option.none : Option Jvm.ClassFile.FieldType)) ∈ lw_all := lw_g (lw_at lw_m8 115 rfl) rfl
theorem q1919 : (Jvm.Cond.stringRef "RoofRegattaModel" (236 : Nat) "cottage") ∈ lw_tbl := lw_at lw_m8 116 rfl
theorem q1920 : (Jvm.Cond.stringRef "RoofRegattaModel" (238 : Nat) "terrace") ∈ lw_tbl := lw_at lw_m8 117 rfl
theorem q1921 : (Jvm.Cond.stringRef "RoofRegattaModel" (240 : Nat) "villa") ∈ lw_tbl := lw_at lw_m8 118 rfl
theorem q1922 : (Jvm.Cond.stringRef "RoofRegattaModel" (242 : Nat) "pub") ∈ lw_tbl := lw_at lw_m8 119 rfl
theorem q1923 : (Jvm.Cond.stringRef "RoofRegattaModel" (244 : Nat) "tiles") ∈ lw_tbl := lw_at lw_m8 120 rfl
theorem q1924 : (Jvm.Cond.stringRef "RoofRegattaModel" (246 : Nat) "storeys") ∈ lw_tbl := lw_at lw_m8 121 rfl
theorem q1925 : (Jvm.Cond.methodLink "RoofRegattaModel" (198 : Nat) ({ cls := "RoofRegattaModel", name := "lodgerLine", desc := "()V" } : Jvm.MethodName)) ∈ lw_all := lw_g (lw_at lw_m8 122 rfl) rfl
theorem q1926 : (Jvm.Cond.privateMethod ({ cls := "RoofRegattaModel", name := "lodgerLine", desc := "()V" } : Jvm.MethodName)) ∈ lw_tbl := lw_at lw_m8 123 rfl
theorem q1927 : (Jvm.Cond.instanceMethod ({ cls := "RoofRegattaModel", name := "lodgerLine", desc := "()V" } : Jvm.MethodName)) ∈ lw_all := lw_g (lw_at lw_m8 124 rfl) rfl
theorem q1928 : (Jvm.Cond.code ({ cls := "RoofRegattaModel", name := "lodgerLine", desc := "()V" } : Jvm.MethodName) prog_15_method_36_code (2 : Nat) (Option.none : Option Jvm.ClassFile.FieldType)) ∈ lw_all := lw_g (lw_at lw_m8 125 rfl) rfl
theorem q1929 : (Jvm.Cond.stringRef "RoofRegattaModel" (248 : Nat) "weighs") ∈ lw_tbl := lw_at lw_m8 126 rfl
theorem q1930 : (Jvm.Cond.stringRef "RoofRegattaModel" (250 : Nat) "rows") ∈ lw_tbl := lw_at lw_m8 127 rfl
theorem q1931 : (Jvm.Cond.methodLink "RoofRegattaModel" (201 : Nat) ({ cls := "RoofRegattaModel", name := "aboardLine", desc := "()V" } : Jvm.MethodName)) ∈ lw_all := lw_g (lw_at lw_m8 128 rfl) rfl
theorem q1932 : (Jvm.Cond.privateMethod ({ cls := "RoofRegattaModel", name := "aboardLine", desc := "()V" } : Jvm.MethodName)) ∈ lw_tbl := lw_at lw_m8 129 rfl
theorem q1933 : (Jvm.Cond.instanceMethod ({ cls := "RoofRegattaModel", name := "aboardLine", desc := "()V" } : Jvm.MethodName)) ∈ lw_all := lw_g (lw_at lw_m8 130 rfl) rfl
theorem q1934 : (Jvm.Cond.code ({ cls := "RoofRegattaModel", name := "aboardLine", desc := "()V" } : Jvm.MethodName) prog_15_method_37_code (5 : Nat) (Option.none : Option Jvm.ClassFile.FieldType)) ∈ lw_all := lw_g (lw_at lw_m8 131 rfl) rfl
theorem q1935 : (Jvm.Cond.methodLink "RoofRegattaModel" (252 : Nat) ({ cls := "RoofRegattaModel", name := "lodgerHere", desc := "()I" } : Jvm.MethodName)) ∈ lw_all := lw_g (lw_at lw_m8 132 rfl) rfl
theorem q1936 : (Jvm.Cond.privateMethod ({ cls := "RoofRegattaModel", name := "lodgerHere", desc := "()I" } : Jvm.MethodName)) ∈ lw_tbl := lw_at lw_m8 133 rfl
theorem q1937 : (Jvm.Cond.instanceMethod ({ cls := "RoofRegattaModel", name := "lodgerHere", desc := "()I" } : Jvm.MethodName)) ∈ lw_all := lw_g (lw_at lw_m8 134 rfl) rfl
theorem q1938 : (Jvm.Cond.code ({ cls := "RoofRegattaModel", name := "lodgerHere", desc := "()I" } : Jvm.MethodName) prog_15_method_25_code (1 : Nat) (Option.some Jvm.ClassFile.FieldType.int)) ∈ lw_all := lw_g (lw_at lw_m8 135 rfl) rfl
theorem q1939 : (Jvm.Cond.methodLink "RoofRegattaModel" (148 : Nat) ({ cls := "RoofRegattaModel", name := "named", desc := "(II)I" } : Jvm.MethodName)) ∈ lw_all := lw_g (lw_at lw_m8 136 rfl) rfl
theorem q1940 : (Jvm.Cond.privateMethod ({ cls := "RoofRegattaModel", name := "named", desc := "(II)I" } : Jvm.MethodName)) ∈ lw_tbl := lw_at lw_m8 137 rfl
theorem q1941 : (Jvm.Cond.instanceMethod ({ cls := "RoofRegattaModel", name := "named", desc := "(II)I" } : Jvm.MethodName)) ∈ lw_all := lw_g (lw_at lw_m8 138 rfl) rfl
theorem q1942 : (Jvm.Cond.code ({ cls := "RoofRegattaModel", name := "named", desc := "(II)I" } : Jvm.MethodName) prog_15_method_23_code (4 : Nat) (Option.some Jvm.ClassFile.FieldType.int)) ∈ lw_all := lw_g (lw_at lw_m8 139 rfl) rfl
theorem q1943 : (Jvm.Cond.methodLink "RoofRegattaModel" (255 : Nat) ({ cls := "RoofRegattaModel", name := "pass", desc := "()V" } : Jvm.MethodName)) ∈ lw_all := lw_g (lw_at lw_m8 140 rfl) rfl
theorem q1944 : (Jvm.Cond.privateMethod ({ cls := "RoofRegattaModel", name := "pass", desc := "()V" } : Jvm.MethodName)) ∈ lw_tbl := lw_at lw_m8 141 rfl
theorem q1945 : (Jvm.Cond.instanceMethod ({ cls := "RoofRegattaModel", name := "pass", desc := "()V" } : Jvm.MethodName)) ∈ lw_all := lw_g (lw_at lw_m8 142 rfl) rfl
theorem q1946 : (Jvm.Cond.code ({ cls := "RoofRegattaModel", name := "pass", desc := "()V" } : Jvm.MethodName) prog_15_method_26_code (1 : Nat) (Option.none : Option Jvm.ClassFile.FieldType)) ∈ lw_all := lw_g (lw_at lw_m8 143 rfl) rfl
theorem q1947 : (Jvm.Cond.methodLink "RoofRegattaModel" (258 : Nat) ({ cls := "RoofRegattaModel", name := "houseHere", desc := "()I" } : Jvm.MethodName)) ∈ lw_all := lw_g (lw_at lw_m8 144 rfl) rfl
theorem q1948 : (Jvm.Cond.privateMethod ({ cls := "RoofRegattaModel", name := "houseHere", desc := "()I" } : Jvm.MethodName)) ∈ lw_tbl := lw_at lw_m8 145 rfl
theorem q1949 : (Jvm.Cond.instanceMethod ({ cls := "RoofRegattaModel", name := "houseHere", desc := "()I" } : Jvm.MethodName)) ∈ lw_all := lw_g (lw_at lw_m8 146 rfl) rfl
theorem q1950 : (Jvm.Cond.code ({ cls := "RoofRegattaModel", name := "houseHere", desc := "()I" } : Jvm.MethodName) prog_15_method_24_code (1 : Nat) (Option.some Jvm.ClassFile.FieldType.int)) ∈ lw_all := lw_g (lw_at lw_m8 147 rfl) rfl
theorem q1951 : (Jvm.Cond.methodLink "RoofRegattaModel" (204 : Nat) ({ cls := "RoofRegattaModel", name := "friendLine", desc := "()V" } : Jvm.MethodName)) ∈ lw_all := lw_g (lw_at lw_m8 148 rfl) rfl
theorem q1952 : (Jvm.Cond.privateMethod ({ cls := "RoofRegattaModel", name := "friendLine", desc := "()V" } : Jvm.MethodName)) ∈ lw_tbl := lw_at lw_m8 149 rfl
theorem q1953 : (Jvm.Cond.instanceMethod ({ cls := "RoofRegattaModel", name := "friendLine", desc := "()V" } : Jvm.MethodName)) ∈ lw_all := lw_g (lw_at lw_m8 150 rfl) rfl
theorem q1954 : (Jvm.Cond.code ({ cls := "RoofRegattaModel", name := "friendLine", desc := "()V" } : Jvm.MethodName) prog_15_method_38_code (3 : Nat) (Option.none : Option Jvm.ClassFile.FieldType)) ∈ lw_all := lw_g (lw_at lw_m8 151 rfl) rfl
theorem q1955 : (Jvm.Cond.methodLink "RoofRegattaModel" (261 : Nat) ({ cls := "RoofRegattaModel", name := "hasBit", desc := "(II)Z" } : Jvm.MethodName)) ∈ lw_all := lw_g (lw_at lw_m8 152 rfl) rfl
theorem q1956 : (Jvm.Cond.static ({ cls := "RoofRegattaModel", name := "hasBit", desc := "(II)Z" } : Jvm.MethodName)) ∈ lw_all := lw_g (lw_at lw_m8 153 rfl) rfl
theorem q1957 : (Jvm.Cond.code ({ cls := "RoofRegattaModel", name := "hasBit", desc := "(II)Z" } : Jvm.MethodName) prog_15_method_7_code (2 : Nat) (Option.some Jvm.ClassFile.FieldType.boolean)) ∈ lw_all := lw_g (lw_at lw_m8 154 rfl) rfl
theorem q1958 : (Jvm.Cond.methodLink "RoofRegattaModel" (207 : Nat) ({ cls := "RoofRegattaModel", name := "prizeLine", desc := "()V" } : Jvm.MethodName)) ∈ lw_all := lw_g (lw_at lw_m8 155 rfl) rfl
theorem q1959 : (Jvm.Cond.privateMethod ({ cls := "RoofRegattaModel", name := "prizeLine", desc := "()V" } : Jvm.MethodName)) ∈ lw_tbl := lw_at lw_m8 156 rfl
theorem q1960 : (Jvm.Cond.instanceMethod ({ cls := "RoofRegattaModel", name := "prizeLine", desc := "()V" } : Jvm.MethodName)) ∈ lw_all := lw_g (lw_at lw_m8 157 rfl) rfl
theorem q1961 : (Jvm.Cond.code ({ cls := "RoofRegattaModel", name := "prizeLine", desc := "()V" } : Jvm.MethodName) prog_15_method_39_code (2 : Nat) (Option.none : Option Jvm.ClassFile.FieldType)) ∈ lw_all := lw_g (lw_at lw_m8 158 rfl) rfl
theorem q1962 : (Jvm.Cond.methodLink "RoofRegattaModel" (210 : Nat) ({ cls := "RoofRegattaModel", name := "sawLine", desc := "()V" } : Jvm.MethodName)) ∈ lw_all := lw_g (lw_at lw_m8 159 rfl) rfl
theorem q1963 : (Jvm.Cond.privateMethod ({ cls := "RoofRegattaModel", name := "sawLine", desc := "()V" } : Jvm.MethodName)) ∈ lw_tbl := lw_at lw_m8 160 rfl
theorem q1964 : (Jvm.Cond.instanceMethod ({ cls := "RoofRegattaModel", name := "sawLine", desc := "()V" } : Jvm.MethodName)) ∈ lw_all := lw_g (lw_at lw_m8 161 rfl) rfl
theorem q1965 : (Jvm.Cond.code ({ cls := "RoofRegattaModel", name := "sawLine", desc := "()V" } : Jvm.MethodName) prog_15_method_40_code (5 : Nat) (Option.none : Option Jvm.ClassFile.FieldType)) ∈ lw_all := lw_g (lw_at lw_m8 162 rfl) rfl
theorem q1966 : (Jvm.Cond.methodLink "RoofRegattaModel" (172 : Nat) ({ cls := "RoofRegattaModel", name := "copy", desc := "([II[III)V" } : Jvm.MethodName)) ∈ lw_all := lw_g (lw_at lw_m8 163 rfl) rfl
theorem q1967 : (Jvm.Cond.static ({ cls := "RoofRegattaModel", name := "copy", desc := "([II[III)V" } : Jvm.MethodName)) ∈ lw_all := lw_g (lw_at lw_m8 164 rfl) rfl
theorem q1968 : (Jvm.Cond.code ({ cls := "RoofRegattaModel", name := "copy", desc := "([II[III)V" } : Jvm.MethodName) prog_15_method_9_code (6 : Nat) (Option.none : Option Jvm.ClassFile.FieldType)) ∈ lw_all := lw_g (lw_at lw_m8 165 rfl) rfl
theorem q1970 : (Jvm.Cond.instanceMethod ({ cls := "RoofRegattaModel", name := "fault", desc := "()I" } : Jvm.MethodName)) ∈ lw_all := lw_g (lw_at lw_m8 167 rfl) rfl
theorem q1971 : (Jvm.Cond.selects "RoofRegattaModel" ({ cls := "RoofRegattaModel", name := "fault", desc := "()I" } : Jvm.MethodName) ({ cls := "RoofRegattaModel", name := "fault", desc := "()I" } : Jvm.MethodName)) ∈ lw_all := lw_g (lw_at lw_m8 168 rfl) rfl
theorem q1972 : (Jvm.Cond.code ({ cls := "RoofRegattaModel", name := "fault", desc := "()I" } : Jvm.MethodName) prog_15_method_41_code (1 : Nat) (Option.some Jvm.ClassFile.FieldType.int)) ∈ lw_all := lw_g (lw_at lw_m8 169 rfl) rfl
theorem q1974 : (Jvm.Cond.instanceMethod ({ cls := "RoofRegattaModel", name := "where", desc := "()I" } : Jvm.MethodName)) ∈ lw_all := lw_g (lw_at lw_m8 171 rfl) rfl
theorem q1975 : (Jvm.Cond.selects "RoofRegattaModel" ({ cls := "RoofRegattaModel", name := "where", desc := "()I" } : Jvm.MethodName) ({ cls := "RoofRegattaModel", name := "where", desc := "()I" } : Jvm.MethodName)) ∈ lw_all := lw_g (lw_at lw_m8 172 rfl) rfl
theorem q1976 : (Jvm.Cond.code ({ cls := "RoofRegattaModel", name := "where", desc := "()I" } : Jvm.MethodName) prog_15_method_42_code (1 : Nat) (Option.some Jvm.ClassFile.FieldType.int)) ∈ lw_all := lw_g (lw_at lw_m8 173 rfl) rfl
theorem q1978 : (Jvm.Cond.instanceMethod ({ cls := "RoofRegattaModel", name := "house", desc := "(II)I" } : Jvm.MethodName)) ∈ lw_all := lw_g (lw_at lw_m8 175 rfl) rfl
theorem q1979 : (Jvm.Cond.selects "RoofRegattaModel" ({ cls := "RoofRegattaModel", name := "house", desc := "(II)I" } : Jvm.MethodName) ({ cls := "RoofRegattaModel", name := "house", desc := "(II)I" } : Jvm.MethodName)) ∈ lw_all := lw_g (lw_at lw_m8 176 rfl) rfl
theorem q1980 : (Jvm.Cond.code ({ cls := "RoofRegattaModel", name := "house", desc := "(II)I" } : Jvm.MethodName) prog_15_method_61_code (3 : Nat) (Option.some Jvm.ClassFile.FieldType.int)) ∈ lw_all := lw_g (lw_at lw_m8 177 rfl) rfl
theorem q1981 : (Jvm.Cond.methodLink "RoofRegattaModel" (306 : Nat) ({ cls := "RoofRegattaModel", name := "dry", desc := "()V" } : Jvm.MethodName)) ∈ lw_all := lw_g (lw_at lw_m8 178 rfl) rfl
theorem q1982 : (Jvm.Cond.privateMethod ({ cls := "RoofRegattaModel", name := "dry", desc := "()V" } : Jvm.MethodName)) ∈ lw_tbl := lw_at lw_m8 179 rfl
theorem q1983 : (Jvm.Cond.instanceMethod ({ cls := "RoofRegattaModel", name := "dry", desc := "()V" } : Jvm.MethodName)) ∈ lw_all := lw_g (lw_at lw_m8 180 rfl) rfl
theorem q1984 : (Jvm.Cond.code ({ cls := "RoofRegattaModel", name := "dry", desc := "()V" } : Jvm.MethodName) prog_15_method_60_code (1 : Nat) (Option.none : Option Jvm.ClassFile.FieldType)) ∈ lw_all := lw_g (lw_at lw_m8 181 rfl) rfl
theorem q1985 : (Jvm.Cond.methodLink "RoofRegattaModel" (309 : Nat) ({ cls := "RoofRegattaModel", name := "isHouse", desc := "(I)Z" } : Jvm.MethodName)) ∈ lw_all := lw_g (lw_at lw_m8 182 rfl) rfl
theorem q1986 : (Jvm.Cond.privateMethod ({ cls := "RoofRegattaModel", name := "isHouse", desc := "(I)Z" } : Jvm.MethodName)) ∈ lw_tbl := lw_at lw_m8 183 rfl
theorem q1987 : (Jvm.Cond.instanceMethod ({ cls := "RoofRegattaModel", name := "isHouse", desc := "(I)Z" } : Jvm.MethodName)) ∈ lw_all := lw_g (lw_at lw_m8 184 rfl) rfl
theorem q1988 : (Jvm.Cond.code ({ cls := "RoofRegattaModel", name := "isHouse", desc := "(I)Z" } : Jvm.MethodName) prog_15_method_43_code (2 : Nat) (Option.some Jvm.ClassFile.FieldType.boolean)) ∈ lw_all := lw_g (lw_at lw_m8 185 rfl) rfl
theorem q1989 : (Jvm.Cond.methodLink "RoofRegattaModel" (265 : Nat) ({ cls := "RoofRegattaModel", name := "kindOf", desc := "(I)I" } : Jvm.MethodName)) ∈ lw_all := lw_g (lw_at lw_m8 186 rfl) rfl
theorem q1990 : (Jvm.Cond.privateMethod ({ cls := "RoofRegattaModel", name := "kindOf", desc := "(I)I" } : Jvm.MethodName)) ∈ lw_tbl := lw_at lw_m8 187 rfl
theorem q1991 : (Jvm.Cond.instanceMethod ({ cls := "RoofRegattaModel", name := "kindOf", desc := "(I)I" } : Jvm.MethodName)) ∈ lw_all := lw_g (lw_at lw_m8 188 rfl) rfl
theorem q1992 : (Jvm.Cond.code ({ cls := "RoofRegattaModel", name := "kindOf", desc := "(I)I" } : Jvm.MethodName) prog_15_method_46_code (2 : Nat) (Option.some Jvm.ClassFile.FieldType.int)) ∈ lw_all := lw_g (lw_at lw_m8 189 rfl) rfl
theorem q1993 : (Jvm.Cond.methodLink "RoofRegattaModel" (284 : Nat) ({ cls := "RoofRegattaModel", name := "storeysOf", desc := "(I)I" } : Jvm.MethodName)) ∈ lw_all := lw_g (lw_at lw_m8 190 rfl) rfl
theorem q1994 : (Jvm.Cond.privateMethod ({ cls := "RoofRegattaModel", name := "storeysOf", desc := "(I)I" } : Jvm.MethodName)) ∈ lw_tbl := lw_at lw_m8 191 rfl
theorem q1995 : (Jvm.Cond.instanceMethod ({ cls := "RoofRegattaModel", name := "storeysOf", desc := "(I)I" } : Jvm.MethodName)) ∈ lw_all := lw_g (lw_at lw_m8 192 rfl) rfl
theorem q1996 : (Jvm.Cond.code ({ cls := "RoofRegattaModel", name := "storeysOf", desc := "(I)I" } : Jvm.MethodName) prog_15_method_47_code (2 : Nat) (Option.some Jvm.ClassFile.FieldType.int)) ∈ lw_all := lw_g (lw_at lw_m8 193 rfl) rfl
theorem q1997 : (Jvm.Cond.methodLink "RoofRegattaModel" (275 : Nat) ({ cls := "RoofRegattaModel", name := "weightOf", desc := "([II)I" } : Jvm.MethodName)) ∈ lw_all := lw_g (lw_at lw_m8 194 rfl) rfl
theorem q1998 : (Jvm.Cond.privateMethod ({ cls := "RoofRegattaModel", name := "weightOf", desc := "([II)I" } : Jvm.MethodName)) ∈ lw_tbl := lw_at lw_m8 195 rfl
theorem q1999 : (Jvm.Cond.instanceMethod ({ cls := "RoofRegattaModel", name := "weightOf", desc := "([II)I" } : Jvm.MethodName)) ∈ lw_all := lw_g (lw_at lw_m8 196 rfl) rfl
theorem q2000 : (Jvm.Cond.code ({ cls := "RoofRegattaModel", name := "weightOf", desc := "([II)I" } : Jvm.MethodName) prog_15_method_49_code (5 : Nat) (Option.some Jvm.ClassFile.FieldType.int)) ∈ lw_all := lw_g (lw_at lw_m8 197 rfl) rfl
theorem q2001 : (Jvm.Cond.methodLink "RoofRegattaModel" (278 : Nat) ({ cls := "RoofRegattaModel", name := "powerOf", desc := "([II)I" } : Jvm.MethodName)) ∈ lw_all := lw_g (lw_at lw_m8 198 rfl) rfl
theorem q2002 : (Jvm.Cond.privateMethod ({ cls := "RoofRegattaModel", name := "powerOf", desc := "([II)I" } : Jvm.MethodName)) ∈ lw_tbl := lw_at lw_m8 199 rfl
theorem q2003 : (Jvm.Cond.instanceMethod ({ cls := "RoofRegattaModel", name := "powerOf", desc := "([II)I" } : Jvm.MethodName)) ∈ lw_all := lw_g (lw_at lw_m8 200 rfl) rfl
theorem q2004 : (Jvm.Cond.code ({ cls := "RoofRegattaModel", name := "powerOf", desc := "([II)I" } : Jvm.MethodName) prog_15_method_50_code (5 : Nat) (Option.some Jvm.ClassFile.FieldType.int)) ∈ lw_all := lw_g (lw_at lw_m8 201 rfl) rfl
theorem q2005 : (Jvm.Cond.methodLink "RoofRegattaModel" (268 : Nat) ({ cls := "RoofRegattaModel", name := "aboardOf", desc := "([II)I" } : Jvm.MethodName)) ∈ lw_all := lw_g (lw_at lw_m8 202 rfl) rfl
theorem q2006 : (Jvm.Cond.privateMethod ({ cls := "RoofRegattaModel", name := "aboardOf", desc := "([II)I" } : Jvm.MethodName)) ∈ lw_tbl := lw_at lw_m8 203 rfl
theorem q2007 : (Jvm.Cond.instanceMethod ({ cls := "RoofRegattaModel", name := "aboardOf", desc := "([II)I" } : Jvm.MethodName)) ∈ lw_all := lw_g (lw_at lw_m8 204 rfl) rfl
theorem q2008 : (Jvm.Cond.code ({ cls := "RoofRegattaModel", name := "aboardOf", desc := "([II)I" } : Jvm.MethodName) prog_15_method_48_code (5 : Nat) (Option.some Jvm.ClassFile.FieldType.int)) ∈ lw_all := lw_g (lw_at lw_m8 205 rfl) rfl
theorem q2009 : (Jvm.Cond.methodLink "RoofRegattaModel" (272 : Nat) ({ cls := "RoofRegattaModel", name := "ones", desc := "(I)I" } : Jvm.MethodName)) ∈ lw_all := lw_g (lw_at lw_m8 206 rfl) rfl
theorem q2010 : (Jvm.Cond.static ({ cls := "RoofRegattaModel", name := "ones", desc := "(I)I" } : Jvm.MethodName)) ∈ lw_all := lw_g (lw_at lw_m8 207 rfl) rfl
theorem q2011 : (Jvm.Cond.code ({ cls := "RoofRegattaModel", name := "ones", desc := "(I)I" } : Jvm.MethodName) prog_15_method_8_code (3 : Nat) (Option.some Jvm.ClassFile.FieldType.int)) ∈ lw_all := lw_g (lw_at lw_m8 208 rfl) rfl
theorem q2013 : (Jvm.Cond.instanceMethod ({ cls := "RoofRegattaModel", name := "lodger", desc := "(II)I" } : Jvm.MethodName)) ∈ lw_all := lw_g (lw_at lw_m8 210 rfl) rfl
theorem q2014 : (Jvm.Cond.selects "RoofRegattaModel" ({ cls := "RoofRegattaModel", name := "lodger", desc := "(II)I" } : Jvm.MethodName) ({ cls := "RoofRegattaModel", name := "lodger", desc := "(II)I" } : Jvm.MethodName)) ∈ lw_all := lw_g (lw_at lw_m8 211 rfl) rfl
theorem q2015 : (Jvm.Cond.code ({ cls := "RoofRegattaModel", name := "lodger", desc := "(II)I" } : Jvm.MethodName) prog_15_method_62_code (3 : Nat) (Option.some Jvm.ClassFile.FieldType.int)) ∈ lw_all := lw_g (lw_at lw_m8 212 rfl) rfl
theorem q2016 : (Jvm.Cond.methodLink "RoofRegattaModel" (312 : Nat) ({ cls := "RoofRegattaModel", name := "isLodger", desc := "(I)Z" } : Jvm.MethodName)) ∈ lw_all := lw_g (lw_at lw_m8 213 rfl) rfl
theorem q2017 : (Jvm.Cond.privateMethod ({ cls := "RoofRegattaModel", name := "isLodger", desc := "(I)Z" } : Jvm.MethodName)) ∈ lw_tbl := lw_at lw_m8 214 rfl
theorem q2018 : (Jvm.Cond.instanceMethod ({ cls := "RoofRegattaModel", name := "isLodger", desc := "(I)Z" } : Jvm.MethodName)) ∈ lw_all := lw_g (lw_at lw_m8 215 rfl) rfl
theorem q2019 : (Jvm.Cond.code ({ cls := "RoofRegattaModel", name := "isLodger", desc := "(I)Z" } : Jvm.MethodName) prog_15_method_44_code (2 : Nat) (Option.some Jvm.ClassFile.FieldType.boolean)) ∈ lw_all := lw_g (lw_at lw_m8 216 rfl) rfl
theorem q2021 : (Jvm.Cond.instanceMethod ({ cls := "RoofRegattaModel", name := "bend", desc := "(II)I" } : Jvm.MethodName)) ∈ lw_all := lw_g (lw_at lw_m8 218 rfl) rfl
theorem q2022 : (Jvm.Cond.selects "RoofRegattaModel" ({ cls := "RoofRegattaModel", name := "bend", desc := "(II)I" } : Jvm.MethodName) ({ cls := "RoofRegattaModel", name := "bend", desc := "(II)I" } : Jvm.MethodName)) ∈ lw_all := lw_g (lw_at lw_m8 219 rfl) rfl
theorem q2023 : (Jvm.Cond.code ({ cls := "RoofRegattaModel", name := "bend", desc := "(II)I" } : Jvm.MethodName) prog_15_method_63_code (3 : Nat) (Option.some Jvm.ClassFile.FieldType.int)) ∈ lw_all := lw_g (lw_at lw_m8 220 rfl) rfl
theorem q2024 : (Jvm.Cond.methodLink "RoofRegattaModel" (315 : Nat) ({ cls := "RoofRegattaModel", name := "isBend", desc := "(I)Z" } : Jvm.MethodName)) ∈ lw_all := lw_g (lw_at lw_m8 221 rfl) rfl
theorem q2025 : (Jvm.Cond.privateMethod ({ cls := "RoofRegattaModel", name := "isBend", desc := "(I)Z" } : Jvm.MethodName)) ∈ lw_tbl := lw_at lw_m8 222 rfl
theorem q2026 : (Jvm.Cond.instanceMethod ({ cls := "RoofRegattaModel", name := "isBend", desc := "(I)Z" } : Jvm.MethodName)) ∈ lw_all := lw_g (lw_at lw_m8 223 rfl) rfl
theorem q2027 : (Jvm.Cond.code ({ cls := "RoofRegattaModel", name := "isBend", desc := "(I)Z" } : Jvm.MethodName) prog_15_method_45_code (2 : Nat) (Option.some Jvm.ClassFile.FieldType.boolean)) ∈ lw_all := lw_g (lw_at lw_m8 224 rfl) rfl
theorem q2029 : (Jvm.Cond.instanceMethod ({ cls := "RoofRegattaModel", name := "time", desc := "(II)I" } : Jvm.MethodName)) ∈ lw_all := lw_g (lw_at lw_m8 226 rfl) rfl
theorem q2030 : (Jvm.Cond.selects "RoofRegattaModel" ({ cls := "RoofRegattaModel", name := "time", desc := "(II)I" } : Jvm.MethodName) ({ cls := "RoofRegattaModel", name := "time", desc := "(II)I" } : Jvm.MethodName)) ∈ lw_all := lw_g (lw_at lw_m8 227 rfl) rfl
theorem q2031 : (Jvm.Cond.code ({ cls := "RoofRegattaModel", name := "time", desc := "(II)I" } : Jvm.MethodName) prog_15_method_64_code (3 : Nat) (Option.some Jvm.ClassFile.FieldType.int)) ∈ lw_all := lw_g (lw_at lw_m8 228 rfl) rfl
theorem q2032 : (Jvm.Cond.methodLink "RoofRegattaModel" (290 : Nat) ({ cls := "RoofRegattaModel", name := "timeOf", desc := "([III)I" } : Jvm.MethodName)) ∈ lw_all := lw_g (lw_at lw_m8 229 rfl) rfl
theorem q2033 : (Jvm.Cond.privateMethod ({ cls := "RoofRegattaModel", name := "timeOf", desc := "([III)I" } : Jvm.MethodName)) ∈ lw_tbl := lw_at lw_m8 230 rfl
theorem q2034 : (Jvm.Cond.instanceMethod ({ cls := "RoofRegattaModel", name := "timeOf", desc := "([III)I" } : Jvm.MethodName)) ∈ lw_all := lw_g (lw_at lw_m8 231 rfl) rfl
theorem q2035 : (Jvm.Cond.code ({ cls := "RoofRegattaModel", name := "timeOf", desc := "([III)I" } : Jvm.MethodName) prog_15_method_51_code (8 : Nat) (Option.some Jvm.ClassFile.FieldType.int)) ∈ lw_all := lw_g (lw_at lw_m8 232 rfl) rfl
theorem q2037 : (Jvm.Cond.instanceMethod ({ cls := "RoofRegattaModel", name := "soFar", desc := "(II)I" } : Jvm.MethodName)) ∈ lw_all := lw_g (lw_at lw_m8 234 rfl) rfl
theorem q2038 : (Jvm.Cond.selects "RoofRegattaModel" ({ cls := "RoofRegattaModel", name := "soFar", desc := "(II)I" } : Jvm.MethodName) ({ cls := "RoofRegattaModel", name := "soFar", desc := "(II)I" } : Jvm.MethodName)) ∈ lw_all := lw_g (lw_at lw_m8 235 rfl) rfl
theorem q2039 : (Jvm.Cond.code ({ cls := "RoofRegattaModel", name := "soFar", desc := "(II)I" } : Jvm.MethodName) prog_15_method_65_code (3 : Nat) (Option.some Jvm.ClassFile.FieldType.int)) ∈ lw_all := lw_g (lw_at lw_m8 236 rfl) rfl
theorem q2040 : (Jvm.Cond.methodLink "RoofRegattaModel" (294 : Nat) ({ cls := "RoofRegattaModel", name := "soFarOf", desc := "([III)I" } : Jvm.MethodName)) ∈ lw_all := lw_g (lw_at lw_m8 237 rfl) rfl
theorem q2041 : (Jvm.Cond.privateMethod ({ cls := "RoofRegattaModel", name := "soFarOf", desc := "([III)I" } : Jvm.MethodName)) ∈ lw_tbl := lw_at lw_m8 238 rfl
theorem q2042 : (Jvm.Cond.instanceMethod ({ cls := "RoofRegattaModel", name := "soFarOf", desc := "([III)I" } : Jvm.MethodName)) ∈ lw_all := lw_g (lw_at lw_m8 239 rfl) rfl
theorem q2043 : (Jvm.Cond.code ({ cls := "RoofRegattaModel", name := "soFarOf", desc := "([III)I" } : Jvm.MethodName) prog_15_method_53_code (6 : Nat) (Option.some Jvm.ClassFile.FieldType.int)) ∈ lw_all := lw_g (lw_at lw_m9 0 rfl) rfl
theorem q2044 : (Jvm.Cond.methodLink "RoofRegattaModel" (287 : Nat) ({ cls := "RoofRegattaModel", name := "bridgeOf", desc := "(I)I" } : Jvm.MethodName)) ∈ lw_all := lw_g (lw_at lw_m9 1 rfl) rfl
theorem q2045 : (Jvm.Cond.privateMethod ({ cls := "RoofRegattaModel", name := "bridgeOf", desc := "(I)I" } : Jvm.MethodName)) ∈ lw_tbl := lw_at lw_m9 2 rfl
theorem q2046 : (Jvm.Cond.instanceMethod ({ cls := "RoofRegattaModel", name := "bridgeOf", desc := "(I)I" } : Jvm.MethodName)) ∈ lw_all := lw_g (lw_at lw_m9 3 rfl) rfl
theorem q2047 : (Jvm.Cond.code ({ cls := "RoofRegattaModel", name := "bridgeOf", desc := "(I)I" } : Jvm.MethodName) prog_15_method_52_code (3 : Nat) (Option.some Jvm.ClassFile.FieldType.int)) ∈ lw_all := lw_g (lw_at lw_m9 4 rfl) rfl
theorem q2049 : (Jvm.Cond.instanceMethod ({ cls := "RoofRegattaModel", name := "total", desc := "(I)I" } : Jvm.MethodName)) ∈ lw_all := lw_g (lw_at lw_m9 6 rfl) rfl
theorem q2050 : (Jvm.Cond.selects "RoofRegattaModel" ({ cls := "RoofRegattaModel", name := "total", desc := "(I)I" } : Jvm.MethodName) ({ cls := "RoofRegattaModel", name := "total", desc := "(I)I" } : Jvm.MethodName)) ∈ lw_all := lw_g (lw_at lw_m9 7 rfl) rfl
theorem q2051 : (Jvm.Cond.code ({ cls := "RoofRegattaModel", name := "total", desc := "(I)I" } : Jvm.MethodName) prog_15_method_66_code (2 : Nat) (Option.some Jvm.ClassFile.FieldType.int)) ∈ lw_all := lw_g (lw_at lw_m9 8 rfl) rfl
theorem q2052 : (Jvm.Cond.methodLink "RoofRegattaModel" (297 : Nat) ({ cls := "RoofRegattaModel", name := "totalOf", desc := "([II)I" } : Jvm.MethodName)) ∈ lw_all := lw_g (lw_at lw_m9 9 rfl) rfl
theorem q2053 : (Jvm.Cond.privateMethod ({ cls := "RoofRegattaModel", name := "totalOf", desc := "([II)I" } : Jvm.MethodName)) ∈ lw_tbl := lw_at lw_m9 10 rfl
theorem q2054 : (Jvm.Cond.instanceMethod ({ cls := "RoofRegattaModel", name := "totalOf", desc := "([II)I" } : Jvm.MethodName)) ∈ lw_all := lw_g (lw_at lw_m9 11 rfl) rfl
theorem q2055 : (Jvm.Cond.code ({ cls := "RoofRegattaModel", name := "totalOf", desc := "([II)I" } : Jvm.MethodName) prog_15_method_54_code (3 : Nat) (Option.some Jvm.ClassFile.FieldType.int)) ∈ lw_all := lw_g (lw_at lw_m9 12 rfl) rfl
theorem q2057 : (Jvm.Cond.instanceMethod ({ cls := "RoofRegattaModel", name := "loses", desc := "(I)I" } : Jvm.MethodName)) ∈ lw_all := lw_g (lw_at lw_m9 14 rfl) rfl
theorem q2058 : (Jvm.Cond.selects "RoofRegattaModel" ({ cls := "RoofRegattaModel", name := "loses", desc := "(I)I" } : Jvm.MethodName) ({ cls := "RoofRegattaModel", name := "loses", desc := "(I)I" } : Jvm.MethodName)) ∈ lw_all := lw_g (lw_at lw_m9 15 rfl) rfl
theorem q2059 : (Jvm.Cond.code ({ cls := "RoofRegattaModel", name := "loses", desc := "(I)I" } : Jvm.MethodName) prog_15_method_67_code (3 : Nat) (Option.some Jvm.ClassFile.FieldType.int)) ∈ lw_all := lw_g (lw_at lw_m9 16 rfl) rfl
theorem q2061 : (Jvm.Cond.instanceMethod ({ cls := "RoofRegattaModel", name := "rank", desc := "(I)I" } : Jvm.MethodName)) ∈ lw_all := lw_g (lw_at lw_m9 18 rfl) rfl
theorem q2062 : (Jvm.Cond.selects "RoofRegattaModel" ({ cls := "RoofRegattaModel", name := "rank", desc := "(I)I" } : Jvm.MethodName) ({ cls := "RoofRegattaModel", name := "rank", desc := "(I)I" } : Jvm.MethodName)) ∈ lw_all := lw_g (lw_at lw_m9 19 rfl) rfl
theorem q2063 : (Jvm.Cond.code ({ cls := "RoofRegattaModel", name := "rank", desc := "(I)I" } : Jvm.MethodName) prog_15_method_68_code (2 : Nat) (Option.some Jvm.ClassFile.FieldType.int)) ∈ lw_all := lw_g (lw_at lw_m9 20 rfl) rfl
theorem q2064 : (Jvm.Cond.methodLink "RoofRegattaModel" (318 : Nat) ({ cls := "RoofRegattaModel", name := "layRanks", desc := "([I)V" } : Jvm.MethodName)) ∈ lw_all := lw_g (lw_at lw_m9 21 rfl) rfl
theorem q2065 : (Jvm.Cond.privateMethod ({ cls := "RoofRegattaModel", name := "layRanks", desc := "([I)V" } : Jvm.MethodName)) ∈ lw_tbl := lw_at lw_m9 22 rfl
theorem q2066 : (Jvm.Cond.instanceMethod ({ cls := "RoofRegattaModel", name := "layRanks", desc := "([I)V" } : Jvm.MethodName)) ∈ lw_all := lw_g (lw_at lw_m9 23 rfl) rfl
theorem q2067 : (Jvm.Cond.code ({ cls := "RoofRegattaModel", name := "layRanks", desc := "([I)V" } : Jvm.MethodName) prog_15_method_55_code (6 : Nat) (Option.none : Option Jvm.ClassFile.FieldType)) ∈ lw_all := lw_g (lw_at lw_m9 24 rfl) rfl
theorem q2068 : (Jvm.Cond.methodLink "RoofRegattaModel" (303 : Nat) ({ cls := "RoofRegattaModel", name := "isBetter", desc := "(II)Z" } : Jvm.MethodName)) ∈ lw_all := lw_g (lw_at lw_m9 25 rfl) rfl
theorem q2069 : (Jvm.Cond.privateMethod ({ cls := "RoofRegattaModel", name := "isBetter", desc := "(II)Z" } : Jvm.MethodName)) ∈ lw_tbl := lw_at lw_m9 26 rfl
theorem q2070 : (Jvm.Cond.instanceMethod ({ cls := "RoofRegattaModel", name := "isBetter", desc := "(II)Z" } : Jvm.MethodName)) ∈ lw_all := lw_g (lw_at lw_m9 27 rfl) rfl
theorem q2071 : (Jvm.Cond.code ({ cls := "RoofRegattaModel", name := "isBetter", desc := "(II)Z" } : Jvm.MethodName) prog_15_method_56_code (3 : Nat) (Option.some Jvm.ClassFile.FieldType.boolean)) ∈ lw_all := lw_g (lw_at lw_m9 28 rfl) rfl
theorem q2073 : (Jvm.Cond.instanceMethod ({ cls := "RoofRegattaModel", name := "ranked", desc := "(I)I" } : Jvm.MethodName)) ∈ lw_all := lw_g (lw_at lw_m9 30 rfl) rfl
theorem q2074 : (Jvm.Cond.selects "RoofRegattaModel" ({ cls := "RoofRegattaModel", name := "ranked", desc := "(I)I" } : Jvm.MethodName) ({ cls := "RoofRegattaModel", name := "ranked", desc := "(I)I" } : Jvm.MethodName)) ∈ lw_all := lw_g (lw_at lw_m9 31 rfl) rfl
theorem q2075 : (Jvm.Cond.code ({ cls := "RoofRegattaModel", name := "ranked", desc := "(I)I" } : Jvm.MethodName) prog_15_method_69_code (3 : Nat) (Option.some Jvm.ClassFile.FieldType.int)) ∈ lw_all := lw_g (lw_at lw_m9 32 rfl) rfl
theorem q2077 : (Jvm.Cond.instanceMethod ({ cls := "RoofRegattaModel", name := "out", desc := "(I)I" } : Jvm.MethodName)) ∈ lw_all := lw_g (lw_at lw_m9 34 rfl) rfl
theorem q2078 : (Jvm.Cond.selects "RoofRegattaModel" ({ cls := "RoofRegattaModel", name := "out", desc := "(I)I" } : Jvm.MethodName) ({ cls := "RoofRegattaModel", name := "out", desc := "(I)I" } : Jvm.MethodName)) ∈ lw_all := lw_g (lw_at lw_m9 35 rfl) rfl
theorem q2079 : (Jvm.Cond.code ({ cls := "RoofRegattaModel", name := "out", desc := "(I)I" } : Jvm.MethodName) prog_15_method_70_code (2 : Nat) (Option.some Jvm.ClassFile.FieldType.int)) ∈ lw_all := lw_g (lw_at lw_m9 36 rfl) rfl
theorem q2081 : (Jvm.Cond.instanceMethod ({ cls := "RoofRegattaModel", name := "prize", desc := "(I)I" } : Jvm.MethodName)) ∈ lw_all := lw_g (lw_at lw_m9 38 rfl) rfl
theorem q2082 : (Jvm.Cond.selects "RoofRegattaModel" ({ cls := "RoofRegattaModel", name := "prize", desc := "(I)I" } : Jvm.MethodName) ({ cls := "RoofRegattaModel", name := "prize", desc := "(I)I" } : Jvm.MethodName)) ∈ lw_all := lw_g (lw_at lw_m9 39 rfl) rfl
theorem q2083 : (Jvm.Cond.code ({ cls := "RoofRegattaModel", name := "prize", desc := "(I)I" } : Jvm.MethodName) prog_15_method_71_code (2 : Nat) (Option.some Jvm.ClassFile.FieldType.int)) ∈ lw_all := lw_g (lw_at lw_m9 40 rfl) rfl
theorem q2084 : (Jvm.Cond.methodLink "RoofRegattaModel" (322 : Nat) ({ cls := "RoofRegattaModel", name := "prizeFor", desc := "(I)I" } : Jvm.MethodName)) ∈ lw_all := lw_g (lw_at lw_m9 41 rfl) rfl
theorem q2085 : (Jvm.Cond.privateMethod ({ cls := "RoofRegattaModel", name := "prizeFor", desc := "(I)I" } : Jvm.MethodName)) ∈ lw_tbl := lw_at lw_m9 42 rfl
theorem q2086 : (Jvm.Cond.instanceMethod ({ cls := "RoofRegattaModel", name := "prizeFor", desc := "(I)I" } : Jvm.MethodName)) ∈ lw_all := lw_g (lw_at lw_m9 43 rfl) rfl
theorem q2087 : (Jvm.Cond.code ({ cls := "RoofRegattaModel", name := "prizeFor", desc := "(I)I" } : Jvm.MethodName) prog_15_method_57_code (2 : Nat) (Option.some Jvm.ClassFile.FieldType.int)) ∈ lw_all := lw_g (lw_at lw_m9 44 rfl) rfl
theorem q2089 : (Jvm.Cond.instanceMethod ({ cls := "RoofRegattaModel", name := "ahead", desc := "(II)I" } : Jvm.MethodName)) ∈ lw_all := lw_g (lw_at lw_m9 46 rfl) rfl
theorem q2090 : (Jvm.Cond.selects "RoofRegattaModel" ({ cls := "RoofRegattaModel", name := "ahead", desc := "(II)I" } : Jvm.MethodName) ({ cls := "RoofRegattaModel", name := "ahead", desc := "(II)I" } : Jvm.MethodName)) ∈ lw_all := lw_g (lw_at lw_m9 47 rfl) rfl
theorem q2091 : (Jvm.Cond.code ({ cls := "RoofRegattaModel", name := "ahead", desc := "(II)I" } : Jvm.MethodName) prog_15_method_73_code (4 : Nat) (Option.some Jvm.ClassFile.FieldType.int)) ∈ lw_all := lw_g (lw_at lw_m9 48 rfl) rfl
theorem q2092 : (Jvm.Cond.methodLink "RoofRegattaModel" (325 : Nat) ({ cls := "RoofRegattaModel", name := "areTwo", desc := "(II)Z" } : Jvm.MethodName)) ∈ lw_all := lw_g (lw_at lw_m9 49 rfl) rfl
theorem q2093 : (Jvm.Cond.privateMethod ({ cls := "RoofRegattaModel", name := "areTwo", desc := "(II)Z" } : Jvm.MethodName)) ∈ lw_tbl := lw_at lw_m9 50 rfl
theorem q2094 : (Jvm.Cond.instanceMethod ({ cls := "RoofRegattaModel", name := "areTwo", desc := "(II)Z" } : Jvm.MethodName)) ∈ lw_all := lw_g (lw_at lw_m9 51 rfl) rfl
theorem q2095 : (Jvm.Cond.code ({ cls := "RoofRegattaModel", name := "areTwo", desc := "(II)Z" } : Jvm.MethodName) prog_15_method_72_code (3 : Nat) (Option.some Jvm.ClassFile.FieldType.boolean)) ∈ lw_all := lw_g (lw_at lw_m9 52 rfl) rfl
theorem q2096 : (Jvm.Cond.methodLink "RoofRegattaModel" (328 : Nat) ({ cls := "RoofRegattaModel", name := "isAhead", desc := "([IIII)Z" } : Jvm.MethodName)) ∈ lw_all := lw_g (lw_at lw_m9 53 rfl) rfl
theorem q2097 : (Jvm.Cond.privateMethod ({ cls := "RoofRegattaModel", name := "isAhead", desc := "([IIII)Z" } : Jvm.MethodName)) ∈ lw_tbl := lw_at lw_m9 54 rfl
theorem q2098 : (Jvm.Cond.instanceMethod ({ cls := "RoofRegattaModel", name := "isAhead", desc := "([IIII)Z" } : Jvm.MethodName)) ∈ lw_all := lw_g (lw_at lw_m9 55 rfl) rfl
theorem q2099 : (Jvm.Cond.code ({ cls := "RoofRegattaModel", name := "isAhead", desc := "([IIII)Z" } : Jvm.MethodName) prog_15_method_58_code (5 : Nat) (Option.some Jvm.ClassFile.FieldType.boolean)) ∈ lw_all := lw_g (lw_at lw_m9 56 rfl) rfl
theorem q2101 : (Jvm.Cond.instanceMethod ({ cls := "RoofRegattaModel", name := "passes", desc := "()I" } : Jvm.MethodName)) ∈ lw_all := lw_g (lw_at lw_m9 58 rfl) rfl
theorem q2102 : (Jvm.Cond.selects "RoofRegattaModel" ({ cls := "RoofRegattaModel", name := "passes", desc := "()I" } : Jvm.MethodName) ({ cls := "RoofRegattaModel", name := "passes", desc := "()I" } : Jvm.MethodName)) ∈ lw_all := lw_g (lw_at lw_m9 59 rfl) rfl
theorem q2103 : (Jvm.Cond.code ({ cls := "RoofRegattaModel", name := "passes", desc := "()I" } : Jvm.MethodName) prog_15_method_74_code (5 : Nat) (Option.some Jvm.ClassFile.FieldType.int)) ∈ lw_all := lw_g (lw_at lw_m9 60 rfl) rfl
theorem q2105 : (Jvm.Cond.instanceMethod ({ cls := "RoofRegattaModel", name := "fastest", desc := "(I)I" } : Jvm.MethodName)) ∈ lw_all := lw_g (lw_at lw_m9 62 rfl) rfl
theorem q2106 : (Jvm.Cond.selects "RoofRegattaModel" ({ cls := "RoofRegattaModel", name := "fastest", desc := "(I)I" } : Jvm.MethodName) ({ cls := "RoofRegattaModel", name := "fastest", desc := "(I)I" } : Jvm.MethodName)) ∈ lw_all := lw_g (lw_at lw_m9 63 rfl) rfl
theorem q2107 : (Jvm.Cond.code ({ cls := "RoofRegattaModel", name := "fastest", desc := "(I)I" } : Jvm.MethodName) prog_15_method_75_code (4 : Nat) (Option.some Jvm.ClassFile.FieldType.int)) ∈ lw_all := lw_g (lw_at lw_m9 64 rfl) rfl
theorem q2109 : (Jvm.Cond.instanceMethod ({ cls := "RoofRegattaModel", name := "leader", desc := "(I)I" } : Jvm.MethodName)) ∈ lw_all := lw_g (lw_at lw_m9 66 rfl) rfl
theorem q2110 : (Jvm.Cond.selects "RoofRegattaModel" ({ cls := "RoofRegattaModel", name := "leader", desc := "(I)I" } : Jvm.MethodName) ({ cls := "RoofRegattaModel", name := "leader", desc := "(I)I" } : Jvm.MethodName)) ∈ lw_all := lw_g (lw_at lw_m9 67 rfl) rfl
theorem q2111 : (Jvm.Cond.code ({ cls := "RoofRegattaModel", name := "leader", desc := "(I)I" } : Jvm.MethodName) prog_15_method_76_code (4 : Nat) (Option.some Jvm.ClassFile.FieldType.int)) ∈ lw_all := lw_g (lw_at lw_m9 68 rfl) rfl
theorem q2113 : (Jvm.Cond.instanceMethod ({ cls := "RoofRegattaModel", name := "storey", desc := "(I)I" } : Jvm.MethodName)) ∈ lw_all := lw_g (lw_at lw_m9 70 rfl) rfl
theorem q2114 : (Jvm.Cond.selects "RoofRegattaModel" ({ cls := "RoofRegattaModel", name := "storey", desc := "(I)I" } : Jvm.MethodName) ({ cls := "RoofRegattaModel", name := "storey", desc := "(I)I" } : Jvm.MethodName)) ∈ lw_all := lw_g (lw_at lw_m9 71 rfl) rfl
theorem q2115 : (Jvm.Cond.code ({ cls := "RoofRegattaModel", name := "storey", desc := "(I)I" } : Jvm.MethodName) prog_15_method_77_code (2 : Nat) (Option.some Jvm.ClassFile.FieldType.int)) ∈ lw_all := lw_g (lw_at lw_m9 72 rfl) rfl
theorem q2117 : (Jvm.Cond.instanceMethod ({ cls := "RoofRegattaModel", name := "together", desc := "()I" } : Jvm.MethodName)) ∈ lw_all := lw_g (lw_at lw_m9 74 rfl) rfl
theorem q2118 : (Jvm.Cond.selects "RoofRegattaModel" ({ cls := "RoofRegattaModel", name := "together", desc := "()I" } : Jvm.MethodName) ({ cls := "RoofRegattaModel", name := "together", desc := "()I" } : Jvm.MethodName)) ∈ lw_all := lw_g (lw_at lw_m9 75 rfl) rfl
theorem q2119 : (Jvm.Cond.code ({ cls := "RoofRegattaModel", name := "together", desc := "()I" } : Jvm.MethodName) prog_15_method_78_code (1 : Nat) (Option.some Jvm.ClassFile.FieldType.int)) ∈ lw_all := lw_g (lw_at lw_m9 76 rfl) rfl
theorem q2120 : (Jvm.Cond.methodLink "RoofRegattaModel" (332 : Nat) ({ cls := "RoofRegattaModel", name := "togetherOf", desc := "([I)I" } : Jvm.MethodName)) ∈ lw_all := lw_g (lw_at lw_m9 77 rfl) rfl
theorem q2121 : (Jvm.Cond.privateMethod ({ cls := "RoofRegattaModel", name := "togetherOf", desc := "([I)I" } : Jvm.MethodName)) ∈ lw_tbl := lw_at lw_m9 78 rfl
theorem q2122 : (Jvm.Cond.instanceMethod ({ cls := "RoofRegattaModel", name := "togetherOf", desc := "([I)I" } : Jvm.MethodName)) ∈ lw_all := lw_g (lw_at lw_m9 79 rfl) rfl
theorem q2123 : (Jvm.Cond.code ({ cls := "RoofRegattaModel", name := "togetherOf", desc := "([I)I" } : Jvm.MethodName) prog_15_method_59_code (5 : Nat) (Option.some Jvm.ClassFile.FieldType.int)) ∈ lw_all := lw_g (lw_at lw_m9 80 rfl) rfl
theorem q2125 : (Jvm.Cond.instanceMethod ({ cls := "RoofRegattaModel", name := "full", desc := "()I" } : Jvm.MethodName)) ∈ lw_all := lw_g (lw_at lw_m9 82 rfl) rfl
theorem q2126 : (Jvm.Cond.selects "RoofRegattaModel" ({ cls := "RoofRegattaModel", name := "full", desc := "()I" } : Jvm.MethodName) ({ cls := "RoofRegattaModel", name := "full", desc := "()I" } : Jvm.MethodName)) ∈ lw_all := lw_g (lw_at lw_m9 83 rfl) rfl
theorem q2127 : (Jvm.Cond.code ({ cls := "RoofRegattaModel", name := "full", desc := "()I" } : Jvm.MethodName) prog_15_method_79_code (3 : Nat) (Option.some Jvm.ClassFile.FieldType.int)) ∈ lw_all := lw_g (lw_at lw_m9 84 rfl) rfl
theorem q2129 : (Jvm.Cond.instanceMethod ({ cls := "RoofRegattaModel", name := "bestRank", desc := "(I)I" } : Jvm.MethodName)) ∈ lw_all := lw_g (lw_at lw_m9 86 rfl) rfl
theorem q2130 : (Jvm.Cond.selects "RoofRegattaModel" ({ cls := "RoofRegattaModel", name := "bestRank", desc := "(I)I" } : Jvm.MethodName) ({ cls := "RoofRegattaModel", name := "bestRank", desc := "(I)I" } : Jvm.MethodName)) ∈ lw_all := lw_g (lw_at lw_m9 87 rfl) rfl
theorem q2131 : (Jvm.Cond.code ({ cls := "RoofRegattaModel", name := "bestRank", desc := "(I)I" } : Jvm.MethodName) prog_15_method_85_code (2 : Nat) (Option.some Jvm.ClassFile.FieldType.int)) ∈ lw_all := lw_g (lw_at lw_m9 88 rfl) rfl
theorem q2132 : (Jvm.Cond.methodLink "RoofRegattaModel" (358 : Nat) ({ cls := "RoofRegattaModel", name := "seekLoads", desc := "(I)V" } : Jvm.MethodName)) ∈ lw_all := lw_g (lw_at lw_m9 89 rfl) rfl
theorem q2133 : (Jvm.Cond.privateMethod ({ cls := "RoofRegattaModel", name := "seekLoads", desc := "(I)V" } : Jvm.MethodName)) ∈ lw_tbl := lw_at lw_m9 90 rfl
theorem q2134 : (Jvm.Cond.instanceMethod ({ cls := "RoofRegattaModel", name := "seekLoads", desc := "(I)V" } : Jvm.MethodName)) ∈ lw_all := lw_g (lw_at lw_m9 91 rfl) rfl
theorem q2135 : (Jvm.Cond.code ({ cls := "RoofRegattaModel", name := "seekLoads", desc := "(I)V" } : Jvm.MethodName) prog_15_method_83_code (2 : Nat) (Option.none : Option Jvm.ClassFile.FieldType)) ∈ lw_all := lw_g (lw_at lw_m9 92 rfl) rfl
theorem q2136 : (Jvm.Cond.constant "RoofRegattaModel" (357 : Nat) (1000000 : Int32)) ∈ lw_all := lw_g (lw_at lw_m9 93 rfl) rfl
theorem q2137 : (Jvm.Cond.methodLink "RoofRegattaModel" (354 : Nat) ({ cls := "RoofRegattaModel", name := "tryLoads", desc := "(II)V" } : Jvm.MethodName)) ∈ lw_all := lw_g (lw_at lw_m9 94 rfl) rfl
theorem q2138 : (Jvm.Cond.privateMethod ({ cls := "RoofRegattaModel", name := "tryLoads", desc := "(II)V" } : Jvm.MethodName)) ∈ lw_tbl := lw_at lw_m9 95 rfl
theorem q2139 : (Jvm.Cond.instanceMethod ({ cls := "RoofRegattaModel", name := "tryLoads", desc := "(II)V" } : Jvm.MethodName)) ∈ lw_all := lw_g (lw_at lw_m9 96 rfl) rfl
theorem q2140 : (Jvm.Cond.code ({ cls := "RoofRegattaModel", name := "tryLoads", desc := "(II)V" } : Jvm.MethodName) prog_15_method_81_code (4 : Nat) (Option.none : Option Jvm.ClassFile.FieldType)) ∈ lw_all := lw_g (lw_at lw_m9 97 rfl) rfl
theorem q2141 : (Jvm.Cond.methodLink "RoofRegattaModel" (342 : Nat) ({ cls := "RoofRegattaModel", name := "keyOf", desc := "()I" } : Jvm.MethodName)) ∈ lw_all := lw_g (lw_at lw_m9 98 rfl) rfl
theorem q2142 : (Jvm.Cond.privateMethod ({ cls := "RoofRegattaModel", name := "keyOf", desc := "()I" } : Jvm.MethodName)) ∈ lw_tbl := lw_at lw_m9 99 rfl
theorem q2143 : (Jvm.Cond.instanceMethod ({ cls := "RoofRegattaModel", name := "keyOf", desc := "()I" } : Jvm.MethodName)) ∈ lw_all := lw_g (lw_at lw_m9 100 rfl) rfl
theorem q2144 : (Jvm.Cond.code ({ cls := "RoofRegattaModel", name := "keyOf", desc := "()I" } : Jvm.MethodName) prog_15_method_80_code (1 : Nat) (Option.some Jvm.ClassFile.FieldType.int)) ∈ lw_all := lw_g (lw_at lw_m9 101 rfl) rfl
theorem q2145 : (Jvm.Cond.methodLink "RoofRegattaModel" (351 : Nat) ({ cls := "RoofRegattaModel", name := "aboardAhead", desc := "(II)I" } : Jvm.MethodName)) ∈ lw_all := lw_g (lw_at lw_m9 102 rfl) rfl
theorem q2146 : (Jvm.Cond.privateMethod ({ cls := "RoofRegattaModel", name := "aboardAhead", desc := "(II)I" } : Jvm.MethodName)) ∈ lw_tbl := lw_at lw_m9 103 rfl
theorem q2147 : (Jvm.Cond.instanceMethod ({ cls := "RoofRegattaModel", name := "aboardAhead", desc := "(II)I" } : Jvm.MethodName)) ∈ lw_all := lw_g (lw_at lw_m9 104 rfl) rfl
theorem q2148 : (Jvm.Cond.code ({ cls := "RoofRegattaModel", name := "aboardAhead", desc := "(II)I" } : Jvm.MethodName) prog_15_method_82_code (5 : Nat) (Option.some Jvm.ClassFile.FieldType.int)) ∈ lw_all := lw_g (lw_at lw_m9 105 rfl) rfl
theorem q2150 : (Jvm.Cond.instanceMethod ({ cls := "RoofRegattaModel", name := "loadOf", desc := "(II)I" } : Jvm.MethodName)) ∈ lw_all := lw_g (lw_at lw_m9 107 rfl) rfl
theorem q2151 : (Jvm.Cond.selects "RoofRegattaModel" ({ cls := "RoofRegattaModel", name := "loadOf", desc := "(II)I" } : Jvm.MethodName) ({ cls := "RoofRegattaModel", name := "loadOf", desc := "(II)I" } : Jvm.MethodName)) ∈ lw_all := lw_g (lw_at lw_m9 108 rfl) rfl
theorem q2152 : (Jvm.Cond.code ({ cls := "RoofRegattaModel", name := "loadOf", desc := "(II)I" } : Jvm.MethodName) prog_15_method_86_code (3 : Nat) (Option.some Jvm.ClassFile.FieldType.int)) ∈ lw_all := lw_g (lw_at lw_m9 109 rfl) rfl
theorem q2153 : (Jvm.Cond.methodLink "RoofRegattaModel" (361 : Nat) ({ cls := "RoofRegattaModel", name := "bestAt", desc := "(I)I" } : Jvm.MethodName)) ∈ lw_all := lw_g (lw_at lw_m9 110 rfl) rfl
theorem q2154 : (Jvm.Cond.privateMethod ({ cls := "RoofRegattaModel", name := "bestAt", desc := "(I)I" } : Jvm.MethodName)) ∈ lw_tbl := lw_at lw_m9 111 rfl
theorem q2155 : (Jvm.Cond.instanceMethod ({ cls := "RoofRegattaModel", name := "bestAt", desc := "(I)I" } : Jvm.MethodName)) ∈ lw_all := lw_g (lw_at lw_m9 112 rfl) rfl
theorem q2156 : (Jvm.Cond.code ({ cls := "RoofRegattaModel", name := "bestAt", desc := "(I)I" } : Jvm.MethodName) prog_15_method_84_code (2 : Nat) (Option.some Jvm.ClassFile.FieldType.int)) ∈ lw_all := lw_g (lw_at lw_m9 113 rfl) rfl
theorem q2158 : (Jvm.Cond.instanceMethod ({ cls := "RoofRegattaModel", name := "loadMoves", desc := "(I)I" } : Jvm.MethodName)) ∈ lw_all := lw_g (lw_at lw_m9 115 rfl) rfl
theorem q2159 : (Jvm.Cond.selects "RoofRegattaModel" ({ cls := "RoofRegattaModel", name := "loadMoves", desc := "(I)I" } : Jvm.MethodName) ({ cls := "RoofRegattaModel", name := "loadMoves", desc := "(I)I" } : Jvm.MethodName)) ∈ lw_all := lw_g (lw_at lw_m9 116 rfl) rfl
theorem q2160 : (Jvm.Cond.code ({ cls := "RoofRegattaModel", name := "loadMoves", desc := "(I)I" } : Jvm.MethodName) prog_15_method_87_code (2 : Nat) (Option.some Jvm.ClassFile.FieldType.int)) ∈ lw_all := lw_g (lw_at lw_m9 117 rfl) rfl
theorem q2162 : (Jvm.Cond.instanceMethod ({ cls := "RoofRegattaModel", name := "leastTotal", desc := "(I)I" } : Jvm.MethodName)) ∈ lw_all := lw_g (lw_at lw_m9 119 rfl) rfl
theorem q2163 : (Jvm.Cond.selects "RoofRegattaModel" ({ cls := "RoofRegattaModel", name := "leastTotal", desc := "(I)I" } : Jvm.MethodName) ({ cls := "RoofRegattaModel", name := "leastTotal", desc := "(I)I" } : Jvm.MethodName)) ∈ lw_all := lw_g (lw_at lw_m9 120 rfl) rfl
theorem q2164 : (Jvm.Cond.code ({ cls := "RoofRegattaModel", name := "leastTotal", desc := "(I)I" } : Jvm.MethodName) prog_15_method_88_code (2 : Nat) (Option.some Jvm.ClassFile.FieldType.int)) ∈ lw_all := lw_g (lw_at lw_m9 121 rfl) rfl
theorem q2166 : (Jvm.Cond.instanceMethod ({ cls := "RoofRegattaModel", name := "friendly", desc := "()I" } : Jvm.MethodName)) ∈ lw_all := lw_g (lw_at lw_m9 123 rfl) rfl
theorem q2167 : (Jvm.Cond.selects "RoofRegattaModel" ({ cls := "RoofRegattaModel", name := "friendly", desc := "()I" } : Jvm.MethodName) ({ cls := "RoofRegattaModel", name := "friendly", desc := "()I" } : Jvm.MethodName)) ∈ lw_all := lw_g (lw_at lw_m9 124 rfl) rfl
theorem q2168 : (Jvm.Cond.code ({ cls := "RoofRegattaModel", name := "friendly", desc := "()I" } : Jvm.MethodName) prog_15_method_89_code (1 : Nat) (Option.some Jvm.ClassFile.FieldType.int)) ∈ lw_all := lw_g (lw_at lw_m9 125 rfl) rfl
theorem q2170 : (Jvm.Cond.instanceMethod ({ cls := "RoofRegattaModel", name := "friendlyOf", desc := "(I)I" } : Jvm.MethodName)) ∈ lw_all := lw_g (lw_at lw_m9 127 rfl) rfl
theorem q2171 : (Jvm.Cond.selects "RoofRegattaModel" ({ cls := "RoofRegattaModel", name := "friendlyOf", desc := "(I)I" } : Jvm.MethodName) ({ cls := "RoofRegattaModel", name := "friendlyOf", desc := "(I)I" } : Jvm.MethodName)) ∈ lw_all := lw_g (lw_at lw_m9 128 rfl) rfl
theorem q2172 : (Jvm.Cond.code ({ cls := "RoofRegattaModel", name := "friendlyOf", desc := "(I)I" } : Jvm.MethodName) prog_15_method_90_code (2 : Nat) (Option.some Jvm.ClassFile.FieldType.int)) ∈ lw_all := lw_g (lw_at lw_m9 129 rfl) rfl
theorem q2174 : (Jvm.Cond.instanceMethod ({ cls := "RoofRegattaModel", name := "leastFor", desc := "(II)I" } : Jvm.MethodName)) ∈ lw_all := lw_g (lw_at lw_m9 131 rfl) rfl
theorem q2175 : (Jvm.Cond.selects "RoofRegattaModel" ({ cls := "RoofRegattaModel", name := "leastFor", desc := "(II)I" } : Jvm.MethodName) ({ cls := "RoofRegattaModel", name := "leastFor", desc := "(II)I" } : Jvm.MethodName)) ∈ lw_all := lw_g (lw_at lw_m9 132 rfl) rfl
theorem q2176 : (Jvm.Cond.code ({ cls := "RoofRegattaModel", name := "leastFor", desc := "(II)I" } : Jvm.MethodName) prog_15_method_92_code (7 : Nat) (Option.some Jvm.ClassFile.FieldType.int)) ∈ lw_all := lw_g (lw_at lw_m9 133 rfl) rfl
theorem q2177 : (Jvm.Cond.methodLink "RoofRegattaModel" (364 : Nat) ({ cls := "RoofRegattaModel", name := "why", desc := "(ZZ)I" } : Jvm.MethodName)) ∈ lw_all := lw_g (lw_at lw_m9 134 rfl) rfl
theorem q2178 : (Jvm.Cond.privateMethod ({ cls := "RoofRegattaModel", name := "why", desc := "(ZZ)I" } : Jvm.MethodName)) ∈ lw_tbl := lw_at lw_m9 135 rfl
theorem q2179 : (Jvm.Cond.instanceMethod ({ cls := "RoofRegattaModel", name := "why", desc := "(ZZ)I" } : Jvm.MethodName)) ∈ lw_all := lw_g (lw_at lw_m9 136 rfl) rfl
theorem q2180 : (Jvm.Cond.code ({ cls := "RoofRegattaModel", name := "why", desc := "(ZZ)I" } : Jvm.MethodName) prog_15_method_91_code (3 : Nat) (Option.some Jvm.ClassFile.FieldType.int)) ∈ lw_all := lw_g (lw_at lw_m9 137 rfl) rfl
theorem q2182 : (Jvm.Cond.instanceMethod ({ cls := "RoofRegattaModel", name := "toMove", desc := "(I)I" } : Jvm.MethodName)) ∈ lw_all := lw_g (lw_at lw_m9 139 rfl) rfl
theorem q2183 : (Jvm.Cond.selects "RoofRegattaModel" ({ cls := "RoofRegattaModel", name := "toMove", desc := "(I)I" } : Jvm.MethodName) ({ cls := "RoofRegattaModel", name := "toMove", desc := "(I)I" } : Jvm.MethodName)) ∈ lw_all := lw_g (lw_at lw_m9 140 rfl) rfl
theorem q2184 : (Jvm.Cond.code ({ cls := "RoofRegattaModel", name := "toMove", desc := "(I)I" } : Jvm.MethodName) prog_15_method_93_code (6 : Nat) (Option.some Jvm.ClassFile.FieldType.int)) ∈ lw_all := lw_g (lw_at lw_m9 141 rfl) rfl
theorem q2186 : (Jvm.Cond.instanceMethod ({ cls := "RoofRegattaModel", name := "bestSwap", desc := "(I)I" } : Jvm.MethodName)) ∈ lw_all := lw_g (lw_at lw_m9 143 rfl) rfl
theorem q2187 : (Jvm.Cond.selects "RoofRegattaModel" ({ cls := "RoofRegattaModel", name := "bestSwap", desc := "(I)I" } : Jvm.MethodName) ({ cls := "RoofRegattaModel", name := "bestSwap", desc := "(I)I" } : Jvm.MethodName)) ∈ lw_all := lw_g (lw_at lw_m9 144 rfl) rfl
theorem q2188 : (Jvm.Cond.code ({ cls := "RoofRegattaModel", name := "bestSwap", desc := "(I)I" } : Jvm.MethodName) prog_15_method_94_code (6 : Nat) (Option.some Jvm.ClassFile.FieldType.int)) ∈ lw_all := lw_g (lw_at lw_m9 145 rfl) rfl
theorem q2190 : (Jvm.Cond.instanceMethod ({ cls := "RoofRegattaModel", name := "bestLane", desc := "(I)I" } : Jvm.MethodName)) ∈ lw_all := lw_g (lw_at lw_m9 147 rfl) rfl
theorem q2191 : (Jvm.Cond.selects "RoofRegattaModel" ({ cls := "RoofRegattaModel", name := "bestLane", desc := "(I)I" } : Jvm.MethodName) ({ cls := "RoofRegattaModel", name := "bestLane", desc := "(I)I" } : Jvm.MethodName)) ∈ lw_all := lw_g (lw_at lw_m9 148 rfl) rfl
theorem q2192 : (Jvm.Cond.code ({ cls := "RoofRegattaModel", name := "bestLane", desc := "(I)I" } : Jvm.MethodName) prog_15_method_95_code (3 : Nat) (Option.some Jvm.ClassFile.FieldType.int)) ∈ lw_all := lw_g (lw_at lw_m9 149 rfl) rfl
theorem q2194 : (Jvm.Cond.instanceMethod ({ cls := "RoofRegattaModel", name := "waterFor", desc := "(II)I" } : Jvm.MethodName)) ∈ lw_all := lw_g (lw_at lw_m9 151 rfl) rfl
theorem q2195 : (Jvm.Cond.selects "RoofRegattaModel" ({ cls := "RoofRegattaModel", name := "waterFor", desc := "(II)I" } : Jvm.MethodName) ({ cls := "RoofRegattaModel", name := "waterFor", desc := "(II)I" } : Jvm.MethodName)) ∈ lw_all := lw_g (lw_at lw_m9 152 rfl) rfl
theorem q2196 : (Jvm.Cond.code ({ cls := "RoofRegattaModel", name := "waterFor", desc := "(II)I" } : Jvm.MethodName) prog_15_method_96_code (5 : Nat) (Option.some Jvm.ClassFile.FieldType.int)) ∈ lw_all := lw_g (lw_at lw_m9 153 rfl) rfl
theorem q2198 : (Jvm.Cond.instanceMethod ({ cls := "RoofRegattaModel", name := "fires", desc := "()I" } : Jvm.MethodName)) ∈ lw_all := lw_g (lw_at lw_m9 155 rfl) rfl
theorem q2199 : (Jvm.Cond.selects "RoofRegattaModel" ({ cls := "RoofRegattaModel", name := "fires", desc := "()I" } : Jvm.MethodName) ({ cls := "RoofRegattaModel", name := "fires", desc := "()I" } : Jvm.MethodName)) ∈ lw_all := lw_g (lw_at lw_m9 156 rfl) rfl
theorem q2200 : (Jvm.Cond.code ({ cls := "RoofRegattaModel", name := "fires", desc := "()I" } : Jvm.MethodName) prog_15_method_99_code (1 : Nat) (Option.some Jvm.ClassFile.FieldType.int)) ∈ lw_all := lw_g (lw_at lw_m9 157 rfl) rfl
theorem q2201 : (Jvm.Cond.methodLink "RoofRegattaModel" (380 : Nat) ({ cls := "RoofRegattaModel", name := "seekFires", desc := "(I)I" } : Jvm.MethodName)) ∈ lw_all := lw_g (lw_at lw_m9 158 rfl) rfl
theorem q2202 : (Jvm.Cond.privateMethod ({ cls := "RoofRegattaModel", name := "seekFires", desc := "(I)I" } : Jvm.MethodName)) ∈ lw_tbl := lw_at lw_m9 159 rfl
theorem q2203 : (Jvm.Cond.instanceMethod ({ cls := "RoofRegattaModel", name := "seekFires", desc := "(I)I" } : Jvm.MethodName)) ∈ lw_all := lw_g (lw_at lw_m9 160 rfl) rfl
theorem q2204 : (Jvm.Cond.code ({ cls := "RoofRegattaModel", name := "seekFires", desc := "(I)I" } : Jvm.MethodName) prog_15_method_98_code (5 : Nat) (Option.some Jvm.ClassFile.FieldType.int)) ∈ lw_all := lw_g (lw_at lw_m9 161 rfl) rfl
theorem q2205 : (Jvm.Cond.methodLink "RoofRegattaModel" (377 : Nat) ({ cls := "RoofRegattaModel", name := "wrongSeen", desc := "(I)I" } : Jvm.MethodName)) ∈ lw_all := lw_g (lw_at lw_m9 162 rfl) rfl
theorem q2206 : (Jvm.Cond.privateMethod ({ cls := "RoofRegattaModel", name := "wrongSeen", desc := "(I)I" } : Jvm.MethodName)) ∈ lw_tbl := lw_at lw_m9 163 rfl
theorem q2207 : (Jvm.Cond.instanceMethod ({ cls := "RoofRegattaModel", name := "wrongSeen", desc := "(I)I" } : Jvm.MethodName)) ∈ lw_all := lw_g (lw_at lw_m9 164 rfl) rfl
theorem q2208 : (Jvm.Cond.code ({ cls := "RoofRegattaModel", name := "wrongSeen", desc := "(I)I" } : Jvm.MethodName) prog_15_method_97_code (3 : Nat) (Option.some Jvm.ClassFile.FieldType.int)) ∈ lw_all := lw_g (lw_at lw_m9 165 rfl) rfl
theorem q2210 : (Jvm.Cond.instanceMethod ({ cls := "RoofRegattaModel", name := "fireAt", desc := "(I)I" } : Jvm.MethodName)) ∈ lw_all := lw_g (lw_at lw_m9 167 rfl) rfl
theorem q2211 : (Jvm.Cond.selects "RoofRegattaModel" ({ cls := "RoofRegattaModel", name := "fireAt", desc := "(I)I" } : Jvm.MethodName) ({ cls := "RoofRegattaModel", name := "fireAt", desc := "(I)I" } : Jvm.MethodName)) ∈ lw_all := lw_g (lw_at lw_m9 168 rfl) rfl
theorem q2212 : (Jvm.Cond.code ({ cls := "RoofRegattaModel", name := "fireAt", desc := "(I)I" } : Jvm.MethodName) prog_15_method_100_code (3 : Nat) (Option.some Jvm.ClassFile.FieldType.int)) ∈ lw_all := lw_g (lw_at lw_m9 169 rfl) rfl
theorem q2214 : (Jvm.Cond.instanceMethod ({ cls := "RoofRegattaModel", name := "could", desc := "()I" } : Jvm.MethodName)) ∈ lw_all := lw_g (lw_at lw_m9 171 rfl) rfl
theorem q2215 : (Jvm.Cond.selects "RoofRegattaModel" ({ cls := "RoofRegattaModel", name := "could", desc := "()I" } : Jvm.MethodName) ({ cls := "RoofRegattaModel", name := "could", desc := "()I" } : Jvm.MethodName)) ∈ lw_all := lw_g (lw_at lw_m9 172 rfl) rfl
theorem q2216 : (Jvm.Cond.code ({ cls := "RoofRegattaModel", name := "could", desc := "()I" } : Jvm.MethodName) prog_15_method_101_code (1 : Nat) (Option.some Jvm.ClassFile.FieldType.int)) ∈ lw_all := lw_g (lw_at lw_m9 173 rfl) rfl
theorem q2218 : (Jvm.Cond.instanceMethod ({ cls := "RoofRegattaModel", name := "surely", desc := "()I" } : Jvm.MethodName)) ∈ lw_all := lw_g (lw_at lw_m9 175 rfl) rfl
theorem q2219 : (Jvm.Cond.selects "RoofRegattaModel" ({ cls := "RoofRegattaModel", name := "surely", desc := "()I" } : Jvm.MethodName) ({ cls := "RoofRegattaModel", name := "surely", desc := "()I" } : Jvm.MethodName)) ∈ lw_all := lw_g (lw_at lw_m9 176 rfl) rfl
theorem q2220 : (Jvm.Cond.code ({ cls := "RoofRegattaModel", name := "surely", desc := "()I" } : Jvm.MethodName) prog_15_method_102_code (1 : Nat) (Option.some Jvm.ClassFile.FieldType.int)) ∈ lw_all := lw_g (lw_at lw_m9 177 rfl) rfl
theorem q2222 : (Jvm.Cond.instanceMethod ({ cls := "RoofRegattaModel", name := "ask", desc := "()I" } : Jvm.MethodName)) ∈ lw_all := lw_g (lw_at lw_m9 179 rfl) rfl
theorem q2223 : (Jvm.Cond.selects "RoofRegattaModel" ({ cls := "RoofRegattaModel", name := "ask", desc := "()I" } : Jvm.MethodName) ({ cls := "RoofRegattaModel", name := "ask", desc := "()I" } : Jvm.MethodName)) ∈ lw_all := lw_g (lw_at lw_m9 180 rfl) rfl
theorem q2224 : (Jvm.Cond.code ({ cls := "RoofRegattaModel", name := "ask", desc := "()I" } : Jvm.MethodName) prog_15_method_105_code (1 : Nat) (Option.some Jvm.ClassFile.FieldType.int)) ∈ lw_all := lw_g (lw_at lw_m9 181 rfl) rfl
theorem q2225 : (Jvm.Cond.methodLink "RoofRegattaModel" (386 : Nat) ({ cls := "RoofRegattaModel", name := "askOf", desc := "()I" } : Jvm.MethodName)) ∈ lw_all := lw_g (lw_at lw_m9 182 rfl) rfl
theorem q2226 : (Jvm.Cond.privateMethod ({ cls := "RoofRegattaModel", name := "askOf", desc := "()I" } : Jvm.MethodName)) ∈ lw_tbl := lw_at lw_m9 183 rfl
theorem q2227 : (Jvm.Cond.instanceMethod ({ cls := "RoofRegattaModel", name := "askOf", desc := "()I" } : Jvm.MethodName)) ∈ lw_all := lw_g (lw_at lw_m9 184 rfl) rfl
theorem q2228 : (Jvm.Cond.code ({ cls := "RoofRegattaModel", name := "askOf", desc := "()I" } : Jvm.MethodName) prog_15_method_104_code (3 : Nat) (Option.some Jvm.ClassFile.FieldType.int)) ∈ lw_all := lw_g (lw_at lw_m9 185 rfl) rfl
theorem q2229 : (Jvm.Cond.methodLink "RoofRegattaModel" (383 : Nat) ({ cls := "RoofRegattaModel", name := "leavesOf", desc := "(I)I" } : Jvm.MethodName)) ∈ lw_all := lw_g (lw_at lw_m9 186 rfl) rfl
theorem q2230 : (Jvm.Cond.privateMethod ({ cls := "RoofRegattaModel", name := "leavesOf", desc := "(I)I" } : Jvm.MethodName)) ∈ lw_tbl := lw_at lw_m9 187 rfl
theorem q2231 : (Jvm.Cond.instanceMethod ({ cls := "RoofRegattaModel", name := "leavesOf", desc := "(I)I" } : Jvm.MethodName)) ∈ lw_all := lw_g (lw_at lw_m9 188 rfl) rfl
theorem q2232 : (Jvm.Cond.code ({ cls := "RoofRegattaModel", name := "leavesOf", desc := "(I)I" } : Jvm.MethodName) prog_15_method_103_code (2 : Nat) (Option.some Jvm.ClassFile.FieldType.int)) ∈ lw_all := lw_g (lw_at lw_m9 189 rfl) rfl
theorem q2234 : (Jvm.Cond.instanceMethod ({ cls := "RoofRegattaModel", name := "askLeaves", desc := "()I" } : Jvm.MethodName)) ∈ lw_all := lw_g (lw_at lw_m9 191 rfl) rfl
theorem q2235 : (Jvm.Cond.selects "RoofRegattaModel" ({ cls := "RoofRegattaModel", name := "askLeaves", desc := "()I" } : Jvm.MethodName) ({ cls := "RoofRegattaModel", name := "askLeaves", desc := "()I" } : Jvm.MethodName)) ∈ lw_all := lw_g (lw_at lw_m9 192 rfl) rfl
theorem q2236 : (Jvm.Cond.code ({ cls := "RoofRegattaModel", name := "askLeaves", desc := "()I" } : Jvm.MethodName) prog_15_method_106_code (2 : Nat) (Option.some Jvm.ClassFile.FieldType.int)) ∈ lw_all := lw_g (lw_at lw_m9 193 rfl) rfl
theorem q2238 : (Jvm.Cond.instanceMethod ({ cls := "RoofRegattaModel", name := "judge", desc := "()I" } : Jvm.MethodName)) ∈ lw_all := lw_g (lw_at lw_m9 195 rfl) rfl
theorem q2239 : (Jvm.Cond.selects "RoofRegattaModel" ({ cls := "RoofRegattaModel", name := "judge", desc := "()I" } : Jvm.MethodName) ({ cls := "RoofRegattaModel", name := "judge", desc := "()I" } : Jvm.MethodName)) ∈ lw_all := lw_g (lw_at lw_m9 196 rfl) rfl
theorem q2240 : (Jvm.Cond.code ({ cls := "RoofRegattaModel", name := "judge", desc := "()I" } : Jvm.MethodName) prog_15_method_107_code (1 : Nat) (Option.some Jvm.ClassFile.FieldType.int)) ∈ lw_all := lw_g (lw_at lw_m9 197 rfl) rfl
theorem q2242 : (Jvm.Cond.instanceMethod ({ cls := "RoofRegattaModel", name := "odds", desc := "(IIZ)J" } : Jvm.MethodName)) ∈ lw_all := lw_g (lw_at lw_m9 199 rfl) rfl
theorem q2243 : (Jvm.Cond.selects "RoofRegattaModel" ({ cls := "RoofRegattaModel", name := "odds", desc := "(IIZ)J" } : Jvm.MethodName) ({ cls := "RoofRegattaModel", name := "odds", desc := "(IIZ)J" } : Jvm.MethodName)) ∈ lw_all := lw_g (lw_at lw_m9 200 rfl) rfl
theorem q2244 : (Jvm.Cond.code ({ cls := "RoofRegattaModel", name := "odds", desc := "(IIZ)J" } : Jvm.MethodName) prog_15_method_109_code (4 : Nat) (Option.some Jvm.ClassFile.FieldType.long)) ∈ lw_all := lw_g (lw_at lw_m9 201 rfl) rfl
theorem q2245 : (Jvm.Cond.methodLink "RoofRegattaModel" (404 : Nat) ({ cls := "RoofRegattaModel", name := "tryRain", desc := "(II)V" } : Jvm.MethodName)) ∈ lw_all := lw_g (lw_at lw_m9 202 rfl) rfl
theorem q2246 : (Jvm.Cond.privateMethod ({ cls := "RoofRegattaModel", name := "tryRain", desc := "(II)V" } : Jvm.MethodName)) ∈ lw_tbl := lw_at lw_m9 203 rfl
theorem q2247 : (Jvm.Cond.instanceMethod ({ cls := "RoofRegattaModel", name := "tryRain", desc := "(II)V" } : Jvm.MethodName)) ∈ lw_all := lw_g (lw_at lw_m9 204 rfl) rfl
theorem q2248 : (Jvm.Cond.code ({ cls := "RoofRegattaModel", name := "tryRain", desc := "(II)V" } : Jvm.MethodName) prog_15_method_108_code (7 : Nat) (Option.none : Option Jvm.ClassFile.FieldType)) ∈ lw_all := lw_g (lw_at lw_m9 205 rfl) rfl
theorem q2249 : (Jvm.Cond.constantLong "RoofRegattaModel" (402 : Nat) (100 : Int64)) ∈ lw_all := lw_g (lw_at lw_m9 206 rfl) rfl
theorem q2250 : (Jvm.Cond.methodLink "RoofRegattaModel" (407 : Nat) ({ cls := "RoofRegattaModel", name := "lowest", desc := "(JJZ)J" } : Jvm.MethodName)) ∈ lw_all := lw_g (lw_at lw_m9 207 rfl) rfl
theorem q2251 : (Jvm.Cond.static ({ cls := "RoofRegattaModel", name := "lowest", desc := "(JJZ)J" } : Jvm.MethodName)) ∈ lw_all := lw_g (lw_at lw_m9 208 rfl) rfl
theorem q2252 : (Jvm.Cond.code ({ cls := "RoofRegattaModel", name := "lowest", desc := "(JJZ)J" } : Jvm.MethodName) prog_15_method_10_code (11 : Nat) (Option.some Jvm.ClassFile.FieldType.long)) ∈ lw_all := lw_g (lw_at lw_m9 209 rfl) rfl
theorem q2254 : (Jvm.Cond.instanceMethod ({ cls := "RoofRegattaModel", name := "mean", desc := "(IZ)J" } : Jvm.MethodName)) ∈ lw_all := lw_g (lw_at lw_m9 211 rfl) rfl
theorem q2255 : (Jvm.Cond.selects "RoofRegattaModel" ({ cls := "RoofRegattaModel", name := "mean", desc := "(IZ)J" } : Jvm.MethodName) ({ cls := "RoofRegattaModel", name := "mean", desc := "(IZ)J" } : Jvm.MethodName)) ∈ lw_all := lw_g (lw_at lw_m9 212 rfl) rfl
theorem q2256 : (Jvm.Cond.code ({ cls := "RoofRegattaModel", name := "mean", desc := "(IZ)J" } : Jvm.MethodName) prog_15_method_110_code (3 : Nat) (Option.some Jvm.ClassFile.FieldType.long)) ∈ lw_all := lw_g (lw_at lw_m9 213 rfl) rfl
theorem q2258 : (Jvm.Cond.instanceMethod ({ cls := "RoofRegattaModel", name := "hopes", desc := "(IZ)J" } : Jvm.MethodName)) ∈ lw_all := lw_g (lw_at lw_m9 215 rfl) rfl
theorem q2259 : (Jvm.Cond.selects "RoofRegattaModel" ({ cls := "RoofRegattaModel", name := "hopes", desc := "(IZ)J" } : Jvm.MethodName) ({ cls := "RoofRegattaModel", name := "hopes", desc := "(IZ)J" } : Jvm.MethodName)) ∈ lw_all := lw_g (lw_at lw_m9 216 rfl) rfl
theorem q2260 : (Jvm.Cond.code ({ cls := "RoofRegattaModel", name := "hopes", desc := "(IZ)J" } : Jvm.MethodName) prog_15_method_111_code (3 : Nat) (Option.some Jvm.ClassFile.FieldType.long)) ∈ lw_all := lw_g (lw_at lw_m9 217 rfl) rfl
theorem q2262 : (Jvm.Cond.instanceMethod ({ cls := "RoofRegattaModel", name := "wins", desc := "(III)I" } : Jvm.MethodName)) ∈ lw_all := lw_g (lw_at lw_m9 219 rfl) rfl
theorem q2263 : (Jvm.Cond.selects "RoofRegattaModel" ({ cls := "RoofRegattaModel", name := "wins", desc := "(III)I" } : Jvm.MethodName) ({ cls := "RoofRegattaModel", name := "wins", desc := "(III)I" } : Jvm.MethodName)) ∈ lw_all := lw_g (lw_at lw_m9 220 rfl) rfl
theorem q2264 : (Jvm.Cond.code ({ cls := "RoofRegattaModel", name := "wins", desc := "(III)I" } : Jvm.MethodName) prog_15_method_113_code (5 : Nat) (Option.some Jvm.ClassFile.FieldType.int)) ∈ lw_all := lw_g (lw_at lw_m9 221 rfl) rfl
theorem q2265 : (Jvm.Cond.methodLink "RoofRegattaModel" (416 : Nat) ({ cls := "RoofRegattaModel", name := "racesWhy", desc := "(ZIII)I" } : Jvm.MethodName)) ∈ lw_all := lw_g (lw_at lw_m9 222 rfl) rfl
theorem q2266 : (Jvm.Cond.privateMethod ({ cls := "RoofRegattaModel", name := "racesWhy", desc := "(ZIII)I" } : Jvm.MethodName)) ∈ lw_tbl := lw_at lw_m9 223 rfl
theorem q2267 : (Jvm.Cond.instanceMethod ({ cls := "RoofRegattaModel", name := "racesWhy", desc := "(ZIII)I" } : Jvm.MethodName)) ∈ lw_all := lw_g (lw_at lw_m9 224 rfl) rfl
theorem q2268 : (Jvm.Cond.code ({ cls := "RoofRegattaModel", name := "racesWhy", desc := "(ZIII)I" } : Jvm.MethodName) prog_15_method_112_code (8 : Nat) (Option.some Jvm.ClassFile.FieldType.int)) ∈ lw_all := lw_g (lw_at lw_m9 225 rfl) rfl
theorem q2269 : (Jvm.Cond.constant "RoofRegattaModel" (411 : Nat) (65536 : Int32)) ∈ lw_all := lw_g (lw_at lw_m9 226 rfl) rfl
theorem q2270 : (Jvm.Cond.constant "RoofRegattaModel" (415 : Nat) (65537 : Int32)) ∈ lw_all := lw_g (lw_at lw_m9 227 rfl) rfl
theorem q2272 : (Jvm.Cond.instanceMethod ({ cls := "RoofRegattaModel", name := "record", desc := "(II)I" } : Jvm.MethodName)) ∈ lw_all := lw_g (lw_at lw_m9 229 rfl) rfl
theorem q2273 : (Jvm.Cond.selects "RoofRegattaModel" ({ cls := "RoofRegattaModel", name := "record", desc := "(II)I" } : Jvm.MethodName) ({ cls := "RoofRegattaModel", name := "record", desc := "(II)I" } : Jvm.MethodName)) ∈ lw_all := lw_g (lw_at lw_m9 230 rfl) rfl
theorem q2274 : (Jvm.Cond.code ({ cls := "RoofRegattaModel", name := "record", desc := "(II)I" } : Jvm.MethodName) prog_15_method_114_code (4 : Nat) (Option.some Jvm.ClassFile.FieldType.int)) ∈ lw_all := lw_g (lw_at lw_m9 231 rfl) rfl
theorem q2276 : (Jvm.Cond.instanceMethod ({ cls := "RoofRegattaModel", name := "weir", desc := "(IZZZ)I" } : Jvm.MethodName)) ∈ lw_all := lw_g (lw_at lw_m9 233 rfl) rfl
theorem q2277 : (Jvm.Cond.selects "RoofRegattaModel" ({ cls := "RoofRegattaModel", name := "weir", desc := "(IZZZ)I" } : Jvm.MethodName) ({ cls := "RoofRegattaModel", name := "weir", desc := "(IZZZ)I" } : Jvm.MethodName)) ∈ lw_all := lw_g (lw_at lw_m9 234 rfl) rfl
theorem q2278 : (Jvm.Cond.code ({ cls := "RoofRegattaModel", name := "weir", desc := "(IZZZ)I" } : Jvm.MethodName) prog_15_method_116_code (6 : Nat) (Option.some Jvm.ClassFile.FieldType.int)) ∈ lw_all := lw_g (lw_at lw_m9 235 rfl) rfl
theorem q2279 : (Jvm.Cond.methodLink "RoofRegattaModel" (420 : Nat) ({ cls := "RoofRegattaModel", name := "weirOf", desc := "(IZZ)I" } : Jvm.MethodName)) ∈ lw_all := lw_g (lw_at lw_m9 236 rfl) rfl
theorem q2280 : (Jvm.Cond.static ({ cls := "RoofRegattaModel", name := "weirOf", desc := "(IZZ)I" } : Jvm.MethodName)) ∈ lw_all := lw_g (lw_at lw_m9 237 rfl) rfl
theorem q2281 : (Jvm.Cond.code ({ cls := "RoofRegattaModel", name := "weirOf", desc := "(IZZ)I" } : Jvm.MethodName) prog_15_method_115_code (3 : Nat) (Option.some Jvm.ClassFile.FieldType.int)) ∈ lw_all := lw_g (lw_at lw_m9 238 rfl) rfl
theorem q2283 : (Jvm.Cond.instanceMethod ({ cls := "RoofRegattaModel", name := "rests", desc := "(I)I" } : Jvm.MethodName)) ∈ lw_all := lw_g (lw_at lw_m10 0 rfl) rfl
theorem q2284 : (Jvm.Cond.selects "RoofRegattaModel" ({ cls := "RoofRegattaModel", name := "rests", desc := "(I)I" } : Jvm.MethodName) ({ cls := "RoofRegattaModel", name := "rests", desc := "(I)I" } : Jvm.MethodName)) ∈ lw_all := lw_g (lw_at lw_m10 1 rfl) rfl
theorem q2285 : (Jvm.Cond.code ({ cls := "RoofRegattaModel", name := "rests", desc := "(I)I" } : Jvm.MethodName) prog_15_method_119_code (3 : Nat) (Option.some Jvm.ClassFile.FieldType.int)) ∈ lw_all := lw_g (lw_at lw_m10 2 rfl) rfl
theorem q2286 : (Jvm.Cond.methodLink "RoofRegattaModel" (431 : Nat) ({ cls := "RoofRegattaModel", name := "seekRests", desc := "(I)I" } : Jvm.MethodName)) ∈ lw_all := lw_g (lw_at lw_m10 3 rfl) rfl
theorem q2287 : (Jvm.Cond.privateMethod ({ cls := "RoofRegattaModel", name := "seekRests", desc := "(I)I" } : Jvm.MethodName)) ∈ lw_tbl := lw_at lw_m10 4 rfl
theorem q2288 : (Jvm.Cond.instanceMethod ({ cls := "RoofRegattaModel", name := "seekRests", desc := "(I)I" } : Jvm.MethodName)) ∈ lw_all := lw_g (lw_at lw_m10 5 rfl) rfl
theorem q2289 : (Jvm.Cond.code ({ cls := "RoofRegattaModel", name := "seekRests", desc := "(I)I" } : Jvm.MethodName) prog_15_method_118_code (4 : Nat) (Option.some Jvm.ClassFile.FieldType.int)) ∈ lw_all := lw_g (lw_at lw_m10 6 rfl) rfl
theorem q2290 : (Jvm.Cond.methodLink "RoofRegattaModel" (427 : Nat) ({ cls := "RoofRegattaModel", name := "isRest", desc := "(IZZ)Z" } : Jvm.MethodName)) ∈ lw_all := lw_g (lw_at lw_m10 7 rfl) rfl
theorem q2291 : (Jvm.Cond.static ({ cls := "RoofRegattaModel", name := "isRest", desc := "(IZZ)Z" } : Jvm.MethodName)) ∈ lw_all := lw_g (lw_at lw_m10 8 rfl) rfl
theorem q2292 : (Jvm.Cond.code ({ cls := "RoofRegattaModel", name := "isRest", desc := "(IZZ)Z" } : Jvm.MethodName) prog_15_method_117_code (3 : Nat) (Option.some Jvm.ClassFile.FieldType.boolean)) ∈ lw_all := lw_g (lw_at lw_m10 9 rfl) rfl
theorem q2294 : (Jvm.Cond.instanceMethod ({ cls := "RoofRegattaModel", name := "rest", desc := "(I)I" } : Jvm.MethodName)) ∈ lw_all := lw_g (lw_at lw_m10 11 rfl) rfl
theorem q2295 : (Jvm.Cond.selects "RoofRegattaModel" ({ cls := "RoofRegattaModel", name := "rest", desc := "(I)I" } : Jvm.MethodName) ({ cls := "RoofRegattaModel", name := "rest", desc := "(I)I" } : Jvm.MethodName)) ∈ lw_all := lw_g (lw_at lw_m10 12 rfl) rfl
theorem q2296 : (Jvm.Cond.code ({ cls := "RoofRegattaModel", name := "rest", desc := "(I)I" } : Jvm.MethodName) prog_15_method_120_code (3 : Nat) (Option.some Jvm.ClassFile.FieldType.int)) ∈ lw_all := lw_g (lw_at lw_m10 13 rfl) rfl
theorem q2298 : (Jvm.Cond.instanceMethod ({ cls := "RoofRegattaModel", name := "board", desc := "(II)I" } : Jvm.MethodName)) ∈ lw_all := lw_g (lw_at lw_m10 15 rfl) rfl
theorem q2299 : (Jvm.Cond.selects "RoofRegattaModel" ({ cls := "RoofRegattaModel", name := "board", desc := "(II)I" } : Jvm.MethodName) ({ cls := "RoofRegattaModel", name := "board", desc := "(II)I" } : Jvm.MethodName)) ∈ lw_all := lw_g (lw_at lw_m10 16 rfl) rfl
theorem q2300 : (Jvm.Cond.code ({ cls := "RoofRegattaModel", name := "board", desc := "(II)I" } : Jvm.MethodName) prog_15_method_122_code (3 : Nat) (Option.some Jvm.ClassFile.FieldType.int)) ∈ lw_all := lw_g (lw_at lw_m10 17 rfl) rfl
theorem q2301 : (Jvm.Cond.methodLink "RoofRegattaModel" (434 : Nat) ({ cls := "RoofRegattaModel", name := "note", desc := "()V" } : Jvm.MethodName)) ∈ lw_all := lw_g (lw_at lw_m10 18 rfl) rfl
theorem q2302 : (Jvm.Cond.privateMethod ({ cls := "RoofRegattaModel", name := "note", desc := "()V" } : Jvm.MethodName)) ∈ lw_tbl := lw_at lw_m10 19 rfl
theorem q2303 : (Jvm.Cond.instanceMethod ({ cls := "RoofRegattaModel", name := "note", desc := "()V" } : Jvm.MethodName)) ∈ lw_all := lw_g (lw_at lw_m10 20 rfl) rfl
theorem q2304 : (Jvm.Cond.code ({ cls := "RoofRegattaModel", name := "note", desc := "()V" } : Jvm.MethodName) prog_15_method_121_code (2 : Nat) (Option.none : Option Jvm.ClassFile.FieldType)) ∈ lw_all := lw_g (lw_at lw_m10 21 rfl) rfl
theorem q2306 : (Jvm.Cond.instanceMethod ({ cls := "RoofRegattaModel", name := "ashore", desc := "(I)Z" } : Jvm.MethodName)) ∈ lw_all := lw_g (lw_at lw_m10 23 rfl) rfl
theorem q2307 : (Jvm.Cond.selects "RoofRegattaModel" ({ cls := "RoofRegattaModel", name := "ashore", desc := "(I)Z" } : Jvm.MethodName) ({ cls := "RoofRegattaModel", name := "ashore", desc := "(I)Z" } : Jvm.MethodName)) ∈ lw_all := lw_g (lw_at lw_m10 24 rfl) rfl
theorem q2308 : (Jvm.Cond.code ({ cls := "RoofRegattaModel", name := "ashore", desc := "(I)Z" } : Jvm.MethodName) prog_15_method_123_code (2 : Nat) (Option.some Jvm.ClassFile.FieldType.boolean)) ∈ lw_all := lw_g (lw_at lw_m10 25 rfl) rfl
theorem q2309 : (Jvm.Cond.methodLink "RoofRegattaModel" (437 : Nat) ({ cls := "RoofRegattaModel", name := "isNot", desc := "(I)Z" } : Jvm.MethodName)) ∈ lw_all := lw_g (lw_at lw_m10 26 rfl) rfl
theorem q2310 : (Jvm.Cond.privateMethod ({ cls := "RoofRegattaModel", name := "isNot", desc := "(I)Z" } : Jvm.MethodName)) ∈ lw_tbl := lw_at lw_m10 27 rfl
theorem q2311 : (Jvm.Cond.instanceMethod ({ cls := "RoofRegattaModel", name := "isNot", desc := "(I)Z" } : Jvm.MethodName)) ∈ lw_all := lw_g (lw_at lw_m10 28 rfl) rfl
theorem q2312 : (Jvm.Cond.code ({ cls := "RoofRegattaModel", name := "isNot", desc := "(I)Z" } : Jvm.MethodName) prog_15_method_5_code (2 : Nat) (Option.some Jvm.ClassFile.FieldType.boolean)) ∈ lw_all := lw_g (lw_at lw_m10 29 rfl) rfl
theorem q2314 : (Jvm.Cond.instanceMethod ({ cls := "RoofRegattaModel", name := "light", desc := "(IZ)Z" } : Jvm.MethodName)) ∈ lw_all := lw_g (lw_at lw_m10 31 rfl) rfl
theorem q2315 : (Jvm.Cond.selects "RoofRegattaModel" ({ cls := "RoofRegattaModel", name := "light", desc := "(IZ)Z" } : Jvm.MethodName) ({ cls := "RoofRegattaModel", name := "light", desc := "(IZ)Z" } : Jvm.MethodName)) ∈ lw_all := lw_g (lw_at lw_m10 32 rfl) rfl
theorem q2316 : (Jvm.Cond.code ({ cls := "RoofRegattaModel", name := "light", desc := "(IZ)Z" } : Jvm.MethodName) prog_15_method_124_code (3 : Nat) (Option.some Jvm.ClassFile.FieldType.boolean)) ∈ lw_all := lw_g (lw_at lw_m10 33 rfl) rfl
theorem q2318 : (Jvm.Cond.instanceMethod ({ cls := "RoofRegattaModel", name := "cross", desc := "(I)I" } : Jvm.MethodName)) ∈ lw_all := lw_g (lw_at lw_m10 35 rfl) rfl
theorem q2319 : (Jvm.Cond.selects "RoofRegattaModel" ({ cls := "RoofRegattaModel", name := "cross", desc := "(I)I" } : Jvm.MethodName) ({ cls := "RoofRegattaModel", name := "cross", desc := "(I)I" } : Jvm.MethodName)) ∈ lw_all := lw_g (lw_at lw_m10 36 rfl) rfl
theorem q2320 : (Jvm.Cond.code ({ cls := "RoofRegattaModel", name := "cross", desc := "(I)I" } : Jvm.MethodName) prog_15_method_125_code (2 : Nat) (Option.some Jvm.ClassFile.FieldType.int)) ∈ lw_all := lw_g (lw_at lw_m10 37 rfl) rfl
theorem q2322 : (Jvm.Cond.instanceMethod ({ cls := "RoofRegattaModel", name := "raise", desc := "(I)Z" } : Jvm.MethodName)) ∈ lw_all := lw_g (lw_at lw_m10 39 rfl) rfl
theorem q2323 : (Jvm.Cond.selects "RoofRegattaModel" ({ cls := "RoofRegattaModel", name := "raise", desc := "(I)Z" } : Jvm.MethodName) ({ cls := "RoofRegattaModel", name := "raise", desc := "(I)Z" } : Jvm.MethodName)) ∈ lw_all := lw_g (lw_at lw_m10 40 rfl) rfl
theorem q2324 : (Jvm.Cond.code ({ cls := "RoofRegattaModel", name := "raise", desc := "(I)Z" } : Jvm.MethodName) prog_15_method_126_code (3 : Nat) (Option.some Jvm.ClassFile.FieldType.boolean)) ∈ lw_all := lw_g (lw_at lw_m10 41 rfl) rfl
theorem q2326 : (Jvm.Cond.instanceMethod ({ cls := "RoofRegattaModel", name := "undo", desc := "()Z" } : Jvm.MethodName)) ∈ lw_all := lw_g (lw_at lw_m10 43 rfl) rfl
theorem q2327 : (Jvm.Cond.selects "RoofRegattaModel" ({ cls := "RoofRegattaModel", name := "undo", desc := "()Z" } : Jvm.MethodName) ({ cls := "RoofRegattaModel", name := "undo", desc := "()Z" } : Jvm.MethodName)) ∈ lw_all := lw_g (lw_at lw_m10 44 rfl) rfl
theorem q2328 : (Jvm.Cond.code ({ cls := "RoofRegattaModel", name := "undo", desc := "()Z" } : Jvm.MethodName) prog_15_method_127_code (1 : Nat) (Option.some Jvm.ClassFile.FieldType.boolean)) ∈ lw_all := lw_g (lw_at lw_m10 45 rfl) rfl
theorem q2330 : (Jvm.Cond.instanceMethod ({ cls := "RoofRegattaModel", name := "image", desc := "()I" } : Jvm.MethodName)) ∈ lw_all := lw_g (lw_at lw_m10 47 rfl) rfl
theorem q2331 : (Jvm.Cond.selects "RoofRegattaModel" ({ cls := "RoofRegattaModel", name := "image", desc := "()I" } : Jvm.MethodName) ({ cls := "RoofRegattaModel", name := "image", desc := "()I" } : Jvm.MethodName)) ∈ lw_all := lw_g (lw_at lw_m10 48 rfl) rfl
theorem q2332 : (Jvm.Cond.code ({ cls := "RoofRegattaModel", name := "image", desc := "()I" } : Jvm.MethodName) prog_15_method_128_code (1 : Nat) (Option.some Jvm.ClassFile.FieldType.int)) ∈ lw_all := lw_g (lw_at lw_m10 49 rfl) rfl
theorem q2334 : (Jvm.Cond.instanceMethod ({ cls := "RoofRegattaModel", name := "back", desc := "(I)Z" } : Jvm.MethodName)) ∈ lw_all := lw_g (lw_at lw_m10 51 rfl) rfl
theorem q2335 : (Jvm.Cond.selects "RoofRegattaModel" ({ cls := "RoofRegattaModel", name := "back", desc := "(I)Z" } : Jvm.MethodName) ({ cls := "RoofRegattaModel", name := "back", desc := "(I)Z" } : Jvm.MethodName)) ∈ lw_all := lw_g (lw_at lw_m10 52 rfl) rfl
theorem q2336 : (Jvm.Cond.code ({ cls := "RoofRegattaModel", name := "back", desc := "(I)Z" } : Jvm.MethodName) prog_15_method_129_code (2 : Nat) (Option.some Jvm.ClassFile.FieldType.boolean)) ∈ lw_all := lw_g (lw_at lw_m10 53 rfl) rfl
theorem q2338 : (Jvm.Cond.instanceMethod ({ cls := "RoofRegattaModel", name := "led", desc := "(I)I" } : Jvm.MethodName)) ∈ lw_all := lw_g (lw_at lw_m10 55 rfl) rfl
theorem q2339 : (Jvm.Cond.selects "RoofRegattaModel" ({ cls := "RoofRegattaModel", name := "led", desc := "(I)I" } : Jvm.MethodName) ({ cls := "RoofRegattaModel", name := "led", desc := "(I)I" } : Jvm.MethodName)) ∈ lw_all := lw_g (lw_at lw_m10 56 rfl) rfl
theorem q2340 : (Jvm.Cond.code ({ cls := "RoofRegattaModel", name := "led", desc := "(I)I" } : Jvm.MethodName) prog_15_method_130_code (4 : Nat) (Option.some Jvm.ClassFile.FieldType.int)) ∈ lw_all := lw_g (lw_at lw_m10 57 rfl) rfl
theorem q2342 : (Jvm.Cond.instanceMethod ({ cls := "RoofRegattaModel", name := "size", desc := "(I)I" } : Jvm.MethodName)) ∈ lw_all := lw_g (lw_at lw_m10 59 rfl) rfl
theorem q2343 : (Jvm.Cond.selects "RoofRegattaModel" ({ cls := "RoofRegattaModel", name := "size", desc := "(I)I" } : Jvm.MethodName) ({ cls := "RoofRegattaModel", name := "size", desc := "(I)I" } : Jvm.MethodName)) ∈ lw_all := lw_g (lw_at lw_m10 60 rfl) rfl
theorem q2344 : (Jvm.Cond.code ({ cls := "RoofRegattaModel", name := "size", desc := "(I)I" } : Jvm.MethodName) prog_15_method_131_code (2 : Nat) (Option.some Jvm.ClassFile.FieldType.int)) ∈ lw_all := lw_g (lw_at lw_m10 61 rfl) rfl
theorem q2346 : (Jvm.Cond.instanceMethod ({ cls := "RoofRegattaModel", name := "trouble", desc := "()I" } : Jvm.MethodName)) ∈ lw_all := lw_g (lw_at lw_m10 63 rfl) rfl
theorem q2347 : (Jvm.Cond.selects "RoofRegattaModel" ({ cls := "RoofRegattaModel", name := "trouble", desc := "()I" } : Jvm.MethodName) ({ cls := "RoofRegattaModel", name := "trouble", desc := "()I" } : Jvm.MethodName)) ∈ lw_all := lw_g (lw_at lw_m10 64 rfl) rfl
theorem q2348 : (Jvm.Cond.code ({ cls := "RoofRegattaModel", name := "trouble", desc := "()I" } : Jvm.MethodName) prog_15_method_132_code (1 : Nat) (Option.some Jvm.ClassFile.FieldType.int)) ∈ lw_all := lw_g (lw_at lw_m10 65 rfl) rfl
theorem q2361 : (Jvm.Cond.castable "RoofRegattaModel" "java/lang/Object") ∈ lw_tbl := lw_at lw_m10 78 rfl
theorem in_X2 : ∀ w ∈ wsX20, w ∈ lw_all := lw_in wsX20 [1700, 1702, 1704, 1706, 1708, 1710, 1712, 1714, 1716, 1718, 1720, 1722, 1724, 1726, 1728, 1730, 1732, 1734, 1736, 1738, 1740, 1742, 1744, 1746, 1748, 1750, 1752, 1754, 1756, 1758, 1760, 1762, 1764, 1766, 1768, 1770, 1772, 1774, 1776, 1778, 1780, 1782, 1784] (by decide +kernel) (by decide +kernel)
