/-! FavourTownModel -/
set_option maxRecDepth 100000
def RX7 : String := "FavourTownModel"
def TX7 : u_T := fun k => match k with
  | 0 => ("FavourTownModel", "thrown", "I", false)
  | 1 => ("FavourTownModel", "m", "[I", true)
  | 2 => ("FavourTownModel", "kept", "[I", true)
  | 3 => ("FavourTownModel", "hasImage", "Z", false)
  | 4 => ("FavourTownModel", "before", "[I", true)
  | 5 => ("FavourTownModel", "tape", "[I", true)
  | 6 => ("FavourTownModel", "taped", "I", false)
  | 7 => ("FavourTownModel", "base", "I", false)
  | 8 => ("FavourTownModel", "end", "I", false)
  | 9 => ("FavourTownModel", "at", "I", false)
  | 10 => ("FavourTownModel", "fault", "I", false)
  | 11 => ("FavourTownModel", "deep", "I", false)
  | 12 => ("FavourTownModel", "lines", "I", false)
  | 13 => ("FavourTownModel", "fact", "[I", true)
  | 14 => ("FavourTownModel", "isNear", "Z", false)
  | 15 => ("FavourTownModel", "isTimed", "Z", false)
  | 16 => ("FavourTownModel", "isAgain", "Z", false)
  | 17 => ("FavourTownModel", "says", "I", false)
  | 18 => ("FavourTownModel", "ports", "[I", true)
  | 19 => ("FavourTownModel", "from", "[I", true)
  | 20 => ("FavourTownModel", "queue", "[I", true)
  | 21 => ("FavourTownModel", "far", "[I", true)
  | 22 => ("FavourTownModel", "owed", "[I", true)
  | 23 => ("FavourTownModel", "order", "[I", true)
  | 24 => ("FavourTownModel", "bestOrder", "[I", true)
  | 25 => ("FavourTownModel", "most", "I", false)
  | 26 => ("FavourTownModel", "byPassing", "Z", false)
  | 27 => ("FavourTownModel", "shelf", "[I", true)
  | _ => ("FavourTownModel", "seed", "I", false)
def tyX7 : Nat → FieldType := fun k => match k with
  | 0 => .int
  | 1 => .array .int
  | 2 => .array .int
  | 3 => .boolean
  | 4 => .array .int
  | 5 => .array .int
  | 6 => .int
  | 7 => .int
  | 8 => .int
  | 9 => .int
  | 10 => .int
  | 11 => .int
  | 12 => .int
  | 13 => .array .int
  | 14 => .boolean
  | 15 => .boolean
  | 16 => .boolean
  | 17 => .int
  | 18 => .array .int
  | 19 => .array .int
  | 20 => .array .int
  | 21 => .array .int
  | 22 => .array .int
  | 23 => .array .int
  | 24 => .array .int
  | 25 => .int
  | 26 => .boolean
  | 27 => .array .int
  | _ => .int
abbrev wsX70 : List Cond := u_ws RX7 TX7 29
set_option maxRecDepth 100000 in
theorem nmX7 : ∀ a, a < 29 → ∀ b, b < 29 → a ≠ b → (TX7 a).2.1 ≠ (TX7 b).2.1 := by decide +kernel
set_option maxRecDepth 100000 in
theorem tyX7_ok : ∀ k, k < 29 → parseFieldDescriptor (TX7 k).2.2.1 = some (tyX7 k) := by decide +kernel
abbrev cX7_init : ByteArray := prog_23_method_1_code
def yX7_init : MethodName := ⟨RX7, "<init>", "()V"⟩
def dkwX7_init_5 : List UInt8 := [181, 0, 50, 42, 180, 0, 7, 16, 7, 16, 10, 79, 177]
abbrev dktX7_init_5 : List UInt8 := dkwX7_init_5 ++ []
def dkwX7_init_4 : List UInt8 := [181, 0, 41, 42, 16, 8, 188, 10, 181, 0, 44, 42, 16, 8, 188, 10, 181, 0, 47, 42, 16, 40, 188, 10]
abbrev dktX7_init_4 : List UInt8 := dkwX7_init_4 ++ dktX7_init_5
def dkwX7_init_3 : List UInt8 := [42, 16, 12, 188, 10, 181, 0, 35, 42, 16, 12, 188, 10, 181, 0, 38, 42, 17, 0, 144, 188, 10]
abbrev dktX7_init_3 : List UInt8 := dkwX7_init_3 ++ dktX7_init_4
def dkwX7_init_2 : List UInt8 := [16, 6, 188, 10, 181, 0, 26, 42, 17, 0, 144, 188, 10, 181, 0, 29, 42, 16, 12, 188, 10, 181, 0, 32]
abbrev dktX7_init_2 : List UInt8 := dkwX7_init_2 ++ dktX7_init_3
def dkwX7_init_1 : List UInt8 := [17, 3, 172, 188, 10, 181, 0, 16, 42, 17, 1, 144, 188, 10, 181, 0, 19, 42, 2, 181, 0, 22, 42]
abbrev dktX7_init_1 : List UInt8 := dkwX7_init_1 ++ dktX7_init_2
def dkwX7_init_0 : List UInt8 := [42, 183, 0, 1, 42, 17, 13, 18, 188, 10, 181, 0, 7, 42, 17, 13, 18, 188, 10, 181, 0, 13, 42]
abbrev dktX7_init_0 : List UInt8 := dkwX7_init_0 ++ dktX7_init_1
theorem dksX7_init_0 : cX7_init.data.toList.drop 0 = dktX7_init_0 := by decide +kernel
theorem dksX7_init_1 : cX7_init.data.toList.drop 23 = dktX7_init_1 := dk_seg dksX7_init_0 23 rfl rfl
theorem dksX7_init_2 : cX7_init.data.toList.drop 46 = dktX7_init_2 := dk_seg dksX7_init_1 23 rfl rfl
theorem dksX7_init_3 : cX7_init.data.toList.drop 70 = dktX7_init_3 := dk_seg dksX7_init_2 24 rfl rfl
theorem dksX7_init_4 : cX7_init.data.toList.drop 92 = dktX7_init_4 := dk_seg dksX7_init_3 22 rfl rfl
theorem dksX7_init_5 : cX7_init.data.toList.drop 116 = dktX7_init_5 := dk_seg dksX7_init_4 24 rfl rfl
theorem dX7_init_0 : decode cX7_init 0 = .ok (.aload_n 0, 1) := dk_42 (dk_at dksX7_init_0 0 rfl rfl)
theorem dX7_init_1 : decode cX7_init 1 = .ok (.invokespecial 1, 3) := dk_183 0 1 (dk_at dksX7_init_0 1 rfl rfl)
theorem dX7_init_4 : decode cX7_init 4 = .ok (.aload_n 0, 1) := dk_42 (dk_at dksX7_init_0 4 rfl rfl)
theorem dX7_init_5 : decode cX7_init 5 = .ok (.sipush 3346, 3) := dk_17 13 18 (dk_at dksX7_init_0 5 rfl rfl)
theorem dX7_init_8 : decode cX7_init 8 = .ok (.newarray .int, 2) := dk_188_10 (dk_at dksX7_init_0 8 rfl rfl)
theorem dX7_init_10 : decode cX7_init 10 = .ok (.putfield 7, 3) := dk_181 0 7 (dk_at dksX7_init_0 10 rfl rfl)
theorem dX7_init_13 : decode cX7_init 13 = .ok (.aload_n 0, 1) := dk_42 (dk_at dksX7_init_0 13 rfl rfl)
theorem dX7_init_14 : decode cX7_init 14 = .ok (.sipush 3346, 3) := dk_17 13 18 (dk_at dksX7_init_0 14 rfl rfl)
theorem dX7_init_17 : decode cX7_init 17 = .ok (.newarray .int, 2) := dk_188_10 (dk_at dksX7_init_0 17 rfl rfl)
theorem dX7_init_19 : decode cX7_init 19 = .ok (.putfield 13, 3) := dk_181 0 13 (dk_at dksX7_init_0 19 rfl rfl)
theorem dX7_init_22 : decode cX7_init 22 = .ok (.aload_n 0, 1) := dk_42 (dk_at dksX7_init_0 22 rfl rfl)
theorem dX7_init_23 : decode cX7_init 23 = .ok (.sipush 940, 3) := dk_17 3 172 (dk_at dksX7_init_1 0 rfl rfl)
theorem dX7_init_26 : decode cX7_init 26 = .ok (.newarray .int, 2) := dk_188_10 (dk_at dksX7_init_1 3 rfl rfl)
theorem dX7_init_28 : decode cX7_init 28 = .ok (.putfield 16, 3) := dk_181 0 16 (dk_at dksX7_init_1 5 rfl rfl)
theorem dX7_init_31 : decode cX7_init 31 = .ok (.aload_n 0, 1) := dk_42 (dk_at dksX7_init_1 8 rfl rfl)
theorem dX7_init_32 : decode cX7_init 32 = .ok (.sipush 400, 3) := dk_17 1 144 (dk_at dksX7_init_1 9 rfl rfl)
theorem dX7_init_35 : decode cX7_init 35 = .ok (.newarray .int, 2) := dk_188_10 (dk_at dksX7_init_1 12 rfl rfl)
theorem dX7_init_37 : decode cX7_init 37 = .ok (.putfield 19, 3) := dk_181 0 19 (dk_at dksX7_init_1 14 rfl rfl)
theorem dX7_init_40 : decode cX7_init 40 = .ok (.aload_n 0, 1) := dk_42 (dk_at dksX7_init_1 17 rfl rfl)
theorem dX7_init_41 : decode cX7_init 41 = .ok (.iconst (-1), 1) := dk_2 (dk_at dksX7_init_1 18 rfl rfl)
theorem dX7_init_42 : decode cX7_init 42 = .ok (.putfield 22, 3) := dk_181 0 22 (dk_at dksX7_init_1 19 rfl rfl)
theorem dX7_init_45 : decode cX7_init 45 = .ok (.aload_n 0, 1) := dk_42 (dk_at dksX7_init_1 22 rfl rfl)
theorem dX7_init_46 : decode cX7_init 46 = .ok (.bipush 6, 2) := dk_16 6 (dk_at dksX7_init_2 0 rfl rfl)
theorem dX7_init_48 : decode cX7_init 48 = .ok (.newarray .int, 2) := dk_188_10 (dk_at dksX7_init_2 2 rfl rfl)
theorem dX7_init_50 : decode cX7_init 50 = .ok (.putfield 26, 3) := dk_181 0 26 (dk_at dksX7_init_2 4 rfl rfl)
theorem dX7_init_53 : decode cX7_init 53 = .ok (.aload_n 0, 1) := dk_42 (dk_at dksX7_init_2 7 rfl rfl)
theorem dX7_init_54 : decode cX7_init 54 = .ok (.sipush 144, 3) := dk_17 0 144 (dk_at dksX7_init_2 8 rfl rfl)
theorem dX7_init_57 : decode cX7_init 57 = .ok (.newarray .int, 2) := dk_188_10 (dk_at dksX7_init_2 11 rfl rfl)
theorem dX7_init_59 : decode cX7_init 59 = .ok (.putfield 29, 3) := dk_181 0 29 (dk_at dksX7_init_2 13 rfl rfl)
theorem dX7_init_62 : decode cX7_init 62 = .ok (.aload_n 0, 1) := dk_42 (dk_at dksX7_init_2 16 rfl rfl)
theorem dX7_init_63 : decode cX7_init 63 = .ok (.bipush 12, 2) := dk_16 12 (dk_at dksX7_init_2 17 rfl rfl)
theorem dX7_init_65 : decode cX7_init 65 = .ok (.newarray .int, 2) := dk_188_10 (dk_at dksX7_init_2 19 rfl rfl)
theorem dX7_init_67 : decode cX7_init 67 = .ok (.putfield 32, 3) := dk_181 0 32 (dk_at dksX7_init_2 21 rfl rfl)
theorem dX7_init_70 : decode cX7_init 70 = .ok (.aload_n 0, 1) := dk_42 (dk_at dksX7_init_3 0 rfl rfl)
theorem dX7_init_71 : decode cX7_init 71 = .ok (.bipush 12, 2) := dk_16 12 (dk_at dksX7_init_3 1 rfl rfl)
theorem dX7_init_73 : decode cX7_init 73 = .ok (.newarray .int, 2) := dk_188_10 (dk_at dksX7_init_3 3 rfl rfl)
theorem dX7_init_75 : decode cX7_init 75 = .ok (.putfield 35, 3) := dk_181 0 35 (dk_at dksX7_init_3 5 rfl rfl)
theorem dX7_init_78 : decode cX7_init 78 = .ok (.aload_n 0, 1) := dk_42 (dk_at dksX7_init_3 8 rfl rfl)
theorem dX7_init_79 : decode cX7_init 79 = .ok (.bipush 12, 2) := dk_16 12 (dk_at dksX7_init_3 9 rfl rfl)
theorem dX7_init_81 : decode cX7_init 81 = .ok (.newarray .int, 2) := dk_188_10 (dk_at dksX7_init_3 11 rfl rfl)
theorem dX7_init_83 : decode cX7_init 83 = .ok (.putfield 38, 3) := dk_181 0 38 (dk_at dksX7_init_3 13 rfl rfl)
theorem dX7_init_86 : decode cX7_init 86 = .ok (.aload_n 0, 1) := dk_42 (dk_at dksX7_init_3 16 rfl rfl)
theorem dX7_init_87 : decode cX7_init 87 = .ok (.sipush 144, 3) := dk_17 0 144 (dk_at dksX7_init_3 17 rfl rfl)
theorem dX7_init_90 : decode cX7_init 90 = .ok (.newarray .int, 2) := dk_188_10 (dk_at dksX7_init_3 20 rfl rfl)
theorem dX7_init_92 : decode cX7_init 92 = .ok (.putfield 41, 3) := dk_181 0 41 (dk_at dksX7_init_4 0 rfl rfl)
theorem dX7_init_95 : decode cX7_init 95 = .ok (.aload_n 0, 1) := dk_42 (dk_at dksX7_init_4 3 rfl rfl)
theorem dX7_init_96 : decode cX7_init 96 = .ok (.bipush 8, 2) := dk_16 8 (dk_at dksX7_init_4 4 rfl rfl)
theorem dX7_init_98 : decode cX7_init 98 = .ok (.newarray .int, 2) := dk_188_10 (dk_at dksX7_init_4 6 rfl rfl)
theorem dX7_init_100 : decode cX7_init 100 = .ok (.putfield 44, 3) := dk_181 0 44 (dk_at dksX7_init_4 8 rfl rfl)
theorem dX7_init_103 : decode cX7_init 103 = .ok (.aload_n 0, 1) := dk_42 (dk_at dksX7_init_4 11 rfl rfl)
theorem dX7_init_104 : decode cX7_init 104 = .ok (.bipush 8, 2) := dk_16 8 (dk_at dksX7_init_4 12 rfl rfl)
theorem dX7_init_106 : decode cX7_init 106 = .ok (.newarray .int, 2) := dk_188_10 (dk_at dksX7_init_4 14 rfl rfl)
theorem dX7_init_108 : decode cX7_init 108 = .ok (.putfield 47, 3) := dk_181 0 47 (dk_at dksX7_init_4 16 rfl rfl)
theorem dX7_init_111 : decode cX7_init 111 = .ok (.aload_n 0, 1) := dk_42 (dk_at dksX7_init_4 19 rfl rfl)
theorem dX7_init_112 : decode cX7_init 112 = .ok (.bipush 40, 2) := dk_16 40 (dk_at dksX7_init_4 20 rfl rfl)
theorem dX7_init_114 : decode cX7_init 114 = .ok (.newarray .int, 2) := dk_188_10 (dk_at dksX7_init_4 22 rfl rfl)
theorem dX7_init_116 : decode cX7_init 116 = .ok (.putfield 50, 3) := dk_181 0 50 (dk_at dksX7_init_5 0 rfl rfl)
theorem dX7_init_119 : decode cX7_init 119 = .ok (.aload_n 0, 1) := dk_42 (dk_at dksX7_init_5 3 rfl rfl)
theorem dX7_init_120 : decode cX7_init 120 = .ok (.getfield 7, 3) := dk_180 0 7 (dk_at dksX7_init_5 4 rfl rfl)
theorem dX7_init_123 : decode cX7_init 123 = .ok (.bipush 7, 2) := dk_16 7 (dk_at dksX7_init_5 7 rfl rfl)
theorem dX7_init_125 : decode cX7_init 125 = .ok (.bipush 10, 2) := dk_16 10 (dk_at dksX7_init_5 9 rfl rfl)
theorem dX7_init_127 : decode cX7_init 127 = .ok (.iastore, 1) := dk_79 (dk_at dksX7_init_5 11 rfl rfl)
theorem dX7_init_128 : decode cX7_init 128 = .ok (.return_, 1) := dk_177 (dk_at dksX7_init_5 12 rfl rfl)
abbrev cX7_thrown : ByteArray := prog_23_method_2_code
def yX7_thrown : MethodName := ⟨RX7, "thrown", "()I"⟩
theorem dX7_thrown_0 : decode cX7_thrown 0 = .ok (.aload_n 0, 1) := by decide +kernel
theorem dX7_thrown_1 : decode cX7_thrown 1 = .ok (.getfield 53, 3) := by decide +kernel
theorem dX7_thrown_4 : decode cX7_thrown 4 = .ok (.ireturn, 1) := by decide +kernel
abbrev cX7_feed : ByteArray := prog_23_method_9_code
def yX7_feed : MethodName := ⟨RX7, "feed", "(IIIII)I"⟩
def dkwX7_feed_5 : List UInt8 := [167, 255, 162, 42, 180, 0, 60, 172]
abbrev dktX7_feed_5 : List UInt8 := dkwX7_feed_5 ++ []
def dkwX7_feed_4 : List UInt8 := [112, 104, 100, 124, 17, 0, 255, 126, 79, 42, 89, 180, 0, 60, 4, 96, 181, 0, 60, 132, 6, 1]
abbrev dktX7_feed_4 : List UInt8 := dkwX7_feed_4 ++ dktX7_feed_5
def dkwX7_feed_3 : List UInt8 := [167, 0, 5, 21, 5, 54, 7, 42, 180, 0, 19, 42, 180, 0, 60, 21, 7, 16, 24, 16, 8, 21, 6, 7]
abbrev dktX7_feed_3 : List UInt8 := dkwX7_feed_3 ++ dktX7_feed_4
def dkwX7_feed_2 : List UInt8 := [28, 167, 0, 28, 21, 6, 16, 12, 162, 0, 7, 29, 167, 0, 17, 21, 6, 16, 16, 162, 0, 8, 21, 4]
abbrev dktX7_feed_2 : List UInt8 := dkwX7_feed_2 ++ dktX7_feed_3
def dkwX7_feed_1 : List UInt8 := [21, 6, 16, 20, 162, 0, 93, 21, 6, 7, 162, 0, 7, 27, 167, 0, 39, 21, 6, 16, 8, 162, 0, 7]
abbrev dktX7_feed_1 : List UInt8 := dkwX7_feed_1 ++ dktX7_feed_2
def dkwX7_feed_0 : List UInt8 := [42, 3, 181, 0, 53, 42, 180, 0, 60, 16, 20, 96, 17, 1, 144, 164, 0, 5, 2, 172, 3, 54, 6]
abbrev dktX7_feed_0 : List UInt8 := dkwX7_feed_0 ++ dktX7_feed_1
theorem dksX7_feed_0 : cX7_feed.data.toList.drop 0 = dktX7_feed_0 := by decide +kernel
theorem dksX7_feed_1 : cX7_feed.data.toList.drop 23 = dktX7_feed_1 := dk_seg dksX7_feed_0 23 rfl rfl
theorem dksX7_feed_2 : cX7_feed.data.toList.drop 47 = dktX7_feed_2 := dk_seg dksX7_feed_1 24 rfl rfl
theorem dksX7_feed_3 : cX7_feed.data.toList.drop 71 = dktX7_feed_3 := dk_seg dksX7_feed_2 24 rfl rfl
theorem dksX7_feed_4 : cX7_feed.data.toList.drop 95 = dktX7_feed_4 := dk_seg dksX7_feed_3 24 rfl rfl
theorem dksX7_feed_5 : cX7_feed.data.toList.drop 117 = dktX7_feed_5 := dk_seg dksX7_feed_4 22 rfl rfl
theorem dX7_feed_0 : decode cX7_feed 0 = .ok (.aload_n 0, 1) := dk_42 (dk_at dksX7_feed_0 0 rfl rfl)
theorem dX7_feed_1 : decode cX7_feed 1 = .ok (.iconst 0, 1) := dk_3 (dk_at dksX7_feed_0 1 rfl rfl)
theorem dX7_feed_2 : decode cX7_feed 2 = .ok (.putfield 53, 3) := dk_181 0 53 (dk_at dksX7_feed_0 2 rfl rfl)
theorem dX7_feed_5 : decode cX7_feed 5 = .ok (.aload_n 0, 1) := dk_42 (dk_at dksX7_feed_0 5 rfl rfl)
theorem dX7_feed_6 : decode cX7_feed 6 = .ok (.getfield 60, 3) := dk_180 0 60 (dk_at dksX7_feed_0 6 rfl rfl)
theorem dX7_feed_9 : decode cX7_feed 9 = .ok (.bipush 20, 2) := dk_16 20 (dk_at dksX7_feed_0 9 rfl rfl)
theorem dX7_feed_11 : decode cX7_feed 11 = .ok (.iadd, 1) := dk_96 (dk_at dksX7_feed_0 11 rfl rfl)
theorem dX7_feed_12 : decode cX7_feed 12 = .ok (.sipush 400, 3) := dk_17 1 144 (dk_at dksX7_feed_0 12 rfl rfl)
theorem dX7_feed_15 : decode cX7_feed 15 = .ok (.if_icmp .le 5, 3) := dk_164 0 5 (dk_at dksX7_feed_0 15 rfl rfl)
theorem dX7_feed_18 : decode cX7_feed 18 = .ok (.iconst (-1), 1) := dk_2 (dk_at dksX7_feed_0 18 rfl rfl)
theorem dX7_feed_19 : decode cX7_feed 19 = .ok (.ireturn, 1) := dk_172 (dk_at dksX7_feed_0 19 rfl rfl)
theorem dX7_feed_20 : decode cX7_feed 20 = .ok (.iconst 0, 1) := dk_3 (dk_at dksX7_feed_0 20 rfl rfl)
theorem dX7_feed_21 : decode cX7_feed 21 = .ok (.istore 6, 2) := dk_54 6 (dk_at dksX7_feed_0 21 rfl rfl)
theorem dX7_feed_23 : decode cX7_feed 23 = .ok (.iload 6, 2) := dk_21 6 (dk_at dksX7_feed_1 0 rfl rfl)
theorem dX7_feed_25 : decode cX7_feed 25 = .ok (.bipush 20, 2) := dk_16 20 (dk_at dksX7_feed_1 2 rfl rfl)
theorem dX7_feed_27 : decode cX7_feed 27 = .ok (.if_icmp .ge 93, 3) := dk_162 0 93 (dk_at dksX7_feed_1 4 rfl rfl)
theorem dX7_feed_30 : decode cX7_feed 30 = .ok (.iload 6, 2) := dk_21 6 (dk_at dksX7_feed_1 7 rfl rfl)
theorem dX7_feed_32 : decode cX7_feed 32 = .ok (.iconst 4, 1) := dk_7 (dk_at dksX7_feed_1 9 rfl rfl)
theorem dX7_feed_33 : decode cX7_feed 33 = .ok (.if_icmp .ge 7, 3) := dk_162 0 7 (dk_at dksX7_feed_1 10 rfl rfl)
theorem dX7_feed_36 : decode cX7_feed 36 = .ok (.iload_n 1, 1) := dk_27 (dk_at dksX7_feed_1 13 rfl rfl)
theorem dX7_feed_37 : decode cX7_feed 37 = .ok (.goto 39, 3) := dk_167 0 39 (dk_at dksX7_feed_1 14 rfl rfl)
theorem dX7_feed_40 : decode cX7_feed 40 = .ok (.iload 6, 2) := dk_21 6 (dk_at dksX7_feed_1 17 rfl rfl)
theorem dX7_feed_42 : decode cX7_feed 42 = .ok (.bipush 8, 2) := dk_16 8 (dk_at dksX7_feed_1 19 rfl rfl)
theorem dX7_feed_44 : decode cX7_feed 44 = .ok (.if_icmp .ge 7, 3) := dk_162 0 7 (dk_at dksX7_feed_1 21 rfl rfl)
theorem dX7_feed_47 : decode cX7_feed 47 = .ok (.iload_n 2, 1) := dk_28 (dk_at dksX7_feed_2 0 rfl rfl)
theorem dX7_feed_48 : decode cX7_feed 48 = .ok (.goto 28, 3) := dk_167 0 28 (dk_at dksX7_feed_2 1 rfl rfl)
theorem dX7_feed_51 : decode cX7_feed 51 = .ok (.iload 6, 2) := dk_21 6 (dk_at dksX7_feed_2 4 rfl rfl)
theorem dX7_feed_53 : decode cX7_feed 53 = .ok (.bipush 12, 2) := dk_16 12 (dk_at dksX7_feed_2 6 rfl rfl)
theorem dX7_feed_55 : decode cX7_feed 55 = .ok (.if_icmp .ge 7, 3) := dk_162 0 7 (dk_at dksX7_feed_2 8 rfl rfl)
theorem dX7_feed_58 : decode cX7_feed 58 = .ok (.iload_n 3, 1) := dk_29 (dk_at dksX7_feed_2 11 rfl rfl)
theorem dX7_feed_59 : decode cX7_feed 59 = .ok (.goto 17, 3) := dk_167 0 17 (dk_at dksX7_feed_2 12 rfl rfl)
theorem dX7_feed_62 : decode cX7_feed 62 = .ok (.iload 6, 2) := dk_21 6 (dk_at dksX7_feed_2 15 rfl rfl)
theorem dX7_feed_64 : decode cX7_feed 64 = .ok (.bipush 16, 2) := dk_16 16 (dk_at dksX7_feed_2 17 rfl rfl)
theorem dX7_feed_66 : decode cX7_feed 66 = .ok (.if_icmp .ge 8, 3) := dk_162 0 8 (dk_at dksX7_feed_2 19 rfl rfl)
theorem dX7_feed_69 : decode cX7_feed 69 = .ok (.iload 4, 2) := dk_21 4 (dk_at dksX7_feed_2 22 rfl rfl)
theorem dX7_feed_71 : decode cX7_feed 71 = .ok (.goto 5, 3) := dk_167 0 5 (dk_at dksX7_feed_3 0 rfl rfl)
theorem dX7_feed_74 : decode cX7_feed 74 = .ok (.iload 5, 2) := dk_21 5 (dk_at dksX7_feed_3 3 rfl rfl)
theorem dX7_feed_76 : decode cX7_feed 76 = .ok (.istore 7, 2) := dk_54 7 (dk_at dksX7_feed_3 5 rfl rfl)
theorem dX7_feed_78 : decode cX7_feed 78 = .ok (.aload_n 0, 1) := dk_42 (dk_at dksX7_feed_3 7 rfl rfl)
theorem dX7_feed_79 : decode cX7_feed 79 = .ok (.getfield 19, 3) := dk_180 0 19 (dk_at dksX7_feed_3 8 rfl rfl)
theorem dX7_feed_82 : decode cX7_feed 82 = .ok (.aload_n 0, 1) := dk_42 (dk_at dksX7_feed_3 11 rfl rfl)
theorem dX7_feed_83 : decode cX7_feed 83 = .ok (.getfield 60, 3) := dk_180 0 60 (dk_at dksX7_feed_3 12 rfl rfl)
theorem dX7_feed_86 : decode cX7_feed 86 = .ok (.iload 7, 2) := dk_21 7 (dk_at dksX7_feed_3 15 rfl rfl)
theorem dX7_feed_88 : decode cX7_feed 88 = .ok (.bipush 24, 2) := dk_16 24 (dk_at dksX7_feed_3 17 rfl rfl)
theorem dX7_feed_90 : decode cX7_feed 90 = .ok (.bipush 8, 2) := dk_16 8 (dk_at dksX7_feed_3 19 rfl rfl)
theorem dX7_feed_92 : decode cX7_feed 92 = .ok (.iload 6, 2) := dk_21 6 (dk_at dksX7_feed_3 21 rfl rfl)
theorem dX7_feed_94 : decode cX7_feed 94 = .ok (.iconst 4, 1) := dk_7 (dk_at dksX7_feed_3 23 rfl rfl)
theorem dX7_feed_95 : decode cX7_feed 95 = .ok (.irem, 1) := dk_112 (dk_at dksX7_feed_4 0 rfl rfl)
theorem dX7_feed_96 : decode cX7_feed 96 = .ok (.imul, 1) := dk_104 (dk_at dksX7_feed_4 1 rfl rfl)
theorem dX7_feed_97 : decode cX7_feed 97 = .ok (.isub, 1) := dk_100 (dk_at dksX7_feed_4 2 rfl rfl)
theorem dX7_feed_98 : decode cX7_feed 98 = .ok (.iushr, 1) := dk_124 (dk_at dksX7_feed_4 3 rfl rfl)
theorem dX7_feed_99 : decode cX7_feed 99 = .ok (.sipush 255, 3) := dk_17 0 255 (dk_at dksX7_feed_4 4 rfl rfl)
theorem dX7_feed_102 : decode cX7_feed 102 = .ok (.iand, 1) := dk_126 (dk_at dksX7_feed_4 7 rfl rfl)
theorem dX7_feed_103 : decode cX7_feed 103 = .ok (.iastore, 1) := dk_79 (dk_at dksX7_feed_4 8 rfl rfl)
theorem dX7_feed_104 : decode cX7_feed 104 = .ok (.aload_n 0, 1) := dk_42 (dk_at dksX7_feed_4 9 rfl rfl)
theorem dX7_feed_105 : decode cX7_feed 105 = .ok (.dup, 1) := dk_89 (dk_at dksX7_feed_4 10 rfl rfl)
theorem dX7_feed_106 : decode cX7_feed 106 = .ok (.getfield 60, 3) := dk_180 0 60 (dk_at dksX7_feed_4 11 rfl rfl)
theorem dX7_feed_109 : decode cX7_feed 109 = .ok (.iconst 1, 1) := dk_4 (dk_at dksX7_feed_4 14 rfl rfl)
theorem dX7_feed_110 : decode cX7_feed 110 = .ok (.iadd, 1) := dk_96 (dk_at dksX7_feed_4 15 rfl rfl)
theorem dX7_feed_111 : decode cX7_feed 111 = .ok (.putfield 60, 3) := dk_181 0 60 (dk_at dksX7_feed_4 16 rfl rfl)
theorem dX7_feed_114 : decode cX7_feed 114 = .ok (.iinc 6 1, 3) := dk_132 6 1 (dk_at dksX7_feed_4 19 rfl rfl)
theorem dX7_feed_117 : decode cX7_feed 117 = .ok (.goto (-94), 3) := dk_167 255 162 (dk_at dksX7_feed_5 0 rfl rfl)
theorem dX7_feed_120 : decode cX7_feed 120 = .ok (.aload_n 0, 1) := dk_42 (dk_at dksX7_feed_5 3 rfl rfl)
theorem dX7_feed_121 : decode cX7_feed 121 = .ok (.getfield 60, 3) := dk_180 0 60 (dk_at dksX7_feed_5 4 rfl rfl)
theorem dX7_feed_124 : decode cX7_feed 124 = .ok (.ireturn, 1) := dk_172 (dk_at dksX7_feed_5 7 rfl rfl)
abbrev cX7_end : ByteArray := prog_23_method_10_code
def yX7_end : MethodName := ⟨RX7, "end", "(I)Z"⟩
def dkwX7_end_1 : List UInt8 := [4, 172]
abbrev dktX7_end_1 : List UInt8 := dkwX7_end_1 ++ []
def dkwX7_end_0 : List UInt8 := [42, 3, 181, 0, 53, 27, 3, 42, 180, 0, 60, 184, 0, 56, 154, 0, 5, 3, 172, 42, 27, 181, 0, 60]
abbrev dktX7_end_0 : List UInt8 := dkwX7_end_0 ++ dktX7_end_1
theorem dksX7_end_0 : cX7_end.data.toList.drop 0 = dktX7_end_0 := by decide +kernel
theorem dksX7_end_1 : cX7_end.data.toList.drop 24 = dktX7_end_1 := dk_seg dksX7_end_0 24 rfl rfl
theorem dX7_end_0 : decode cX7_end 0 = .ok (.aload_n 0, 1) := dk_42 (dk_at dksX7_end_0 0 rfl rfl)
theorem dX7_end_1 : decode cX7_end 1 = .ok (.iconst 0, 1) := dk_3 (dk_at dksX7_end_0 1 rfl rfl)
theorem dX7_end_2 : decode cX7_end 2 = .ok (.putfield 53, 3) := dk_181 0 53 (dk_at dksX7_end_0 2 rfl rfl)
theorem dX7_end_5 : decode cX7_end 5 = .ok (.iload_n 1, 1) := dk_27 (dk_at dksX7_end_0 5 rfl rfl)
theorem dX7_end_6 : decode cX7_end 6 = .ok (.iconst 0, 1) := dk_3 (dk_at dksX7_end_0 6 rfl rfl)
theorem dX7_end_7 : decode cX7_end 7 = .ok (.aload_n 0, 1) := dk_42 (dk_at dksX7_end_0 7 rfl rfl)
theorem dX7_end_8 : decode cX7_end 8 = .ok (.getfield 60, 3) := dk_180 0 60 (dk_at dksX7_end_0 8 rfl rfl)
theorem dX7_end_11 : decode cX7_end 11 = .ok (.invokestatic 56, 3) := dk_184 0 56 (dk_at dksX7_end_0 11 rfl rfl)
theorem dX7_end_14 : decode cX7_end 14 = .ok (.ifCond .ne 5, 3) := dk_154 0 5 (dk_at dksX7_end_0 14 rfl rfl)
theorem dX7_end_17 : decode cX7_end 17 = .ok (.iconst 0, 1) := dk_3 (dk_at dksX7_end_0 17 rfl rfl)
theorem dX7_end_18 : decode cX7_end 18 = .ok (.ireturn, 1) := dk_172 (dk_at dksX7_end_0 18 rfl rfl)
theorem dX7_end_19 : decode cX7_end 19 = .ok (.aload_n 0, 1) := dk_42 (dk_at dksX7_end_0 19 rfl rfl)
theorem dX7_end_20 : decode cX7_end 20 = .ok (.iload_n 1, 1) := dk_27 (dk_at dksX7_end_0 20 rfl rfl)
theorem dX7_end_21 : decode cX7_end 21 = .ok (.putfield 60, 3) := dk_181 0 60 (dk_at dksX7_end_0 21 rfl rfl)
theorem dX7_end_24 : decode cX7_end 24 = .ok (.iconst 1, 1) := dk_4 (dk_at dksX7_end_1 0 rfl rfl)
theorem dX7_end_25 : decode cX7_end 25 = .ok (.ireturn, 1) := dk_172 (dk_at dksX7_end_1 1 rfl rfl)
abbrev cX7_isIn : ByteArray := prog_23_method_3_code
def yX7_isIn : MethodName := ⟨RX7, "isIn", "(III)Z"⟩
def dkwX7_isIn_0 : List UInt8 := [26, 27, 161, 0, 12, 26, 28, 163, 0, 7, 4, 167, 0, 4, 3, 172]
abbrev dktX7_isIn_0 : List UInt8 := dkwX7_isIn_0 ++ []
theorem dksX7_isIn_0 : cX7_isIn.data.toList.drop 0 = dktX7_isIn_0 := by decide +kernel
theorem dX7_isIn_0 : decode cX7_isIn 0 = .ok (.iload_n 0, 1) := dk_26 (dk_at dksX7_isIn_0 0 rfl rfl)
theorem dX7_isIn_1 : decode cX7_isIn 1 = .ok (.iload_n 1, 1) := dk_27 (dk_at dksX7_isIn_0 1 rfl rfl)
theorem dX7_isIn_2 : decode cX7_isIn 2 = .ok (.if_icmp .lt 12, 3) := dk_161 0 12 (dk_at dksX7_isIn_0 2 rfl rfl)
theorem dX7_isIn_5 : decode cX7_isIn 5 = .ok (.iload_n 0, 1) := dk_26 (dk_at dksX7_isIn_0 5 rfl rfl)
theorem dX7_isIn_6 : decode cX7_isIn 6 = .ok (.iload_n 2, 1) := dk_28 (dk_at dksX7_isIn_0 6 rfl rfl)
theorem dX7_isIn_7 : decode cX7_isIn 7 = .ok (.if_icmp .gt 7, 3) := dk_163 0 7 (dk_at dksX7_isIn_0 7 rfl rfl)
theorem dX7_isIn_10 : decode cX7_isIn 10 = .ok (.iconst 1, 1) := dk_4 (dk_at dksX7_isIn_0 10 rfl rfl)
theorem dX7_isIn_11 : decode cX7_isIn 11 = .ok (.goto 4, 3) := dk_167 0 4 (dk_at dksX7_isIn_0 11 rfl rfl)
theorem dX7_isIn_14 : decode cX7_isIn 14 = .ok (.iconst 0, 1) := dk_3 (dk_at dksX7_isIn_0 14 rfl rfl)
theorem dX7_isIn_15 : decode cX7_isIn 15 = .ok (.ireturn, 1) := dk_172 (dk_at dksX7_isIn_0 15 rfl rfl)
abbrev cX7_town : ByteArray := prog_23_method_21_code
def yX7_town : MethodName := ⟨RX7, "town", "()I"⟩
def dkwX7_town_6 : List UInt8 := [172]
abbrev dktX7_town_6 : List UInt8 := dkwX7_town_6 ++ []
def dkwX7_town_5 : List UInt8 := [132, 1, 1, 167, 255, 234, 3, 172, 42, 180, 0, 7, 3, 92, 46, 4, 96, 79, 42, 180, 0, 7, 3, 46]
abbrev dktX7_town_5 : List UInt8 := dkwX7_town_5 ++ dktX7_town_6
def dkwX7_town_4 : List UInt8 := [158, 0, 32, 3, 60, 27, 17, 3, 172, 162, 0, 21, 42, 180, 0, 7, 27, 42, 180, 0, 16, 27, 46, 79]
abbrev dktX7_town_4 : List UInt8 := dkwX7_town_4 ++ dktX7_town_5
def dkwX7_town_3 : List UInt8 := [180, 0, 7, 3, 46, 16, 10, 160, 0, 7, 5, 167, 0, 4, 3, 181, 0, 53, 42, 180, 0, 53]
abbrev dktX7_town_3 : List UInt8 := dkwX7_town_3 ++ dktX7_town_4
def dkwX7_town_2 : List UInt8 := [181, 0, 60, 42, 3, 182, 0, 163, 42, 42, 180, 0, 22, 2, 159, 0, 7, 4, 167, 0, 19, 42]
abbrev dktX7_town_2 : List UInt8 := dkwX7_town_2 ++ dktX7_town_3
def dkwX7_town_1 : List UInt8 := [167, 255, 234, 42, 2, 181, 0, 22, 42, 2, 181, 0, 63, 42, 42, 180, 0, 60, 181, 0, 69, 42, 3]
abbrev dktX7_town_1 : List UInt8 := dkwX7_town_1 ++ dktX7_town_2
def dkwX7_town_0 : List UInt8 := [3, 60, 27, 17, 3, 172, 162, 0, 21, 42, 180, 0, 16, 27, 42, 180, 0, 7, 27, 46, 79, 132, 1, 1]
abbrev dktX7_town_0 : List UInt8 := dkwX7_town_0 ++ dktX7_town_1
theorem dksX7_town_0 : cX7_town.data.toList.drop 0 = dktX7_town_0 := by decide +kernel
theorem dksX7_town_1 : cX7_town.data.toList.drop 24 = dktX7_town_1 := dk_seg dksX7_town_0 24 rfl rfl
theorem dksX7_town_2 : cX7_town.data.toList.drop 47 = dktX7_town_2 := dk_seg dksX7_town_1 23 rfl rfl
theorem dksX7_town_3 : cX7_town.data.toList.drop 69 = dktX7_town_3 := dk_seg dksX7_town_2 22 rfl rfl
theorem dksX7_town_4 : cX7_town.data.toList.drop 91 = dktX7_town_4 := dk_seg dksX7_town_3 22 rfl rfl
theorem dksX7_town_5 : cX7_town.data.toList.drop 115 = dktX7_town_5 := dk_seg dksX7_town_4 24 rfl rfl
theorem dksX7_town_6 : cX7_town.data.toList.drop 139 = dktX7_town_6 := dk_seg dksX7_town_5 24 rfl rfl
theorem dX7_town_0 : decode cX7_town 0 = .ok (.iconst 0, 1) := dk_3 (dk_at dksX7_town_0 0 rfl rfl)
theorem dX7_town_1 : decode cX7_town 1 = .ok (.istore_n 1, 1) := dk_60 (dk_at dksX7_town_0 1 rfl rfl)
theorem dX7_town_2 : decode cX7_town 2 = .ok (.iload_n 1, 1) := dk_27 (dk_at dksX7_town_0 2 rfl rfl)
theorem dX7_town_3 : decode cX7_town 3 = .ok (.sipush 940, 3) := dk_17 3 172 (dk_at dksX7_town_0 3 rfl rfl)
theorem dX7_town_6 : decode cX7_town 6 = .ok (.if_icmp .ge 21, 3) := dk_162 0 21 (dk_at dksX7_town_0 6 rfl rfl)
theorem dX7_town_9 : decode cX7_town 9 = .ok (.aload_n 0, 1) := dk_42 (dk_at dksX7_town_0 9 rfl rfl)
theorem dX7_town_10 : decode cX7_town 10 = .ok (.getfield 16, 3) := dk_180 0 16 (dk_at dksX7_town_0 10 rfl rfl)
theorem dX7_town_13 : decode cX7_town 13 = .ok (.iload_n 1, 1) := dk_27 (dk_at dksX7_town_0 13 rfl rfl)
theorem dX7_town_14 : decode cX7_town 14 = .ok (.aload_n 0, 1) := dk_42 (dk_at dksX7_town_0 14 rfl rfl)
theorem dX7_town_15 : decode cX7_town 15 = .ok (.getfield 7, 3) := dk_180 0 7 (dk_at dksX7_town_0 15 rfl rfl)
theorem dX7_town_18 : decode cX7_town 18 = .ok (.iload_n 1, 1) := dk_27 (dk_at dksX7_town_0 18 rfl rfl)
theorem dX7_town_19 : decode cX7_town 19 = .ok (.iaload, 1) := dk_46 (dk_at dksX7_town_0 19 rfl rfl)
theorem dX7_town_20 : decode cX7_town 20 = .ok (.iastore, 1) := dk_79 (dk_at dksX7_town_0 20 rfl rfl)
theorem dX7_town_21 : decode cX7_town 21 = .ok (.iinc 1 1, 3) := dk_132 1 1 (dk_at dksX7_town_0 21 rfl rfl)
theorem dX7_town_24 : decode cX7_town 24 = .ok (.goto (-22), 3) := dk_167 255 234 (dk_at dksX7_town_1 0 rfl rfl)
theorem dX7_town_27 : decode cX7_town 27 = .ok (.aload_n 0, 1) := dk_42 (dk_at dksX7_town_1 3 rfl rfl)
theorem dX7_town_28 : decode cX7_town 28 = .ok (.iconst (-1), 1) := dk_2 (dk_at dksX7_town_1 4 rfl rfl)
theorem dX7_town_29 : decode cX7_town 29 = .ok (.putfield 22, 3) := dk_181 0 22 (dk_at dksX7_town_1 5 rfl rfl)
theorem dX7_town_32 : decode cX7_town 32 = .ok (.aload_n 0, 1) := dk_42 (dk_at dksX7_town_1 8 rfl rfl)
theorem dX7_town_33 : decode cX7_town 33 = .ok (.iconst (-1), 1) := dk_2 (dk_at dksX7_town_1 9 rfl rfl)
theorem dX7_town_34 : decode cX7_town 34 = .ok (.putfield 63, 3) := dk_181 0 63 (dk_at dksX7_town_1 10 rfl rfl)
theorem dX7_town_37 : decode cX7_town 37 = .ok (.aload_n 0, 1) := dk_42 (dk_at dksX7_town_1 13 rfl rfl)
theorem dX7_town_38 : decode cX7_town 38 = .ok (.aload_n 0, 1) := dk_42 (dk_at dksX7_town_1 14 rfl rfl)
theorem dX7_town_39 : decode cX7_town 39 = .ok (.getfield 60, 3) := dk_180 0 60 (dk_at dksX7_town_1 15 rfl rfl)
theorem dX7_town_42 : decode cX7_town 42 = .ok (.putfield 69, 3) := dk_181 0 69 (dk_at dksX7_town_1 18 rfl rfl)
theorem dX7_town_45 : decode cX7_town 45 = .ok (.aload_n 0, 1) := dk_42 (dk_at dksX7_town_1 21 rfl rfl)
theorem dX7_town_46 : decode cX7_town 46 = .ok (.iconst 0, 1) := dk_3 (dk_at dksX7_town_1 22 rfl rfl)
theorem dX7_town_47 : decode cX7_town 47 = .ok (.putfield 60, 3) := dk_181 0 60 (dk_at dksX7_town_2 0 rfl rfl)
theorem dX7_town_50 : decode cX7_town 50 = .ok (.aload_n 0, 1) := dk_42 (dk_at dksX7_town_2 3 rfl rfl)
theorem dX7_town_51 : decode cX7_town 51 = .ok (.iconst 0, 1) := dk_3 (dk_at dksX7_town_2 4 rfl rfl)
theorem dX7_town_52 : decode cX7_town 52 = .ok (.invokevirtual 163, 3) := dk_182 0 163 (dk_at dksX7_town_2 5 rfl rfl)
theorem dX7_town_55 : decode cX7_town 55 = .ok (.aload_n 0, 1) := dk_42 (dk_at dksX7_town_2 8 rfl rfl)
theorem dX7_town_56 : decode cX7_town 56 = .ok (.aload_n 0, 1) := dk_42 (dk_at dksX7_town_2 9 rfl rfl)
theorem dX7_town_57 : decode cX7_town 57 = .ok (.getfield 22, 3) := dk_180 0 22 (dk_at dksX7_town_2 10 rfl rfl)
theorem dX7_town_60 : decode cX7_town 60 = .ok (.iconst (-1), 1) := dk_2 (dk_at dksX7_town_2 13 rfl rfl)
theorem dX7_town_61 : decode cX7_town 61 = .ok (.if_icmp .eq 7, 3) := dk_159 0 7 (dk_at dksX7_town_2 14 rfl rfl)
theorem dX7_town_64 : decode cX7_town 64 = .ok (.iconst 1, 1) := dk_4 (dk_at dksX7_town_2 17 rfl rfl)
theorem dX7_town_65 : decode cX7_town 65 = .ok (.goto 19, 3) := dk_167 0 19 (dk_at dksX7_town_2 18 rfl rfl)
theorem dX7_town_68 : decode cX7_town 68 = .ok (.aload_n 0, 1) := dk_42 (dk_at dksX7_town_2 21 rfl rfl)
theorem dX7_town_69 : decode cX7_town 69 = .ok (.getfield 7, 3) := dk_180 0 7 (dk_at dksX7_town_3 0 rfl rfl)
theorem dX7_town_72 : decode cX7_town 72 = .ok (.iconst 0, 1) := dk_3 (dk_at dksX7_town_3 3 rfl rfl)
theorem dX7_town_73 : decode cX7_town 73 = .ok (.iaload, 1) := dk_46 (dk_at dksX7_town_3 4 rfl rfl)
theorem dX7_town_74 : decode cX7_town 74 = .ok (.bipush 10, 2) := dk_16 10 (dk_at dksX7_town_3 5 rfl rfl)
theorem dX7_town_76 : decode cX7_town 76 = .ok (.if_icmp .ne 7, 3) := dk_160 0 7 (dk_at dksX7_town_3 7 rfl rfl)
theorem dX7_town_79 : decode cX7_town 79 = .ok (.iconst 2, 1) := dk_5 (dk_at dksX7_town_3 10 rfl rfl)
theorem dX7_town_80 : decode cX7_town 80 = .ok (.goto 4, 3) := dk_167 0 4 (dk_at dksX7_town_3 11 rfl rfl)
theorem dX7_town_83 : decode cX7_town 83 = .ok (.iconst 0, 1) := dk_3 (dk_at dksX7_town_3 14 rfl rfl)
theorem dX7_town_84 : decode cX7_town 84 = .ok (.putfield 53, 3) := dk_181 0 53 (dk_at dksX7_town_3 15 rfl rfl)
theorem dX7_town_87 : decode cX7_town 87 = .ok (.aload_n 0, 1) := dk_42 (dk_at dksX7_town_3 18 rfl rfl)
theorem dX7_town_88 : decode cX7_town 88 = .ok (.getfield 53, 3) := dk_180 0 53 (dk_at dksX7_town_3 19 rfl rfl)
theorem dX7_town_91 : decode cX7_town 91 = .ok (.ifCond .le 32, 3) := dk_158 0 32 (dk_at dksX7_town_4 0 rfl rfl)
theorem dX7_town_94 : decode cX7_town 94 = .ok (.iconst 0, 1) := dk_3 (dk_at dksX7_town_4 3 rfl rfl)
theorem dX7_town_95 : decode cX7_town 95 = .ok (.istore_n 1, 1) := dk_60 (dk_at dksX7_town_4 4 rfl rfl)
theorem dX7_town_96 : decode cX7_town 96 = .ok (.iload_n 1, 1) := dk_27 (dk_at dksX7_town_4 5 rfl rfl)
theorem dX7_town_97 : decode cX7_town 97 = .ok (.sipush 940, 3) := dk_17 3 172 (dk_at dksX7_town_4 6 rfl rfl)
theorem dX7_town_100 : decode cX7_town 100 = .ok (.if_icmp .ge 21, 3) := dk_162 0 21 (dk_at dksX7_town_4 9 rfl rfl)
theorem dX7_town_103 : decode cX7_town 103 = .ok (.aload_n 0, 1) := dk_42 (dk_at dksX7_town_4 12 rfl rfl)
theorem dX7_town_104 : decode cX7_town 104 = .ok (.getfield 7, 3) := dk_180 0 7 (dk_at dksX7_town_4 13 rfl rfl)
theorem dX7_town_107 : decode cX7_town 107 = .ok (.iload_n 1, 1) := dk_27 (dk_at dksX7_town_4 16 rfl rfl)
theorem dX7_town_108 : decode cX7_town 108 = .ok (.aload_n 0, 1) := dk_42 (dk_at dksX7_town_4 17 rfl rfl)
theorem dX7_town_109 : decode cX7_town 109 = .ok (.getfield 16, 3) := dk_180 0 16 (dk_at dksX7_town_4 18 rfl rfl)
theorem dX7_town_112 : decode cX7_town 112 = .ok (.iload_n 1, 1) := dk_27 (dk_at dksX7_town_4 21 rfl rfl)
theorem dX7_town_113 : decode cX7_town 113 = .ok (.iaload, 1) := dk_46 (dk_at dksX7_town_4 22 rfl rfl)
theorem dX7_town_114 : decode cX7_town 114 = .ok (.iastore, 1) := dk_79 (dk_at dksX7_town_4 23 rfl rfl)
theorem dX7_town_115 : decode cX7_town 115 = .ok (.iinc 1 1, 3) := dk_132 1 1 (dk_at dksX7_town_5 0 rfl rfl)
theorem dX7_town_118 : decode cX7_town 118 = .ok (.goto (-22), 3) := dk_167 255 234 (dk_at dksX7_town_5 3 rfl rfl)
theorem dX7_town_121 : decode cX7_town 121 = .ok (.iconst 0, 1) := dk_3 (dk_at dksX7_town_5 6 rfl rfl)
theorem dX7_town_122 : decode cX7_town 122 = .ok (.ireturn, 1) := dk_172 (dk_at dksX7_town_5 7 rfl rfl)
theorem dX7_town_123 : decode cX7_town 123 = .ok (.aload_n 0, 1) := dk_42 (dk_at dksX7_town_5 8 rfl rfl)
theorem dX7_town_124 : decode cX7_town 124 = .ok (.getfield 7, 3) := dk_180 0 7 (dk_at dksX7_town_5 9 rfl rfl)
theorem dX7_town_127 : decode cX7_town 127 = .ok (.iconst 0, 1) := dk_3 (dk_at dksX7_town_5 12 rfl rfl)
theorem dX7_town_128 : decode cX7_town 128 = .ok (.dup2, 1) := dk_92 (dk_at dksX7_town_5 13 rfl rfl)
theorem dX7_town_129 : decode cX7_town 129 = .ok (.iaload, 1) := dk_46 (dk_at dksX7_town_5 14 rfl rfl)
theorem dX7_town_130 : decode cX7_town 130 = .ok (.iconst 1, 1) := dk_4 (dk_at dksX7_town_5 15 rfl rfl)
theorem dX7_town_131 : decode cX7_town 131 = .ok (.iadd, 1) := dk_96 (dk_at dksX7_town_5 16 rfl rfl)
theorem dX7_town_132 : decode cX7_town 132 = .ok (.iastore, 1) := dk_79 (dk_at dksX7_town_5 17 rfl rfl)
theorem dX7_town_133 : decode cX7_town 133 = .ok (.aload_n 0, 1) := dk_42 (dk_at dksX7_town_5 18 rfl rfl)
theorem dX7_town_134 : decode cX7_town 134 = .ok (.getfield 7, 3) := dk_180 0 7 (dk_at dksX7_town_5 19 rfl rfl)
theorem dX7_town_137 : decode cX7_town 137 = .ok (.iconst 0, 1) := dk_3 (dk_at dksX7_town_5 22 rfl rfl)
theorem dX7_town_138 : decode cX7_town 138 = .ok (.iaload, 1) := dk_46 (dk_at dksX7_town_5 23 rfl rfl)
theorem dX7_town_139 : decode cX7_town 139 = .ok (.ireturn, 1) := dk_172 (dk_at dksX7_town_6 0 rfl rfl)
abbrev cX7_read : ByteArray := prog_23_method_20_code
def yX7_read : MethodName := ⟨RX7, "read", "(Z)V"⟩
def dkwX7_read_7 : List UInt8 := [177]
abbrev dktX7_read_7 : List UInt8 := dkwX7_read_7 ++ []
def dkwX7_read_6 : List UInt8 := [42, 89, 180, 0, 66, 4, 96, 181, 0, 66, 167, 255, 139, 42, 42, 180, 0, 66, 182, 0, 93, 167, 255, 128]
abbrev dktX7_read_6 : List UInt8 := dkwX7_read_6 ++ dktX7_read_7
def dkwX7_read_5 : List UInt8 := [180, 0, 66, 42, 180, 0, 69, 160, 0, 8, 3, 61, 167, 255, 161, 42, 16, 59, 182, 0, 159, 153, 0, 16]
abbrev dktX7_read_5 : List UInt8 := dkwX7_read_5 ++ dktX7_read_6
def dkwX7_read_4 : List UInt8 := [42, 89, 180, 0, 150, 4, 96, 181, 0, 150, 42, 182, 0, 76, 42, 180, 0, 22, 2, 160, 0, 14, 42]
abbrev dktX7_read_4 : List UInt8 := dkwX7_read_4 ++ dktX7_read_5
def dkwX7_read_3 : List UInt8 := [180, 0, 66, 182, 0, 93, 167, 0, 18, 27, 153, 0, 10, 42, 182, 0, 153, 167, 0, 7, 42, 182, 0, 156]
abbrev dktX7_read_3 : List UInt8 := dkwX7_read_3 ++ dktX7_read_4
def dkwX7_read_2 : List UInt8 := [42, 182, 0, 76, 42, 180, 0, 150, 27, 153, 0, 8, 16, 12, 167, 0, 5, 16, 14, 160, 0, 14, 42, 42]
abbrev dktX7_read_2 : List UInt8 := dkwX7_read_2 ++ dktX7_read_3
def dkwX7_read_1 : List UInt8 := [180, 0, 69, 162, 0, 7, 4, 167, 0, 4, 3, 61, 28, 153, 0, 130, 42, 180, 0, 22, 2, 160, 0, 122]
abbrev dktX7_read_1 : List UInt8 := dkwX7_read_1 ++ dktX7_read_2
def dkwX7_read_0 : List UInt8 := [42, 3, 181, 0, 66, 42, 3, 181, 0, 147, 42, 3, 181, 0, 150, 42, 182, 0, 76, 42, 180, 0, 66, 42]
abbrev dktX7_read_0 : List UInt8 := dkwX7_read_0 ++ dktX7_read_1
theorem dksX7_read_0 : cX7_read.data.toList.drop 0 = dktX7_read_0 := by decide +kernel
theorem dksX7_read_1 : cX7_read.data.toList.drop 24 = dktX7_read_1 := dk_seg dksX7_read_0 24 rfl rfl
theorem dksX7_read_2 : cX7_read.data.toList.drop 48 = dktX7_read_2 := dk_seg dksX7_read_1 24 rfl rfl
theorem dksX7_read_3 : cX7_read.data.toList.drop 72 = dktX7_read_3 := dk_seg dksX7_read_2 24 rfl rfl
theorem dksX7_read_4 : cX7_read.data.toList.drop 96 = dktX7_read_4 := dk_seg dksX7_read_3 24 rfl rfl
theorem dksX7_read_5 : cX7_read.data.toList.drop 119 = dktX7_read_5 := dk_seg dksX7_read_4 23 rfl rfl
theorem dksX7_read_6 : cX7_read.data.toList.drop 143 = dktX7_read_6 := dk_seg dksX7_read_5 24 rfl rfl
theorem dksX7_read_7 : cX7_read.data.toList.drop 167 = dktX7_read_7 := dk_seg dksX7_read_6 24 rfl rfl
theorem dX7_read_0 : decode cX7_read 0 = .ok (.aload_n 0, 1) := dk_42 (dk_at dksX7_read_0 0 rfl rfl)
theorem dX7_read_1 : decode cX7_read 1 = .ok (.iconst 0, 1) := dk_3 (dk_at dksX7_read_0 1 rfl rfl)
theorem dX7_read_2 : decode cX7_read 2 = .ok (.putfield 66, 3) := dk_181 0 66 (dk_at dksX7_read_0 2 rfl rfl)
theorem dX7_read_5 : decode cX7_read 5 = .ok (.aload_n 0, 1) := dk_42 (dk_at dksX7_read_0 5 rfl rfl)
theorem dX7_read_6 : decode cX7_read 6 = .ok (.iconst 0, 1) := dk_3 (dk_at dksX7_read_0 6 rfl rfl)
theorem dX7_read_7 : decode cX7_read 7 = .ok (.putfield 147, 3) := dk_181 0 147 (dk_at dksX7_read_0 7 rfl rfl)
theorem dX7_read_10 : decode cX7_read 10 = .ok (.aload_n 0, 1) := dk_42 (dk_at dksX7_read_0 10 rfl rfl)
theorem dX7_read_11 : decode cX7_read 11 = .ok (.iconst 0, 1) := dk_3 (dk_at dksX7_read_0 11 rfl rfl)
theorem dX7_read_12 : decode cX7_read 12 = .ok (.putfield 150, 3) := dk_181 0 150 (dk_at dksX7_read_0 12 rfl rfl)
theorem dX7_read_15 : decode cX7_read 15 = .ok (.aload_n 0, 1) := dk_42 (dk_at dksX7_read_0 15 rfl rfl)
theorem dX7_read_16 : decode cX7_read 16 = .ok (.invokevirtual 76, 3) := dk_182 0 76 (dk_at dksX7_read_0 16 rfl rfl)
theorem dX7_read_19 : decode cX7_read 19 = .ok (.aload_n 0, 1) := dk_42 (dk_at dksX7_read_0 19 rfl rfl)
theorem dX7_read_20 : decode cX7_read 20 = .ok (.getfield 66, 3) := dk_180 0 66 (dk_at dksX7_read_0 20 rfl rfl)
theorem dX7_read_23 : decode cX7_read 23 = .ok (.aload_n 0, 1) := dk_42 (dk_at dksX7_read_0 23 rfl rfl)
theorem dX7_read_24 : decode cX7_read 24 = .ok (.getfield 69, 3) := dk_180 0 69 (dk_at dksX7_read_1 0 rfl rfl)
theorem dX7_read_27 : decode cX7_read 27 = .ok (.if_icmp .ge 7, 3) := dk_162 0 7 (dk_at dksX7_read_1 3 rfl rfl)
theorem dX7_read_30 : decode cX7_read 30 = .ok (.iconst 1, 1) := dk_4 (dk_at dksX7_read_1 6 rfl rfl)
theorem dX7_read_31 : decode cX7_read 31 = .ok (.goto 4, 3) := dk_167 0 4 (dk_at dksX7_read_1 7 rfl rfl)
theorem dX7_read_34 : decode cX7_read 34 = .ok (.iconst 0, 1) := dk_3 (dk_at dksX7_read_1 10 rfl rfl)
theorem dX7_read_35 : decode cX7_read 35 = .ok (.istore_n 2, 1) := dk_61 (dk_at dksX7_read_1 11 rfl rfl)
theorem dX7_read_36 : decode cX7_read 36 = .ok (.iload_n 2, 1) := dk_28 (dk_at dksX7_read_1 12 rfl rfl)
theorem dX7_read_37 : decode cX7_read 37 = .ok (.ifCond .eq 130, 3) := dk_153 0 130 (dk_at dksX7_read_1 13 rfl rfl)
theorem dX7_read_40 : decode cX7_read 40 = .ok (.aload_n 0, 1) := dk_42 (dk_at dksX7_read_1 16 rfl rfl)
theorem dX7_read_41 : decode cX7_read 41 = .ok (.getfield 22, 3) := dk_180 0 22 (dk_at dksX7_read_1 17 rfl rfl)
theorem dX7_read_44 : decode cX7_read 44 = .ok (.iconst (-1), 1) := dk_2 (dk_at dksX7_read_1 20 rfl rfl)
theorem dX7_read_45 : decode cX7_read 45 = .ok (.if_icmp .ne 122, 3) := dk_160 0 122 (dk_at dksX7_read_1 21 rfl rfl)
theorem dX7_read_48 : decode cX7_read 48 = .ok (.aload_n 0, 1) := dk_42 (dk_at dksX7_read_2 0 rfl rfl)
theorem dX7_read_49 : decode cX7_read 49 = .ok (.invokevirtual 76, 3) := dk_182 0 76 (dk_at dksX7_read_2 1 rfl rfl)
theorem dX7_read_52 : decode cX7_read 52 = .ok (.aload_n 0, 1) := dk_42 (dk_at dksX7_read_2 4 rfl rfl)
theorem dX7_read_53 : decode cX7_read 53 = .ok (.getfield 150, 3) := dk_180 0 150 (dk_at dksX7_read_2 5 rfl rfl)
theorem dX7_read_56 : decode cX7_read 56 = .ok (.iload_n 1, 1) := dk_27 (dk_at dksX7_read_2 8 rfl rfl)
theorem dX7_read_57 : decode cX7_read 57 = .ok (.ifCond .eq 8, 3) := dk_153 0 8 (dk_at dksX7_read_2 9 rfl rfl)
theorem dX7_read_60 : decode cX7_read 60 = .ok (.bipush 12, 2) := dk_16 12 (dk_at dksX7_read_2 12 rfl rfl)
theorem dX7_read_62 : decode cX7_read 62 = .ok (.goto 5, 3) := dk_167 0 5 (dk_at dksX7_read_2 14 rfl rfl)
theorem dX7_read_65 : decode cX7_read 65 = .ok (.bipush 14, 2) := dk_16 14 (dk_at dksX7_read_2 17 rfl rfl)
theorem dX7_read_67 : decode cX7_read 67 = .ok (.if_icmp .ne 14, 3) := dk_160 0 14 (dk_at dksX7_read_2 19 rfl rfl)
theorem dX7_read_70 : decode cX7_read 70 = .ok (.aload_n 0, 1) := dk_42 (dk_at dksX7_read_2 22 rfl rfl)
theorem dX7_read_71 : decode cX7_read 71 = .ok (.aload_n 0, 1) := dk_42 (dk_at dksX7_read_2 23 rfl rfl)
theorem dX7_read_72 : decode cX7_read 72 = .ok (.getfield 66, 3) := dk_180 0 66 (dk_at dksX7_read_3 0 rfl rfl)
theorem dX7_read_75 : decode cX7_read 75 = .ok (.invokevirtual 93, 3) := dk_182 0 93 (dk_at dksX7_read_3 3 rfl rfl)
theorem dX7_read_78 : decode cX7_read 78 = .ok (.goto 18, 3) := dk_167 0 18 (dk_at dksX7_read_3 6 rfl rfl)
theorem dX7_read_81 : decode cX7_read 81 = .ok (.iload_n 1, 1) := dk_27 (dk_at dksX7_read_3 9 rfl rfl)
theorem dX7_read_82 : decode cX7_read 82 = .ok (.ifCond .eq 10, 3) := dk_153 0 10 (dk_at dksX7_read_3 10 rfl rfl)
theorem dX7_read_85 : decode cX7_read 85 = .ok (.aload_n 0, 1) := dk_42 (dk_at dksX7_read_3 13 rfl rfl)
theorem dX7_read_86 : decode cX7_read 86 = .ok (.invokevirtual 153, 3) := dk_182 0 153 (dk_at dksX7_read_3 14 rfl rfl)
theorem dX7_read_89 : decode cX7_read 89 = .ok (.goto 7, 3) := dk_167 0 7 (dk_at dksX7_read_3 17 rfl rfl)
theorem dX7_read_92 : decode cX7_read 92 = .ok (.aload_n 0, 1) := dk_42 (dk_at dksX7_read_3 20 rfl rfl)
theorem dX7_read_93 : decode cX7_read 93 = .ok (.invokevirtual 156, 3) := dk_182 0 156 (dk_at dksX7_read_3 21 rfl rfl)
theorem dX7_read_96 : decode cX7_read 96 = .ok (.aload_n 0, 1) := dk_42 (dk_at dksX7_read_4 0 rfl rfl)
theorem dX7_read_97 : decode cX7_read 97 = .ok (.dup, 1) := dk_89 (dk_at dksX7_read_4 1 rfl rfl)
theorem dX7_read_98 : decode cX7_read 98 = .ok (.getfield 150, 3) := dk_180 0 150 (dk_at dksX7_read_4 2 rfl rfl)
theorem dX7_read_101 : decode cX7_read 101 = .ok (.iconst 1, 1) := dk_4 (dk_at dksX7_read_4 5 rfl rfl)
theorem dX7_read_102 : decode cX7_read 102 = .ok (.iadd, 1) := dk_96 (dk_at dksX7_read_4 6 rfl rfl)
theorem dX7_read_103 : decode cX7_read 103 = .ok (.putfield 150, 3) := dk_181 0 150 (dk_at dksX7_read_4 7 rfl rfl)
theorem dX7_read_106 : decode cX7_read 106 = .ok (.aload_n 0, 1) := dk_42 (dk_at dksX7_read_4 10 rfl rfl)
theorem dX7_read_107 : decode cX7_read 107 = .ok (.invokevirtual 76, 3) := dk_182 0 76 (dk_at dksX7_read_4 11 rfl rfl)
theorem dX7_read_110 : decode cX7_read 110 = .ok (.aload_n 0, 1) := dk_42 (dk_at dksX7_read_4 14 rfl rfl)
theorem dX7_read_111 : decode cX7_read 111 = .ok (.getfield 22, 3) := dk_180 0 22 (dk_at dksX7_read_4 15 rfl rfl)
theorem dX7_read_114 : decode cX7_read 114 = .ok (.iconst (-1), 1) := dk_2 (dk_at dksX7_read_4 18 rfl rfl)
theorem dX7_read_115 : decode cX7_read 115 = .ok (.if_icmp .ne 14, 3) := dk_160 0 14 (dk_at dksX7_read_4 19 rfl rfl)
theorem dX7_read_118 : decode cX7_read 118 = .ok (.aload_n 0, 1) := dk_42 (dk_at dksX7_read_4 22 rfl rfl)
theorem dX7_read_119 : decode cX7_read 119 = .ok (.getfield 66, 3) := dk_180 0 66 (dk_at dksX7_read_5 0 rfl rfl)
theorem dX7_read_122 : decode cX7_read 122 = .ok (.aload_n 0, 1) := dk_42 (dk_at dksX7_read_5 3 rfl rfl)
theorem dX7_read_123 : decode cX7_read 123 = .ok (.getfield 69, 3) := dk_180 0 69 (dk_at dksX7_read_5 4 rfl rfl)
theorem dX7_read_126 : decode cX7_read 126 = .ok (.if_icmp .ne 8, 3) := dk_160 0 8 (dk_at dksX7_read_5 7 rfl rfl)
theorem dX7_read_129 : decode cX7_read 129 = .ok (.iconst 0, 1) := dk_3 (dk_at dksX7_read_5 10 rfl rfl)
theorem dX7_read_130 : decode cX7_read 130 = .ok (.istore_n 2, 1) := dk_61 (dk_at dksX7_read_5 11 rfl rfl)
theorem dX7_read_131 : decode cX7_read 131 = .ok (.goto (-95), 3) := dk_167 255 161 (dk_at dksX7_read_5 12 rfl rfl)
theorem dX7_read_134 : decode cX7_read 134 = .ok (.aload_n 0, 1) := dk_42 (dk_at dksX7_read_5 15 rfl rfl)
theorem dX7_read_135 : decode cX7_read 135 = .ok (.bipush 59, 2) := dk_16 59 (dk_at dksX7_read_5 16 rfl rfl)
theorem dX7_read_137 : decode cX7_read 137 = .ok (.invokevirtual 159, 3) := dk_182 0 159 (dk_at dksX7_read_5 18 rfl rfl)
theorem dX7_read_140 : decode cX7_read 140 = .ok (.ifCond .eq 16, 3) := dk_153 0 16 (dk_at dksX7_read_5 21 rfl rfl)
theorem dX7_read_143 : decode cX7_read 143 = .ok (.aload_n 0, 1) := dk_42 (dk_at dksX7_read_6 0 rfl rfl)
theorem dX7_read_144 : decode cX7_read 144 = .ok (.dup, 1) := dk_89 (dk_at dksX7_read_6 1 rfl rfl)
theorem dX7_read_145 : decode cX7_read 145 = .ok (.getfield 66, 3) := dk_180 0 66 (dk_at dksX7_read_6 2 rfl rfl)
theorem dX7_read_148 : decode cX7_read 148 = .ok (.iconst 1, 1) := dk_4 (dk_at dksX7_read_6 5 rfl rfl)
theorem dX7_read_149 : decode cX7_read 149 = .ok (.iadd, 1) := dk_96 (dk_at dksX7_read_6 6 rfl rfl)
theorem dX7_read_150 : decode cX7_read 150 = .ok (.putfield 66, 3) := dk_181 0 66 (dk_at dksX7_read_6 7 rfl rfl)
theorem dX7_read_153 : decode cX7_read 153 = .ok (.goto (-117), 3) := dk_167 255 139 (dk_at dksX7_read_6 10 rfl rfl)
theorem dX7_read_156 : decode cX7_read 156 = .ok (.aload_n 0, 1) := dk_42 (dk_at dksX7_read_6 13 rfl rfl)
theorem dX7_read_157 : decode cX7_read 157 = .ok (.aload_n 0, 1) := dk_42 (dk_at dksX7_read_6 14 rfl rfl)
theorem dX7_read_158 : decode cX7_read 158 = .ok (.getfield 66, 3) := dk_180 0 66 (dk_at dksX7_read_6 15 rfl rfl)
theorem dX7_read_161 : decode cX7_read 161 = .ok (.invokevirtual 93, 3) := dk_182 0 93 (dk_at dksX7_read_6 18 rfl rfl)
theorem dX7_read_164 : decode cX7_read 164 = .ok (.goto (-128), 3) := dk_167 255 128 (dk_at dksX7_read_6 21 rfl rfl)
theorem dX7_read_167 : decode cX7_read 167 = .ok (.return_, 1) := dk_177 (dk_at dksX7_read_7 0 rfl rfl)
abbrev cX7_skip : ByteArray := prog_23_method_12_code
def yX7_skip : MethodName := ⟨RX7, "skip", "()V"⟩
def dkwX7_skip_1 : List UInt8 := [42, 89, 180, 0, 66, 4, 96, 181, 0, 66, 167, 255, 222, 177]
abbrev dktX7_skip_1 : List UInt8 := dkwX7_skip_1 ++ []
def dkwX7_skip_0 : List UInt8 := [42, 180, 0, 66, 42, 180, 0, 69, 162, 0, 29, 42, 42, 180, 0, 66, 182, 0, 72, 16, 32, 160, 0, 16]
abbrev dktX7_skip_0 : List UInt8 := dkwX7_skip_0 ++ dktX7_skip_1
theorem dksX7_skip_0 : cX7_skip.data.toList.drop 0 = dktX7_skip_0 := by decide +kernel
theorem dksX7_skip_1 : cX7_skip.data.toList.drop 24 = dktX7_skip_1 := dk_seg dksX7_skip_0 24 rfl rfl
theorem dX7_skip_0 : decode cX7_skip 0 = .ok (.aload_n 0, 1) := dk_42 (dk_at dksX7_skip_0 0 rfl rfl)
theorem dX7_skip_1 : decode cX7_skip 1 = .ok (.getfield 66, 3) := dk_180 0 66 (dk_at dksX7_skip_0 1 rfl rfl)
theorem dX7_skip_4 : decode cX7_skip 4 = .ok (.aload_n 0, 1) := dk_42 (dk_at dksX7_skip_0 4 rfl rfl)
theorem dX7_skip_5 : decode cX7_skip 5 = .ok (.getfield 69, 3) := dk_180 0 69 (dk_at dksX7_skip_0 5 rfl rfl)
theorem dX7_skip_8 : decode cX7_skip 8 = .ok (.if_icmp .ge 29, 3) := dk_162 0 29 (dk_at dksX7_skip_0 8 rfl rfl)
theorem dX7_skip_11 : decode cX7_skip 11 = .ok (.aload_n 0, 1) := dk_42 (dk_at dksX7_skip_0 11 rfl rfl)
theorem dX7_skip_12 : decode cX7_skip 12 = .ok (.aload_n 0, 1) := dk_42 (dk_at dksX7_skip_0 12 rfl rfl)
theorem dX7_skip_13 : decode cX7_skip 13 = .ok (.getfield 66, 3) := dk_180 0 66 (dk_at dksX7_skip_0 13 rfl rfl)
theorem dX7_skip_16 : decode cX7_skip 16 = .ok (.invokevirtual 72, 3) := dk_182 0 72 (dk_at dksX7_skip_0 16 rfl rfl)
theorem dX7_skip_19 : decode cX7_skip 19 = .ok (.bipush 32, 2) := dk_16 32 (dk_at dksX7_skip_0 19 rfl rfl)
theorem dX7_skip_21 : decode cX7_skip 21 = .ok (.if_icmp .ne 16, 3) := dk_160 0 16 (dk_at dksX7_skip_0 21 rfl rfl)
theorem dX7_skip_24 : decode cX7_skip 24 = .ok (.aload_n 0, 1) := dk_42 (dk_at dksX7_skip_1 0 rfl rfl)
theorem dX7_skip_25 : decode cX7_skip 25 = .ok (.dup, 1) := dk_89 (dk_at dksX7_skip_1 1 rfl rfl)
theorem dX7_skip_26 : decode cX7_skip 26 = .ok (.getfield 66, 3) := dk_180 0 66 (dk_at dksX7_skip_1 2 rfl rfl)
theorem dX7_skip_29 : decode cX7_skip 29 = .ok (.iconst 1, 1) := dk_4 (dk_at dksX7_skip_1 5 rfl rfl)
theorem dX7_skip_30 : decode cX7_skip 30 = .ok (.iadd, 1) := dk_96 (dk_at dksX7_skip_1 6 rfl rfl)
theorem dX7_skip_31 : decode cX7_skip 31 = .ok (.putfield 66, 3) := dk_181 0 66 (dk_at dksX7_skip_1 7 rfl rfl)
theorem dX7_skip_34 : decode cX7_skip 34 = .ok (.goto (-34), 3) := dk_167 255 222 (dk_at dksX7_skip_1 10 rfl rfl)
theorem dX7_skip_37 : decode cX7_skip 37 = .ok (.return_, 1) := dk_177 (dk_at dksX7_skip_1 13 rfl rfl)
abbrev cX7_letter : ByteArray := prog_23_method_11_code
def yX7_letter : MethodName := ⟨RX7, "letter", "(I)I"⟩
def dkwX7_letter_1 : List UInt8 := [180, 0, 63, 27, 96, 46, 172]
abbrev dktX7_letter_1 : List UInt8 := dkwX7_letter_1 ++ []
def dkwX7_letter_0 : List UInt8 := [42, 180, 0, 63, 2, 160, 0, 12, 42, 180, 0, 19, 27, 46, 167, 0, 14, 42, 180, 0, 7, 42]
abbrev dktX7_letter_0 : List UInt8 := dkwX7_letter_0 ++ dktX7_letter_1
theorem dksX7_letter_0 : cX7_letter.data.toList.drop 0 = dktX7_letter_0 := by decide +kernel
theorem dksX7_letter_1 : cX7_letter.data.toList.drop 22 = dktX7_letter_1 := dk_seg dksX7_letter_0 22 rfl rfl
theorem dX7_letter_0 : decode cX7_letter 0 = .ok (.aload_n 0, 1) := dk_42 (dk_at dksX7_letter_0 0 rfl rfl)
theorem dX7_letter_1 : decode cX7_letter 1 = .ok (.getfield 63, 3) := dk_180 0 63 (dk_at dksX7_letter_0 1 rfl rfl)
theorem dX7_letter_4 : decode cX7_letter 4 = .ok (.iconst (-1), 1) := dk_2 (dk_at dksX7_letter_0 4 rfl rfl)
theorem dX7_letter_5 : decode cX7_letter 5 = .ok (.if_icmp .ne 12, 3) := dk_160 0 12 (dk_at dksX7_letter_0 5 rfl rfl)
theorem dX7_letter_8 : decode cX7_letter 8 = .ok (.aload_n 0, 1) := dk_42 (dk_at dksX7_letter_0 8 rfl rfl)
theorem dX7_letter_9 : decode cX7_letter 9 = .ok (.getfield 19, 3) := dk_180 0 19 (dk_at dksX7_letter_0 9 rfl rfl)
theorem dX7_letter_12 : decode cX7_letter 12 = .ok (.iload_n 1, 1) := dk_27 (dk_at dksX7_letter_0 12 rfl rfl)
theorem dX7_letter_13 : decode cX7_letter 13 = .ok (.iaload, 1) := dk_46 (dk_at dksX7_letter_0 13 rfl rfl)
theorem dX7_letter_14 : decode cX7_letter 14 = .ok (.goto 14, 3) := dk_167 0 14 (dk_at dksX7_letter_0 14 rfl rfl)
theorem dX7_letter_17 : decode cX7_letter 17 = .ok (.aload_n 0, 1) := dk_42 (dk_at dksX7_letter_0 17 rfl rfl)
theorem dX7_letter_18 : decode cX7_letter 18 = .ok (.getfield 7, 3) := dk_180 0 7 (dk_at dksX7_letter_0 18 rfl rfl)
theorem dX7_letter_21 : decode cX7_letter 21 = .ok (.aload_n 0, 1) := dk_42 (dk_at dksX7_letter_0 21 rfl rfl)
theorem dX7_letter_22 : decode cX7_letter 22 = .ok (.getfield 63, 3) := dk_180 0 63 (dk_at dksX7_letter_1 0 rfl rfl)
theorem dX7_letter_25 : decode cX7_letter 25 = .ok (.iload_n 1, 1) := dk_27 (dk_at dksX7_letter_1 3 rfl rfl)
theorem dX7_letter_26 : decode cX7_letter 26 = .ok (.iadd, 1) := dk_96 (dk_at dksX7_letter_1 4 rfl rfl)
theorem dX7_letter_27 : decode cX7_letter 27 = .ok (.iaload, 1) := dk_46 (dk_at dksX7_letter_1 5 rfl rfl)
theorem dX7_letter_28 : decode cX7_letter 28 = .ok (.ireturn, 1) := dk_172 (dk_at dksX7_letter_1 6 rfl rfl)
abbrev cX7_wrong : ByteArray := prog_23_method_15_code
def yX7_wrong : MethodName := ⟨RX7, "wrong", "(I)V"⟩
def dkwX7_wrong_0 : List UInt8 := [42, 180, 0, 22, 2, 160, 0, 8, 42, 27, 181, 0, 22, 177]
abbrev dktX7_wrong_0 : List UInt8 := dkwX7_wrong_0 ++ []
theorem dksX7_wrong_0 : cX7_wrong.data.toList.drop 0 = dktX7_wrong_0 := by decide +kernel
theorem dX7_wrong_0 : decode cX7_wrong 0 = .ok (.aload_n 0, 1) := dk_42 (dk_at dksX7_wrong_0 0 rfl rfl)
theorem dX7_wrong_1 : decode cX7_wrong 1 = .ok (.getfield 22, 3) := dk_180 0 22 (dk_at dksX7_wrong_0 1 rfl rfl)
theorem dX7_wrong_4 : decode cX7_wrong 4 = .ok (.iconst (-1), 1) := dk_2 (dk_at dksX7_wrong_0 4 rfl rfl)
theorem dX7_wrong_5 : decode cX7_wrong 5 = .ok (.if_icmp .ne 8, 3) := dk_160 0 8 (dk_at dksX7_wrong_0 5 rfl rfl)
theorem dX7_wrong_8 : decode cX7_wrong 8 = .ok (.aload_n 0, 1) := dk_42 (dk_at dksX7_wrong_0 8 rfl rfl)
theorem dX7_wrong_9 : decode cX7_wrong 9 = .ok (.iload_n 1, 1) := dk_27 (dk_at dksX7_wrong_0 9 rfl rfl)
theorem dX7_wrong_10 : decode cX7_wrong 10 = .ok (.putfield 22, 3) := dk_181 0 22 (dk_at dksX7_wrong_0 10 rfl rfl)
theorem dX7_wrong_13 : decode cX7_wrong 13 = .ok (.return_, 1) := dk_177 (dk_at dksX7_wrong_0 13 rfl rfl)
abbrev cX7_temperLine : ByteArray := prog_23_method_28_code
def yX7_temperLine : MethodName := ⟨RX7, "temperLine", "()V"⟩
def dkwX7_temperLine_3 : List UInt8 := [160, 0, 16, 42, 27, 153, 0, 7, 4, 167, 0, 4, 3, 181, 0, 223, 177]
abbrev dktX7_temperLine_3 : List UInt8 := dkwX7_temperLine_3 ++ []
def dkwX7_temperLine_2 : List UInt8 := [167, 0, 4, 3, 61, 42, 180, 0, 22, 2, 160, 0, 28, 28, 153, 0, 24, 42, 180, 0, 223, 2]
abbrev dktX7_temperLine_2 : List UInt8 := dkwX7_temperLine_2 ++ dktX7_temperLine_3
def dkwX7_temperLine_1 : List UInt8 := [180, 0, 66, 182, 0, 93, 177, 42, 18, 221, 182, 0, 89, 153, 0, 10, 42, 182, 0, 207, 153, 0, 7, 4]
abbrev dktX7_temperLine_1 : List UInt8 := dkwX7_temperLine_1 ++ dktX7_temperLine_2
def dkwX7_temperLine_0 : List UInt8 := [42, 18, 217, 182, 0, 89, 60, 27, 154, 0, 21, 42, 18, 219, 182, 0, 89, 154, 0, 12, 42, 42]
abbrev dktX7_temperLine_0 : List UInt8 := dkwX7_temperLine_0 ++ dktX7_temperLine_1
theorem dksX7_temperLine_0 : cX7_temperLine.data.toList.drop 0 = dktX7_temperLine_0 := by decide +kernel
theorem dksX7_temperLine_1 : cX7_temperLine.data.toList.drop 22 = dktX7_temperLine_1 := dk_seg dksX7_temperLine_0 22 rfl rfl
theorem dksX7_temperLine_2 : cX7_temperLine.data.toList.drop 46 = dktX7_temperLine_2 := dk_seg dksX7_temperLine_1 24 rfl rfl
theorem dksX7_temperLine_3 : cX7_temperLine.data.toList.drop 68 = dktX7_temperLine_3 := dk_seg dksX7_temperLine_2 22 rfl rfl
theorem dX7_temperLine_0 : decode cX7_temperLine 0 = .ok (.aload_n 0, 1) := dk_42 (dk_at dksX7_temperLine_0 0 rfl rfl)
theorem dX7_temperLine_1 : decode cX7_temperLine 1 = .ok (.ldc 217, 2) := dk_18 217 (dk_at dksX7_temperLine_0 1 rfl rfl)
theorem dX7_temperLine_3 : decode cX7_temperLine 3 = .ok (.invokevirtual 89, 3) := dk_182 0 89 (dk_at dksX7_temperLine_0 3 rfl rfl)
theorem dX7_temperLine_6 : decode cX7_temperLine 6 = .ok (.istore_n 1, 1) := dk_60 (dk_at dksX7_temperLine_0 6 rfl rfl)
theorem dX7_temperLine_7 : decode cX7_temperLine 7 = .ok (.iload_n 1, 1) := dk_27 (dk_at dksX7_temperLine_0 7 rfl rfl)
theorem dX7_temperLine_8 : decode cX7_temperLine 8 = .ok (.ifCond .ne 21, 3) := dk_154 0 21 (dk_at dksX7_temperLine_0 8 rfl rfl)
theorem dX7_temperLine_11 : decode cX7_temperLine 11 = .ok (.aload_n 0, 1) := dk_42 (dk_at dksX7_temperLine_0 11 rfl rfl)
theorem dX7_temperLine_12 : decode cX7_temperLine 12 = .ok (.ldc 219, 2) := dk_18 219 (dk_at dksX7_temperLine_0 12 rfl rfl)
theorem dX7_temperLine_14 : decode cX7_temperLine 14 = .ok (.invokevirtual 89, 3) := dk_182 0 89 (dk_at dksX7_temperLine_0 14 rfl rfl)
theorem dX7_temperLine_17 : decode cX7_temperLine 17 = .ok (.ifCond .ne 12, 3) := dk_154 0 12 (dk_at dksX7_temperLine_0 17 rfl rfl)
theorem dX7_temperLine_20 : decode cX7_temperLine 20 = .ok (.aload_n 0, 1) := dk_42 (dk_at dksX7_temperLine_0 20 rfl rfl)
theorem dX7_temperLine_21 : decode cX7_temperLine 21 = .ok (.aload_n 0, 1) := dk_42 (dk_at dksX7_temperLine_0 21 rfl rfl)
theorem dX7_temperLine_22 : decode cX7_temperLine 22 = .ok (.getfield 66, 3) := dk_180 0 66 (dk_at dksX7_temperLine_1 0 rfl rfl)
theorem dX7_temperLine_25 : decode cX7_temperLine 25 = .ok (.invokevirtual 93, 3) := dk_182 0 93 (dk_at dksX7_temperLine_1 3 rfl rfl)
theorem dX7_temperLine_28 : decode cX7_temperLine 28 = .ok (.return_, 1) := dk_177 (dk_at dksX7_temperLine_1 6 rfl rfl)
theorem dX7_temperLine_29 : decode cX7_temperLine 29 = .ok (.aload_n 0, 1) := dk_42 (dk_at dksX7_temperLine_1 7 rfl rfl)
theorem dX7_temperLine_30 : decode cX7_temperLine 30 = .ok (.ldc 221, 2) := dk_18 221 (dk_at dksX7_temperLine_1 8 rfl rfl)
theorem dX7_temperLine_32 : decode cX7_temperLine 32 = .ok (.invokevirtual 89, 3) := dk_182 0 89 (dk_at dksX7_temperLine_1 10 rfl rfl)
theorem dX7_temperLine_35 : decode cX7_temperLine 35 = .ok (.ifCond .eq 10, 3) := dk_153 0 10 (dk_at dksX7_temperLine_1 13 rfl rfl)
theorem dX7_temperLine_38 : decode cX7_temperLine 38 = .ok (.aload_n 0, 1) := dk_42 (dk_at dksX7_temperLine_1 16 rfl rfl)
theorem dX7_temperLine_39 : decode cX7_temperLine 39 = .ok (.invokevirtual 207, 3) := dk_182 0 207 (dk_at dksX7_temperLine_1 17 rfl rfl)
theorem dX7_temperLine_42 : decode cX7_temperLine 42 = .ok (.ifCond .eq 7, 3) := dk_153 0 7 (dk_at dksX7_temperLine_1 20 rfl rfl)
theorem dX7_temperLine_45 : decode cX7_temperLine 45 = .ok (.iconst 1, 1) := dk_4 (dk_at dksX7_temperLine_1 23 rfl rfl)
theorem dX7_temperLine_46 : decode cX7_temperLine 46 = .ok (.goto 4, 3) := dk_167 0 4 (dk_at dksX7_temperLine_2 0 rfl rfl)
theorem dX7_temperLine_49 : decode cX7_temperLine 49 = .ok (.iconst 0, 1) := dk_3 (dk_at dksX7_temperLine_2 3 rfl rfl)
theorem dX7_temperLine_50 : decode cX7_temperLine 50 = .ok (.istore_n 2, 1) := dk_61 (dk_at dksX7_temperLine_2 4 rfl rfl)
theorem dX7_temperLine_51 : decode cX7_temperLine 51 = .ok (.aload_n 0, 1) := dk_42 (dk_at dksX7_temperLine_2 5 rfl rfl)
theorem dX7_temperLine_52 : decode cX7_temperLine 52 = .ok (.getfield 22, 3) := dk_180 0 22 (dk_at dksX7_temperLine_2 6 rfl rfl)
theorem dX7_temperLine_55 : decode cX7_temperLine 55 = .ok (.iconst (-1), 1) := dk_2 (dk_at dksX7_temperLine_2 9 rfl rfl)
theorem dX7_temperLine_56 : decode cX7_temperLine 56 = .ok (.if_icmp .ne 28, 3) := dk_160 0 28 (dk_at dksX7_temperLine_2 10 rfl rfl)
theorem dX7_temperLine_59 : decode cX7_temperLine 59 = .ok (.iload_n 2, 1) := dk_28 (dk_at dksX7_temperLine_2 13 rfl rfl)
theorem dX7_temperLine_60 : decode cX7_temperLine 60 = .ok (.ifCond .eq 24, 3) := dk_153 0 24 (dk_at dksX7_temperLine_2 14 rfl rfl)
theorem dX7_temperLine_63 : decode cX7_temperLine 63 = .ok (.aload_n 0, 1) := dk_42 (dk_at dksX7_temperLine_2 17 rfl rfl)
theorem dX7_temperLine_64 : decode cX7_temperLine 64 = .ok (.getfield 223, 3) := dk_180 0 223 (dk_at dksX7_temperLine_2 18 rfl rfl)
theorem dX7_temperLine_67 : decode cX7_temperLine 67 = .ok (.iconst (-1), 1) := dk_2 (dk_at dksX7_temperLine_2 21 rfl rfl)
theorem dX7_temperLine_68 : decode cX7_temperLine 68 = .ok (.if_icmp .ne 16, 3) := dk_160 0 16 (dk_at dksX7_temperLine_3 0 rfl rfl)
theorem dX7_temperLine_71 : decode cX7_temperLine 71 = .ok (.aload_n 0, 1) := dk_42 (dk_at dksX7_temperLine_3 3 rfl rfl)
theorem dX7_temperLine_72 : decode cX7_temperLine 72 = .ok (.iload_n 1, 1) := dk_27 (dk_at dksX7_temperLine_3 4 rfl rfl)
theorem dX7_temperLine_73 : decode cX7_temperLine 73 = .ok (.ifCond .eq 7, 3) := dk_153 0 7 (dk_at dksX7_temperLine_3 5 rfl rfl)
theorem dX7_temperLine_76 : decode cX7_temperLine 76 = .ok (.iconst 1, 1) := dk_4 (dk_at dksX7_temperLine_3 8 rfl rfl)
theorem dX7_temperLine_77 : decode cX7_temperLine 77 = .ok (.goto 4, 3) := dk_167 0 4 (dk_at dksX7_temperLine_3 9 rfl rfl)
theorem dX7_temperLine_80 : decode cX7_temperLine 80 = .ok (.iconst 0, 1) := dk_3 (dk_at dksX7_temperLine_3 12 rfl rfl)
theorem dX7_temperLine_81 : decode cX7_temperLine 81 = .ok (.putfield 223, 3) := dk_181 0 223 (dk_at dksX7_temperLine_3 13 rfl rfl)
theorem dX7_temperLine_84 : decode cX7_temperLine 84 = .ok (.return_, 1) := dk_177 (dk_at dksX7_temperLine_3 16 rfl rfl)
abbrev cX7_has0 : ByteArray := prog_23_method_14_code
def yX7_has0 : MethodName := ⟨RX7, "has0", "(Ljava/lang/String;)Z"⟩
def dkwX7_has0_4 : List UInt8 := [4, 172]
abbrev dktX7_has0_4 : List UInt8 := dkwX7_has0_4 ++ []
def dkwX7_has0_3 : List UInt8 := [182, 0, 72, 43, 29, 182, 0, 85, 159, 0, 5, 3, 172, 132, 3, 1, 167, 255, 225, 42, 28, 181, 0, 66]
abbrev dktX7_has0_3 : List UInt8 := dkwX7_has0_3 ++ dktX7_has0_4
def dkwX7_has0_2 : List UInt8 := [159, 0, 5, 3, 172, 3, 62, 29, 43, 182, 0, 79, 162, 0, 29, 42, 42, 180, 0, 66, 29, 96]
abbrev dktX7_has0_2 : List UInt8 := dkwX7_has0_2 ++ dktX7_has0_3
def dkwX7_has0_1 : List UInt8 := [16, 122, 184, 0, 56, 153, 0, 9, 132, 2, 1, 167, 255, 230, 28, 42, 180, 0, 66, 100, 43, 182, 0, 79]
abbrev dktX7_has0_1 : List UInt8 := dkwX7_has0_1 ++ dktX7_has0_2
def dkwX7_has0_0 : List UInt8 := [42, 182, 0, 76, 42, 180, 0, 66, 61, 28, 42, 180, 0, 69, 162, 0, 24, 42, 28, 182, 0, 72, 16, 97]
abbrev dktX7_has0_0 : List UInt8 := dkwX7_has0_0 ++ dktX7_has0_1
theorem dksX7_has0_0 : cX7_has0.data.toList.drop 0 = dktX7_has0_0 := by decide +kernel
theorem dksX7_has0_1 : cX7_has0.data.toList.drop 24 = dktX7_has0_1 := dk_seg dksX7_has0_0 24 rfl rfl
theorem dksX7_has0_2 : cX7_has0.data.toList.drop 48 = dktX7_has0_2 := dk_seg dksX7_has0_1 24 rfl rfl
theorem dksX7_has0_3 : cX7_has0.data.toList.drop 70 = dktX7_has0_3 := dk_seg dksX7_has0_2 22 rfl rfl
theorem dksX7_has0_4 : cX7_has0.data.toList.drop 94 = dktX7_has0_4 := dk_seg dksX7_has0_3 24 rfl rfl
theorem dX7_has0_0 : decode cX7_has0 0 = .ok (.aload_n 0, 1) := dk_42 (dk_at dksX7_has0_0 0 rfl rfl)
theorem dX7_has0_1 : decode cX7_has0 1 = .ok (.invokevirtual 76, 3) := dk_182 0 76 (dk_at dksX7_has0_0 1 rfl rfl)
theorem dX7_has0_4 : decode cX7_has0 4 = .ok (.aload_n 0, 1) := dk_42 (dk_at dksX7_has0_0 4 rfl rfl)
theorem dX7_has0_5 : decode cX7_has0 5 = .ok (.getfield 66, 3) := dk_180 0 66 (dk_at dksX7_has0_0 5 rfl rfl)
theorem dX7_has0_8 : decode cX7_has0 8 = .ok (.istore_n 2, 1) := dk_61 (dk_at dksX7_has0_0 8 rfl rfl)
theorem dX7_has0_9 : decode cX7_has0 9 = .ok (.iload_n 2, 1) := dk_28 (dk_at dksX7_has0_0 9 rfl rfl)
theorem dX7_has0_10 : decode cX7_has0 10 = .ok (.aload_n 0, 1) := dk_42 (dk_at dksX7_has0_0 10 rfl rfl)
theorem dX7_has0_11 : decode cX7_has0 11 = .ok (.getfield 69, 3) := dk_180 0 69 (dk_at dksX7_has0_0 11 rfl rfl)
theorem dX7_has0_14 : decode cX7_has0 14 = .ok (.if_icmp .ge 24, 3) := dk_162 0 24 (dk_at dksX7_has0_0 14 rfl rfl)
theorem dX7_has0_17 : decode cX7_has0 17 = .ok (.aload_n 0, 1) := dk_42 (dk_at dksX7_has0_0 17 rfl rfl)
theorem dX7_has0_18 : decode cX7_has0 18 = .ok (.iload_n 2, 1) := dk_28 (dk_at dksX7_has0_0 18 rfl rfl)
theorem dX7_has0_19 : decode cX7_has0 19 = .ok (.invokevirtual 72, 3) := dk_182 0 72 (dk_at dksX7_has0_0 19 rfl rfl)
theorem dX7_has0_22 : decode cX7_has0 22 = .ok (.bipush 97, 2) := dk_16 97 (dk_at dksX7_has0_0 22 rfl rfl)
theorem dX7_has0_24 : decode cX7_has0 24 = .ok (.bipush 122, 2) := dk_16 122 (dk_at dksX7_has0_1 0 rfl rfl)
theorem dX7_has0_26 : decode cX7_has0 26 = .ok (.invokestatic 56, 3) := dk_184 0 56 (dk_at dksX7_has0_1 2 rfl rfl)
theorem dX7_has0_29 : decode cX7_has0 29 = .ok (.ifCond .eq 9, 3) := dk_153 0 9 (dk_at dksX7_has0_1 5 rfl rfl)
theorem dX7_has0_32 : decode cX7_has0 32 = .ok (.iinc 2 1, 3) := dk_132 2 1 (dk_at dksX7_has0_1 8 rfl rfl)
theorem dX7_has0_35 : decode cX7_has0 35 = .ok (.goto (-26), 3) := dk_167 255 230 (dk_at dksX7_has0_1 11 rfl rfl)
theorem dX7_has0_38 : decode cX7_has0 38 = .ok (.iload_n 2, 1) := dk_28 (dk_at dksX7_has0_1 14 rfl rfl)
theorem dX7_has0_39 : decode cX7_has0 39 = .ok (.aload_n 0, 1) := dk_42 (dk_at dksX7_has0_1 15 rfl rfl)
theorem dX7_has0_40 : decode cX7_has0 40 = .ok (.getfield 66, 3) := dk_180 0 66 (dk_at dksX7_has0_1 16 rfl rfl)
theorem dX7_has0_43 : decode cX7_has0 43 = .ok (.isub, 1) := dk_100 (dk_at dksX7_has0_1 19 rfl rfl)
theorem dX7_has0_44 : decode cX7_has0 44 = .ok (.aload_n 1, 1) := dk_43 (dk_at dksX7_has0_1 20 rfl rfl)
theorem dX7_has0_45 : decode cX7_has0 45 = .ok (.invokevirtual 79, 3) := dk_182 0 79 (dk_at dksX7_has0_1 21 rfl rfl)
theorem dX7_has0_48 : decode cX7_has0 48 = .ok (.if_icmp .eq 5, 3) := dk_159 0 5 (dk_at dksX7_has0_2 0 rfl rfl)
theorem dX7_has0_51 : decode cX7_has0 51 = .ok (.iconst 0, 1) := dk_3 (dk_at dksX7_has0_2 3 rfl rfl)
theorem dX7_has0_52 : decode cX7_has0 52 = .ok (.ireturn, 1) := dk_172 (dk_at dksX7_has0_2 4 rfl rfl)
theorem dX7_has0_53 : decode cX7_has0 53 = .ok (.iconst 0, 1) := dk_3 (dk_at dksX7_has0_2 5 rfl rfl)
theorem dX7_has0_54 : decode cX7_has0 54 = .ok (.istore_n 3, 1) := dk_62 (dk_at dksX7_has0_2 6 rfl rfl)
theorem dX7_has0_55 : decode cX7_has0 55 = .ok (.iload_n 3, 1) := dk_29 (dk_at dksX7_has0_2 7 rfl rfl)
theorem dX7_has0_56 : decode cX7_has0 56 = .ok (.aload_n 1, 1) := dk_43 (dk_at dksX7_has0_2 8 rfl rfl)
theorem dX7_has0_57 : decode cX7_has0 57 = .ok (.invokevirtual 79, 3) := dk_182 0 79 (dk_at dksX7_has0_2 9 rfl rfl)
theorem dX7_has0_60 : decode cX7_has0 60 = .ok (.if_icmp .ge 29, 3) := dk_162 0 29 (dk_at dksX7_has0_2 12 rfl rfl)
theorem dX7_has0_63 : decode cX7_has0 63 = .ok (.aload_n 0, 1) := dk_42 (dk_at dksX7_has0_2 15 rfl rfl)
theorem dX7_has0_64 : decode cX7_has0 64 = .ok (.aload_n 0, 1) := dk_42 (dk_at dksX7_has0_2 16 rfl rfl)
theorem dX7_has0_65 : decode cX7_has0 65 = .ok (.getfield 66, 3) := dk_180 0 66 (dk_at dksX7_has0_2 17 rfl rfl)
theorem dX7_has0_68 : decode cX7_has0 68 = .ok (.iload_n 3, 1) := dk_29 (dk_at dksX7_has0_2 20 rfl rfl)
theorem dX7_has0_69 : decode cX7_has0 69 = .ok (.iadd, 1) := dk_96 (dk_at dksX7_has0_2 21 rfl rfl)
theorem dX7_has0_70 : decode cX7_has0 70 = .ok (.invokevirtual 72, 3) := dk_182 0 72 (dk_at dksX7_has0_3 0 rfl rfl)
theorem dX7_has0_73 : decode cX7_has0 73 = .ok (.aload_n 1, 1) := dk_43 (dk_at dksX7_has0_3 3 rfl rfl)
theorem dX7_has0_74 : decode cX7_has0 74 = .ok (.iload_n 3, 1) := dk_29 (dk_at dksX7_has0_3 4 rfl rfl)
theorem dX7_has0_75 : decode cX7_has0 75 = .ok (.invokevirtual 85, 3) := dk_182 0 85 (dk_at dksX7_has0_3 5 rfl rfl)
theorem dX7_has0_78 : decode cX7_has0 78 = .ok (.if_icmp .eq 5, 3) := dk_159 0 5 (dk_at dksX7_has0_3 8 rfl rfl)
theorem dX7_has0_81 : decode cX7_has0 81 = .ok (.iconst 0, 1) := dk_3 (dk_at dksX7_has0_3 11 rfl rfl)
theorem dX7_has0_82 : decode cX7_has0 82 = .ok (.ireturn, 1) := dk_172 (dk_at dksX7_has0_3 12 rfl rfl)
theorem dX7_has0_83 : decode cX7_has0 83 = .ok (.iinc 3 1, 3) := dk_132 3 1 (dk_at dksX7_has0_3 13 rfl rfl)
theorem dX7_has0_86 : decode cX7_has0 86 = .ok (.goto (-31), 3) := dk_167 255 225 (dk_at dksX7_has0_3 16 rfl rfl)
theorem dX7_has0_89 : decode cX7_has0 89 = .ok (.aload_n 0, 1) := dk_42 (dk_at dksX7_has0_3 19 rfl rfl)
theorem dX7_has0_90 : decode cX7_has0 90 = .ok (.iload_n 2, 1) := dk_28 (dk_at dksX7_has0_3 20 rfl rfl)
theorem dX7_has0_91 : decode cX7_has0 91 = .ok (.putfield 66, 3) := dk_181 0 66 (dk_at dksX7_has0_3 21 rfl rfl)
theorem dX7_has0_94 : decode cX7_has0 94 = .ok (.iconst 1, 1) := dk_4 (dk_at dksX7_has0_4 0 rfl rfl)
theorem dX7_has0_95 : decode cX7_has0 95 = .ok (.ireturn, 1) := dk_172 (dk_at dksX7_has0_4 1 rfl rfl)
abbrev cX7_some : ByteArray := prog_23_method_27_code
def yX7_some : MethodName := ⟨RX7, "some", "()Z"⟩
def dkwX7_some_1 : List UInt8 := [182, 0, 212, 61, 27, 154, 0, 7, 28, 153, 0, 7, 4, 167, 0, 4, 3, 60, 167, 255, 220, 27, 172]
abbrev dktX7_some_1 : List UInt8 := dkwX7_some_1 ++ []
def dkwX7_some_0 : List UInt8 := [42, 182, 0, 212, 60, 42, 180, 0, 22, 2, 160, 0, 34, 42, 18, 215, 182, 0, 89, 153, 0, 25, 42]
abbrev dktX7_some_0 : List UInt8 := dkwX7_some_0 ++ dktX7_some_1
theorem dksX7_some_0 : cX7_some.data.toList.drop 0 = dktX7_some_0 := by decide +kernel
theorem dksX7_some_1 : cX7_some.data.toList.drop 23 = dktX7_some_1 := dk_seg dksX7_some_0 23 rfl rfl
theorem dX7_some_0 : decode cX7_some 0 = .ok (.aload_n 0, 1) := dk_42 (dk_at dksX7_some_0 0 rfl rfl)
theorem dX7_some_1 : decode cX7_some 1 = .ok (.invokevirtual 212, 3) := dk_182 0 212 (dk_at dksX7_some_0 1 rfl rfl)
theorem dX7_some_4 : decode cX7_some 4 = .ok (.istore_n 1, 1) := dk_60 (dk_at dksX7_some_0 4 rfl rfl)
theorem dX7_some_5 : decode cX7_some 5 = .ok (.aload_n 0, 1) := dk_42 (dk_at dksX7_some_0 5 rfl rfl)
theorem dX7_some_6 : decode cX7_some 6 = .ok (.getfield 22, 3) := dk_180 0 22 (dk_at dksX7_some_0 6 rfl rfl)
theorem dX7_some_9 : decode cX7_some 9 = .ok (.iconst (-1), 1) := dk_2 (dk_at dksX7_some_0 9 rfl rfl)
theorem dX7_some_10 : decode cX7_some 10 = .ok (.if_icmp .ne 34, 3) := dk_160 0 34 (dk_at dksX7_some_0 10 rfl rfl)
theorem dX7_some_13 : decode cX7_some 13 = .ok (.aload_n 0, 1) := dk_42 (dk_at dksX7_some_0 13 rfl rfl)
theorem dX7_some_14 : decode cX7_some 14 = .ok (.ldc 215, 2) := dk_18 215 (dk_at dksX7_some_0 14 rfl rfl)
theorem dX7_some_16 : decode cX7_some 16 = .ok (.invokevirtual 89, 3) := dk_182 0 89 (dk_at dksX7_some_0 16 rfl rfl)
theorem dX7_some_19 : decode cX7_some 19 = .ok (.ifCond .eq 25, 3) := dk_153 0 25 (dk_at dksX7_some_0 19 rfl rfl)
theorem dX7_some_22 : decode cX7_some 22 = .ok (.aload_n 0, 1) := dk_42 (dk_at dksX7_some_0 22 rfl rfl)
theorem dX7_some_23 : decode cX7_some 23 = .ok (.invokevirtual 212, 3) := dk_182 0 212 (dk_at dksX7_some_1 0 rfl rfl)
theorem dX7_some_26 : decode cX7_some 26 = .ok (.istore_n 2, 1) := dk_61 (dk_at dksX7_some_1 3 rfl rfl)
theorem dX7_some_27 : decode cX7_some 27 = .ok (.iload_n 1, 1) := dk_27 (dk_at dksX7_some_1 4 rfl rfl)
theorem dX7_some_28 : decode cX7_some 28 = .ok (.ifCond .ne 7, 3) := dk_154 0 7 (dk_at dksX7_some_1 5 rfl rfl)
theorem dX7_some_31 : decode cX7_some 31 = .ok (.iload_n 2, 1) := dk_28 (dk_at dksX7_some_1 8 rfl rfl)
theorem dX7_some_32 : decode cX7_some 32 = .ok (.ifCond .eq 7, 3) := dk_153 0 7 (dk_at dksX7_some_1 9 rfl rfl)
theorem dX7_some_35 : decode cX7_some 35 = .ok (.iconst 1, 1) := dk_4 (dk_at dksX7_some_1 12 rfl rfl)
theorem dX7_some_36 : decode cX7_some 36 = .ok (.goto 4, 3) := dk_167 0 4 (dk_at dksX7_some_1 13 rfl rfl)
theorem dX7_some_39 : decode cX7_some 39 = .ok (.iconst 0, 1) := dk_3 (dk_at dksX7_some_1 16 rfl rfl)
theorem dX7_some_40 : decode cX7_some 40 = .ok (.istore_n 1, 1) := dk_60 (dk_at dksX7_some_1 17 rfl rfl)
theorem dX7_some_41 : decode cX7_some 41 = .ok (.goto (-36), 3) := dk_167 255 220 (dk_at dksX7_some_1 18 rfl rfl)
theorem dX7_some_44 : decode cX7_some 44 = .ok (.iload_n 1, 1) := dk_27 (dk_at dksX7_some_1 21 rfl rfl)
theorem dX7_some_45 : decode cX7_some 45 = .ok (.ireturn, 1) := dk_172 (dk_at dksX7_some_1 22 rfl rfl)
abbrev cX7_every : ByteArray := prog_23_method_26_code
def yX7_every : MethodName := ⟨RX7, "every", "()Z"⟩
def dkwX7_every_1 : List UInt8 := [182, 0, 204, 61, 27, 153, 0, 11, 28, 153, 0, 7, 4, 167, 0, 4, 3, 60, 167, 255, 220, 27, 172]
abbrev dktX7_every_1 : List UInt8 := dkwX7_every_1 ++ []
def dkwX7_every_0 : List UInt8 := [42, 182, 0, 204, 60, 42, 180, 0, 22, 2, 160, 0, 34, 42, 18, 210, 182, 0, 89, 153, 0, 25, 42]
abbrev dktX7_every_0 : List UInt8 := dkwX7_every_0 ++ dktX7_every_1
theorem dksX7_every_0 : cX7_every.data.toList.drop 0 = dktX7_every_0 := by decide +kernel
theorem dksX7_every_1 : cX7_every.data.toList.drop 23 = dktX7_every_1 := dk_seg dksX7_every_0 23 rfl rfl
theorem dX7_every_0 : decode cX7_every 0 = .ok (.aload_n 0, 1) := dk_42 (dk_at dksX7_every_0 0 rfl rfl)
theorem dX7_every_1 : decode cX7_every 1 = .ok (.invokevirtual 204, 3) := dk_182 0 204 (dk_at dksX7_every_0 1 rfl rfl)
theorem dX7_every_4 : decode cX7_every 4 = .ok (.istore_n 1, 1) := dk_60 (dk_at dksX7_every_0 4 rfl rfl)
theorem dX7_every_5 : decode cX7_every 5 = .ok (.aload_n 0, 1) := dk_42 (dk_at dksX7_every_0 5 rfl rfl)
theorem dX7_every_6 : decode cX7_every 6 = .ok (.getfield 22, 3) := dk_180 0 22 (dk_at dksX7_every_0 6 rfl rfl)
theorem dX7_every_9 : decode cX7_every 9 = .ok (.iconst (-1), 1) := dk_2 (dk_at dksX7_every_0 9 rfl rfl)
theorem dX7_every_10 : decode cX7_every 10 = .ok (.if_icmp .ne 34, 3) := dk_160 0 34 (dk_at dksX7_every_0 10 rfl rfl)
theorem dX7_every_13 : decode cX7_every 13 = .ok (.aload_n 0, 1) := dk_42 (dk_at dksX7_every_0 13 rfl rfl)
theorem dX7_every_14 : decode cX7_every 14 = .ok (.ldc 210, 2) := dk_18 210 (dk_at dksX7_every_0 14 rfl rfl)
theorem dX7_every_16 : decode cX7_every 16 = .ok (.invokevirtual 89, 3) := dk_182 0 89 (dk_at dksX7_every_0 16 rfl rfl)
theorem dX7_every_19 : decode cX7_every 19 = .ok (.ifCond .eq 25, 3) := dk_153 0 25 (dk_at dksX7_every_0 19 rfl rfl)
theorem dX7_every_22 : decode cX7_every 22 = .ok (.aload_n 0, 1) := dk_42 (dk_at dksX7_every_0 22 rfl rfl)
theorem dX7_every_23 : decode cX7_every 23 = .ok (.invokevirtual 204, 3) := dk_182 0 204 (dk_at dksX7_every_1 0 rfl rfl)
theorem dX7_every_26 : decode cX7_every 26 = .ok (.istore_n 2, 1) := dk_61 (dk_at dksX7_every_1 3 rfl rfl)
theorem dX7_every_27 : decode cX7_every 27 = .ok (.iload_n 1, 1) := dk_27 (dk_at dksX7_every_1 4 rfl rfl)
theorem dX7_every_28 : decode cX7_every 28 = .ok (.ifCond .eq 11, 3) := dk_153 0 11 (dk_at dksX7_every_1 5 rfl rfl)
theorem dX7_every_31 : decode cX7_every 31 = .ok (.iload_n 2, 1) := dk_28 (dk_at dksX7_every_1 8 rfl rfl)
theorem dX7_every_32 : decode cX7_every 32 = .ok (.ifCond .eq 7, 3) := dk_153 0 7 (dk_at dksX7_every_1 9 rfl rfl)
theorem dX7_every_35 : decode cX7_every 35 = .ok (.iconst 1, 1) := dk_4 (dk_at dksX7_every_1 12 rfl rfl)
theorem dX7_every_36 : decode cX7_every 36 = .ok (.goto 4, 3) := dk_167 0 4 (dk_at dksX7_every_1 13 rfl rfl)
theorem dX7_every_39 : decode cX7_every 39 = .ok (.iconst 0, 1) := dk_3 (dk_at dksX7_every_1 16 rfl rfl)
theorem dX7_every_40 : decode cX7_every 40 = .ok (.istore_n 1, 1) := dk_60 (dk_at dksX7_every_1 17 rfl rfl)
theorem dX7_every_41 : decode cX7_every 41 = .ok (.goto (-36), 3) := dk_167 255 220 (dk_at dksX7_every_1 18 rfl rfl)
theorem dX7_every_44 : decode cX7_every 44 = .ok (.iload_n 1, 1) := dk_27 (dk_at dksX7_every_1 21 rfl rfl)
theorem dX7_every_45 : decode cX7_every 45 = .ok (.ireturn, 1) := dk_172 (dk_at dksX7_every_1 22 rfl rfl)
abbrev cX7_atom : ByteArray := prog_23_method_25_code
def yX7_atom : MethodName := ⟨RX7, "atom", "()Z"⟩
def dkwX7_atom_6 : List UInt8 := [180, 0, 66, 4, 96, 181, 0, 66, 42, 89, 180, 0, 147, 4, 100, 181, 0, 147, 29, 172]
abbrev dktX7_atom_6 : List UInt8 := dkwX7_atom_6 ++ []
def dkwX7_atom_5 : List UInt8 := [160, 0, 20, 42, 16, 41, 182, 0, 159, 154, 0, 11, 42, 42, 180, 0, 66, 182, 0, 93, 42, 89]
abbrev dktX7_atom_5 : List UInt8 := dkwX7_atom_5 ++ dktX7_atom_6
def dkwX7_atom_4 : List UInt8 := [167, 0, 53, 42, 89, 180, 0, 66, 4, 96, 181, 0, 66, 42, 182, 0, 207, 62, 42, 180, 0, 22, 2]
abbrev dktX7_atom_4 : List UInt8 := dkwX7_atom_4 ++ dktX7_atom_5
def dkwX7_atom_3 : List UInt8 := [181, 0, 147, 3, 62, 28, 153, 0, 19, 42, 182, 0, 204, 154, 0, 7, 4, 167, 0, 4, 3, 62]
abbrev dktX7_atom_3 : List UInt8 := dkwX7_atom_3 ++ dktX7_atom_4
def dkwX7_atom_2 : List UInt8 := [180, 0, 147, 16, 6, 160, 0, 10, 42, 27, 182, 0, 93, 3, 172, 42, 89, 180, 0, 147, 4, 96]
abbrev dktX7_atom_2 : List UInt8 := dkwX7_atom_2 ++ dktX7_atom_3
def dkwX7_atom_1 : List UInt8 := [182, 0, 89, 61, 28, 154, 0, 17, 42, 16, 40, 182, 0, 159, 154, 0, 8, 42, 182, 0, 200, 172, 42]
abbrev dktX7_atom_1 : List UInt8 := dkwX7_atom_1 ++ dktX7_atom_2
def dkwX7_atom_0 : List UInt8 := [42, 180, 0, 22, 2, 159, 0, 5, 3, 172, 42, 182, 0, 76, 42, 180, 0, 66, 60, 42, 18, 198]
abbrev dktX7_atom_0 : List UInt8 := dkwX7_atom_0 ++ dktX7_atom_1
theorem dksX7_atom_0 : cX7_atom.data.toList.drop 0 = dktX7_atom_0 := by decide +kernel
theorem dksX7_atom_1 : cX7_atom.data.toList.drop 22 = dktX7_atom_1 := dk_seg dksX7_atom_0 22 rfl rfl
theorem dksX7_atom_2 : cX7_atom.data.toList.drop 45 = dktX7_atom_2 := dk_seg dksX7_atom_1 23 rfl rfl
theorem dksX7_atom_3 : cX7_atom.data.toList.drop 67 = dktX7_atom_3 := dk_seg dksX7_atom_2 22 rfl rfl
theorem dksX7_atom_4 : cX7_atom.data.toList.drop 89 = dktX7_atom_4 := dk_seg dksX7_atom_3 22 rfl rfl
theorem dksX7_atom_5 : cX7_atom.data.toList.drop 112 = dktX7_atom_5 := dk_seg dksX7_atom_4 23 rfl rfl
theorem dksX7_atom_6 : cX7_atom.data.toList.drop 134 = dktX7_atom_6 := dk_seg dksX7_atom_5 22 rfl rfl
theorem dX7_atom_0 : decode cX7_atom 0 = .ok (.aload_n 0, 1) := dk_42 (dk_at dksX7_atom_0 0 rfl rfl)
theorem dX7_atom_1 : decode cX7_atom 1 = .ok (.getfield 22, 3) := dk_180 0 22 (dk_at dksX7_atom_0 1 rfl rfl)
theorem dX7_atom_4 : decode cX7_atom 4 = .ok (.iconst (-1), 1) := dk_2 (dk_at dksX7_atom_0 4 rfl rfl)
theorem dX7_atom_5 : decode cX7_atom 5 = .ok (.if_icmp .eq 5, 3) := dk_159 0 5 (dk_at dksX7_atom_0 5 rfl rfl)
theorem dX7_atom_8 : decode cX7_atom 8 = .ok (.iconst 0, 1) := dk_3 (dk_at dksX7_atom_0 8 rfl rfl)
theorem dX7_atom_9 : decode cX7_atom 9 = .ok (.ireturn, 1) := dk_172 (dk_at dksX7_atom_0 9 rfl rfl)
theorem dX7_atom_10 : decode cX7_atom 10 = .ok (.aload_n 0, 1) := dk_42 (dk_at dksX7_atom_0 10 rfl rfl)
theorem dX7_atom_11 : decode cX7_atom 11 = .ok (.invokevirtual 76, 3) := dk_182 0 76 (dk_at dksX7_atom_0 11 rfl rfl)
theorem dX7_atom_14 : decode cX7_atom 14 = .ok (.aload_n 0, 1) := dk_42 (dk_at dksX7_atom_0 14 rfl rfl)
theorem dX7_atom_15 : decode cX7_atom 15 = .ok (.getfield 66, 3) := dk_180 0 66 (dk_at dksX7_atom_0 15 rfl rfl)
theorem dX7_atom_18 : decode cX7_atom 18 = .ok (.istore_n 1, 1) := dk_60 (dk_at dksX7_atom_0 18 rfl rfl)
theorem dX7_atom_19 : decode cX7_atom 19 = .ok (.aload_n 0, 1) := dk_42 (dk_at dksX7_atom_0 19 rfl rfl)
theorem dX7_atom_20 : decode cX7_atom 20 = .ok (.ldc 198, 2) := dk_18 198 (dk_at dksX7_atom_0 20 rfl rfl)
theorem dX7_atom_22 : decode cX7_atom 22 = .ok (.invokevirtual 89, 3) := dk_182 0 89 (dk_at dksX7_atom_1 0 rfl rfl)
theorem dX7_atom_25 : decode cX7_atom 25 = .ok (.istore_n 2, 1) := dk_61 (dk_at dksX7_atom_1 3 rfl rfl)
theorem dX7_atom_26 : decode cX7_atom 26 = .ok (.iload_n 2, 1) := dk_28 (dk_at dksX7_atom_1 4 rfl rfl)
theorem dX7_atom_27 : decode cX7_atom 27 = .ok (.ifCond .ne 17, 3) := dk_154 0 17 (dk_at dksX7_atom_1 5 rfl rfl)
theorem dX7_atom_30 : decode cX7_atom 30 = .ok (.aload_n 0, 1) := dk_42 (dk_at dksX7_atom_1 8 rfl rfl)
theorem dX7_atom_31 : decode cX7_atom 31 = .ok (.bipush 40, 2) := dk_16 40 (dk_at dksX7_atom_1 9 rfl rfl)
theorem dX7_atom_33 : decode cX7_atom 33 = .ok (.invokevirtual 159, 3) := dk_182 0 159 (dk_at dksX7_atom_1 11 rfl rfl)
theorem dX7_atom_36 : decode cX7_atom 36 = .ok (.ifCond .ne 8, 3) := dk_154 0 8 (dk_at dksX7_atom_1 14 rfl rfl)
theorem dX7_atom_39 : decode cX7_atom 39 = .ok (.aload_n 0, 1) := dk_42 (dk_at dksX7_atom_1 17 rfl rfl)
theorem dX7_atom_40 : decode cX7_atom 40 = .ok (.invokevirtual 200, 3) := dk_182 0 200 (dk_at dksX7_atom_1 18 rfl rfl)
theorem dX7_atom_43 : decode cX7_atom 43 = .ok (.ireturn, 1) := dk_172 (dk_at dksX7_atom_1 21 rfl rfl)
theorem dX7_atom_44 : decode cX7_atom 44 = .ok (.aload_n 0, 1) := dk_42 (dk_at dksX7_atom_1 22 rfl rfl)
theorem dX7_atom_45 : decode cX7_atom 45 = .ok (.getfield 147, 3) := dk_180 0 147 (dk_at dksX7_atom_2 0 rfl rfl)
theorem dX7_atom_48 : decode cX7_atom 48 = .ok (.bipush 6, 2) := dk_16 6 (dk_at dksX7_atom_2 3 rfl rfl)
theorem dX7_atom_50 : decode cX7_atom 50 = .ok (.if_icmp .ne 10, 3) := dk_160 0 10 (dk_at dksX7_atom_2 5 rfl rfl)
theorem dX7_atom_53 : decode cX7_atom 53 = .ok (.aload_n 0, 1) := dk_42 (dk_at dksX7_atom_2 8 rfl rfl)
theorem dX7_atom_54 : decode cX7_atom 54 = .ok (.iload_n 1, 1) := dk_27 (dk_at dksX7_atom_2 9 rfl rfl)
theorem dX7_atom_55 : decode cX7_atom 55 = .ok (.invokevirtual 93, 3) := dk_182 0 93 (dk_at dksX7_atom_2 10 rfl rfl)
theorem dX7_atom_58 : decode cX7_atom 58 = .ok (.iconst 0, 1) := dk_3 (dk_at dksX7_atom_2 13 rfl rfl)
theorem dX7_atom_59 : decode cX7_atom 59 = .ok (.ireturn, 1) := dk_172 (dk_at dksX7_atom_2 14 rfl rfl)
theorem dX7_atom_60 : decode cX7_atom 60 = .ok (.aload_n 0, 1) := dk_42 (dk_at dksX7_atom_2 15 rfl rfl)
theorem dX7_atom_61 : decode cX7_atom 61 = .ok (.dup, 1) := dk_89 (dk_at dksX7_atom_2 16 rfl rfl)
theorem dX7_atom_62 : decode cX7_atom 62 = .ok (.getfield 147, 3) := dk_180 0 147 (dk_at dksX7_atom_2 17 rfl rfl)
theorem dX7_atom_65 : decode cX7_atom 65 = .ok (.iconst 1, 1) := dk_4 (dk_at dksX7_atom_2 20 rfl rfl)
theorem dX7_atom_66 : decode cX7_atom 66 = .ok (.iadd, 1) := dk_96 (dk_at dksX7_atom_2 21 rfl rfl)
theorem dX7_atom_67 : decode cX7_atom 67 = .ok (.putfield 147, 3) := dk_181 0 147 (dk_at dksX7_atom_3 0 rfl rfl)
theorem dX7_atom_70 : decode cX7_atom 70 = .ok (.iconst 0, 1) := dk_3 (dk_at dksX7_atom_3 3 rfl rfl)
theorem dX7_atom_71 : decode cX7_atom 71 = .ok (.istore_n 3, 1) := dk_62 (dk_at dksX7_atom_3 4 rfl rfl)
theorem dX7_atom_72 : decode cX7_atom 72 = .ok (.iload_n 2, 1) := dk_28 (dk_at dksX7_atom_3 5 rfl rfl)
theorem dX7_atom_73 : decode cX7_atom 73 = .ok (.ifCond .eq 19, 3) := dk_153 0 19 (dk_at dksX7_atom_3 6 rfl rfl)
theorem dX7_atom_76 : decode cX7_atom 76 = .ok (.aload_n 0, 1) := dk_42 (dk_at dksX7_atom_3 9 rfl rfl)
theorem dX7_atom_77 : decode cX7_atom 77 = .ok (.invokevirtual 204, 3) := dk_182 0 204 (dk_at dksX7_atom_3 10 rfl rfl)
theorem dX7_atom_80 : decode cX7_atom 80 = .ok (.ifCond .ne 7, 3) := dk_154 0 7 (dk_at dksX7_atom_3 13 rfl rfl)
theorem dX7_atom_83 : decode cX7_atom 83 = .ok (.iconst 1, 1) := dk_4 (dk_at dksX7_atom_3 16 rfl rfl)
theorem dX7_atom_84 : decode cX7_atom 84 = .ok (.goto 4, 3) := dk_167 0 4 (dk_at dksX7_atom_3 17 rfl rfl)
theorem dX7_atom_87 : decode cX7_atom 87 = .ok (.iconst 0, 1) := dk_3 (dk_at dksX7_atom_3 20 rfl rfl)
theorem dX7_atom_88 : decode cX7_atom 88 = .ok (.istore_n 3, 1) := dk_62 (dk_at dksX7_atom_3 21 rfl rfl)
theorem dX7_atom_89 : decode cX7_atom 89 = .ok (.goto 53, 3) := dk_167 0 53 (dk_at dksX7_atom_4 0 rfl rfl)
theorem dX7_atom_92 : decode cX7_atom 92 = .ok (.aload_n 0, 1) := dk_42 (dk_at dksX7_atom_4 3 rfl rfl)
theorem dX7_atom_93 : decode cX7_atom 93 = .ok (.dup, 1) := dk_89 (dk_at dksX7_atom_4 4 rfl rfl)
theorem dX7_atom_94 : decode cX7_atom 94 = .ok (.getfield 66, 3) := dk_180 0 66 (dk_at dksX7_atom_4 5 rfl rfl)
theorem dX7_atom_97 : decode cX7_atom 97 = .ok (.iconst 1, 1) := dk_4 (dk_at dksX7_atom_4 8 rfl rfl)
theorem dX7_atom_98 : decode cX7_atom 98 = .ok (.iadd, 1) := dk_96 (dk_at dksX7_atom_4 9 rfl rfl)
theorem dX7_atom_99 : decode cX7_atom 99 = .ok (.putfield 66, 3) := dk_181 0 66 (dk_at dksX7_atom_4 10 rfl rfl)
theorem dX7_atom_102 : decode cX7_atom 102 = .ok (.aload_n 0, 1) := dk_42 (dk_at dksX7_atom_4 13 rfl rfl)
theorem dX7_atom_103 : decode cX7_atom 103 = .ok (.invokevirtual 207, 3) := dk_182 0 207 (dk_at dksX7_atom_4 14 rfl rfl)
theorem dX7_atom_106 : decode cX7_atom 106 = .ok (.istore_n 3, 1) := dk_62 (dk_at dksX7_atom_4 17 rfl rfl)
theorem dX7_atom_107 : decode cX7_atom 107 = .ok (.aload_n 0, 1) := dk_42 (dk_at dksX7_atom_4 18 rfl rfl)
theorem dX7_atom_108 : decode cX7_atom 108 = .ok (.getfield 22, 3) := dk_180 0 22 (dk_at dksX7_atom_4 19 rfl rfl)
theorem dX7_atom_111 : decode cX7_atom 111 = .ok (.iconst (-1), 1) := dk_2 (dk_at dksX7_atom_4 22 rfl rfl)
theorem dX7_atom_112 : decode cX7_atom 112 = .ok (.if_icmp .ne 20, 3) := dk_160 0 20 (dk_at dksX7_atom_5 0 rfl rfl)
theorem dX7_atom_115 : decode cX7_atom 115 = .ok (.aload_n 0, 1) := dk_42 (dk_at dksX7_atom_5 3 rfl rfl)
theorem dX7_atom_116 : decode cX7_atom 116 = .ok (.bipush 41, 2) := dk_16 41 (dk_at dksX7_atom_5 4 rfl rfl)
theorem dX7_atom_118 : decode cX7_atom 118 = .ok (.invokevirtual 159, 3) := dk_182 0 159 (dk_at dksX7_atom_5 6 rfl rfl)
theorem dX7_atom_121 : decode cX7_atom 121 = .ok (.ifCond .ne 11, 3) := dk_154 0 11 (dk_at dksX7_atom_5 9 rfl rfl)
theorem dX7_atom_124 : decode cX7_atom 124 = .ok (.aload_n 0, 1) := dk_42 (dk_at dksX7_atom_5 12 rfl rfl)
theorem dX7_atom_125 : decode cX7_atom 125 = .ok (.aload_n 0, 1) := dk_42 (dk_at dksX7_atom_5 13 rfl rfl)
theorem dX7_atom_126 : decode cX7_atom 126 = .ok (.getfield 66, 3) := dk_180 0 66 (dk_at dksX7_atom_5 14 rfl rfl)
theorem dX7_atom_129 : decode cX7_atom 129 = .ok (.invokevirtual 93, 3) := dk_182 0 93 (dk_at dksX7_atom_5 17 rfl rfl)
theorem dX7_atom_132 : decode cX7_atom 132 = .ok (.aload_n 0, 1) := dk_42 (dk_at dksX7_atom_5 20 rfl rfl)
theorem dX7_atom_133 : decode cX7_atom 133 = .ok (.dup, 1) := dk_89 (dk_at dksX7_atom_5 21 rfl rfl)
theorem dX7_atom_134 : decode cX7_atom 134 = .ok (.getfield 66, 3) := dk_180 0 66 (dk_at dksX7_atom_6 0 rfl rfl)
theorem dX7_atom_137 : decode cX7_atom 137 = .ok (.iconst 1, 1) := dk_4 (dk_at dksX7_atom_6 3 rfl rfl)
theorem dX7_atom_138 : decode cX7_atom 138 = .ok (.iadd, 1) := dk_96 (dk_at dksX7_atom_6 4 rfl rfl)
theorem dX7_atom_139 : decode cX7_atom 139 = .ok (.putfield 66, 3) := dk_181 0 66 (dk_at dksX7_atom_6 5 rfl rfl)
theorem dX7_atom_142 : decode cX7_atom 142 = .ok (.aload_n 0, 1) := dk_42 (dk_at dksX7_atom_6 8 rfl rfl)
theorem dX7_atom_143 : decode cX7_atom 143 = .ok (.dup, 1) := dk_89 (dk_at dksX7_atom_6 9 rfl rfl)
theorem dX7_atom_144 : decode cX7_atom 144 = .ok (.getfield 147, 3) := dk_180 0 147 (dk_at dksX7_atom_6 10 rfl rfl)
theorem dX7_atom_147 : decode cX7_atom 147 = .ok (.iconst 1, 1) := dk_4 (dk_at dksX7_atom_6 13 rfl rfl)
theorem dX7_atom_148 : decode cX7_atom 148 = .ok (.isub, 1) := dk_100 (dk_at dksX7_atom_6 14 rfl rfl)
theorem dX7_atom_149 : decode cX7_atom 149 = .ok (.putfield 147, 3) := dk_181 0 147 (dk_at dksX7_atom_6 15 rfl rfl)
theorem dX7_atom_152 : decode cX7_atom 152 = .ok (.iload_n 3, 1) := dk_29 (dk_at dksX7_atom_6 18 rfl rfl)
theorem dX7_atom_153 : decode cX7_atom 153 = .ok (.ireturn, 1) := dk_172 (dk_at dksX7_atom_6 19 rfl rfl)
abbrev cX7_isSign : ByteArray := prog_23_method_13_code
def yX7_isSign : MethodName := ⟨RX7, "isSign", "(I)Z"⟩
def dkwX7_isSign_1 : List UInt8 := [160, 0, 7, 4, 167, 0, 4, 3, 172]
abbrev dktX7_isSign_1 : List UInt8 := dkwX7_isSign_1 ++ []
def dkwX7_isSign_0 : List UInt8 := [42, 182, 0, 76, 42, 180, 0, 66, 42, 180, 0, 69, 162, 0, 19, 42, 42, 180, 0, 66, 182, 0, 72, 27]
abbrev dktX7_isSign_0 : List UInt8 := dkwX7_isSign_0 ++ dktX7_isSign_1
theorem dksX7_isSign_0 : cX7_isSign.data.toList.drop 0 = dktX7_isSign_0 := by decide +kernel
theorem dksX7_isSign_1 : cX7_isSign.data.toList.drop 24 = dktX7_isSign_1 := dk_seg dksX7_isSign_0 24 rfl rfl
theorem dX7_isSign_0 : decode cX7_isSign 0 = .ok (.aload_n 0, 1) := dk_42 (dk_at dksX7_isSign_0 0 rfl rfl)
theorem dX7_isSign_1 : decode cX7_isSign 1 = .ok (.invokevirtual 76, 3) := dk_182 0 76 (dk_at dksX7_isSign_0 1 rfl rfl)
theorem dX7_isSign_4 : decode cX7_isSign 4 = .ok (.aload_n 0, 1) := dk_42 (dk_at dksX7_isSign_0 4 rfl rfl)
theorem dX7_isSign_5 : decode cX7_isSign 5 = .ok (.getfield 66, 3) := dk_180 0 66 (dk_at dksX7_isSign_0 5 rfl rfl)
theorem dX7_isSign_8 : decode cX7_isSign 8 = .ok (.aload_n 0, 1) := dk_42 (dk_at dksX7_isSign_0 8 rfl rfl)
theorem dX7_isSign_9 : decode cX7_isSign 9 = .ok (.getfield 69, 3) := dk_180 0 69 (dk_at dksX7_isSign_0 9 rfl rfl)
theorem dX7_isSign_12 : decode cX7_isSign 12 = .ok (.if_icmp .ge 19, 3) := dk_162 0 19 (dk_at dksX7_isSign_0 12 rfl rfl)
theorem dX7_isSign_15 : decode cX7_isSign 15 = .ok (.aload_n 0, 1) := dk_42 (dk_at dksX7_isSign_0 15 rfl rfl)
theorem dX7_isSign_16 : decode cX7_isSign 16 = .ok (.aload_n 0, 1) := dk_42 (dk_at dksX7_isSign_0 16 rfl rfl)
theorem dX7_isSign_17 : decode cX7_isSign 17 = .ok (.getfield 66, 3) := dk_180 0 66 (dk_at dksX7_isSign_0 17 rfl rfl)
theorem dX7_isSign_20 : decode cX7_isSign 20 = .ok (.invokevirtual 72, 3) := dk_182 0 72 (dk_at dksX7_isSign_0 20 rfl rfl)
theorem dX7_isSign_23 : decode cX7_isSign 23 = .ok (.iload_n 1, 1) := dk_27 (dk_at dksX7_isSign_0 23 rfl rfl)
theorem dX7_isSign_24 : decode cX7_isSign 24 = .ok (.if_icmp .ne 7, 3) := dk_160 0 7 (dk_at dksX7_isSign_1 0 rfl rfl)
theorem dX7_isSign_27 : decode cX7_isSign 27 = .ok (.iconst 1, 1) := dk_4 (dk_at dksX7_isSign_1 3 rfl rfl)
theorem dX7_isSign_28 : decode cX7_isSign 28 = .ok (.goto 4, 3) := dk_167 0 4 (dk_at dksX7_isSign_1 4 rfl rfl)
theorem dX7_isSign_31 : decode cX7_isSign 31 = .ok (.iconst 0, 1) := dk_3 (dk_at dksX7_isSign_1 7 rfl rfl)
theorem dX7_isSign_32 : decode cX7_isSign 32 = .ok (.ireturn, 1) := dk_172 (dk_at dksX7_isSign_1 8 rfl rfl)
abbrev cX7_plain : ByteArray := prog_23_method_24_code
def yX7_plain : MethodName := ⟨RX7, "plain", "()Z"⟩
def dkwX7_plain_5 : List UInt8 := [167, 0, 13, 27, 29, 164, 0, 7, 4, 167, 0, 4, 3, 172]
abbrev dktX7_plain_5 : List UInt8 := dkwX7_plain_5 ++ []
def dkwX7_plain_4 : List UInt8 := [181, 0, 66, 42, 182, 0, 195, 62, 28, 153, 0, 16, 27, 29, 162, 0, 7, 4, 167, 0, 17, 3]
abbrev dktX7_plain_4 : List UInt8 := dkwX7_plain_4 ++ dktX7_plain_5
def dkwX7_plain_3 : List UInt8 := [182, 0, 159, 154, 0, 13, 42, 42, 180, 0, 66, 182, 0, 93, 3, 172, 42, 89, 180, 0, 66, 4, 96]
abbrev dktX7_plain_3 : List UInt8 := dkwX7_plain_3 ++ dktX7_plain_4
def dkwX7_plain_2 : List UInt8 := [180, 0, 22, 2, 159, 0, 5, 3, 172, 42, 16, 60, 182, 0, 159, 61, 28, 154, 0, 22, 42, 16, 62]
abbrev dktX7_plain_2 : List UInt8 := dkwX7_plain_2 ++ dktX7_plain_3
def dkwX7_plain_1 : List UInt8 := [180, 0, 187, 172, 42, 18, 190, 182, 0, 89, 153, 0, 8, 42, 180, 0, 192, 172, 42, 182, 0, 195, 60, 42]
abbrev dktX7_plain_1 : List UInt8 := dkwX7_plain_1 ++ dktX7_plain_2
def dkwX7_plain_0 : List UInt8 := [42, 18, 103, 182, 0, 89, 153, 0, 8, 42, 180, 0, 181, 172, 42, 18, 185, 182, 0, 89, 153, 0, 8, 42]
abbrev dktX7_plain_0 : List UInt8 := dkwX7_plain_0 ++ dktX7_plain_1
theorem dksX7_plain_0 : cX7_plain.data.toList.drop 0 = dktX7_plain_0 := by decide +kernel
theorem dksX7_plain_1 : cX7_plain.data.toList.drop 24 = dktX7_plain_1 := dk_seg dksX7_plain_0 24 rfl rfl
theorem dksX7_plain_2 : cX7_plain.data.toList.drop 48 = dktX7_plain_2 := dk_seg dksX7_plain_1 24 rfl rfl
theorem dksX7_plain_3 : cX7_plain.data.toList.drop 71 = dktX7_plain_3 := dk_seg dksX7_plain_2 23 rfl rfl
theorem dksX7_plain_4 : cX7_plain.data.toList.drop 94 = dktX7_plain_4 := dk_seg dksX7_plain_3 23 rfl rfl
theorem dksX7_plain_5 : cX7_plain.data.toList.drop 116 = dktX7_plain_5 := dk_seg dksX7_plain_4 22 rfl rfl
theorem dX7_plain_0 : decode cX7_plain 0 = .ok (.aload_n 0, 1) := dk_42 (dk_at dksX7_plain_0 0 rfl rfl)
theorem dX7_plain_1 : decode cX7_plain 1 = .ok (.ldc 103, 2) := dk_18 103 (dk_at dksX7_plain_0 1 rfl rfl)
theorem dX7_plain_3 : decode cX7_plain 3 = .ok (.invokevirtual 89, 3) := dk_182 0 89 (dk_at dksX7_plain_0 3 rfl rfl)
theorem dX7_plain_6 : decode cX7_plain 6 = .ok (.ifCond .eq 8, 3) := dk_153 0 8 (dk_at dksX7_plain_0 6 rfl rfl)
theorem dX7_plain_9 : decode cX7_plain 9 = .ok (.aload_n 0, 1) := dk_42 (dk_at dksX7_plain_0 9 rfl rfl)
theorem dX7_plain_10 : decode cX7_plain 10 = .ok (.getfield 181, 3) := dk_180 0 181 (dk_at dksX7_plain_0 10 rfl rfl)
theorem dX7_plain_13 : decode cX7_plain 13 = .ok (.ireturn, 1) := dk_172 (dk_at dksX7_plain_0 13 rfl rfl)
theorem dX7_plain_14 : decode cX7_plain 14 = .ok (.aload_n 0, 1) := dk_42 (dk_at dksX7_plain_0 14 rfl rfl)
theorem dX7_plain_15 : decode cX7_plain 15 = .ok (.ldc 185, 2) := dk_18 185 (dk_at dksX7_plain_0 15 rfl rfl)
theorem dX7_plain_17 : decode cX7_plain 17 = .ok (.invokevirtual 89, 3) := dk_182 0 89 (dk_at dksX7_plain_0 17 rfl rfl)
theorem dX7_plain_20 : decode cX7_plain 20 = .ok (.ifCond .eq 8, 3) := dk_153 0 8 (dk_at dksX7_plain_0 20 rfl rfl)
theorem dX7_plain_23 : decode cX7_plain 23 = .ok (.aload_n 0, 1) := dk_42 (dk_at dksX7_plain_0 23 rfl rfl)
theorem dX7_plain_24 : decode cX7_plain 24 = .ok (.getfield 187, 3) := dk_180 0 187 (dk_at dksX7_plain_1 0 rfl rfl)
theorem dX7_plain_27 : decode cX7_plain 27 = .ok (.ireturn, 1) := dk_172 (dk_at dksX7_plain_1 3 rfl rfl)
theorem dX7_plain_28 : decode cX7_plain 28 = .ok (.aload_n 0, 1) := dk_42 (dk_at dksX7_plain_1 4 rfl rfl)
theorem dX7_plain_29 : decode cX7_plain 29 = .ok (.ldc 190, 2) := dk_18 190 (dk_at dksX7_plain_1 5 rfl rfl)
theorem dX7_plain_31 : decode cX7_plain 31 = .ok (.invokevirtual 89, 3) := dk_182 0 89 (dk_at dksX7_plain_1 7 rfl rfl)
theorem dX7_plain_34 : decode cX7_plain 34 = .ok (.ifCond .eq 8, 3) := dk_153 0 8 (dk_at dksX7_plain_1 10 rfl rfl)
theorem dX7_plain_37 : decode cX7_plain 37 = .ok (.aload_n 0, 1) := dk_42 (dk_at dksX7_plain_1 13 rfl rfl)
theorem dX7_plain_38 : decode cX7_plain 38 = .ok (.getfield 192, 3) := dk_180 0 192 (dk_at dksX7_plain_1 14 rfl rfl)
theorem dX7_plain_41 : decode cX7_plain 41 = .ok (.ireturn, 1) := dk_172 (dk_at dksX7_plain_1 17 rfl rfl)
theorem dX7_plain_42 : decode cX7_plain 42 = .ok (.aload_n 0, 1) := dk_42 (dk_at dksX7_plain_1 18 rfl rfl)
theorem dX7_plain_43 : decode cX7_plain 43 = .ok (.invokevirtual 195, 3) := dk_182 0 195 (dk_at dksX7_plain_1 19 rfl rfl)
theorem dX7_plain_46 : decode cX7_plain 46 = .ok (.istore_n 1, 1) := dk_60 (dk_at dksX7_plain_1 22 rfl rfl)
theorem dX7_plain_47 : decode cX7_plain 47 = .ok (.aload_n 0, 1) := dk_42 (dk_at dksX7_plain_1 23 rfl rfl)
theorem dX7_plain_48 : decode cX7_plain 48 = .ok (.getfield 22, 3) := dk_180 0 22 (dk_at dksX7_plain_2 0 rfl rfl)
theorem dX7_plain_51 : decode cX7_plain 51 = .ok (.iconst (-1), 1) := dk_2 (dk_at dksX7_plain_2 3 rfl rfl)
theorem dX7_plain_52 : decode cX7_plain 52 = .ok (.if_icmp .eq 5, 3) := dk_159 0 5 (dk_at dksX7_plain_2 4 rfl rfl)
theorem dX7_plain_55 : decode cX7_plain 55 = .ok (.iconst 0, 1) := dk_3 (dk_at dksX7_plain_2 7 rfl rfl)
theorem dX7_plain_56 : decode cX7_plain 56 = .ok (.ireturn, 1) := dk_172 (dk_at dksX7_plain_2 8 rfl rfl)
theorem dX7_plain_57 : decode cX7_plain 57 = .ok (.aload_n 0, 1) := dk_42 (dk_at dksX7_plain_2 9 rfl rfl)
theorem dX7_plain_58 : decode cX7_plain 58 = .ok (.bipush 60, 2) := dk_16 60 (dk_at dksX7_plain_2 10 rfl rfl)
theorem dX7_plain_60 : decode cX7_plain 60 = .ok (.invokevirtual 159, 3) := dk_182 0 159 (dk_at dksX7_plain_2 12 rfl rfl)
theorem dX7_plain_63 : decode cX7_plain 63 = .ok (.istore_n 2, 1) := dk_61 (dk_at dksX7_plain_2 15 rfl rfl)
theorem dX7_plain_64 : decode cX7_plain 64 = .ok (.iload_n 2, 1) := dk_28 (dk_at dksX7_plain_2 16 rfl rfl)
theorem dX7_plain_65 : decode cX7_plain 65 = .ok (.ifCond .ne 22, 3) := dk_154 0 22 (dk_at dksX7_plain_2 17 rfl rfl)
theorem dX7_plain_68 : decode cX7_plain 68 = .ok (.aload_n 0, 1) := dk_42 (dk_at dksX7_plain_2 20 rfl rfl)
theorem dX7_plain_69 : decode cX7_plain 69 = .ok (.bipush 62, 2) := dk_16 62 (dk_at dksX7_plain_2 21 rfl rfl)
theorem dX7_plain_71 : decode cX7_plain 71 = .ok (.invokevirtual 159, 3) := dk_182 0 159 (dk_at dksX7_plain_3 0 rfl rfl)
theorem dX7_plain_74 : decode cX7_plain 74 = .ok (.ifCond .ne 13, 3) := dk_154 0 13 (dk_at dksX7_plain_3 3 rfl rfl)
theorem dX7_plain_77 : decode cX7_plain 77 = .ok (.aload_n 0, 1) := dk_42 (dk_at dksX7_plain_3 6 rfl rfl)
theorem dX7_plain_78 : decode cX7_plain 78 = .ok (.aload_n 0, 1) := dk_42 (dk_at dksX7_plain_3 7 rfl rfl)
theorem dX7_plain_79 : decode cX7_plain 79 = .ok (.getfield 66, 3) := dk_180 0 66 (dk_at dksX7_plain_3 8 rfl rfl)
theorem dX7_plain_82 : decode cX7_plain 82 = .ok (.invokevirtual 93, 3) := dk_182 0 93 (dk_at dksX7_plain_3 11 rfl rfl)
theorem dX7_plain_85 : decode cX7_plain 85 = .ok (.iconst 0, 1) := dk_3 (dk_at dksX7_plain_3 14 rfl rfl)
theorem dX7_plain_86 : decode cX7_plain 86 = .ok (.ireturn, 1) := dk_172 (dk_at dksX7_plain_3 15 rfl rfl)
theorem dX7_plain_87 : decode cX7_plain 87 = .ok (.aload_n 0, 1) := dk_42 (dk_at dksX7_plain_3 16 rfl rfl)
theorem dX7_plain_88 : decode cX7_plain 88 = .ok (.dup, 1) := dk_89 (dk_at dksX7_plain_3 17 rfl rfl)
theorem dX7_plain_89 : decode cX7_plain 89 = .ok (.getfield 66, 3) := dk_180 0 66 (dk_at dksX7_plain_3 18 rfl rfl)
theorem dX7_plain_92 : decode cX7_plain 92 = .ok (.iconst 1, 1) := dk_4 (dk_at dksX7_plain_3 21 rfl rfl)
theorem dX7_plain_93 : decode cX7_plain 93 = .ok (.iadd, 1) := dk_96 (dk_at dksX7_plain_3 22 rfl rfl)
theorem dX7_plain_94 : decode cX7_plain 94 = .ok (.putfield 66, 3) := dk_181 0 66 (dk_at dksX7_plain_4 0 rfl rfl)
theorem dX7_plain_97 : decode cX7_plain 97 = .ok (.aload_n 0, 1) := dk_42 (dk_at dksX7_plain_4 3 rfl rfl)
theorem dX7_plain_98 : decode cX7_plain 98 = .ok (.invokevirtual 195, 3) := dk_182 0 195 (dk_at dksX7_plain_4 4 rfl rfl)
theorem dX7_plain_101 : decode cX7_plain 101 = .ok (.istore_n 3, 1) := dk_62 (dk_at dksX7_plain_4 7 rfl rfl)
theorem dX7_plain_102 : decode cX7_plain 102 = .ok (.iload_n 2, 1) := dk_28 (dk_at dksX7_plain_4 8 rfl rfl)
theorem dX7_plain_103 : decode cX7_plain 103 = .ok (.ifCond .eq 16, 3) := dk_153 0 16 (dk_at dksX7_plain_4 9 rfl rfl)
theorem dX7_plain_106 : decode cX7_plain 106 = .ok (.iload_n 1, 1) := dk_27 (dk_at dksX7_plain_4 12 rfl rfl)
theorem dX7_plain_107 : decode cX7_plain 107 = .ok (.iload_n 3, 1) := dk_29 (dk_at dksX7_plain_4 13 rfl rfl)
theorem dX7_plain_108 : decode cX7_plain 108 = .ok (.if_icmp .ge 7, 3) := dk_162 0 7 (dk_at dksX7_plain_4 14 rfl rfl)
theorem dX7_plain_111 : decode cX7_plain 111 = .ok (.iconst 1, 1) := dk_4 (dk_at dksX7_plain_4 17 rfl rfl)
theorem dX7_plain_112 : decode cX7_plain 112 = .ok (.goto 17, 3) := dk_167 0 17 (dk_at dksX7_plain_4 18 rfl rfl)
theorem dX7_plain_115 : decode cX7_plain 115 = .ok (.iconst 0, 1) := dk_3 (dk_at dksX7_plain_4 21 rfl rfl)
theorem dX7_plain_116 : decode cX7_plain 116 = .ok (.goto 13, 3) := dk_167 0 13 (dk_at dksX7_plain_5 0 rfl rfl)
theorem dX7_plain_119 : decode cX7_plain 119 = .ok (.iload_n 1, 1) := dk_27 (dk_at dksX7_plain_5 3 rfl rfl)
theorem dX7_plain_120 : decode cX7_plain 120 = .ok (.iload_n 3, 1) := dk_29 (dk_at dksX7_plain_5 4 rfl rfl)
theorem dX7_plain_121 : decode cX7_plain 121 = .ok (.if_icmp .le 7, 3) := dk_164 0 7 (dk_at dksX7_plain_5 5 rfl rfl)
theorem dX7_plain_124 : decode cX7_plain 124 = .ok (.iconst 1, 1) := dk_4 (dk_at dksX7_plain_5 8 rfl rfl)
theorem dX7_plain_125 : decode cX7_plain 125 = .ok (.goto 4, 3) := dk_167 0 4 (dk_at dksX7_plain_5 9 rfl rfl)
theorem dX7_plain_128 : decode cX7_plain 128 = .ok (.iconst 0, 1) := dk_3 (dk_at dksX7_plain_5 12 rfl rfl)
theorem dX7_plain_129 : decode cX7_plain 129 = .ok (.ireturn, 1) := dk_172 (dk_at dksX7_plain_5 13 rfl rfl)
abbrev cX7_sum : ByteArray := prog_23_method_23_code
def yX7_sum : MethodName := ⟨RX7, "sum", "()I"⟩
def dkwX7_sum_1 : List UInt8 := [180, 0, 66, 4, 96, 181, 0, 66, 27, 42, 182, 0, 178, 96, 60, 167, 255, 222, 27, 172]
abbrev dktX7_sum_1 : List UInt8 := dkwX7_sum_1 ++ []
def dkwX7_sum_0 : List UInt8 := [42, 182, 0, 178, 60, 42, 180, 0, 22, 2, 160, 0, 32, 42, 16, 43, 182, 0, 159, 153, 0, 23, 42, 89]
abbrev dktX7_sum_0 : List UInt8 := dkwX7_sum_0 ++ dktX7_sum_1
theorem dksX7_sum_0 : cX7_sum.data.toList.drop 0 = dktX7_sum_0 := by decide +kernel
theorem dksX7_sum_1 : cX7_sum.data.toList.drop 24 = dktX7_sum_1 := dk_seg dksX7_sum_0 24 rfl rfl
theorem dX7_sum_0 : decode cX7_sum 0 = .ok (.aload_n 0, 1) := dk_42 (dk_at dksX7_sum_0 0 rfl rfl)
theorem dX7_sum_1 : decode cX7_sum 1 = .ok (.invokevirtual 178, 3) := dk_182 0 178 (dk_at dksX7_sum_0 1 rfl rfl)
theorem dX7_sum_4 : decode cX7_sum 4 = .ok (.istore_n 1, 1) := dk_60 (dk_at dksX7_sum_0 4 rfl rfl)
theorem dX7_sum_5 : decode cX7_sum 5 = .ok (.aload_n 0, 1) := dk_42 (dk_at dksX7_sum_0 5 rfl rfl)
theorem dX7_sum_6 : decode cX7_sum 6 = .ok (.getfield 22, 3) := dk_180 0 22 (dk_at dksX7_sum_0 6 rfl rfl)
theorem dX7_sum_9 : decode cX7_sum 9 = .ok (.iconst (-1), 1) := dk_2 (dk_at dksX7_sum_0 9 rfl rfl)
theorem dX7_sum_10 : decode cX7_sum 10 = .ok (.if_icmp .ne 32, 3) := dk_160 0 32 (dk_at dksX7_sum_0 10 rfl rfl)
theorem dX7_sum_13 : decode cX7_sum 13 = .ok (.aload_n 0, 1) := dk_42 (dk_at dksX7_sum_0 13 rfl rfl)
theorem dX7_sum_14 : decode cX7_sum 14 = .ok (.bipush 43, 2) := dk_16 43 (dk_at dksX7_sum_0 14 rfl rfl)
theorem dX7_sum_16 : decode cX7_sum 16 = .ok (.invokevirtual 159, 3) := dk_182 0 159 (dk_at dksX7_sum_0 16 rfl rfl)
theorem dX7_sum_19 : decode cX7_sum 19 = .ok (.ifCond .eq 23, 3) := dk_153 0 23 (dk_at dksX7_sum_0 19 rfl rfl)
theorem dX7_sum_22 : decode cX7_sum 22 = .ok (.aload_n 0, 1) := dk_42 (dk_at dksX7_sum_0 22 rfl rfl)
theorem dX7_sum_23 : decode cX7_sum 23 = .ok (.dup, 1) := dk_89 (dk_at dksX7_sum_0 23 rfl rfl)
theorem dX7_sum_24 : decode cX7_sum 24 = .ok (.getfield 66, 3) := dk_180 0 66 (dk_at dksX7_sum_1 0 rfl rfl)
theorem dX7_sum_27 : decode cX7_sum 27 = .ok (.iconst 1, 1) := dk_4 (dk_at dksX7_sum_1 3 rfl rfl)
theorem dX7_sum_28 : decode cX7_sum 28 = .ok (.iadd, 1) := dk_96 (dk_at dksX7_sum_1 4 rfl rfl)
theorem dX7_sum_29 : decode cX7_sum 29 = .ok (.putfield 66, 3) := dk_181 0 66 (dk_at dksX7_sum_1 5 rfl rfl)
theorem dX7_sum_32 : decode cX7_sum 32 = .ok (.iload_n 1, 1) := dk_27 (dk_at dksX7_sum_1 8 rfl rfl)
theorem dX7_sum_33 : decode cX7_sum 33 = .ok (.aload_n 0, 1) := dk_42 (dk_at dksX7_sum_1 9 rfl rfl)
theorem dX7_sum_34 : decode cX7_sum 34 = .ok (.invokevirtual 178, 3) := dk_182 0 178 (dk_at dksX7_sum_1 10 rfl rfl)
theorem dX7_sum_37 : decode cX7_sum 37 = .ok (.iadd, 1) := dk_96 (dk_at dksX7_sum_1 13 rfl rfl)
theorem dX7_sum_38 : decode cX7_sum 38 = .ok (.istore_n 1, 1) := dk_60 (dk_at dksX7_sum_1 14 rfl rfl)
theorem dX7_sum_39 : decode cX7_sum 39 = .ok (.goto (-34), 3) := dk_167 255 222 (dk_at dksX7_sum_1 15 rfl rfl)
theorem dX7_sum_42 : decode cX7_sum 42 = .ok (.iload_n 1, 1) := dk_27 (dk_at dksX7_sum_1 18 rfl rfl)
theorem dX7_sum_43 : decode cX7_sum 43 = .ok (.ireturn, 1) := dk_172 (dk_at dksX7_sum_1 19 rfl rfl)
abbrev cX7_part : ByteArray := prog_23_method_22_code
def yX7_part : MethodName := ⟨RX7, "part", "()I"⟩
def dkwX7_part_6 : List UInt8 := [42, 180, 0, 66, 182, 0, 93, 3, 172, 42, 180, 0, 26, 27, 46, 172]
abbrev dktX7_part_6 : List UInt8 := dkwX7_part_6 ++ []
def dkwX7_part_5 : List UInt8 := [167, 0, 17, 42, 18, 176, 182, 0, 89, 153, 0, 7, 8, 167, 0, 4, 2, 60, 27, 2, 160, 0, 13, 42]
abbrev dktX7_part_5 : List UInt8 := dkwX7_part_5 ++ dktX7_part_6
def dkwX7_part_4 : List UInt8 := [18, 173, 182, 0, 89, 153, 0, 7, 6, 167, 0, 30, 42, 18, 175, 182, 0, 89, 153, 0, 7, 7]
abbrev dktX7_part_4 : List UInt8 := dkwX7_part_4 ++ dktX7_part_5
def dkwX7_part_3 : List UInt8 := [182, 0, 89, 153, 0, 7, 4, 167, 0, 56, 42, 18, 171, 182, 0, 89, 153, 0, 7, 5, 167, 0, 43, 42]
abbrev dktX7_part_3 : List UInt8 := dkwX7_part_3 ++ dktX7_part_4
def dkwX7_part_2 : List UInt8 := [17, 3, 231, 182, 0, 97, 172, 42, 18, 167, 182, 0, 89, 153, 0, 7, 3, 167, 0, 69, 42, 18, 169]
abbrev dktX7_part_2 : List UInt8 := dkwX7_part_2 ++ dktX7_part_3
def dkwX7_part_1 : List UInt8 := [162, 0, 30, 42, 42, 180, 0, 66, 182, 0, 72, 16, 48, 16, 57, 184, 0, 56, 153, 0, 12, 42, 3]
abbrev dktX7_part_1 : List UInt8 := dkwX7_part_1 ++ dktX7_part_2
def dkwX7_part_0 : List UInt8 := [42, 180, 0, 22, 2, 159, 0, 5, 3, 172, 42, 182, 0, 76, 42, 180, 0, 66, 42, 180, 0, 69]
abbrev dktX7_part_0 : List UInt8 := dkwX7_part_0 ++ dktX7_part_1
theorem dksX7_part_0 : cX7_part.data.toList.drop 0 = dktX7_part_0 := by decide +kernel
theorem dksX7_part_1 : cX7_part.data.toList.drop 22 = dktX7_part_1 := dk_seg dksX7_part_0 22 rfl rfl
theorem dksX7_part_2 : cX7_part.data.toList.drop 45 = dktX7_part_2 := dk_seg dksX7_part_1 23 rfl rfl
theorem dksX7_part_3 : cX7_part.data.toList.drop 68 = dktX7_part_3 := dk_seg dksX7_part_2 23 rfl rfl
theorem dksX7_part_4 : cX7_part.data.toList.drop 92 = dktX7_part_4 := dk_seg dksX7_part_3 24 rfl rfl
theorem dksX7_part_5 : cX7_part.data.toList.drop 114 = dktX7_part_5 := dk_seg dksX7_part_4 22 rfl rfl
theorem dksX7_part_6 : cX7_part.data.toList.drop 138 = dktX7_part_6 := dk_seg dksX7_part_5 24 rfl rfl
theorem dX7_part_0 : decode cX7_part 0 = .ok (.aload_n 0, 1) := dk_42 (dk_at dksX7_part_0 0 rfl rfl)
theorem dX7_part_1 : decode cX7_part 1 = .ok (.getfield 22, 3) := dk_180 0 22 (dk_at dksX7_part_0 1 rfl rfl)
theorem dX7_part_4 : decode cX7_part 4 = .ok (.iconst (-1), 1) := dk_2 (dk_at dksX7_part_0 4 rfl rfl)
theorem dX7_part_5 : decode cX7_part 5 = .ok (.if_icmp .eq 5, 3) := dk_159 0 5 (dk_at dksX7_part_0 5 rfl rfl)
theorem dX7_part_8 : decode cX7_part 8 = .ok (.iconst 0, 1) := dk_3 (dk_at dksX7_part_0 8 rfl rfl)
theorem dX7_part_9 : decode cX7_part 9 = .ok (.ireturn, 1) := dk_172 (dk_at dksX7_part_0 9 rfl rfl)
theorem dX7_part_10 : decode cX7_part 10 = .ok (.aload_n 0, 1) := dk_42 (dk_at dksX7_part_0 10 rfl rfl)
theorem dX7_part_11 : decode cX7_part 11 = .ok (.invokevirtual 76, 3) := dk_182 0 76 (dk_at dksX7_part_0 11 rfl rfl)
theorem dX7_part_14 : decode cX7_part 14 = .ok (.aload_n 0, 1) := dk_42 (dk_at dksX7_part_0 14 rfl rfl)
theorem dX7_part_15 : decode cX7_part 15 = .ok (.getfield 66, 3) := dk_180 0 66 (dk_at dksX7_part_0 15 rfl rfl)
theorem dX7_part_18 : decode cX7_part 18 = .ok (.aload_n 0, 1) := dk_42 (dk_at dksX7_part_0 18 rfl rfl)
theorem dX7_part_19 : decode cX7_part 19 = .ok (.getfield 69, 3) := dk_180 0 69 (dk_at dksX7_part_0 19 rfl rfl)
theorem dX7_part_22 : decode cX7_part 22 = .ok (.if_icmp .ge 30, 3) := dk_162 0 30 (dk_at dksX7_part_1 0 rfl rfl)
theorem dX7_part_25 : decode cX7_part 25 = .ok (.aload_n 0, 1) := dk_42 (dk_at dksX7_part_1 3 rfl rfl)
theorem dX7_part_26 : decode cX7_part 26 = .ok (.aload_n 0, 1) := dk_42 (dk_at dksX7_part_1 4 rfl rfl)
theorem dX7_part_27 : decode cX7_part 27 = .ok (.getfield 66, 3) := dk_180 0 66 (dk_at dksX7_part_1 5 rfl rfl)
theorem dX7_part_30 : decode cX7_part 30 = .ok (.invokevirtual 72, 3) := dk_182 0 72 (dk_at dksX7_part_1 8 rfl rfl)
theorem dX7_part_33 : decode cX7_part 33 = .ok (.bipush 48, 2) := dk_16 48 (dk_at dksX7_part_1 11 rfl rfl)
theorem dX7_part_35 : decode cX7_part 35 = .ok (.bipush 57, 2) := dk_16 57 (dk_at dksX7_part_1 13 rfl rfl)
theorem dX7_part_37 : decode cX7_part 37 = .ok (.invokestatic 56, 3) := dk_184 0 56 (dk_at dksX7_part_1 15 rfl rfl)
theorem dX7_part_40 : decode cX7_part 40 = .ok (.ifCond .eq 12, 3) := dk_153 0 12 (dk_at dksX7_part_1 18 rfl rfl)
theorem dX7_part_43 : decode cX7_part 43 = .ok (.aload_n 0, 1) := dk_42 (dk_at dksX7_part_1 21 rfl rfl)
theorem dX7_part_44 : decode cX7_part 44 = .ok (.iconst 0, 1) := dk_3 (dk_at dksX7_part_1 22 rfl rfl)
theorem dX7_part_45 : decode cX7_part 45 = .ok (.sipush 999, 3) := dk_17 3 231 (dk_at dksX7_part_2 0 rfl rfl)
theorem dX7_part_48 : decode cX7_part 48 = .ok (.invokevirtual 97, 3) := dk_182 0 97 (dk_at dksX7_part_2 3 rfl rfl)
theorem dX7_part_51 : decode cX7_part 51 = .ok (.ireturn, 1) := dk_172 (dk_at dksX7_part_2 6 rfl rfl)
theorem dX7_part_52 : decode cX7_part 52 = .ok (.aload_n 0, 1) := dk_42 (dk_at dksX7_part_2 7 rfl rfl)
theorem dX7_part_53 : decode cX7_part 53 = .ok (.ldc 167, 2) := dk_18 167 (dk_at dksX7_part_2 8 rfl rfl)
theorem dX7_part_55 : decode cX7_part 55 = .ok (.invokevirtual 89, 3) := dk_182 0 89 (dk_at dksX7_part_2 10 rfl rfl)
theorem dX7_part_58 : decode cX7_part 58 = .ok (.ifCond .eq 7, 3) := dk_153 0 7 (dk_at dksX7_part_2 13 rfl rfl)
theorem dX7_part_61 : decode cX7_part 61 = .ok (.iconst 0, 1) := dk_3 (dk_at dksX7_part_2 16 rfl rfl)
theorem dX7_part_62 : decode cX7_part 62 = .ok (.goto 69, 3) := dk_167 0 69 (dk_at dksX7_part_2 17 rfl rfl)
theorem dX7_part_65 : decode cX7_part 65 = .ok (.aload_n 0, 1) := dk_42 (dk_at dksX7_part_2 20 rfl rfl)
theorem dX7_part_66 : decode cX7_part 66 = .ok (.ldc 169, 2) := dk_18 169 (dk_at dksX7_part_2 21 rfl rfl)
theorem dX7_part_68 : decode cX7_part 68 = .ok (.invokevirtual 89, 3) := dk_182 0 89 (dk_at dksX7_part_3 0 rfl rfl)
theorem dX7_part_71 : decode cX7_part 71 = .ok (.ifCond .eq 7, 3) := dk_153 0 7 (dk_at dksX7_part_3 3 rfl rfl)
theorem dX7_part_74 : decode cX7_part 74 = .ok (.iconst 1, 1) := dk_4 (dk_at dksX7_part_3 6 rfl rfl)
theorem dX7_part_75 : decode cX7_part 75 = .ok (.goto 56, 3) := dk_167 0 56 (dk_at dksX7_part_3 7 rfl rfl)
theorem dX7_part_78 : decode cX7_part 78 = .ok (.aload_n 0, 1) := dk_42 (dk_at dksX7_part_3 10 rfl rfl)
theorem dX7_part_79 : decode cX7_part 79 = .ok (.ldc 171, 2) := dk_18 171 (dk_at dksX7_part_3 11 rfl rfl)
theorem dX7_part_81 : decode cX7_part 81 = .ok (.invokevirtual 89, 3) := dk_182 0 89 (dk_at dksX7_part_3 13 rfl rfl)
theorem dX7_part_84 : decode cX7_part 84 = .ok (.ifCond .eq 7, 3) := dk_153 0 7 (dk_at dksX7_part_3 16 rfl rfl)
theorem dX7_part_87 : decode cX7_part 87 = .ok (.iconst 2, 1) := dk_5 (dk_at dksX7_part_3 19 rfl rfl)
theorem dX7_part_88 : decode cX7_part 88 = .ok (.goto 43, 3) := dk_167 0 43 (dk_at dksX7_part_3 20 rfl rfl)
theorem dX7_part_91 : decode cX7_part 91 = .ok (.aload_n 0, 1) := dk_42 (dk_at dksX7_part_3 23 rfl rfl)
theorem dX7_part_92 : decode cX7_part 92 = .ok (.ldc 173, 2) := dk_18 173 (dk_at dksX7_part_4 0 rfl rfl)
theorem dX7_part_94 : decode cX7_part 94 = .ok (.invokevirtual 89, 3) := dk_182 0 89 (dk_at dksX7_part_4 2 rfl rfl)
theorem dX7_part_97 : decode cX7_part 97 = .ok (.ifCond .eq 7, 3) := dk_153 0 7 (dk_at dksX7_part_4 5 rfl rfl)
theorem dX7_part_100 : decode cX7_part 100 = .ok (.iconst 3, 1) := dk_6 (dk_at dksX7_part_4 8 rfl rfl)
theorem dX7_part_101 : decode cX7_part 101 = .ok (.goto 30, 3) := dk_167 0 30 (dk_at dksX7_part_4 9 rfl rfl)
theorem dX7_part_104 : decode cX7_part 104 = .ok (.aload_n 0, 1) := dk_42 (dk_at dksX7_part_4 12 rfl rfl)
theorem dX7_part_105 : decode cX7_part 105 = .ok (.ldc 175, 2) := dk_18 175 (dk_at dksX7_part_4 13 rfl rfl)
theorem dX7_part_107 : decode cX7_part 107 = .ok (.invokevirtual 89, 3) := dk_182 0 89 (dk_at dksX7_part_4 15 rfl rfl)
theorem dX7_part_110 : decode cX7_part 110 = .ok (.ifCond .eq 7, 3) := dk_153 0 7 (dk_at dksX7_part_4 18 rfl rfl)
theorem dX7_part_113 : decode cX7_part 113 = .ok (.iconst 4, 1) := dk_7 (dk_at dksX7_part_4 21 rfl rfl)
theorem dX7_part_114 : decode cX7_part 114 = .ok (.goto 17, 3) := dk_167 0 17 (dk_at dksX7_part_5 0 rfl rfl)
theorem dX7_part_117 : decode cX7_part 117 = .ok (.aload_n 0, 1) := dk_42 (dk_at dksX7_part_5 3 rfl rfl)
theorem dX7_part_118 : decode cX7_part 118 = .ok (.ldc 176, 2) := dk_18 176 (dk_at dksX7_part_5 4 rfl rfl)
theorem dX7_part_120 : decode cX7_part 120 = .ok (.invokevirtual 89, 3) := dk_182 0 89 (dk_at dksX7_part_5 6 rfl rfl)
theorem dX7_part_123 : decode cX7_part 123 = .ok (.ifCond .eq 7, 3) := dk_153 0 7 (dk_at dksX7_part_5 9 rfl rfl)
theorem dX7_part_126 : decode cX7_part 126 = .ok (.iconst 5, 1) := dk_8 (dk_at dksX7_part_5 12 rfl rfl)
theorem dX7_part_127 : decode cX7_part 127 = .ok (.goto 4, 3) := dk_167 0 4 (dk_at dksX7_part_5 13 rfl rfl)
theorem dX7_part_130 : decode cX7_part 130 = .ok (.iconst (-1), 1) := dk_2 (dk_at dksX7_part_5 16 rfl rfl)
theorem dX7_part_131 : decode cX7_part 131 = .ok (.istore_n 1, 1) := dk_60 (dk_at dksX7_part_5 17 rfl rfl)
theorem dX7_part_132 : decode cX7_part 132 = .ok (.iload_n 1, 1) := dk_27 (dk_at dksX7_part_5 18 rfl rfl)
theorem dX7_part_133 : decode cX7_part 133 = .ok (.iconst (-1), 1) := dk_2 (dk_at dksX7_part_5 19 rfl rfl)
theorem dX7_part_134 : decode cX7_part 134 = .ok (.if_icmp .ne 13, 3) := dk_160 0 13 (dk_at dksX7_part_5 20 rfl rfl)
theorem dX7_part_137 : decode cX7_part 137 = .ok (.aload_n 0, 1) := dk_42 (dk_at dksX7_part_5 23 rfl rfl)
theorem dX7_part_138 : decode cX7_part 138 = .ok (.aload_n 0, 1) := dk_42 (dk_at dksX7_part_6 0 rfl rfl)
theorem dX7_part_139 : decode cX7_part 139 = .ok (.getfield 66, 3) := dk_180 0 66 (dk_at dksX7_part_6 1 rfl rfl)
theorem dX7_part_142 : decode cX7_part 142 = .ok (.invokevirtual 93, 3) := dk_182 0 93 (dk_at dksX7_part_6 4 rfl rfl)
theorem dX7_part_145 : decode cX7_part 145 = .ok (.iconst 0, 1) := dk_3 (dk_at dksX7_part_6 7 rfl rfl)
theorem dX7_part_146 : decode cX7_part 146 = .ok (.ireturn, 1) := dk_172 (dk_at dksX7_part_6 8 rfl rfl)
theorem dX7_part_147 : decode cX7_part 147 = .ok (.aload_n 0, 1) := dk_42 (dk_at dksX7_part_6 9 rfl rfl)
theorem dX7_part_148 : decode cX7_part 148 = .ok (.getfield 26, 3) := dk_180 0 26 (dk_at dksX7_part_6 10 rfl rfl)
theorem dX7_part_151 : decode cX7_part 151 = .ok (.iload_n 1, 1) := dk_27 (dk_at dksX7_part_6 13 rfl rfl)
theorem dX7_part_152 : decode cX7_part 152 = .ok (.iaload, 1) := dk_46 (dk_at dksX7_part_6 14 rfl rfl)
theorem dX7_part_153 : decode cX7_part 153 = .ok (.ireturn, 1) := dk_172 (dk_at dksX7_part_6 15 rfl rfl)
abbrev cX7_figures : ByteArray := prog_23_method_17_code
def yX7_figures : MethodName := ⟨RX7, "figures", "(II)I"⟩
def dkwX7_figures_5 : List UInt8 := [161, 0, 9, 21, 4, 28, 164, 0, 8, 42, 29, 182, 0, 93, 21, 4, 172]
abbrev dktX7_figures_5 : List UInt8 := dkwX7_figures_5 ++ []
def dkwX7_figures_4 : List UInt8 := [167, 255, 188, 42, 180, 0, 66, 29, 159, 0, 25, 42, 180, 0, 66, 29, 100, 6, 163, 0, 15, 21, 4, 27]
abbrev dktX7_figures_4 : List UInt8 := dkwX7_figures_4 ++ dktX7_figures_5
def dkwX7_figures_3 : List UInt8 := [180, 0, 66, 182, 0, 72, 96, 16, 48, 100, 54, 4, 42, 89, 180, 0, 66, 4, 96, 181, 0, 66]
abbrev dktX7_figures_3 : List UInt8 := dkwX7_figures_3 ++ dktX7_figures_4
def dkwX7_figures_2 : List UInt8 := [184, 0, 56, 153, 0, 45, 42, 180, 0, 66, 29, 100, 7, 162, 0, 35, 16, 10, 21, 4, 104, 42, 42]
abbrev dktX7_figures_2 : List UInt8 := dkwX7_figures_2 ++ dktX7_figures_3
def dkwX7_figures_1 : List UInt8 := [180, 0, 66, 42, 180, 0, 69, 162, 0, 63, 42, 42, 180, 0, 66, 182, 0, 72, 16, 48, 16, 57]
abbrev dktX7_figures_1 : List UInt8 := dkwX7_figures_1 ++ dktX7_figures_2
def dkwX7_figures_0 : List UInt8 := [42, 180, 0, 22, 2, 159, 0, 5, 3, 172, 42, 182, 0, 76, 42, 180, 0, 66, 62, 3, 54, 4, 42]
abbrev dktX7_figures_0 : List UInt8 := dkwX7_figures_0 ++ dktX7_figures_1
theorem dksX7_figures_0 : cX7_figures.data.toList.drop 0 = dktX7_figures_0 := by decide +kernel
theorem dksX7_figures_1 : cX7_figures.data.toList.drop 23 = dktX7_figures_1 := dk_seg dksX7_figures_0 23 rfl rfl
theorem dksX7_figures_2 : cX7_figures.data.toList.drop 45 = dktX7_figures_2 := dk_seg dksX7_figures_1 22 rfl rfl
theorem dksX7_figures_3 : cX7_figures.data.toList.drop 68 = dktX7_figures_3 := dk_seg dksX7_figures_2 23 rfl rfl
theorem dksX7_figures_4 : cX7_figures.data.toList.drop 90 = dktX7_figures_4 := dk_seg dksX7_figures_3 22 rfl rfl
theorem dksX7_figures_5 : cX7_figures.data.toList.drop 114 = dktX7_figures_5 := dk_seg dksX7_figures_4 24 rfl rfl
theorem dX7_figures_0 : decode cX7_figures 0 = .ok (.aload_n 0, 1) := dk_42 (dk_at dksX7_figures_0 0 rfl rfl)
theorem dX7_figures_1 : decode cX7_figures 1 = .ok (.getfield 22, 3) := dk_180 0 22 (dk_at dksX7_figures_0 1 rfl rfl)
theorem dX7_figures_4 : decode cX7_figures 4 = .ok (.iconst (-1), 1) := dk_2 (dk_at dksX7_figures_0 4 rfl rfl)
theorem dX7_figures_5 : decode cX7_figures 5 = .ok (.if_icmp .eq 5, 3) := dk_159 0 5 (dk_at dksX7_figures_0 5 rfl rfl)
theorem dX7_figures_8 : decode cX7_figures 8 = .ok (.iconst 0, 1) := dk_3 (dk_at dksX7_figures_0 8 rfl rfl)
theorem dX7_figures_9 : decode cX7_figures 9 = .ok (.ireturn, 1) := dk_172 (dk_at dksX7_figures_0 9 rfl rfl)
theorem dX7_figures_10 : decode cX7_figures 10 = .ok (.aload_n 0, 1) := dk_42 (dk_at dksX7_figures_0 10 rfl rfl)
theorem dX7_figures_11 : decode cX7_figures 11 = .ok (.invokevirtual 76, 3) := dk_182 0 76 (dk_at dksX7_figures_0 11 rfl rfl)
theorem dX7_figures_14 : decode cX7_figures 14 = .ok (.aload_n 0, 1) := dk_42 (dk_at dksX7_figures_0 14 rfl rfl)
theorem dX7_figures_15 : decode cX7_figures 15 = .ok (.getfield 66, 3) := dk_180 0 66 (dk_at dksX7_figures_0 15 rfl rfl)
theorem dX7_figures_18 : decode cX7_figures 18 = .ok (.istore_n 3, 1) := dk_62 (dk_at dksX7_figures_0 18 rfl rfl)
theorem dX7_figures_19 : decode cX7_figures 19 = .ok (.iconst 0, 1) := dk_3 (dk_at dksX7_figures_0 19 rfl rfl)
theorem dX7_figures_20 : decode cX7_figures 20 = .ok (.istore 4, 2) := dk_54 4 (dk_at dksX7_figures_0 20 rfl rfl)
theorem dX7_figures_22 : decode cX7_figures 22 = .ok (.aload_n 0, 1) := dk_42 (dk_at dksX7_figures_0 22 rfl rfl)
theorem dX7_figures_23 : decode cX7_figures 23 = .ok (.getfield 66, 3) := dk_180 0 66 (dk_at dksX7_figures_1 0 rfl rfl)
theorem dX7_figures_26 : decode cX7_figures 26 = .ok (.aload_n 0, 1) := dk_42 (dk_at dksX7_figures_1 3 rfl rfl)
theorem dX7_figures_27 : decode cX7_figures 27 = .ok (.getfield 69, 3) := dk_180 0 69 (dk_at dksX7_figures_1 4 rfl rfl)
theorem dX7_figures_30 : decode cX7_figures 30 = .ok (.if_icmp .ge 63, 3) := dk_162 0 63 (dk_at dksX7_figures_1 7 rfl rfl)
theorem dX7_figures_33 : decode cX7_figures 33 = .ok (.aload_n 0, 1) := dk_42 (dk_at dksX7_figures_1 10 rfl rfl)
theorem dX7_figures_34 : decode cX7_figures 34 = .ok (.aload_n 0, 1) := dk_42 (dk_at dksX7_figures_1 11 rfl rfl)
theorem dX7_figures_35 : decode cX7_figures 35 = .ok (.getfield 66, 3) := dk_180 0 66 (dk_at dksX7_figures_1 12 rfl rfl)
theorem dX7_figures_38 : decode cX7_figures 38 = .ok (.invokevirtual 72, 3) := dk_182 0 72 (dk_at dksX7_figures_1 15 rfl rfl)
theorem dX7_figures_41 : decode cX7_figures 41 = .ok (.bipush 48, 2) := dk_16 48 (dk_at dksX7_figures_1 18 rfl rfl)
theorem dX7_figures_43 : decode cX7_figures 43 = .ok (.bipush 57, 2) := dk_16 57 (dk_at dksX7_figures_1 20 rfl rfl)
theorem dX7_figures_45 : decode cX7_figures 45 = .ok (.invokestatic 56, 3) := dk_184 0 56 (dk_at dksX7_figures_2 0 rfl rfl)
theorem dX7_figures_48 : decode cX7_figures 48 = .ok (.ifCond .eq 45, 3) := dk_153 0 45 (dk_at dksX7_figures_2 3 rfl rfl)
theorem dX7_figures_51 : decode cX7_figures 51 = .ok (.aload_n 0, 1) := dk_42 (dk_at dksX7_figures_2 6 rfl rfl)
theorem dX7_figures_52 : decode cX7_figures 52 = .ok (.getfield 66, 3) := dk_180 0 66 (dk_at dksX7_figures_2 7 rfl rfl)
theorem dX7_figures_55 : decode cX7_figures 55 = .ok (.iload_n 3, 1) := dk_29 (dk_at dksX7_figures_2 10 rfl rfl)
theorem dX7_figures_56 : decode cX7_figures 56 = .ok (.isub, 1) := dk_100 (dk_at dksX7_figures_2 11 rfl rfl)
theorem dX7_figures_57 : decode cX7_figures 57 = .ok (.iconst 4, 1) := dk_7 (dk_at dksX7_figures_2 12 rfl rfl)
theorem dX7_figures_58 : decode cX7_figures 58 = .ok (.if_icmp .ge 35, 3) := dk_162 0 35 (dk_at dksX7_figures_2 13 rfl rfl)
theorem dX7_figures_61 : decode cX7_figures 61 = .ok (.bipush 10, 2) := dk_16 10 (dk_at dksX7_figures_2 16 rfl rfl)
theorem dX7_figures_63 : decode cX7_figures 63 = .ok (.iload 4, 2) := dk_21 4 (dk_at dksX7_figures_2 18 rfl rfl)
theorem dX7_figures_65 : decode cX7_figures 65 = .ok (.imul, 1) := dk_104 (dk_at dksX7_figures_2 20 rfl rfl)
theorem dX7_figures_66 : decode cX7_figures 66 = .ok (.aload_n 0, 1) := dk_42 (dk_at dksX7_figures_2 21 rfl rfl)
theorem dX7_figures_67 : decode cX7_figures 67 = .ok (.aload_n 0, 1) := dk_42 (dk_at dksX7_figures_2 22 rfl rfl)
theorem dX7_figures_68 : decode cX7_figures 68 = .ok (.getfield 66, 3) := dk_180 0 66 (dk_at dksX7_figures_3 0 rfl rfl)
theorem dX7_figures_71 : decode cX7_figures 71 = .ok (.invokevirtual 72, 3) := dk_182 0 72 (dk_at dksX7_figures_3 3 rfl rfl)
theorem dX7_figures_74 : decode cX7_figures 74 = .ok (.iadd, 1) := dk_96 (dk_at dksX7_figures_3 6 rfl rfl)
theorem dX7_figures_75 : decode cX7_figures 75 = .ok (.bipush 48, 2) := dk_16 48 (dk_at dksX7_figures_3 7 rfl rfl)
theorem dX7_figures_77 : decode cX7_figures 77 = .ok (.isub, 1) := dk_100 (dk_at dksX7_figures_3 9 rfl rfl)
theorem dX7_figures_78 : decode cX7_figures 78 = .ok (.istore 4, 2) := dk_54 4 (dk_at dksX7_figures_3 10 rfl rfl)
theorem dX7_figures_80 : decode cX7_figures 80 = .ok (.aload_n 0, 1) := dk_42 (dk_at dksX7_figures_3 12 rfl rfl)
theorem dX7_figures_81 : decode cX7_figures 81 = .ok (.dup, 1) := dk_89 (dk_at dksX7_figures_3 13 rfl rfl)
theorem dX7_figures_82 : decode cX7_figures 82 = .ok (.getfield 66, 3) := dk_180 0 66 (dk_at dksX7_figures_3 14 rfl rfl)
theorem dX7_figures_85 : decode cX7_figures 85 = .ok (.iconst 1, 1) := dk_4 (dk_at dksX7_figures_3 17 rfl rfl)
theorem dX7_figures_86 : decode cX7_figures 86 = .ok (.iadd, 1) := dk_96 (dk_at dksX7_figures_3 18 rfl rfl)
theorem dX7_figures_87 : decode cX7_figures 87 = .ok (.putfield 66, 3) := dk_181 0 66 (dk_at dksX7_figures_3 19 rfl rfl)
theorem dX7_figures_90 : decode cX7_figures 90 = .ok (.goto (-68), 3) := dk_167 255 188 (dk_at dksX7_figures_4 0 rfl rfl)
theorem dX7_figures_93 : decode cX7_figures 93 = .ok (.aload_n 0, 1) := dk_42 (dk_at dksX7_figures_4 3 rfl rfl)
theorem dX7_figures_94 : decode cX7_figures 94 = .ok (.getfield 66, 3) := dk_180 0 66 (dk_at dksX7_figures_4 4 rfl rfl)
theorem dX7_figures_97 : decode cX7_figures 97 = .ok (.iload_n 3, 1) := dk_29 (dk_at dksX7_figures_4 7 rfl rfl)
theorem dX7_figures_98 : decode cX7_figures 98 = .ok (.if_icmp .eq 25, 3) := dk_159 0 25 (dk_at dksX7_figures_4 8 rfl rfl)
theorem dX7_figures_101 : decode cX7_figures 101 = .ok (.aload_n 0, 1) := dk_42 (dk_at dksX7_figures_4 11 rfl rfl)
theorem dX7_figures_102 : decode cX7_figures 102 = .ok (.getfield 66, 3) := dk_180 0 66 (dk_at dksX7_figures_4 12 rfl rfl)
theorem dX7_figures_105 : decode cX7_figures 105 = .ok (.iload_n 3, 1) := dk_29 (dk_at dksX7_figures_4 15 rfl rfl)
theorem dX7_figures_106 : decode cX7_figures 106 = .ok (.isub, 1) := dk_100 (dk_at dksX7_figures_4 16 rfl rfl)
theorem dX7_figures_107 : decode cX7_figures 107 = .ok (.iconst 3, 1) := dk_6 (dk_at dksX7_figures_4 17 rfl rfl)
theorem dX7_figures_108 : decode cX7_figures 108 = .ok (.if_icmp .gt 15, 3) := dk_163 0 15 (dk_at dksX7_figures_4 18 rfl rfl)
theorem dX7_figures_111 : decode cX7_figures 111 = .ok (.iload 4, 2) := dk_21 4 (dk_at dksX7_figures_4 21 rfl rfl)
theorem dX7_figures_113 : decode cX7_figures 113 = .ok (.iload_n 1, 1) := dk_27 (dk_at dksX7_figures_4 23 rfl rfl)
theorem dX7_figures_114 : decode cX7_figures 114 = .ok (.if_icmp .lt 9, 3) := dk_161 0 9 (dk_at dksX7_figures_5 0 rfl rfl)
theorem dX7_figures_117 : decode cX7_figures 117 = .ok (.iload 4, 2) := dk_21 4 (dk_at dksX7_figures_5 3 rfl rfl)
theorem dX7_figures_119 : decode cX7_figures 119 = .ok (.iload_n 2, 1) := dk_28 (dk_at dksX7_figures_5 5 rfl rfl)
theorem dX7_figures_120 : decode cX7_figures 120 = .ok (.if_icmp .le 8, 3) := dk_164 0 8 (dk_at dksX7_figures_5 6 rfl rfl)
theorem dX7_figures_123 : decode cX7_figures 123 = .ok (.aload_n 0, 1) := dk_42 (dk_at dksX7_figures_5 9 rfl rfl)
theorem dX7_figures_124 : decode cX7_figures 124 = .ok (.iload_n 3, 1) := dk_29 (dk_at dksX7_figures_5 10 rfl rfl)
theorem dX7_figures_125 : decode cX7_figures 125 = .ok (.invokevirtual 93, 3) := dk_182 0 93 (dk_at dksX7_figures_5 11 rfl rfl)
theorem dX7_figures_128 : decode cX7_figures 128 = .ok (.iload 4, 2) := dk_21 4 (dk_at dksX7_figures_5 14 rfl rfl)
theorem dX7_figures_130 : decode cX7_figures 130 = .ok (.ireturn, 1) := dk_172 (dk_at dksX7_figures_5 16 rfl rfl)
abbrev cX7_townLine : ByteArray := prog_23_method_19_code
def yX7_townLine : MethodName := ⟨RX7, "townLine", "()V"⟩
def dkwX7_townLine_25 : List UInt8 := [42, 180, 0, 66, 182, 0, 93, 177]
abbrev dktX7_townLine_25 : List UInt8 := dkwX7_townLine_25 ++ []
def dkwX7_townLine_24 : List UInt8 := [180, 0, 7, 21, 5, 5, 96, 21, 4, 79, 42, 180, 0, 7, 7, 92, 46, 4, 96, 79, 167, 0, 11, 42]
abbrev dktX7_townLine_24 : List UInt8 := dkwX7_townLine_24 ++ dktX7_townLine_25
def dkwX7_townLine_23 : List UInt8 := [46, 104, 96, 54, 5, 42, 180, 0, 7, 21, 5, 28, 79, 42, 180, 0, 7, 21, 5, 4, 96, 29, 79, 42]
abbrev dktX7_townLine_23 : List UInt8 := dkwX7_townLine_23 ++ dktX7_townLine_24
def dkwX7_townLine_22 : List UInt8 := [16, 99, 182, 0, 97, 54, 4, 42, 180, 0, 22, 2, 159, 0, 4, 177, 16, 46, 6, 42, 180, 0, 7, 7]
abbrev dktX7_townLine_22 : List UInt8 := dkwX7_townLine_22 ++ dktX7_townLine_23
def dkwX7_townLine_21 : List UInt8 := [182, 0, 93, 42, 2, 182, 0, 105, 61, 42, 18, 146, 182, 0, 113, 42, 28, 182, 0, 105, 62, 42, 4]
abbrev dktX7_townLine_21 : List UInt8 := dkwX7_townLine_21 ++ dktX7_townLine_22
def dkwX7_townLine_20 : List UInt8 := [42, 18, 144, 182, 0, 89, 153, 0, 110, 42, 180, 0, 7, 7, 46, 16, 12, 160, 0, 8, 42, 27]
abbrev dktX7_townLine_20 : List UInt8 := dkwX7_townLine_20 ++ dktX7_townLine_21
def dkwX7_townLine_19 : List UInt8 := [4, 16, 99, 182, 0, 97, 61, 42, 180, 0, 22, 2, 160, 0, 9, 42, 28, 182, 0, 141, 87, 167, 0, 127]
abbrev dktX7_townLine_19 : List UInt8 := dkwX7_townLine_19 ++ dktX7_townLine_20
def dkwX7_townLine_18 : List UInt8 := [2, 160, 0, 10, 42, 28, 5, 2, 182, 0, 135, 167, 0, 161, 42, 18, 139, 182, 0, 89, 153, 0, 28, 42]
abbrev dktX7_townLine_18 : List UInt8 := dkwX7_townLine_18 ++ dktX7_townLine_19
def dkwX7_townLine_17 : List UInt8 := [182, 0, 89, 153, 0, 35, 42, 3, 42, 180, 0, 7, 6, 46, 4, 100, 182, 0, 97, 61, 42, 180, 0, 22]
abbrev dktX7_townLine_17 : List UInt8 := dkwX7_townLine_17 ++ dktX7_townLine_18
def dkwX7_townLine_16 : List UInt8 := [42, 28, 5, 182, 0, 127, 29, 159, 0, 10, 42, 28, 29, 182, 0, 130, 87, 167, 0, 202, 42, 18, 133]
abbrev dktX7_townLine_16 : List UInt8 := dkwX7_townLine_16 ++ dktX7_townLine_17
def dkwX7_townLine_15 : List UInt8 := [182, 0, 97, 61, 42, 18, 111, 182, 0, 113, 42, 2, 182, 0, 105, 62, 42, 180, 0, 22, 2, 160, 0, 20]
abbrev dktX7_townLine_15 : List UInt8 := dkwX7_townLine_15 ++ dktX7_townLine_16
def dkwX7_townLine_14 : List UInt8 := [167, 1, 9, 42, 18, 125, 182, 0, 89, 153, 0, 57, 42, 3, 42, 180, 0, 7, 6, 46, 4, 100]
abbrev dktX7_townLine_14 : List UInt8 := dkwX7_townLine_14 ++ dktX7_townLine_15
def dkwX7_townLine_13 : List UInt8 := [54, 6, 42, 180, 0, 22, 2, 160, 0, 16, 42, 28, 29, 21, 4, 21, 5, 21, 6, 182, 0, 121, 87]
abbrev dktX7_townLine_13 : List UInt8 := dkwX7_townLine_13 ++ dktX7_townLine_14
def dkwX7_townLine_12 : List UInt8 := [54, 5, 42, 180, 0, 22, 2, 160, 0, 16, 42, 18, 119, 182, 0, 89, 153, 0, 7, 4, 167, 0, 4, 3]
abbrev dktX7_townLine_12 : List UInt8 := dkwX7_townLine_12 ++ dktX7_townLine_13
def dkwX7_townLine_11 : List UInt8 := [180, 0, 22, 2, 160, 0, 21, 42, 18, 117, 182, 0, 89, 153, 0, 12, 42, 4, 16, 99, 182, 0, 97]
abbrev dktX7_townLine_11 : List UInt8 := dkwX7_townLine_11 ++ dktX7_townLine_12
def dkwX7_townLine_10 : List UInt8 := [18, 111, 182, 0, 113, 42, 28, 182, 0, 105, 62, 42, 4, 16, 99, 182, 0, 97, 54, 4, 3, 54, 5, 42]
abbrev dktX7_townLine_10 : List UInt8 := dkwX7_townLine_10 ++ dktX7_townLine_11
def dkwX7_townLine_9 : List UInt8 := [182, 0, 97, 79, 167, 1, 122, 42, 18, 109, 182, 0, 89, 153, 0, 107, 42, 2, 182, 0, 105, 61, 42]
abbrev dktX7_townLine_9 : List UInt8 := dkwX7_townLine_9 ++ dktX7_townLine_10
def dkwX7_townLine_8 : List UInt8 := [128, 79, 167, 1, 148, 42, 18, 107, 182, 0, 89, 153, 0, 20, 42, 180, 0, 7, 16, 7, 42, 3, 16, 10]
abbrev dktX7_townLine_8 : List UInt8 := dkwX7_townLine_8 ++ dktX7_townLine_9
def dkwX7_townLine_7 : List UInt8 := [16, 10, 6, 29, 104, 96, 5, 96, 42, 180, 0, 7, 16, 10, 6, 29, 104, 96, 5, 96, 46, 4, 28, 120]
abbrev dktX7_townLine_7 : List UInt8 := dkwX7_townLine_7 ++ dktX7_townLine_8
def dkwX7_townLine_6 : List UInt8 := [96, 42, 180, 0, 7, 16, 10, 6, 28, 104, 96, 5, 96, 46, 4, 29, 120, 128, 79, 42, 180, 0, 7]
abbrev dktX7_townLine_6 : List UInt8 := dkwX7_townLine_6 ++ dktX7_townLine_7
def dkwX7_townLine_5 : List UInt8 := [182, 0, 105, 62, 42, 180, 0, 22, 2, 159, 0, 4, 177, 42, 180, 0, 7, 16, 10, 6, 28, 104, 96, 5]
abbrev dktX7_townLine_5 : List UInt8 := dkwX7_townLine_5 ++ dktX7_townLine_6
def dkwX7_townLine_4 : List UInt8 := [4, 96, 79, 167, 1, 241, 42, 18, 103, 182, 0, 89, 153, 0, 87, 42, 2, 182, 0, 105, 61, 42, 28]
abbrev dktX7_townLine_4 : List UInt8 := dkwX7_townLine_4 ++ dktX7_townLine_5
def dkwX7_townLine_3 : List UInt8 := [180, 0, 7, 29, 4, 96, 2, 79, 42, 180, 0, 7, 29, 5, 96, 3, 79, 42, 180, 0, 7, 4, 92, 46]
abbrev dktX7_townLine_3 : List UInt8 := dkwX7_townLine_3 ++ dktX7_townLine_4
def dkwX7_townLine_2 : List UInt8 := [159, 0, 4, 177, 16, 10, 6, 42, 180, 0, 7, 4, 46, 104, 96, 62, 42, 180, 0, 7, 29, 28, 79, 42]
abbrev dktX7_townLine_2 : List UInt8 := dkwX7_townLine_2 ++ dktX7_townLine_3
def dkwX7_townLine_1 : List UInt8 := [16, 12, 160, 0, 8, 42, 27, 182, 0, 93, 42, 3, 17, 3, 231, 182, 0, 97, 61, 42, 180, 0, 22, 2]
abbrev dktX7_townLine_1 : List UInt8 := dkwX7_townLine_1 ++ dktX7_townLine_2
def dkwX7_townLine_0 : List UInt8 := [42, 182, 0, 76, 42, 180, 0, 66, 60, 42, 18, 101, 182, 0, 89, 153, 0, 87, 42, 180, 0, 7, 4, 46]
abbrev dktX7_townLine_0 : List UInt8 := dkwX7_townLine_0 ++ dktX7_townLine_1
theorem dksX7_townLine_0 : cX7_townLine.data.toList.drop 0 = dktX7_townLine_0 := by decide +kernel
theorem dksX7_townLine_1 : cX7_townLine.data.toList.drop 24 = dktX7_townLine_1 := dk_seg dksX7_townLine_0 24 rfl rfl
theorem dksX7_townLine_2 : cX7_townLine.data.toList.drop 48 = dktX7_townLine_2 := dk_seg dksX7_townLine_1 24 rfl rfl
theorem dksX7_townLine_3 : cX7_townLine.data.toList.drop 72 = dktX7_townLine_3 := dk_seg dksX7_townLine_2 24 rfl rfl
theorem dksX7_townLine_4 : cX7_townLine.data.toList.drop 96 = dktX7_townLine_4 := dk_seg dksX7_townLine_3 24 rfl rfl
theorem dksX7_townLine_5 : cX7_townLine.data.toList.drop 119 = dktX7_townLine_5 := dk_seg dksX7_townLine_4 23 rfl rfl
theorem dksX7_townLine_6 : cX7_townLine.data.toList.drop 143 = dktX7_townLine_6 := dk_seg dksX7_townLine_5 24 rfl rfl
theorem dksX7_townLine_7 : cX7_townLine.data.toList.drop 166 = dktX7_townLine_7 := dk_seg dksX7_townLine_6 23 rfl rfl
theorem dksX7_townLine_8 : cX7_townLine.data.toList.drop 190 = dktX7_townLine_8 := dk_seg dksX7_townLine_7 24 rfl rfl
theorem dksX7_townLine_9 : cX7_townLine.data.toList.drop 214 = dktX7_townLine_9 := dk_seg dksX7_townLine_8 24 rfl rfl
theorem dksX7_townLine_10 : cX7_townLine.data.toList.drop 237 = dktX7_townLine_10 := dk_seg dksX7_townLine_9 23 rfl rfl
theorem dksX7_townLine_11 : cX7_townLine.data.toList.drop 261 = dktX7_townLine_11 := dk_seg dksX7_townLine_10 24 rfl rfl
theorem dksX7_townLine_12 : cX7_townLine.data.toList.drop 284 = dktX7_townLine_12 := dk_seg dksX7_townLine_11 23 rfl rfl
theorem dksX7_townLine_13 : cX7_townLine.data.toList.drop 308 = dktX7_townLine_13 := dk_seg dksX7_townLine_12 24 rfl rfl
theorem dksX7_townLine_14 : cX7_townLine.data.toList.drop 331 = dktX7_townLine_14 := dk_seg dksX7_townLine_13 23 rfl rfl
theorem dksX7_townLine_15 : cX7_townLine.data.toList.drop 353 = dktX7_townLine_15 := dk_seg dksX7_townLine_14 22 rfl rfl
theorem dksX7_townLine_16 : cX7_townLine.data.toList.drop 377 = dktX7_townLine_16 := dk_seg dksX7_townLine_15 24 rfl rfl
theorem dksX7_townLine_17 : cX7_townLine.data.toList.drop 400 = dktX7_townLine_17 := dk_seg dksX7_townLine_16 23 rfl rfl
theorem dksX7_townLine_18 : cX7_townLine.data.toList.drop 424 = dktX7_townLine_18 := dk_seg dksX7_townLine_17 24 rfl rfl
theorem dksX7_townLine_19 : cX7_townLine.data.toList.drop 448 = dktX7_townLine_19 := dk_seg dksX7_townLine_18 24 rfl rfl
theorem dksX7_townLine_20 : cX7_townLine.data.toList.drop 472 = dktX7_townLine_20 := dk_seg dksX7_townLine_19 24 rfl rfl
theorem dksX7_townLine_21 : cX7_townLine.data.toList.drop 494 = dktX7_townLine_21 := dk_seg dksX7_townLine_20 22 rfl rfl
theorem dksX7_townLine_22 : cX7_townLine.data.toList.drop 517 = dktX7_townLine_22 := dk_seg dksX7_townLine_21 23 rfl rfl
theorem dksX7_townLine_23 : cX7_townLine.data.toList.drop 541 = dktX7_townLine_23 := dk_seg dksX7_townLine_22 24 rfl rfl
theorem dksX7_townLine_24 : cX7_townLine.data.toList.drop 565 = dktX7_townLine_24 := dk_seg dksX7_townLine_23 24 rfl rfl
theorem dksX7_townLine_25 : cX7_townLine.data.toList.drop 589 = dktX7_townLine_25 := dk_seg dksX7_townLine_24 24 rfl rfl
theorem dX7_townLine_0 : decode cX7_townLine 0 = .ok (.aload_n 0, 1) := dk_42 (dk_at dksX7_townLine_0 0 rfl rfl)
theorem dX7_townLine_1 : decode cX7_townLine 1 = .ok (.invokevirtual 76, 3) := dk_182 0 76 (dk_at dksX7_townLine_0 1 rfl rfl)
theorem dX7_townLine_4 : decode cX7_townLine 4 = .ok (.aload_n 0, 1) := dk_42 (dk_at dksX7_townLine_0 4 rfl rfl)
theorem dX7_townLine_5 : decode cX7_townLine 5 = .ok (.getfield 66, 3) := dk_180 0 66 (dk_at dksX7_townLine_0 5 rfl rfl)
theorem dX7_townLine_8 : decode cX7_townLine 8 = .ok (.istore_n 1, 1) := dk_60 (dk_at dksX7_townLine_0 8 rfl rfl)
theorem dX7_townLine_9 : decode cX7_townLine 9 = .ok (.aload_n 0, 1) := dk_42 (dk_at dksX7_townLine_0 9 rfl rfl)
theorem dX7_townLine_10 : decode cX7_townLine 10 = .ok (.ldc 101, 2) := dk_18 101 (dk_at dksX7_townLine_0 10 rfl rfl)
theorem dX7_townLine_12 : decode cX7_townLine 12 = .ok (.invokevirtual 89, 3) := dk_182 0 89 (dk_at dksX7_townLine_0 12 rfl rfl)
theorem dX7_townLine_15 : decode cX7_townLine 15 = .ok (.ifCond .eq 87, 3) := dk_153 0 87 (dk_at dksX7_townLine_0 15 rfl rfl)
theorem dX7_townLine_18 : decode cX7_townLine 18 = .ok (.aload_n 0, 1) := dk_42 (dk_at dksX7_townLine_0 18 rfl rfl)
theorem dX7_townLine_19 : decode cX7_townLine 19 = .ok (.getfield 7, 3) := dk_180 0 7 (dk_at dksX7_townLine_0 19 rfl rfl)
theorem dX7_townLine_22 : decode cX7_townLine 22 = .ok (.iconst 1, 1) := dk_4 (dk_at dksX7_townLine_0 22 rfl rfl)
theorem dX7_townLine_23 : decode cX7_townLine 23 = .ok (.iaload, 1) := dk_46 (dk_at dksX7_townLine_0 23 rfl rfl)
theorem dX7_townLine_24 : decode cX7_townLine 24 = .ok (.bipush 12, 2) := dk_16 12 (dk_at dksX7_townLine_1 0 rfl rfl)
theorem dX7_townLine_26 : decode cX7_townLine 26 = .ok (.if_icmp .ne 8, 3) := dk_160 0 8 (dk_at dksX7_townLine_1 2 rfl rfl)
theorem dX7_townLine_29 : decode cX7_townLine 29 = .ok (.aload_n 0, 1) := dk_42 (dk_at dksX7_townLine_1 5 rfl rfl)
theorem dX7_townLine_30 : decode cX7_townLine 30 = .ok (.iload_n 1, 1) := dk_27 (dk_at dksX7_townLine_1 6 rfl rfl)
theorem dX7_townLine_31 : decode cX7_townLine 31 = .ok (.invokevirtual 93, 3) := dk_182 0 93 (dk_at dksX7_townLine_1 7 rfl rfl)
theorem dX7_townLine_34 : decode cX7_townLine 34 = .ok (.aload_n 0, 1) := dk_42 (dk_at dksX7_townLine_1 10 rfl rfl)
theorem dX7_townLine_35 : decode cX7_townLine 35 = .ok (.iconst 0, 1) := dk_3 (dk_at dksX7_townLine_1 11 rfl rfl)
theorem dX7_townLine_36 : decode cX7_townLine 36 = .ok (.sipush 999, 3) := dk_17 3 231 (dk_at dksX7_townLine_1 12 rfl rfl)
theorem dX7_townLine_39 : decode cX7_townLine 39 = .ok (.invokevirtual 97, 3) := dk_182 0 97 (dk_at dksX7_townLine_1 15 rfl rfl)
theorem dX7_townLine_42 : decode cX7_townLine 42 = .ok (.istore_n 2, 1) := dk_61 (dk_at dksX7_townLine_1 18 rfl rfl)
theorem dX7_townLine_43 : decode cX7_townLine 43 = .ok (.aload_n 0, 1) := dk_42 (dk_at dksX7_townLine_1 19 rfl rfl)
theorem dX7_townLine_44 : decode cX7_townLine 44 = .ok (.getfield 22, 3) := dk_180 0 22 (dk_at dksX7_townLine_1 20 rfl rfl)
theorem dX7_townLine_47 : decode cX7_townLine 47 = .ok (.iconst (-1), 1) := dk_2 (dk_at dksX7_townLine_1 23 rfl rfl)
theorem dX7_townLine_48 : decode cX7_townLine 48 = .ok (.if_icmp .eq 4, 3) := dk_159 0 4 (dk_at dksX7_townLine_2 0 rfl rfl)
theorem dX7_townLine_51 : decode cX7_townLine 51 = .ok (.return_, 1) := dk_177 (dk_at dksX7_townLine_2 3 rfl rfl)
theorem dX7_townLine_52 : decode cX7_townLine 52 = .ok (.bipush 10, 2) := dk_16 10 (dk_at dksX7_townLine_2 4 rfl rfl)
theorem dX7_townLine_54 : decode cX7_townLine 54 = .ok (.iconst 3, 1) := dk_6 (dk_at dksX7_townLine_2 6 rfl rfl)
theorem dX7_townLine_55 : decode cX7_townLine 55 = .ok (.aload_n 0, 1) := dk_42 (dk_at dksX7_townLine_2 7 rfl rfl)
theorem dX7_townLine_56 : decode cX7_townLine 56 = .ok (.getfield 7, 3) := dk_180 0 7 (dk_at dksX7_townLine_2 8 rfl rfl)
theorem dX7_townLine_59 : decode cX7_townLine 59 = .ok (.iconst 1, 1) := dk_4 (dk_at dksX7_townLine_2 11 rfl rfl)
theorem dX7_townLine_60 : decode cX7_townLine 60 = .ok (.iaload, 1) := dk_46 (dk_at dksX7_townLine_2 12 rfl rfl)
theorem dX7_townLine_61 : decode cX7_townLine 61 = .ok (.imul, 1) := dk_104 (dk_at dksX7_townLine_2 13 rfl rfl)
theorem dX7_townLine_62 : decode cX7_townLine 62 = .ok (.iadd, 1) := dk_96 (dk_at dksX7_townLine_2 14 rfl rfl)
theorem dX7_townLine_63 : decode cX7_townLine 63 = .ok (.istore_n 3, 1) := dk_62 (dk_at dksX7_townLine_2 15 rfl rfl)
theorem dX7_townLine_64 : decode cX7_townLine 64 = .ok (.aload_n 0, 1) := dk_42 (dk_at dksX7_townLine_2 16 rfl rfl)
theorem dX7_townLine_65 : decode cX7_townLine 65 = .ok (.getfield 7, 3) := dk_180 0 7 (dk_at dksX7_townLine_2 17 rfl rfl)
theorem dX7_townLine_68 : decode cX7_townLine 68 = .ok (.iload_n 3, 1) := dk_29 (dk_at dksX7_townLine_2 20 rfl rfl)
theorem dX7_townLine_69 : decode cX7_townLine 69 = .ok (.iload_n 2, 1) := dk_28 (dk_at dksX7_townLine_2 21 rfl rfl)
theorem dX7_townLine_70 : decode cX7_townLine 70 = .ok (.iastore, 1) := dk_79 (dk_at dksX7_townLine_2 22 rfl rfl)
theorem dX7_townLine_71 : decode cX7_townLine 71 = .ok (.aload_n 0, 1) := dk_42 (dk_at dksX7_townLine_2 23 rfl rfl)
theorem dX7_townLine_72 : decode cX7_townLine 72 = .ok (.getfield 7, 3) := dk_180 0 7 (dk_at dksX7_townLine_3 0 rfl rfl)
theorem dX7_townLine_75 : decode cX7_townLine 75 = .ok (.iload_n 3, 1) := dk_29 (dk_at dksX7_townLine_3 3 rfl rfl)
theorem dX7_townLine_76 : decode cX7_townLine 76 = .ok (.iconst 1, 1) := dk_4 (dk_at dksX7_townLine_3 4 rfl rfl)
theorem dX7_townLine_77 : decode cX7_townLine 77 = .ok (.iadd, 1) := dk_96 (dk_at dksX7_townLine_3 5 rfl rfl)
theorem dX7_townLine_78 : decode cX7_townLine 78 = .ok (.iconst (-1), 1) := dk_2 (dk_at dksX7_townLine_3 6 rfl rfl)
theorem dX7_townLine_79 : decode cX7_townLine 79 = .ok (.iastore, 1) := dk_79 (dk_at dksX7_townLine_3 7 rfl rfl)
theorem dX7_townLine_80 : decode cX7_townLine 80 = .ok (.aload_n 0, 1) := dk_42 (dk_at dksX7_townLine_3 8 rfl rfl)
theorem dX7_townLine_81 : decode cX7_townLine 81 = .ok (.getfield 7, 3) := dk_180 0 7 (dk_at dksX7_townLine_3 9 rfl rfl)
theorem dX7_townLine_84 : decode cX7_townLine 84 = .ok (.iload_n 3, 1) := dk_29 (dk_at dksX7_townLine_3 12 rfl rfl)
theorem dX7_townLine_85 : decode cX7_townLine 85 = .ok (.iconst 2, 1) := dk_5 (dk_at dksX7_townLine_3 13 rfl rfl)
theorem dX7_townLine_86 : decode cX7_townLine 86 = .ok (.iadd, 1) := dk_96 (dk_at dksX7_townLine_3 14 rfl rfl)
theorem dX7_townLine_87 : decode cX7_townLine 87 = .ok (.iconst 0, 1) := dk_3 (dk_at dksX7_townLine_3 15 rfl rfl)
theorem dX7_townLine_88 : decode cX7_townLine 88 = .ok (.iastore, 1) := dk_79 (dk_at dksX7_townLine_3 16 rfl rfl)
theorem dX7_townLine_89 : decode cX7_townLine 89 = .ok (.aload_n 0, 1) := dk_42 (dk_at dksX7_townLine_3 17 rfl rfl)
theorem dX7_townLine_90 : decode cX7_townLine 90 = .ok (.getfield 7, 3) := dk_180 0 7 (dk_at dksX7_townLine_3 18 rfl rfl)
theorem dX7_townLine_93 : decode cX7_townLine 93 = .ok (.iconst 1, 1) := dk_4 (dk_at dksX7_townLine_3 21 rfl rfl)
theorem dX7_townLine_94 : decode cX7_townLine 94 = .ok (.dup2, 1) := dk_92 (dk_at dksX7_townLine_3 22 rfl rfl)
theorem dX7_townLine_95 : decode cX7_townLine 95 = .ok (.iaload, 1) := dk_46 (dk_at dksX7_townLine_3 23 rfl rfl)
theorem dX7_townLine_96 : decode cX7_townLine 96 = .ok (.iconst 1, 1) := dk_4 (dk_at dksX7_townLine_4 0 rfl rfl)
theorem dX7_townLine_97 : decode cX7_townLine 97 = .ok (.iadd, 1) := dk_96 (dk_at dksX7_townLine_4 1 rfl rfl)
theorem dX7_townLine_98 : decode cX7_townLine 98 = .ok (.iastore, 1) := dk_79 (dk_at dksX7_townLine_4 2 rfl rfl)
theorem dX7_townLine_99 : decode cX7_townLine 99 = .ok (.goto 497, 3) := dk_167 1 241 (dk_at dksX7_townLine_4 3 rfl rfl)
theorem dX7_townLine_102 : decode cX7_townLine 102 = .ok (.aload_n 0, 1) := dk_42 (dk_at dksX7_townLine_4 6 rfl rfl)
theorem dX7_townLine_103 : decode cX7_townLine 103 = .ok (.ldc 103, 2) := dk_18 103 (dk_at dksX7_townLine_4 7 rfl rfl)
theorem dX7_townLine_105 : decode cX7_townLine 105 = .ok (.invokevirtual 89, 3) := dk_182 0 89 (dk_at dksX7_townLine_4 9 rfl rfl)
theorem dX7_townLine_108 : decode cX7_townLine 108 = .ok (.ifCond .eq 87, 3) := dk_153 0 87 (dk_at dksX7_townLine_4 12 rfl rfl)
theorem dX7_townLine_111 : decode cX7_townLine 111 = .ok (.aload_n 0, 1) := dk_42 (dk_at dksX7_townLine_4 15 rfl rfl)
theorem dX7_townLine_112 : decode cX7_townLine 112 = .ok (.iconst (-1), 1) := dk_2 (dk_at dksX7_townLine_4 16 rfl rfl)
theorem dX7_townLine_113 : decode cX7_townLine 113 = .ok (.invokevirtual 105, 3) := dk_182 0 105 (dk_at dksX7_townLine_4 17 rfl rfl)
theorem dX7_townLine_116 : decode cX7_townLine 116 = .ok (.istore_n 2, 1) := dk_61 (dk_at dksX7_townLine_4 20 rfl rfl)
theorem dX7_townLine_117 : decode cX7_townLine 117 = .ok (.aload_n 0, 1) := dk_42 (dk_at dksX7_townLine_4 21 rfl rfl)
theorem dX7_townLine_118 : decode cX7_townLine 118 = .ok (.iload_n 2, 1) := dk_28 (dk_at dksX7_townLine_4 22 rfl rfl)
theorem dX7_townLine_119 : decode cX7_townLine 119 = .ok (.invokevirtual 105, 3) := dk_182 0 105 (dk_at dksX7_townLine_5 0 rfl rfl)
theorem dX7_townLine_122 : decode cX7_townLine 122 = .ok (.istore_n 3, 1) := dk_62 (dk_at dksX7_townLine_5 3 rfl rfl)
theorem dX7_townLine_123 : decode cX7_townLine 123 = .ok (.aload_n 0, 1) := dk_42 (dk_at dksX7_townLine_5 4 rfl rfl)
theorem dX7_townLine_124 : decode cX7_townLine 124 = .ok (.getfield 22, 3) := dk_180 0 22 (dk_at dksX7_townLine_5 5 rfl rfl)
theorem dX7_townLine_127 : decode cX7_townLine 127 = .ok (.iconst (-1), 1) := dk_2 (dk_at dksX7_townLine_5 8 rfl rfl)
theorem dX7_townLine_128 : decode cX7_townLine 128 = .ok (.if_icmp .eq 4, 3) := dk_159 0 4 (dk_at dksX7_townLine_5 9 rfl rfl)
theorem dX7_townLine_131 : decode cX7_townLine 131 = .ok (.return_, 1) := dk_177 (dk_at dksX7_townLine_5 12 rfl rfl)
theorem dX7_townLine_132 : decode cX7_townLine 132 = .ok (.aload_n 0, 1) := dk_42 (dk_at dksX7_townLine_5 13 rfl rfl)
theorem dX7_townLine_133 : decode cX7_townLine 133 = .ok (.getfield 7, 3) := dk_180 0 7 (dk_at dksX7_townLine_5 14 rfl rfl)
theorem dX7_townLine_136 : decode cX7_townLine 136 = .ok (.bipush 10, 2) := dk_16 10 (dk_at dksX7_townLine_5 17 rfl rfl)
theorem dX7_townLine_138 : decode cX7_townLine 138 = .ok (.iconst 3, 1) := dk_6 (dk_at dksX7_townLine_5 19 rfl rfl)
theorem dX7_townLine_139 : decode cX7_townLine 139 = .ok (.iload_n 2, 1) := dk_28 (dk_at dksX7_townLine_5 20 rfl rfl)
theorem dX7_townLine_140 : decode cX7_townLine 140 = .ok (.imul, 1) := dk_104 (dk_at dksX7_townLine_5 21 rfl rfl)
theorem dX7_townLine_141 : decode cX7_townLine 141 = .ok (.iadd, 1) := dk_96 (dk_at dksX7_townLine_5 22 rfl rfl)
theorem dX7_townLine_142 : decode cX7_townLine 142 = .ok (.iconst 2, 1) := dk_5 (dk_at dksX7_townLine_5 23 rfl rfl)
theorem dX7_townLine_143 : decode cX7_townLine 143 = .ok (.iadd, 1) := dk_96 (dk_at dksX7_townLine_6 0 rfl rfl)
theorem dX7_townLine_144 : decode cX7_townLine 144 = .ok (.aload_n 0, 1) := dk_42 (dk_at dksX7_townLine_6 1 rfl rfl)
theorem dX7_townLine_145 : decode cX7_townLine 145 = .ok (.getfield 7, 3) := dk_180 0 7 (dk_at dksX7_townLine_6 2 rfl rfl)
theorem dX7_townLine_148 : decode cX7_townLine 148 = .ok (.bipush 10, 2) := dk_16 10 (dk_at dksX7_townLine_6 5 rfl rfl)
theorem dX7_townLine_150 : decode cX7_townLine 150 = .ok (.iconst 3, 1) := dk_6 (dk_at dksX7_townLine_6 7 rfl rfl)
theorem dX7_townLine_151 : decode cX7_townLine 151 = .ok (.iload_n 2, 1) := dk_28 (dk_at dksX7_townLine_6 8 rfl rfl)
theorem dX7_townLine_152 : decode cX7_townLine 152 = .ok (.imul, 1) := dk_104 (dk_at dksX7_townLine_6 9 rfl rfl)
theorem dX7_townLine_153 : decode cX7_townLine 153 = .ok (.iadd, 1) := dk_96 (dk_at dksX7_townLine_6 10 rfl rfl)
theorem dX7_townLine_154 : decode cX7_townLine 154 = .ok (.iconst 2, 1) := dk_5 (dk_at dksX7_townLine_6 11 rfl rfl)
theorem dX7_townLine_155 : decode cX7_townLine 155 = .ok (.iadd, 1) := dk_96 (dk_at dksX7_townLine_6 12 rfl rfl)
theorem dX7_townLine_156 : decode cX7_townLine 156 = .ok (.iaload, 1) := dk_46 (dk_at dksX7_townLine_6 13 rfl rfl)
theorem dX7_townLine_157 : decode cX7_townLine 157 = .ok (.iconst 1, 1) := dk_4 (dk_at dksX7_townLine_6 14 rfl rfl)
theorem dX7_townLine_158 : decode cX7_townLine 158 = .ok (.iload_n 3, 1) := dk_29 (dk_at dksX7_townLine_6 15 rfl rfl)
theorem dX7_townLine_159 : decode cX7_townLine 159 = .ok (.ishl, 1) := dk_120 (dk_at dksX7_townLine_6 16 rfl rfl)
theorem dX7_townLine_160 : decode cX7_townLine 160 = .ok (.ior, 1) := dk_128 (dk_at dksX7_townLine_6 17 rfl rfl)
theorem dX7_townLine_161 : decode cX7_townLine 161 = .ok (.iastore, 1) := dk_79 (dk_at dksX7_townLine_6 18 rfl rfl)
theorem dX7_townLine_162 : decode cX7_townLine 162 = .ok (.aload_n 0, 1) := dk_42 (dk_at dksX7_townLine_6 19 rfl rfl)
theorem dX7_townLine_163 : decode cX7_townLine 163 = .ok (.getfield 7, 3) := dk_180 0 7 (dk_at dksX7_townLine_6 20 rfl rfl)
theorem dX7_townLine_166 : decode cX7_townLine 166 = .ok (.bipush 10, 2) := dk_16 10 (dk_at dksX7_townLine_7 0 rfl rfl)
theorem dX7_townLine_168 : decode cX7_townLine 168 = .ok (.iconst 3, 1) := dk_6 (dk_at dksX7_townLine_7 2 rfl rfl)
theorem dX7_townLine_169 : decode cX7_townLine 169 = .ok (.iload_n 3, 1) := dk_29 (dk_at dksX7_townLine_7 3 rfl rfl)
theorem dX7_townLine_170 : decode cX7_townLine 170 = .ok (.imul, 1) := dk_104 (dk_at dksX7_townLine_7 4 rfl rfl)
theorem dX7_townLine_171 : decode cX7_townLine 171 = .ok (.iadd, 1) := dk_96 (dk_at dksX7_townLine_7 5 rfl rfl)
theorem dX7_townLine_172 : decode cX7_townLine 172 = .ok (.iconst 2, 1) := dk_5 (dk_at dksX7_townLine_7 6 rfl rfl)
theorem dX7_townLine_173 : decode cX7_townLine 173 = .ok (.iadd, 1) := dk_96 (dk_at dksX7_townLine_7 7 rfl rfl)
theorem dX7_townLine_174 : decode cX7_townLine 174 = .ok (.aload_n 0, 1) := dk_42 (dk_at dksX7_townLine_7 8 rfl rfl)
theorem dX7_townLine_175 : decode cX7_townLine 175 = .ok (.getfield 7, 3) := dk_180 0 7 (dk_at dksX7_townLine_7 9 rfl rfl)
theorem dX7_townLine_178 : decode cX7_townLine 178 = .ok (.bipush 10, 2) := dk_16 10 (dk_at dksX7_townLine_7 12 rfl rfl)
theorem dX7_townLine_180 : decode cX7_townLine 180 = .ok (.iconst 3, 1) := dk_6 (dk_at dksX7_townLine_7 14 rfl rfl)
theorem dX7_townLine_181 : decode cX7_townLine 181 = .ok (.iload_n 3, 1) := dk_29 (dk_at dksX7_townLine_7 15 rfl rfl)
theorem dX7_townLine_182 : decode cX7_townLine 182 = .ok (.imul, 1) := dk_104 (dk_at dksX7_townLine_7 16 rfl rfl)
theorem dX7_townLine_183 : decode cX7_townLine 183 = .ok (.iadd, 1) := dk_96 (dk_at dksX7_townLine_7 17 rfl rfl)
theorem dX7_townLine_184 : decode cX7_townLine 184 = .ok (.iconst 2, 1) := dk_5 (dk_at dksX7_townLine_7 18 rfl rfl)
theorem dX7_townLine_185 : decode cX7_townLine 185 = .ok (.iadd, 1) := dk_96 (dk_at dksX7_townLine_7 19 rfl rfl)
theorem dX7_townLine_186 : decode cX7_townLine 186 = .ok (.iaload, 1) := dk_46 (dk_at dksX7_townLine_7 20 rfl rfl)
theorem dX7_townLine_187 : decode cX7_townLine 187 = .ok (.iconst 1, 1) := dk_4 (dk_at dksX7_townLine_7 21 rfl rfl)
theorem dX7_townLine_188 : decode cX7_townLine 188 = .ok (.iload_n 2, 1) := dk_28 (dk_at dksX7_townLine_7 22 rfl rfl)
theorem dX7_townLine_189 : decode cX7_townLine 189 = .ok (.ishl, 1) := dk_120 (dk_at dksX7_townLine_7 23 rfl rfl)
theorem dX7_townLine_190 : decode cX7_townLine 190 = .ok (.ior, 1) := dk_128 (dk_at dksX7_townLine_8 0 rfl rfl)
theorem dX7_townLine_191 : decode cX7_townLine 191 = .ok (.iastore, 1) := dk_79 (dk_at dksX7_townLine_8 1 rfl rfl)
theorem dX7_townLine_192 : decode cX7_townLine 192 = .ok (.goto 404, 3) := dk_167 1 148 (dk_at dksX7_townLine_8 2 rfl rfl)
theorem dX7_townLine_195 : decode cX7_townLine 195 = .ok (.aload_n 0, 1) := dk_42 (dk_at dksX7_townLine_8 5 rfl rfl)
theorem dX7_townLine_196 : decode cX7_townLine 196 = .ok (.ldc 107, 2) := dk_18 107 (dk_at dksX7_townLine_8 6 rfl rfl)
theorem dX7_townLine_198 : decode cX7_townLine 198 = .ok (.invokevirtual 89, 3) := dk_182 0 89 (dk_at dksX7_townLine_8 8 rfl rfl)
theorem dX7_townLine_201 : decode cX7_townLine 201 = .ok (.ifCond .eq 20, 3) := dk_153 0 20 (dk_at dksX7_townLine_8 11 rfl rfl)
theorem dX7_townLine_204 : decode cX7_townLine 204 = .ok (.aload_n 0, 1) := dk_42 (dk_at dksX7_townLine_8 14 rfl rfl)
theorem dX7_townLine_205 : decode cX7_townLine 205 = .ok (.getfield 7, 3) := dk_180 0 7 (dk_at dksX7_townLine_8 15 rfl rfl)
theorem dX7_townLine_208 : decode cX7_townLine 208 = .ok (.bipush 7, 2) := dk_16 7 (dk_at dksX7_townLine_8 18 rfl rfl)
theorem dX7_townLine_210 : decode cX7_townLine 210 = .ok (.aload_n 0, 1) := dk_42 (dk_at dksX7_townLine_8 20 rfl rfl)
theorem dX7_townLine_211 : decode cX7_townLine 211 = .ok (.iconst 0, 1) := dk_3 (dk_at dksX7_townLine_8 21 rfl rfl)
theorem dX7_townLine_212 : decode cX7_townLine 212 = .ok (.bipush 10, 2) := dk_16 10 (dk_at dksX7_townLine_8 22 rfl rfl)
theorem dX7_townLine_214 : decode cX7_townLine 214 = .ok (.invokevirtual 97, 3) := dk_182 0 97 (dk_at dksX7_townLine_9 0 rfl rfl)
theorem dX7_townLine_217 : decode cX7_townLine 217 = .ok (.iastore, 1) := dk_79 (dk_at dksX7_townLine_9 3 rfl rfl)
theorem dX7_townLine_218 : decode cX7_townLine 218 = .ok (.goto 378, 3) := dk_167 1 122 (dk_at dksX7_townLine_9 4 rfl rfl)
theorem dX7_townLine_221 : decode cX7_townLine 221 = .ok (.aload_n 0, 1) := dk_42 (dk_at dksX7_townLine_9 7 rfl rfl)
theorem dX7_townLine_222 : decode cX7_townLine 222 = .ok (.ldc 109, 2) := dk_18 109 (dk_at dksX7_townLine_9 8 rfl rfl)
theorem dX7_townLine_224 : decode cX7_townLine 224 = .ok (.invokevirtual 89, 3) := dk_182 0 89 (dk_at dksX7_townLine_9 10 rfl rfl)
theorem dX7_townLine_227 : decode cX7_townLine 227 = .ok (.ifCond .eq 107, 3) := dk_153 0 107 (dk_at dksX7_townLine_9 13 rfl rfl)
theorem dX7_townLine_230 : decode cX7_townLine 230 = .ok (.aload_n 0, 1) := dk_42 (dk_at dksX7_townLine_9 16 rfl rfl)
theorem dX7_townLine_231 : decode cX7_townLine 231 = .ok (.iconst (-1), 1) := dk_2 (dk_at dksX7_townLine_9 17 rfl rfl)
theorem dX7_townLine_232 : decode cX7_townLine 232 = .ok (.invokevirtual 105, 3) := dk_182 0 105 (dk_at dksX7_townLine_9 18 rfl rfl)
theorem dX7_townLine_235 : decode cX7_townLine 235 = .ok (.istore_n 2, 1) := dk_61 (dk_at dksX7_townLine_9 21 rfl rfl)
theorem dX7_townLine_236 : decode cX7_townLine 236 = .ok (.aload_n 0, 1) := dk_42 (dk_at dksX7_townLine_9 22 rfl rfl)
theorem dX7_townLine_237 : decode cX7_townLine 237 = .ok (.ldc 111, 2) := dk_18 111 (dk_at dksX7_townLine_10 0 rfl rfl)
theorem dX7_townLine_239 : decode cX7_townLine 239 = .ok (.invokevirtual 113, 3) := dk_182 0 113 (dk_at dksX7_townLine_10 2 rfl rfl)
theorem dX7_townLine_242 : decode cX7_townLine 242 = .ok (.aload_n 0, 1) := dk_42 (dk_at dksX7_townLine_10 5 rfl rfl)
theorem dX7_townLine_243 : decode cX7_townLine 243 = .ok (.iload_n 2, 1) := dk_28 (dk_at dksX7_townLine_10 6 rfl rfl)
theorem dX7_townLine_244 : decode cX7_townLine 244 = .ok (.invokevirtual 105, 3) := dk_182 0 105 (dk_at dksX7_townLine_10 7 rfl rfl)
theorem dX7_townLine_247 : decode cX7_townLine 247 = .ok (.istore_n 3, 1) := dk_62 (dk_at dksX7_townLine_10 10 rfl rfl)
theorem dX7_townLine_248 : decode cX7_townLine 248 = .ok (.aload_n 0, 1) := dk_42 (dk_at dksX7_townLine_10 11 rfl rfl)
theorem dX7_townLine_249 : decode cX7_townLine 249 = .ok (.iconst 1, 1) := dk_4 (dk_at dksX7_townLine_10 12 rfl rfl)
theorem dX7_townLine_250 : decode cX7_townLine 250 = .ok (.bipush 99, 2) := dk_16 99 (dk_at dksX7_townLine_10 13 rfl rfl)
theorem dX7_townLine_252 : decode cX7_townLine 252 = .ok (.invokevirtual 97, 3) := dk_182 0 97 (dk_at dksX7_townLine_10 15 rfl rfl)
theorem dX7_townLine_255 : decode cX7_townLine 255 = .ok (.istore 4, 2) := dk_54 4 (dk_at dksX7_townLine_10 18 rfl rfl)
theorem dX7_townLine_257 : decode cX7_townLine 257 = .ok (.iconst 0, 1) := dk_3 (dk_at dksX7_townLine_10 20 rfl rfl)
theorem dX7_townLine_258 : decode cX7_townLine 258 = .ok (.istore 5, 2) := dk_54 5 (dk_at dksX7_townLine_10 21 rfl rfl)
theorem dX7_townLine_260 : decode cX7_townLine 260 = .ok (.aload_n 0, 1) := dk_42 (dk_at dksX7_townLine_10 23 rfl rfl)
theorem dX7_townLine_261 : decode cX7_townLine 261 = .ok (.getfield 22, 3) := dk_180 0 22 (dk_at dksX7_townLine_11 0 rfl rfl)
theorem dX7_townLine_264 : decode cX7_townLine 264 = .ok (.iconst (-1), 1) := dk_2 (dk_at dksX7_townLine_11 3 rfl rfl)
theorem dX7_townLine_265 : decode cX7_townLine 265 = .ok (.if_icmp .ne 21, 3) := dk_160 0 21 (dk_at dksX7_townLine_11 4 rfl rfl)
theorem dX7_townLine_268 : decode cX7_townLine 268 = .ok (.aload_n 0, 1) := dk_42 (dk_at dksX7_townLine_11 7 rfl rfl)
theorem dX7_townLine_269 : decode cX7_townLine 269 = .ok (.ldc 117, 2) := dk_18 117 (dk_at dksX7_townLine_11 8 rfl rfl)
theorem dX7_townLine_271 : decode cX7_townLine 271 = .ok (.invokevirtual 89, 3) := dk_182 0 89 (dk_at dksX7_townLine_11 10 rfl rfl)
theorem dX7_townLine_274 : decode cX7_townLine 274 = .ok (.ifCond .eq 12, 3) := dk_153 0 12 (dk_at dksX7_townLine_11 13 rfl rfl)
theorem dX7_townLine_277 : decode cX7_townLine 277 = .ok (.aload_n 0, 1) := dk_42 (dk_at dksX7_townLine_11 16 rfl rfl)
theorem dX7_townLine_278 : decode cX7_townLine 278 = .ok (.iconst 1, 1) := dk_4 (dk_at dksX7_townLine_11 17 rfl rfl)
theorem dX7_townLine_279 : decode cX7_townLine 279 = .ok (.bipush 99, 2) := dk_16 99 (dk_at dksX7_townLine_11 18 rfl rfl)
theorem dX7_townLine_281 : decode cX7_townLine 281 = .ok (.invokevirtual 97, 3) := dk_182 0 97 (dk_at dksX7_townLine_11 20 rfl rfl)
theorem dX7_townLine_284 : decode cX7_townLine 284 = .ok (.istore 5, 2) := dk_54 5 (dk_at dksX7_townLine_12 0 rfl rfl)
theorem dX7_townLine_286 : decode cX7_townLine 286 = .ok (.aload_n 0, 1) := dk_42 (dk_at dksX7_townLine_12 2 rfl rfl)
theorem dX7_townLine_287 : decode cX7_townLine 287 = .ok (.getfield 22, 3) := dk_180 0 22 (dk_at dksX7_townLine_12 3 rfl rfl)
theorem dX7_townLine_290 : decode cX7_townLine 290 = .ok (.iconst (-1), 1) := dk_2 (dk_at dksX7_townLine_12 6 rfl rfl)
theorem dX7_townLine_291 : decode cX7_townLine 291 = .ok (.if_icmp .ne 16, 3) := dk_160 0 16 (dk_at dksX7_townLine_12 7 rfl rfl)
theorem dX7_townLine_294 : decode cX7_townLine 294 = .ok (.aload_n 0, 1) := dk_42 (dk_at dksX7_townLine_12 10 rfl rfl)
theorem dX7_townLine_295 : decode cX7_townLine 295 = .ok (.ldc 119, 2) := dk_18 119 (dk_at dksX7_townLine_12 11 rfl rfl)
theorem dX7_townLine_297 : decode cX7_townLine 297 = .ok (.invokevirtual 89, 3) := dk_182 0 89 (dk_at dksX7_townLine_12 13 rfl rfl)
theorem dX7_townLine_300 : decode cX7_townLine 300 = .ok (.ifCond .eq 7, 3) := dk_153 0 7 (dk_at dksX7_townLine_12 16 rfl rfl)
theorem dX7_townLine_303 : decode cX7_townLine 303 = .ok (.iconst 1, 1) := dk_4 (dk_at dksX7_townLine_12 19 rfl rfl)
theorem dX7_townLine_304 : decode cX7_townLine 304 = .ok (.goto 4, 3) := dk_167 0 4 (dk_at dksX7_townLine_12 20 rfl rfl)
theorem dX7_townLine_307 : decode cX7_townLine 307 = .ok (.iconst 0, 1) := dk_3 (dk_at dksX7_townLine_12 23 rfl rfl)
theorem dX7_townLine_308 : decode cX7_townLine 308 = .ok (.istore 6, 2) := dk_54 6 (dk_at dksX7_townLine_13 0 rfl rfl)
theorem dX7_townLine_310 : decode cX7_townLine 310 = .ok (.aload_n 0, 1) := dk_42 (dk_at dksX7_townLine_13 2 rfl rfl)
theorem dX7_townLine_311 : decode cX7_townLine 311 = .ok (.getfield 22, 3) := dk_180 0 22 (dk_at dksX7_townLine_13 3 rfl rfl)
theorem dX7_townLine_314 : decode cX7_townLine 314 = .ok (.iconst (-1), 1) := dk_2 (dk_at dksX7_townLine_13 6 rfl rfl)
theorem dX7_townLine_315 : decode cX7_townLine 315 = .ok (.if_icmp .ne 16, 3) := dk_160 0 16 (dk_at dksX7_townLine_13 7 rfl rfl)
theorem dX7_townLine_318 : decode cX7_townLine 318 = .ok (.aload_n 0, 1) := dk_42 (dk_at dksX7_townLine_13 10 rfl rfl)
theorem dX7_townLine_319 : decode cX7_townLine 319 = .ok (.iload_n 2, 1) := dk_28 (dk_at dksX7_townLine_13 11 rfl rfl)
theorem dX7_townLine_320 : decode cX7_townLine 320 = .ok (.iload_n 3, 1) := dk_29 (dk_at dksX7_townLine_13 12 rfl rfl)
theorem dX7_townLine_321 : decode cX7_townLine 321 = .ok (.iload 4, 2) := dk_21 4 (dk_at dksX7_townLine_13 13 rfl rfl)
theorem dX7_townLine_323 : decode cX7_townLine 323 = .ok (.iload 5, 2) := dk_21 5 (dk_at dksX7_townLine_13 15 rfl rfl)
theorem dX7_townLine_325 : decode cX7_townLine 325 = .ok (.iload 6, 2) := dk_21 6 (dk_at dksX7_townLine_13 17 rfl rfl)
theorem dX7_townLine_327 : decode cX7_townLine 327 = .ok (.invokevirtual 121, 3) := dk_182 0 121 (dk_at dksX7_townLine_13 19 rfl rfl)
theorem dX7_townLine_330 : decode cX7_townLine 330 = .ok (.pop, 1) := dk_87 (dk_at dksX7_townLine_13 22 rfl rfl)
theorem dX7_townLine_331 : decode cX7_townLine 331 = .ok (.goto 265, 3) := dk_167 1 9 (dk_at dksX7_townLine_14 0 rfl rfl)
theorem dX7_townLine_334 : decode cX7_townLine 334 = .ok (.aload_n 0, 1) := dk_42 (dk_at dksX7_townLine_14 3 rfl rfl)
theorem dX7_townLine_335 : decode cX7_townLine 335 = .ok (.ldc 125, 2) := dk_18 125 (dk_at dksX7_townLine_14 4 rfl rfl)
theorem dX7_townLine_337 : decode cX7_townLine 337 = .ok (.invokevirtual 89, 3) := dk_182 0 89 (dk_at dksX7_townLine_14 6 rfl rfl)
theorem dX7_townLine_340 : decode cX7_townLine 340 = .ok (.ifCond .eq 57, 3) := dk_153 0 57 (dk_at dksX7_townLine_14 9 rfl rfl)
theorem dX7_townLine_343 : decode cX7_townLine 343 = .ok (.aload_n 0, 1) := dk_42 (dk_at dksX7_townLine_14 12 rfl rfl)
theorem dX7_townLine_344 : decode cX7_townLine 344 = .ok (.iconst 0, 1) := dk_3 (dk_at dksX7_townLine_14 13 rfl rfl)
theorem dX7_townLine_345 : decode cX7_townLine 345 = .ok (.aload_n 0, 1) := dk_42 (dk_at dksX7_townLine_14 14 rfl rfl)
theorem dX7_townLine_346 : decode cX7_townLine 346 = .ok (.getfield 7, 3) := dk_180 0 7 (dk_at dksX7_townLine_14 15 rfl rfl)
theorem dX7_townLine_349 : decode cX7_townLine 349 = .ok (.iconst 3, 1) := dk_6 (dk_at dksX7_townLine_14 18 rfl rfl)
theorem dX7_townLine_350 : decode cX7_townLine 350 = .ok (.iaload, 1) := dk_46 (dk_at dksX7_townLine_14 19 rfl rfl)
theorem dX7_townLine_351 : decode cX7_townLine 351 = .ok (.iconst 1, 1) := dk_4 (dk_at dksX7_townLine_14 20 rfl rfl)
theorem dX7_townLine_352 : decode cX7_townLine 352 = .ok (.isub, 1) := dk_100 (dk_at dksX7_townLine_14 21 rfl rfl)
theorem dX7_townLine_353 : decode cX7_townLine 353 = .ok (.invokevirtual 97, 3) := dk_182 0 97 (dk_at dksX7_townLine_15 0 rfl rfl)
theorem dX7_townLine_356 : decode cX7_townLine 356 = .ok (.istore_n 2, 1) := dk_61 (dk_at dksX7_townLine_15 3 rfl rfl)
theorem dX7_townLine_357 : decode cX7_townLine 357 = .ok (.aload_n 0, 1) := dk_42 (dk_at dksX7_townLine_15 4 rfl rfl)
theorem dX7_townLine_358 : decode cX7_townLine 358 = .ok (.ldc 111, 2) := dk_18 111 (dk_at dksX7_townLine_15 5 rfl rfl)
theorem dX7_townLine_360 : decode cX7_townLine 360 = .ok (.invokevirtual 113, 3) := dk_182 0 113 (dk_at dksX7_townLine_15 7 rfl rfl)
theorem dX7_townLine_363 : decode cX7_townLine 363 = .ok (.aload_n 0, 1) := dk_42 (dk_at dksX7_townLine_15 10 rfl rfl)
theorem dX7_townLine_364 : decode cX7_townLine 364 = .ok (.iconst (-1), 1) := dk_2 (dk_at dksX7_townLine_15 11 rfl rfl)
theorem dX7_townLine_365 : decode cX7_townLine 365 = .ok (.invokevirtual 105, 3) := dk_182 0 105 (dk_at dksX7_townLine_15 12 rfl rfl)
theorem dX7_townLine_368 : decode cX7_townLine 368 = .ok (.istore_n 3, 1) := dk_62 (dk_at dksX7_townLine_15 15 rfl rfl)
theorem dX7_townLine_369 : decode cX7_townLine 369 = .ok (.aload_n 0, 1) := dk_42 (dk_at dksX7_townLine_15 16 rfl rfl)
theorem dX7_townLine_370 : decode cX7_townLine 370 = .ok (.getfield 22, 3) := dk_180 0 22 (dk_at dksX7_townLine_15 17 rfl rfl)
theorem dX7_townLine_373 : decode cX7_townLine 373 = .ok (.iconst (-1), 1) := dk_2 (dk_at dksX7_townLine_15 20 rfl rfl)
theorem dX7_townLine_374 : decode cX7_townLine 374 = .ok (.if_icmp .ne 20, 3) := dk_160 0 20 (dk_at dksX7_townLine_15 21 rfl rfl)
theorem dX7_townLine_377 : decode cX7_townLine 377 = .ok (.aload_n 0, 1) := dk_42 (dk_at dksX7_townLine_16 0 rfl rfl)
theorem dX7_townLine_378 : decode cX7_townLine 378 = .ok (.iload_n 2, 1) := dk_28 (dk_at dksX7_townLine_16 1 rfl rfl)
theorem dX7_townLine_379 : decode cX7_townLine 379 = .ok (.iconst 2, 1) := dk_5 (dk_at dksX7_townLine_16 2 rfl rfl)
theorem dX7_townLine_380 : decode cX7_townLine 380 = .ok (.invokevirtual 127, 3) := dk_182 0 127 (dk_at dksX7_townLine_16 3 rfl rfl)
theorem dX7_townLine_383 : decode cX7_townLine 383 = .ok (.iload_n 3, 1) := dk_29 (dk_at dksX7_townLine_16 6 rfl rfl)
theorem dX7_townLine_384 : decode cX7_townLine 384 = .ok (.if_icmp .eq 10, 3) := dk_159 0 10 (dk_at dksX7_townLine_16 7 rfl rfl)
theorem dX7_townLine_387 : decode cX7_townLine 387 = .ok (.aload_n 0, 1) := dk_42 (dk_at dksX7_townLine_16 10 rfl rfl)
theorem dX7_townLine_388 : decode cX7_townLine 388 = .ok (.iload_n 2, 1) := dk_28 (dk_at dksX7_townLine_16 11 rfl rfl)
theorem dX7_townLine_389 : decode cX7_townLine 389 = .ok (.iload_n 3, 1) := dk_29 (dk_at dksX7_townLine_16 12 rfl rfl)
theorem dX7_townLine_390 : decode cX7_townLine 390 = .ok (.invokevirtual 130, 3) := dk_182 0 130 (dk_at dksX7_townLine_16 13 rfl rfl)
theorem dX7_townLine_393 : decode cX7_townLine 393 = .ok (.pop, 1) := dk_87 (dk_at dksX7_townLine_16 16 rfl rfl)
theorem dX7_townLine_394 : decode cX7_townLine 394 = .ok (.goto 202, 3) := dk_167 0 202 (dk_at dksX7_townLine_16 17 rfl rfl)
theorem dX7_townLine_397 : decode cX7_townLine 397 = .ok (.aload_n 0, 1) := dk_42 (dk_at dksX7_townLine_16 20 rfl rfl)
theorem dX7_townLine_398 : decode cX7_townLine 398 = .ok (.ldc 133, 2) := dk_18 133 (dk_at dksX7_townLine_16 21 rfl rfl)
theorem dX7_townLine_400 : decode cX7_townLine 400 = .ok (.invokevirtual 89, 3) := dk_182 0 89 (dk_at dksX7_townLine_17 0 rfl rfl)
theorem dX7_townLine_403 : decode cX7_townLine 403 = .ok (.ifCond .eq 35, 3) := dk_153 0 35 (dk_at dksX7_townLine_17 3 rfl rfl)
theorem dX7_townLine_406 : decode cX7_townLine 406 = .ok (.aload_n 0, 1) := dk_42 (dk_at dksX7_townLine_17 6 rfl rfl)
theorem dX7_townLine_407 : decode cX7_townLine 407 = .ok (.iconst 0, 1) := dk_3 (dk_at dksX7_townLine_17 7 rfl rfl)
theorem dX7_townLine_408 : decode cX7_townLine 408 = .ok (.aload_n 0, 1) := dk_42 (dk_at dksX7_townLine_17 8 rfl rfl)
theorem dX7_townLine_409 : decode cX7_townLine 409 = .ok (.getfield 7, 3) := dk_180 0 7 (dk_at dksX7_townLine_17 9 rfl rfl)
theorem dX7_townLine_412 : decode cX7_townLine 412 = .ok (.iconst 3, 1) := dk_6 (dk_at dksX7_townLine_17 12 rfl rfl)
theorem dX7_townLine_413 : decode cX7_townLine 413 = .ok (.iaload, 1) := dk_46 (dk_at dksX7_townLine_17 13 rfl rfl)
theorem dX7_townLine_414 : decode cX7_townLine 414 = .ok (.iconst 1, 1) := dk_4 (dk_at dksX7_townLine_17 14 rfl rfl)
theorem dX7_townLine_415 : decode cX7_townLine 415 = .ok (.isub, 1) := dk_100 (dk_at dksX7_townLine_17 15 rfl rfl)
theorem dX7_townLine_416 : decode cX7_townLine 416 = .ok (.invokevirtual 97, 3) := dk_182 0 97 (dk_at dksX7_townLine_17 16 rfl rfl)
theorem dX7_townLine_419 : decode cX7_townLine 419 = .ok (.istore_n 2, 1) := dk_61 (dk_at dksX7_townLine_17 19 rfl rfl)
theorem dX7_townLine_420 : decode cX7_townLine 420 = .ok (.aload_n 0, 1) := dk_42 (dk_at dksX7_townLine_17 20 rfl rfl)
theorem dX7_townLine_421 : decode cX7_townLine 421 = .ok (.getfield 22, 3) := dk_180 0 22 (dk_at dksX7_townLine_17 21 rfl rfl)
theorem dX7_townLine_424 : decode cX7_townLine 424 = .ok (.iconst (-1), 1) := dk_2 (dk_at dksX7_townLine_18 0 rfl rfl)
theorem dX7_townLine_425 : decode cX7_townLine 425 = .ok (.if_icmp .ne 10, 3) := dk_160 0 10 (dk_at dksX7_townLine_18 1 rfl rfl)
theorem dX7_townLine_428 : decode cX7_townLine 428 = .ok (.aload_n 0, 1) := dk_42 (dk_at dksX7_townLine_18 4 rfl rfl)
theorem dX7_townLine_429 : decode cX7_townLine 429 = .ok (.iload_n 2, 1) := dk_28 (dk_at dksX7_townLine_18 5 rfl rfl)
theorem dX7_townLine_430 : decode cX7_townLine 430 = .ok (.iconst 2, 1) := dk_5 (dk_at dksX7_townLine_18 6 rfl rfl)
theorem dX7_townLine_431 : decode cX7_townLine 431 = .ok (.iconst (-1), 1) := dk_2 (dk_at dksX7_townLine_18 7 rfl rfl)
theorem dX7_townLine_432 : decode cX7_townLine 432 = .ok (.invokevirtual 135, 3) := dk_182 0 135 (dk_at dksX7_townLine_18 8 rfl rfl)
theorem dX7_townLine_435 : decode cX7_townLine 435 = .ok (.goto 161, 3) := dk_167 0 161 (dk_at dksX7_townLine_18 11 rfl rfl)
theorem dX7_townLine_438 : decode cX7_townLine 438 = .ok (.aload_n 0, 1) := dk_42 (dk_at dksX7_townLine_18 14 rfl rfl)
theorem dX7_townLine_439 : decode cX7_townLine 439 = .ok (.ldc 139, 2) := dk_18 139 (dk_at dksX7_townLine_18 15 rfl rfl)
theorem dX7_townLine_441 : decode cX7_townLine 441 = .ok (.invokevirtual 89, 3) := dk_182 0 89 (dk_at dksX7_townLine_18 17 rfl rfl)
theorem dX7_townLine_444 : decode cX7_townLine 444 = .ok (.ifCond .eq 28, 3) := dk_153 0 28 (dk_at dksX7_townLine_18 20 rfl rfl)
theorem dX7_townLine_447 : decode cX7_townLine 447 = .ok (.aload_n 0, 1) := dk_42 (dk_at dksX7_townLine_18 23 rfl rfl)
theorem dX7_townLine_448 : decode cX7_townLine 448 = .ok (.iconst 1, 1) := dk_4 (dk_at dksX7_townLine_19 0 rfl rfl)
theorem dX7_townLine_449 : decode cX7_townLine 449 = .ok (.bipush 99, 2) := dk_16 99 (dk_at dksX7_townLine_19 1 rfl rfl)
theorem dX7_townLine_451 : decode cX7_townLine 451 = .ok (.invokevirtual 97, 3) := dk_182 0 97 (dk_at dksX7_townLine_19 3 rfl rfl)
theorem dX7_townLine_454 : decode cX7_townLine 454 = .ok (.istore_n 2, 1) := dk_61 (dk_at dksX7_townLine_19 6 rfl rfl)
theorem dX7_townLine_455 : decode cX7_townLine 455 = .ok (.aload_n 0, 1) := dk_42 (dk_at dksX7_townLine_19 7 rfl rfl)
theorem dX7_townLine_456 : decode cX7_townLine 456 = .ok (.getfield 22, 3) := dk_180 0 22 (dk_at dksX7_townLine_19 8 rfl rfl)
theorem dX7_townLine_459 : decode cX7_townLine 459 = .ok (.iconst (-1), 1) := dk_2 (dk_at dksX7_townLine_19 11 rfl rfl)
theorem dX7_townLine_460 : decode cX7_townLine 460 = .ok (.if_icmp .ne 9, 3) := dk_160 0 9 (dk_at dksX7_townLine_19 12 rfl rfl)
theorem dX7_townLine_463 : decode cX7_townLine 463 = .ok (.aload_n 0, 1) := dk_42 (dk_at dksX7_townLine_19 15 rfl rfl)
theorem dX7_townLine_464 : decode cX7_townLine 464 = .ok (.iload_n 2, 1) := dk_28 (dk_at dksX7_townLine_19 16 rfl rfl)
theorem dX7_townLine_465 : decode cX7_townLine 465 = .ok (.invokevirtual 141, 3) := dk_182 0 141 (dk_at dksX7_townLine_19 17 rfl rfl)
theorem dX7_townLine_468 : decode cX7_townLine 468 = .ok (.pop, 1) := dk_87 (dk_at dksX7_townLine_19 20 rfl rfl)
theorem dX7_townLine_469 : decode cX7_townLine 469 = .ok (.goto 127, 3) := dk_167 0 127 (dk_at dksX7_townLine_19 21 rfl rfl)
theorem dX7_townLine_472 : decode cX7_townLine 472 = .ok (.aload_n 0, 1) := dk_42 (dk_at dksX7_townLine_20 0 rfl rfl)
theorem dX7_townLine_473 : decode cX7_townLine 473 = .ok (.ldc 144, 2) := dk_18 144 (dk_at dksX7_townLine_20 1 rfl rfl)
theorem dX7_townLine_475 : decode cX7_townLine 475 = .ok (.invokevirtual 89, 3) := dk_182 0 89 (dk_at dksX7_townLine_20 3 rfl rfl)
theorem dX7_townLine_478 : decode cX7_townLine 478 = .ok (.ifCond .eq 110, 3) := dk_153 0 110 (dk_at dksX7_townLine_20 6 rfl rfl)
theorem dX7_townLine_481 : decode cX7_townLine 481 = .ok (.aload_n 0, 1) := dk_42 (dk_at dksX7_townLine_20 9 rfl rfl)
theorem dX7_townLine_482 : decode cX7_townLine 482 = .ok (.getfield 7, 3) := dk_180 0 7 (dk_at dksX7_townLine_20 10 rfl rfl)
theorem dX7_townLine_485 : decode cX7_townLine 485 = .ok (.iconst 4, 1) := dk_7 (dk_at dksX7_townLine_20 13 rfl rfl)
theorem dX7_townLine_486 : decode cX7_townLine 486 = .ok (.iaload, 1) := dk_46 (dk_at dksX7_townLine_20 14 rfl rfl)
theorem dX7_townLine_487 : decode cX7_townLine 487 = .ok (.bipush 12, 2) := dk_16 12 (dk_at dksX7_townLine_20 15 rfl rfl)
theorem dX7_townLine_489 : decode cX7_townLine 489 = .ok (.if_icmp .ne 8, 3) := dk_160 0 8 (dk_at dksX7_townLine_20 17 rfl rfl)
theorem dX7_townLine_492 : decode cX7_townLine 492 = .ok (.aload_n 0, 1) := dk_42 (dk_at dksX7_townLine_20 20 rfl rfl)
theorem dX7_townLine_493 : decode cX7_townLine 493 = .ok (.iload_n 1, 1) := dk_27 (dk_at dksX7_townLine_20 21 rfl rfl)
theorem dX7_townLine_494 : decode cX7_townLine 494 = .ok (.invokevirtual 93, 3) := dk_182 0 93 (dk_at dksX7_townLine_21 0 rfl rfl)
theorem dX7_townLine_497 : decode cX7_townLine 497 = .ok (.aload_n 0, 1) := dk_42 (dk_at dksX7_townLine_21 3 rfl rfl)
theorem dX7_townLine_498 : decode cX7_townLine 498 = .ok (.iconst (-1), 1) := dk_2 (dk_at dksX7_townLine_21 4 rfl rfl)
theorem dX7_townLine_499 : decode cX7_townLine 499 = .ok (.invokevirtual 105, 3) := dk_182 0 105 (dk_at dksX7_townLine_21 5 rfl rfl)
theorem dX7_townLine_502 : decode cX7_townLine 502 = .ok (.istore_n 2, 1) := dk_61 (dk_at dksX7_townLine_21 8 rfl rfl)
theorem dX7_townLine_503 : decode cX7_townLine 503 = .ok (.aload_n 0, 1) := dk_42 (dk_at dksX7_townLine_21 9 rfl rfl)
theorem dX7_townLine_504 : decode cX7_townLine 504 = .ok (.ldc 146, 2) := dk_18 146 (dk_at dksX7_townLine_21 10 rfl rfl)
theorem dX7_townLine_506 : decode cX7_townLine 506 = .ok (.invokevirtual 113, 3) := dk_182 0 113 (dk_at dksX7_townLine_21 12 rfl rfl)
theorem dX7_townLine_509 : decode cX7_townLine 509 = .ok (.aload_n 0, 1) := dk_42 (dk_at dksX7_townLine_21 15 rfl rfl)
theorem dX7_townLine_510 : decode cX7_townLine 510 = .ok (.iload_n 2, 1) := dk_28 (dk_at dksX7_townLine_21 16 rfl rfl)
theorem dX7_townLine_511 : decode cX7_townLine 511 = .ok (.invokevirtual 105, 3) := dk_182 0 105 (dk_at dksX7_townLine_21 17 rfl rfl)
theorem dX7_townLine_514 : decode cX7_townLine 514 = .ok (.istore_n 3, 1) := dk_62 (dk_at dksX7_townLine_21 20 rfl rfl)
theorem dX7_townLine_515 : decode cX7_townLine 515 = .ok (.aload_n 0, 1) := dk_42 (dk_at dksX7_townLine_21 21 rfl rfl)
theorem dX7_townLine_516 : decode cX7_townLine 516 = .ok (.iconst 1, 1) := dk_4 (dk_at dksX7_townLine_21 22 rfl rfl)
theorem dX7_townLine_517 : decode cX7_townLine 517 = .ok (.bipush 99, 2) := dk_16 99 (dk_at dksX7_townLine_22 0 rfl rfl)
theorem dX7_townLine_519 : decode cX7_townLine 519 = .ok (.invokevirtual 97, 3) := dk_182 0 97 (dk_at dksX7_townLine_22 2 rfl rfl)
theorem dX7_townLine_522 : decode cX7_townLine 522 = .ok (.istore 4, 2) := dk_54 4 (dk_at dksX7_townLine_22 5 rfl rfl)
theorem dX7_townLine_524 : decode cX7_townLine 524 = .ok (.aload_n 0, 1) := dk_42 (dk_at dksX7_townLine_22 7 rfl rfl)
theorem dX7_townLine_525 : decode cX7_townLine 525 = .ok (.getfield 22, 3) := dk_180 0 22 (dk_at dksX7_townLine_22 8 rfl rfl)
theorem dX7_townLine_528 : decode cX7_townLine 528 = .ok (.iconst (-1), 1) := dk_2 (dk_at dksX7_townLine_22 11 rfl rfl)
theorem dX7_townLine_529 : decode cX7_townLine 529 = .ok (.if_icmp .eq 4, 3) := dk_159 0 4 (dk_at dksX7_townLine_22 12 rfl rfl)
theorem dX7_townLine_532 : decode cX7_townLine 532 = .ok (.return_, 1) := dk_177 (dk_at dksX7_townLine_22 15 rfl rfl)
theorem dX7_townLine_533 : decode cX7_townLine 533 = .ok (.bipush 46, 2) := dk_16 46 (dk_at dksX7_townLine_22 16 rfl rfl)
theorem dX7_townLine_535 : decode cX7_townLine 535 = .ok (.iconst 3, 1) := dk_6 (dk_at dksX7_townLine_22 18 rfl rfl)
theorem dX7_townLine_536 : decode cX7_townLine 536 = .ok (.aload_n 0, 1) := dk_42 (dk_at dksX7_townLine_22 19 rfl rfl)
theorem dX7_townLine_537 : decode cX7_townLine 537 = .ok (.getfield 7, 3) := dk_180 0 7 (dk_at dksX7_townLine_22 20 rfl rfl)
theorem dX7_townLine_540 : decode cX7_townLine 540 = .ok (.iconst 4, 1) := dk_7 (dk_at dksX7_townLine_22 23 rfl rfl)
theorem dX7_townLine_541 : decode cX7_townLine 541 = .ok (.iaload, 1) := dk_46 (dk_at dksX7_townLine_23 0 rfl rfl)
theorem dX7_townLine_542 : decode cX7_townLine 542 = .ok (.imul, 1) := dk_104 (dk_at dksX7_townLine_23 1 rfl rfl)
theorem dX7_townLine_543 : decode cX7_townLine 543 = .ok (.iadd, 1) := dk_96 (dk_at dksX7_townLine_23 2 rfl rfl)
theorem dX7_townLine_544 : decode cX7_townLine 544 = .ok (.istore 5, 2) := dk_54 5 (dk_at dksX7_townLine_23 3 rfl rfl)
theorem dX7_townLine_546 : decode cX7_townLine 546 = .ok (.aload_n 0, 1) := dk_42 (dk_at dksX7_townLine_23 5 rfl rfl)
theorem dX7_townLine_547 : decode cX7_townLine 547 = .ok (.getfield 7, 3) := dk_180 0 7 (dk_at dksX7_townLine_23 6 rfl rfl)
theorem dX7_townLine_550 : decode cX7_townLine 550 = .ok (.iload 5, 2) := dk_21 5 (dk_at dksX7_townLine_23 9 rfl rfl)
theorem dX7_townLine_552 : decode cX7_townLine 552 = .ok (.iload_n 2, 1) := dk_28 (dk_at dksX7_townLine_23 11 rfl rfl)
theorem dX7_townLine_553 : decode cX7_townLine 553 = .ok (.iastore, 1) := dk_79 (dk_at dksX7_townLine_23 12 rfl rfl)
theorem dX7_townLine_554 : decode cX7_townLine 554 = .ok (.aload_n 0, 1) := dk_42 (dk_at dksX7_townLine_23 13 rfl rfl)
theorem dX7_townLine_555 : decode cX7_townLine 555 = .ok (.getfield 7, 3) := dk_180 0 7 (dk_at dksX7_townLine_23 14 rfl rfl)
theorem dX7_townLine_558 : decode cX7_townLine 558 = .ok (.iload 5, 2) := dk_21 5 (dk_at dksX7_townLine_23 17 rfl rfl)
theorem dX7_townLine_560 : decode cX7_townLine 560 = .ok (.iconst 1, 1) := dk_4 (dk_at dksX7_townLine_23 19 rfl rfl)
theorem dX7_townLine_561 : decode cX7_townLine 561 = .ok (.iadd, 1) := dk_96 (dk_at dksX7_townLine_23 20 rfl rfl)
theorem dX7_townLine_562 : decode cX7_townLine 562 = .ok (.iload_n 3, 1) := dk_29 (dk_at dksX7_townLine_23 21 rfl rfl)
theorem dX7_townLine_563 : decode cX7_townLine 563 = .ok (.iastore, 1) := dk_79 (dk_at dksX7_townLine_23 22 rfl rfl)
theorem dX7_townLine_564 : decode cX7_townLine 564 = .ok (.aload_n 0, 1) := dk_42 (dk_at dksX7_townLine_23 23 rfl rfl)
theorem dX7_townLine_565 : decode cX7_townLine 565 = .ok (.getfield 7, 3) := dk_180 0 7 (dk_at dksX7_townLine_24 0 rfl rfl)
theorem dX7_townLine_568 : decode cX7_townLine 568 = .ok (.iload 5, 2) := dk_21 5 (dk_at dksX7_townLine_24 3 rfl rfl)
theorem dX7_townLine_570 : decode cX7_townLine 570 = .ok (.iconst 2, 1) := dk_5 (dk_at dksX7_townLine_24 5 rfl rfl)
theorem dX7_townLine_571 : decode cX7_townLine 571 = .ok (.iadd, 1) := dk_96 (dk_at dksX7_townLine_24 6 rfl rfl)
theorem dX7_townLine_572 : decode cX7_townLine 572 = .ok (.iload 4, 2) := dk_21 4 (dk_at dksX7_townLine_24 7 rfl rfl)
theorem dX7_townLine_574 : decode cX7_townLine 574 = .ok (.iastore, 1) := dk_79 (dk_at dksX7_townLine_24 9 rfl rfl)
theorem dX7_townLine_575 : decode cX7_townLine 575 = .ok (.aload_n 0, 1) := dk_42 (dk_at dksX7_townLine_24 10 rfl rfl)
theorem dX7_townLine_576 : decode cX7_townLine 576 = .ok (.getfield 7, 3) := dk_180 0 7 (dk_at dksX7_townLine_24 11 rfl rfl)
theorem dX7_townLine_579 : decode cX7_townLine 579 = .ok (.iconst 4, 1) := dk_7 (dk_at dksX7_townLine_24 14 rfl rfl)
theorem dX7_townLine_580 : decode cX7_townLine 580 = .ok (.dup2, 1) := dk_92 (dk_at dksX7_townLine_24 15 rfl rfl)
theorem dX7_townLine_581 : decode cX7_townLine 581 = .ok (.iaload, 1) := dk_46 (dk_at dksX7_townLine_24 16 rfl rfl)
theorem dX7_townLine_582 : decode cX7_townLine 582 = .ok (.iconst 1, 1) := dk_4 (dk_at dksX7_townLine_24 17 rfl rfl)
theorem dX7_townLine_583 : decode cX7_townLine 583 = .ok (.iadd, 1) := dk_96 (dk_at dksX7_townLine_24 18 rfl rfl)
theorem dX7_townLine_584 : decode cX7_townLine 584 = .ok (.iastore, 1) := dk_79 (dk_at dksX7_townLine_24 19 rfl rfl)
theorem dX7_townLine_585 : decode cX7_townLine 585 = .ok (.goto 11, 3) := dk_167 0 11 (dk_at dksX7_townLine_24 20 rfl rfl)
theorem dX7_townLine_588 : decode cX7_townLine 588 = .ok (.aload_n 0, 1) := dk_42 (dk_at dksX7_townLine_24 23 rfl rfl)
theorem dX7_townLine_589 : decode cX7_townLine 589 = .ok (.aload_n 0, 1) := dk_42 (dk_at dksX7_townLine_25 0 rfl rfl)
theorem dX7_townLine_590 : decode cX7_townLine 590 = .ok (.getfield 66, 3) := dk_180 0 66 (dk_at dksX7_townLine_25 1 rfl rfl)
theorem dX7_townLine_593 : decode cX7_townLine 593 = .ok (.invokevirtual 93, 3) := dk_182 0 93 (dk_at dksX7_townLine_25 4 rfl rfl)
theorem dX7_townLine_596 : decode cX7_townLine 596 = .ok (.return_, 1) := dk_177 (dk_at dksX7_townLine_25 7 rfl rfl)
abbrev cX7_person : ByteArray := prog_23_method_18_code
def yX7_person : MethodName := ⟨RX7, "person", "(I)I"⟩
def dkwX7_person_1 : List UInt8 := [180, 0, 22, 2, 160, 0, 13, 29, 27, 160, 0, 8, 42, 28, 182, 0, 93, 29, 172]
abbrev dktX7_person_1 : List UInt8 := dkwX7_person_1 ++ []
def dkwX7_person_0 : List UInt8 := [42, 182, 0, 76, 42, 180, 0, 66, 61, 42, 3, 42, 180, 0, 7, 4, 46, 4, 100, 182, 0, 97, 62, 42]
abbrev dktX7_person_0 : List UInt8 := dkwX7_person_0 ++ dktX7_person_1
theorem dksX7_person_0 : cX7_person.data.toList.drop 0 = dktX7_person_0 := by decide +kernel
theorem dksX7_person_1 : cX7_person.data.toList.drop 24 = dktX7_person_1 := dk_seg dksX7_person_0 24 rfl rfl
theorem dX7_person_0 : decode cX7_person 0 = .ok (.aload_n 0, 1) := dk_42 (dk_at dksX7_person_0 0 rfl rfl)
theorem dX7_person_1 : decode cX7_person 1 = .ok (.invokevirtual 76, 3) := dk_182 0 76 (dk_at dksX7_person_0 1 rfl rfl)
theorem dX7_person_4 : decode cX7_person 4 = .ok (.aload_n 0, 1) := dk_42 (dk_at dksX7_person_0 4 rfl rfl)
theorem dX7_person_5 : decode cX7_person 5 = .ok (.getfield 66, 3) := dk_180 0 66 (dk_at dksX7_person_0 5 rfl rfl)
theorem dX7_person_8 : decode cX7_person 8 = .ok (.istore_n 2, 1) := dk_61 (dk_at dksX7_person_0 8 rfl rfl)
theorem dX7_person_9 : decode cX7_person 9 = .ok (.aload_n 0, 1) := dk_42 (dk_at dksX7_person_0 9 rfl rfl)
theorem dX7_person_10 : decode cX7_person 10 = .ok (.iconst 0, 1) := dk_3 (dk_at dksX7_person_0 10 rfl rfl)
theorem dX7_person_11 : decode cX7_person 11 = .ok (.aload_n 0, 1) := dk_42 (dk_at dksX7_person_0 11 rfl rfl)
theorem dX7_person_12 : decode cX7_person 12 = .ok (.getfield 7, 3) := dk_180 0 7 (dk_at dksX7_person_0 12 rfl rfl)
theorem dX7_person_15 : decode cX7_person 15 = .ok (.iconst 1, 1) := dk_4 (dk_at dksX7_person_0 15 rfl rfl)
theorem dX7_person_16 : decode cX7_person 16 = .ok (.iaload, 1) := dk_46 (dk_at dksX7_person_0 16 rfl rfl)
theorem dX7_person_17 : decode cX7_person 17 = .ok (.iconst 1, 1) := dk_4 (dk_at dksX7_person_0 17 rfl rfl)
theorem dX7_person_18 : decode cX7_person 18 = .ok (.isub, 1) := dk_100 (dk_at dksX7_person_0 18 rfl rfl)
theorem dX7_person_19 : decode cX7_person 19 = .ok (.invokevirtual 97, 3) := dk_182 0 97 (dk_at dksX7_person_0 19 rfl rfl)
theorem dX7_person_22 : decode cX7_person 22 = .ok (.istore_n 3, 1) := dk_62 (dk_at dksX7_person_0 22 rfl rfl)
theorem dX7_person_23 : decode cX7_person 23 = .ok (.aload_n 0, 1) := dk_42 (dk_at dksX7_person_0 23 rfl rfl)
theorem dX7_person_24 : decode cX7_person 24 = .ok (.getfield 22, 3) := dk_180 0 22 (dk_at dksX7_person_1 0 rfl rfl)
theorem dX7_person_27 : decode cX7_person 27 = .ok (.iconst (-1), 1) := dk_2 (dk_at dksX7_person_1 3 rfl rfl)
theorem dX7_person_28 : decode cX7_person 28 = .ok (.if_icmp .ne 13, 3) := dk_160 0 13 (dk_at dksX7_person_1 4 rfl rfl)
theorem dX7_person_31 : decode cX7_person 31 = .ok (.iload_n 3, 1) := dk_29 (dk_at dksX7_person_1 7 rfl rfl)
theorem dX7_person_32 : decode cX7_person 32 = .ok (.iload_n 1, 1) := dk_27 (dk_at dksX7_person_1 8 rfl rfl)
theorem dX7_person_33 : decode cX7_person 33 = .ok (.if_icmp .ne 8, 3) := dk_160 0 8 (dk_at dksX7_person_1 9 rfl rfl)
theorem dX7_person_36 : decode cX7_person 36 = .ok (.aload_n 0, 1) := dk_42 (dk_at dksX7_person_1 12 rfl rfl)
theorem dX7_person_37 : decode cX7_person 37 = .ok (.iload_n 2, 1) := dk_28 (dk_at dksX7_person_1 13 rfl rfl)
theorem dX7_person_38 : decode cX7_person 38 = .ok (.invokevirtual 93, 3) := dk_182 0 93 (dk_at dksX7_person_1 14 rfl rfl)
theorem dX7_person_41 : decode cX7_person 41 = .ok (.iload_n 3, 1) := dk_29 (dk_at dksX7_person_1 17 rfl rfl)
theorem dX7_person_42 : decode cX7_person 42 = .ok (.ireturn, 1) := dk_172 (dk_at dksX7_person_1 18 rfl rfl)
abbrev cX7_must : ByteArray := prog_23_method_16_code
def yX7_must : MethodName := ⟨RX7, "must", "(Ljava/lang/String;)V"⟩
def dkwX7_must_1 : List UInt8 := [177]
abbrev dktX7_must_1 : List UInt8 := dkwX7_must_1 ++ []
def dkwX7_must_0 : List UInt8 := [42, 180, 0, 22, 2, 160, 0, 19, 42, 43, 182, 0, 89, 154, 0, 11, 42, 42, 180, 0, 66, 182, 0, 93]
abbrev dktX7_must_0 : List UInt8 := dkwX7_must_0 ++ dktX7_must_1
theorem dksX7_must_0 : cX7_must.data.toList.drop 0 = dktX7_must_0 := by decide +kernel
theorem dksX7_must_1 : cX7_must.data.toList.drop 24 = dktX7_must_1 := dk_seg dksX7_must_0 24 rfl rfl
theorem dX7_must_0 : decode cX7_must 0 = .ok (.aload_n 0, 1) := dk_42 (dk_at dksX7_must_0 0 rfl rfl)
theorem dX7_must_1 : decode cX7_must 1 = .ok (.getfield 22, 3) := dk_180 0 22 (dk_at dksX7_must_0 1 rfl rfl)
theorem dX7_must_4 : decode cX7_must 4 = .ok (.iconst (-1), 1) := dk_2 (dk_at dksX7_must_0 4 rfl rfl)
theorem dX7_must_5 : decode cX7_must 5 = .ok (.if_icmp .ne 19, 3) := dk_160 0 19 (dk_at dksX7_must_0 5 rfl rfl)
theorem dX7_must_8 : decode cX7_must 8 = .ok (.aload_n 0, 1) := dk_42 (dk_at dksX7_must_0 8 rfl rfl)
theorem dX7_must_9 : decode cX7_must 9 = .ok (.aload_n 1, 1) := dk_43 (dk_at dksX7_must_0 9 rfl rfl)
theorem dX7_must_10 : decode cX7_must 10 = .ok (.invokevirtual 89, 3) := dk_182 0 89 (dk_at dksX7_must_0 10 rfl rfl)
theorem dX7_must_13 : decode cX7_must 13 = .ok (.ifCond .ne 11, 3) := dk_154 0 11 (dk_at dksX7_must_0 13 rfl rfl)
theorem dX7_must_16 : decode cX7_must 16 = .ok (.aload_n 0, 1) := dk_42 (dk_at dksX7_must_0 16 rfl rfl)
theorem dX7_must_17 : decode cX7_must 17 = .ok (.aload_n 0, 1) := dk_42 (dk_at dksX7_must_0 17 rfl rfl)
theorem dX7_must_18 : decode cX7_must 18 = .ok (.getfield 66, 3) := dk_180 0 66 (dk_at dksX7_must_0 18 rfl rfl)
theorem dX7_must_21 : decode cX7_must 21 = .ok (.invokevirtual 93, 3) := dk_182 0 93 (dk_at dksX7_must_0 21 rfl rfl)
theorem dX7_must_24 : decode cX7_must 24 = .ok (.return_, 1) := dk_177 (dk_at dksX7_must_1 0 rfl rfl)
abbrev cX7_gives : ByteArray := prog_23_method_38_code
def yX7_gives : MethodName := ⟨RX7, "gives", "(IIIIZ)I"⟩
def dkwX7_gives_6 : List UInt8 := [21, 7, 16, 7, 27, 182, 0, 135, 42, 21, 7, 16, 8, 28, 182, 0, 135, 21, 7, 172]
abbrev dktX7_gives_6 : List UInt8 := dkwX7_gives_6 ++ []
def dkwX7_gives_5 : List UInt8 := [21, 5, 153, 0, 7, 4, 167, 0, 4, 3, 182, 0, 135, 42, 21, 7, 16, 6, 5, 182, 0, 135, 42]
abbrev dktX7_gives_5 : List UInt8 := dkwX7_gives_5 ++ dktX7_gives_6
def dkwX7_gives_4 : List UInt8 := [182, 0, 135, 42, 21, 7, 5, 28, 182, 0, 135, 42, 21, 7, 7, 21, 6, 182, 0, 135, 42, 21, 7, 8]
abbrev dktX7_gives_4 : List UInt8 := dkwX7_gives_4 ++ dktX7_gives_5
def dkwX7_gives_3 : List UInt8 := [3, 182, 0, 135, 132, 8, 1, 167, 255, 237, 42, 21, 7, 3, 27, 182, 0, 135, 42, 21, 7, 4, 29]
abbrev dktX7_gives_3 : List UInt8 := dkwX7_gives_3 ++ dktX7_gives_4
def dkwX7_gives_2 : List UInt8 := [180, 0, 7, 6, 92, 46, 4, 96, 79, 3, 54, 8, 21, 8, 16, 20, 162, 0, 18, 42, 21, 7, 21, 8]
abbrev dktX7_gives_2 : List UInt8 := dkwX7_gives_2 ++ dktX7_gives_3
def dkwX7_gives_1 : List UInt8 := [29, 21, 6, 21, 5, 182, 0, 246, 154, 0, 5, 2, 172, 42, 180, 0, 7, 6, 46, 54, 7, 42]
abbrev dktX7_gives_1 : List UInt8 := dkwX7_gives_1 ++ dktX7_gives_2
def dkwX7_gives_0 : List UInt8 := [21, 4, 154, 0, 7, 2, 167, 0, 13, 42, 180, 0, 7, 16, 6, 46, 21, 4, 96, 54, 6, 42, 27, 28]
abbrev dktX7_gives_0 : List UInt8 := dkwX7_gives_0 ++ dktX7_gives_1
theorem dksX7_gives_0 : cX7_gives.data.toList.drop 0 = dktX7_gives_0 := by decide +kernel
theorem dksX7_gives_1 : cX7_gives.data.toList.drop 24 = dktX7_gives_1 := dk_seg dksX7_gives_0 24 rfl rfl
theorem dksX7_gives_2 : cX7_gives.data.toList.drop 46 = dktX7_gives_2 := dk_seg dksX7_gives_1 22 rfl rfl
theorem dksX7_gives_3 : cX7_gives.data.toList.drop 70 = dktX7_gives_3 := dk_seg dksX7_gives_2 24 rfl rfl
theorem dksX7_gives_4 : cX7_gives.data.toList.drop 93 = dktX7_gives_4 := dk_seg dksX7_gives_3 23 rfl rfl
theorem dksX7_gives_5 : cX7_gives.data.toList.drop 117 = dktX7_gives_5 := dk_seg dksX7_gives_4 24 rfl rfl
theorem dksX7_gives_6 : cX7_gives.data.toList.drop 140 = dktX7_gives_6 := dk_seg dksX7_gives_5 23 rfl rfl
theorem dX7_gives_0 : decode cX7_gives 0 = .ok (.iload 4, 2) := dk_21 4 (dk_at dksX7_gives_0 0 rfl rfl)
theorem dX7_gives_2 : decode cX7_gives 2 = .ok (.ifCond .ne 7, 3) := dk_154 0 7 (dk_at dksX7_gives_0 2 rfl rfl)
theorem dX7_gives_5 : decode cX7_gives 5 = .ok (.iconst (-1), 1) := dk_2 (dk_at dksX7_gives_0 5 rfl rfl)
theorem dX7_gives_6 : decode cX7_gives 6 = .ok (.goto 13, 3) := dk_167 0 13 (dk_at dksX7_gives_0 6 rfl rfl)
theorem dX7_gives_9 : decode cX7_gives 9 = .ok (.aload_n 0, 1) := dk_42 (dk_at dksX7_gives_0 9 rfl rfl)
theorem dX7_gives_10 : decode cX7_gives 10 = .ok (.getfield 7, 3) := dk_180 0 7 (dk_at dksX7_gives_0 10 rfl rfl)
theorem dX7_gives_13 : decode cX7_gives 13 = .ok (.bipush 6, 2) := dk_16 6 (dk_at dksX7_gives_0 13 rfl rfl)
theorem dX7_gives_15 : decode cX7_gives 15 = .ok (.iaload, 1) := dk_46 (dk_at dksX7_gives_0 15 rfl rfl)
theorem dX7_gives_16 : decode cX7_gives 16 = .ok (.iload 4, 2) := dk_21 4 (dk_at dksX7_gives_0 16 rfl rfl)
theorem dX7_gives_18 : decode cX7_gives 18 = .ok (.iadd, 1) := dk_96 (dk_at dksX7_gives_0 18 rfl rfl)
theorem dX7_gives_19 : decode cX7_gives 19 = .ok (.istore 6, 2) := dk_54 6 (dk_at dksX7_gives_0 19 rfl rfl)
theorem dX7_gives_21 : decode cX7_gives 21 = .ok (.aload_n 0, 1) := dk_42 (dk_at dksX7_gives_0 21 rfl rfl)
theorem dX7_gives_22 : decode cX7_gives 22 = .ok (.iload_n 1, 1) := dk_27 (dk_at dksX7_gives_0 22 rfl rfl)
theorem dX7_gives_23 : decode cX7_gives 23 = .ok (.iload_n 2, 1) := dk_28 (dk_at dksX7_gives_0 23 rfl rfl)
theorem dX7_gives_24 : decode cX7_gives 24 = .ok (.iload_n 3, 1) := dk_29 (dk_at dksX7_gives_1 0 rfl rfl)
theorem dX7_gives_25 : decode cX7_gives 25 = .ok (.iload 6, 2) := dk_21 6 (dk_at dksX7_gives_1 1 rfl rfl)
theorem dX7_gives_27 : decode cX7_gives 27 = .ok (.iload 5, 2) := dk_21 5 (dk_at dksX7_gives_1 3 rfl rfl)
theorem dX7_gives_29 : decode cX7_gives 29 = .ok (.invokevirtual 246, 3) := dk_182 0 246 (dk_at dksX7_gives_1 5 rfl rfl)
theorem dX7_gives_32 : decode cX7_gives 32 = .ok (.ifCond .ne 5, 3) := dk_154 0 5 (dk_at dksX7_gives_1 8 rfl rfl)
theorem dX7_gives_35 : decode cX7_gives 35 = .ok (.iconst (-1), 1) := dk_2 (dk_at dksX7_gives_1 11 rfl rfl)
theorem dX7_gives_36 : decode cX7_gives 36 = .ok (.ireturn, 1) := dk_172 (dk_at dksX7_gives_1 12 rfl rfl)
theorem dX7_gives_37 : decode cX7_gives 37 = .ok (.aload_n 0, 1) := dk_42 (dk_at dksX7_gives_1 13 rfl rfl)
theorem dX7_gives_38 : decode cX7_gives 38 = .ok (.getfield 7, 3) := dk_180 0 7 (dk_at dksX7_gives_1 14 rfl rfl)
theorem dX7_gives_41 : decode cX7_gives 41 = .ok (.iconst 3, 1) := dk_6 (dk_at dksX7_gives_1 17 rfl rfl)
theorem dX7_gives_42 : decode cX7_gives 42 = .ok (.iaload, 1) := dk_46 (dk_at dksX7_gives_1 18 rfl rfl)
theorem dX7_gives_43 : decode cX7_gives 43 = .ok (.istore 7, 2) := dk_54 7 (dk_at dksX7_gives_1 19 rfl rfl)
theorem dX7_gives_45 : decode cX7_gives 45 = .ok (.aload_n 0, 1) := dk_42 (dk_at dksX7_gives_1 21 rfl rfl)
theorem dX7_gives_46 : decode cX7_gives 46 = .ok (.getfield 7, 3) := dk_180 0 7 (dk_at dksX7_gives_2 0 rfl rfl)
theorem dX7_gives_49 : decode cX7_gives 49 = .ok (.iconst 3, 1) := dk_6 (dk_at dksX7_gives_2 3 rfl rfl)
theorem dX7_gives_50 : decode cX7_gives 50 = .ok (.dup2, 1) := dk_92 (dk_at dksX7_gives_2 4 rfl rfl)
theorem dX7_gives_51 : decode cX7_gives 51 = .ok (.iaload, 1) := dk_46 (dk_at dksX7_gives_2 5 rfl rfl)
theorem dX7_gives_52 : decode cX7_gives 52 = .ok (.iconst 1, 1) := dk_4 (dk_at dksX7_gives_2 6 rfl rfl)
theorem dX7_gives_53 : decode cX7_gives 53 = .ok (.iadd, 1) := dk_96 (dk_at dksX7_gives_2 7 rfl rfl)
theorem dX7_gives_54 : decode cX7_gives 54 = .ok (.iastore, 1) := dk_79 (dk_at dksX7_gives_2 8 rfl rfl)
theorem dX7_gives_55 : decode cX7_gives 55 = .ok (.iconst 0, 1) := dk_3 (dk_at dksX7_gives_2 9 rfl rfl)
theorem dX7_gives_56 : decode cX7_gives 56 = .ok (.istore 8, 2) := dk_54 8 (dk_at dksX7_gives_2 10 rfl rfl)
theorem dX7_gives_58 : decode cX7_gives 58 = .ok (.iload 8, 2) := dk_21 8 (dk_at dksX7_gives_2 12 rfl rfl)
theorem dX7_gives_60 : decode cX7_gives 60 = .ok (.bipush 20, 2) := dk_16 20 (dk_at dksX7_gives_2 14 rfl rfl)
theorem dX7_gives_62 : decode cX7_gives 62 = .ok (.if_icmp .ge 18, 3) := dk_162 0 18 (dk_at dksX7_gives_2 16 rfl rfl)
theorem dX7_gives_65 : decode cX7_gives 65 = .ok (.aload_n 0, 1) := dk_42 (dk_at dksX7_gives_2 19 rfl rfl)
theorem dX7_gives_66 : decode cX7_gives 66 = .ok (.iload 7, 2) := dk_21 7 (dk_at dksX7_gives_2 20 rfl rfl)
theorem dX7_gives_68 : decode cX7_gives 68 = .ok (.iload 8, 2) := dk_21 8 (dk_at dksX7_gives_2 22 rfl rfl)
theorem dX7_gives_70 : decode cX7_gives 70 = .ok (.iconst 0, 1) := dk_3 (dk_at dksX7_gives_3 0 rfl rfl)
theorem dX7_gives_71 : decode cX7_gives 71 = .ok (.invokevirtual 135, 3) := dk_182 0 135 (dk_at dksX7_gives_3 1 rfl rfl)
theorem dX7_gives_74 : decode cX7_gives 74 = .ok (.iinc 8 1, 3) := dk_132 8 1 (dk_at dksX7_gives_3 4 rfl rfl)
theorem dX7_gives_77 : decode cX7_gives 77 = .ok (.goto (-19), 3) := dk_167 255 237 (dk_at dksX7_gives_3 7 rfl rfl)
theorem dX7_gives_80 : decode cX7_gives 80 = .ok (.aload_n 0, 1) := dk_42 (dk_at dksX7_gives_3 10 rfl rfl)
theorem dX7_gives_81 : decode cX7_gives 81 = .ok (.iload 7, 2) := dk_21 7 (dk_at dksX7_gives_3 11 rfl rfl)
theorem dX7_gives_83 : decode cX7_gives 83 = .ok (.iconst 0, 1) := dk_3 (dk_at dksX7_gives_3 13 rfl rfl)
theorem dX7_gives_84 : decode cX7_gives 84 = .ok (.iload_n 1, 1) := dk_27 (dk_at dksX7_gives_3 14 rfl rfl)
theorem dX7_gives_85 : decode cX7_gives 85 = .ok (.invokevirtual 135, 3) := dk_182 0 135 (dk_at dksX7_gives_3 15 rfl rfl)
theorem dX7_gives_88 : decode cX7_gives 88 = .ok (.aload_n 0, 1) := dk_42 (dk_at dksX7_gives_3 18 rfl rfl)
theorem dX7_gives_89 : decode cX7_gives 89 = .ok (.iload 7, 2) := dk_21 7 (dk_at dksX7_gives_3 19 rfl rfl)
theorem dX7_gives_91 : decode cX7_gives 91 = .ok (.iconst 1, 1) := dk_4 (dk_at dksX7_gives_3 21 rfl rfl)
theorem dX7_gives_92 : decode cX7_gives 92 = .ok (.iload_n 3, 1) := dk_29 (dk_at dksX7_gives_3 22 rfl rfl)
theorem dX7_gives_93 : decode cX7_gives 93 = .ok (.invokevirtual 135, 3) := dk_182 0 135 (dk_at dksX7_gives_4 0 rfl rfl)
theorem dX7_gives_96 : decode cX7_gives 96 = .ok (.aload_n 0, 1) := dk_42 (dk_at dksX7_gives_4 3 rfl rfl)
theorem dX7_gives_97 : decode cX7_gives 97 = .ok (.iload 7, 2) := dk_21 7 (dk_at dksX7_gives_4 4 rfl rfl)
theorem dX7_gives_99 : decode cX7_gives 99 = .ok (.iconst 2, 1) := dk_5 (dk_at dksX7_gives_4 6 rfl rfl)
theorem dX7_gives_100 : decode cX7_gives 100 = .ok (.iload_n 2, 1) := dk_28 (dk_at dksX7_gives_4 7 rfl rfl)
theorem dX7_gives_101 : decode cX7_gives 101 = .ok (.invokevirtual 135, 3) := dk_182 0 135 (dk_at dksX7_gives_4 8 rfl rfl)
theorem dX7_gives_104 : decode cX7_gives 104 = .ok (.aload_n 0, 1) := dk_42 (dk_at dksX7_gives_4 11 rfl rfl)
theorem dX7_gives_105 : decode cX7_gives 105 = .ok (.iload 7, 2) := dk_21 7 (dk_at dksX7_gives_4 12 rfl rfl)
theorem dX7_gives_107 : decode cX7_gives 107 = .ok (.iconst 4, 1) := dk_7 (dk_at dksX7_gives_4 14 rfl rfl)
theorem dX7_gives_108 : decode cX7_gives 108 = .ok (.iload 6, 2) := dk_21 6 (dk_at dksX7_gives_4 15 rfl rfl)
theorem dX7_gives_110 : decode cX7_gives 110 = .ok (.invokevirtual 135, 3) := dk_182 0 135 (dk_at dksX7_gives_4 17 rfl rfl)
theorem dX7_gives_113 : decode cX7_gives 113 = .ok (.aload_n 0, 1) := dk_42 (dk_at dksX7_gives_4 20 rfl rfl)
theorem dX7_gives_114 : decode cX7_gives 114 = .ok (.iload 7, 2) := dk_21 7 (dk_at dksX7_gives_4 21 rfl rfl)
theorem dX7_gives_116 : decode cX7_gives 116 = .ok (.iconst 5, 1) := dk_8 (dk_at dksX7_gives_4 23 rfl rfl)
theorem dX7_gives_117 : decode cX7_gives 117 = .ok (.iload 5, 2) := dk_21 5 (dk_at dksX7_gives_5 0 rfl rfl)
theorem dX7_gives_119 : decode cX7_gives 119 = .ok (.ifCond .eq 7, 3) := dk_153 0 7 (dk_at dksX7_gives_5 2 rfl rfl)
theorem dX7_gives_122 : decode cX7_gives 122 = .ok (.iconst 1, 1) := dk_4 (dk_at dksX7_gives_5 5 rfl rfl)
theorem dX7_gives_123 : decode cX7_gives 123 = .ok (.goto 4, 3) := dk_167 0 4 (dk_at dksX7_gives_5 6 rfl rfl)
theorem dX7_gives_126 : decode cX7_gives 126 = .ok (.iconst 0, 1) := dk_3 (dk_at dksX7_gives_5 9 rfl rfl)
theorem dX7_gives_127 : decode cX7_gives 127 = .ok (.invokevirtual 135, 3) := dk_182 0 135 (dk_at dksX7_gives_5 10 rfl rfl)
theorem dX7_gives_130 : decode cX7_gives 130 = .ok (.aload_n 0, 1) := dk_42 (dk_at dksX7_gives_5 13 rfl rfl)
theorem dX7_gives_131 : decode cX7_gives 131 = .ok (.iload 7, 2) := dk_21 7 (dk_at dksX7_gives_5 14 rfl rfl)
theorem dX7_gives_133 : decode cX7_gives 133 = .ok (.bipush 6, 2) := dk_16 6 (dk_at dksX7_gives_5 16 rfl rfl)
theorem dX7_gives_135 : decode cX7_gives 135 = .ok (.iconst 2, 1) := dk_5 (dk_at dksX7_gives_5 18 rfl rfl)
theorem dX7_gives_136 : decode cX7_gives 136 = .ok (.invokevirtual 135, 3) := dk_182 0 135 (dk_at dksX7_gives_5 19 rfl rfl)
theorem dX7_gives_139 : decode cX7_gives 139 = .ok (.aload_n 0, 1) := dk_42 (dk_at dksX7_gives_5 22 rfl rfl)
theorem dX7_gives_140 : decode cX7_gives 140 = .ok (.iload 7, 2) := dk_21 7 (dk_at dksX7_gives_6 0 rfl rfl)
theorem dX7_gives_142 : decode cX7_gives 142 = .ok (.bipush 7, 2) := dk_16 7 (dk_at dksX7_gives_6 2 rfl rfl)
theorem dX7_gives_144 : decode cX7_gives 144 = .ok (.iload_n 1, 1) := dk_27 (dk_at dksX7_gives_6 4 rfl rfl)
theorem dX7_gives_145 : decode cX7_gives 145 = .ok (.invokevirtual 135, 3) := dk_182 0 135 (dk_at dksX7_gives_6 5 rfl rfl)
theorem dX7_gives_148 : decode cX7_gives 148 = .ok (.aload_n 0, 1) := dk_42 (dk_at dksX7_gives_6 8 rfl rfl)
theorem dX7_gives_149 : decode cX7_gives 149 = .ok (.iload 7, 2) := dk_21 7 (dk_at dksX7_gives_6 9 rfl rfl)
theorem dX7_gives_151 : decode cX7_gives 151 = .ok (.bipush 8, 2) := dk_16 8 (dk_at dksX7_gives_6 11 rfl rfl)
theorem dX7_gives_153 : decode cX7_gives 153 = .ok (.iload_n 2, 1) := dk_28 (dk_at dksX7_gives_6 13 rfl rfl)
theorem dX7_gives_154 : decode cX7_gives 154 = .ok (.invokevirtual 135, 3) := dk_182 0 135 (dk_at dksX7_gives_6 14 rfl rfl)
theorem dX7_gives_157 : decode cX7_gives 157 = .ok (.iload 7, 2) := dk_21 7 (dk_at dksX7_gives_6 17 rfl rfl)
theorem dX7_gives_159 : decode cX7_gives 159 = .ok (.ireturn, 1) := dk_172 (dk_at dksX7_gives_6 19 rfl rfl)
abbrev cX7_canGive : ByteArray := prog_23_method_37_code
def yX7_canGive : MethodName := ⟨RX7, "canGive", "(IIIIZ)Z"⟩
def dkwX7_canGive_2 : List UInt8 := [4, 167, 0, 4, 3, 172]
abbrev dktX7_canGive_2 : List UInt8 := dkwX7_canGive_2 ++ []
def dkwX7_canGive_1 : List UInt8 := [29, 3, 21, 4, 21, 5, 3, 182, 0, 242, 153, 0, 18, 42, 180, 0, 7, 6, 46, 16, 40, 162, 0, 7]
abbrev dktX7_canGive_1 : List UInt8 := dkwX7_canGive_1 ++ dktX7_canGive_2
def dkwX7_canGive_0 : List UInt8 := [42, 27, 182, 0, 235, 29, 96, 42, 180, 0, 7, 16, 10, 6, 27, 104, 96, 46, 163, 0, 34, 42, 28, 27]
abbrev dktX7_canGive_0 : List UInt8 := dkwX7_canGive_0 ++ dktX7_canGive_1
theorem dksX7_canGive_0 : cX7_canGive.data.toList.drop 0 = dktX7_canGive_0 := by decide +kernel
theorem dksX7_canGive_1 : cX7_canGive.data.toList.drop 24 = dktX7_canGive_1 := dk_seg dksX7_canGive_0 24 rfl rfl
theorem dksX7_canGive_2 : cX7_canGive.data.toList.drop 48 = dktX7_canGive_2 := dk_seg dksX7_canGive_1 24 rfl rfl
theorem dX7_canGive_0 : decode cX7_canGive 0 = .ok (.aload_n 0, 1) := dk_42 (dk_at dksX7_canGive_0 0 rfl rfl)
theorem dX7_canGive_1 : decode cX7_canGive 1 = .ok (.iload_n 1, 1) := dk_27 (dk_at dksX7_canGive_0 1 rfl rfl)
theorem dX7_canGive_2 : decode cX7_canGive 2 = .ok (.invokevirtual 235, 3) := dk_182 0 235 (dk_at dksX7_canGive_0 2 rfl rfl)
theorem dX7_canGive_5 : decode cX7_canGive 5 = .ok (.iload_n 3, 1) := dk_29 (dk_at dksX7_canGive_0 5 rfl rfl)
theorem dX7_canGive_6 : decode cX7_canGive 6 = .ok (.iadd, 1) := dk_96 (dk_at dksX7_canGive_0 6 rfl rfl)
theorem dX7_canGive_7 : decode cX7_canGive 7 = .ok (.aload_n 0, 1) := dk_42 (dk_at dksX7_canGive_0 7 rfl rfl)
theorem dX7_canGive_8 : decode cX7_canGive 8 = .ok (.getfield 7, 3) := dk_180 0 7 (dk_at dksX7_canGive_0 8 rfl rfl)
theorem dX7_canGive_11 : decode cX7_canGive 11 = .ok (.bipush 10, 2) := dk_16 10 (dk_at dksX7_canGive_0 11 rfl rfl)
theorem dX7_canGive_13 : decode cX7_canGive 13 = .ok (.iconst 3, 1) := dk_6 (dk_at dksX7_canGive_0 13 rfl rfl)
theorem dX7_canGive_14 : decode cX7_canGive 14 = .ok (.iload_n 1, 1) := dk_27 (dk_at dksX7_canGive_0 14 rfl rfl)
theorem dX7_canGive_15 : decode cX7_canGive 15 = .ok (.imul, 1) := dk_104 (dk_at dksX7_canGive_0 15 rfl rfl)
theorem dX7_canGive_16 : decode cX7_canGive 16 = .ok (.iadd, 1) := dk_96 (dk_at dksX7_canGive_0 16 rfl rfl)
theorem dX7_canGive_17 : decode cX7_canGive 17 = .ok (.iaload, 1) := dk_46 (dk_at dksX7_canGive_0 17 rfl rfl)
theorem dX7_canGive_18 : decode cX7_canGive 18 = .ok (.if_icmp .gt 34, 3) := dk_163 0 34 (dk_at dksX7_canGive_0 18 rfl rfl)
theorem dX7_canGive_21 : decode cX7_canGive 21 = .ok (.aload_n 0, 1) := dk_42 (dk_at dksX7_canGive_0 21 rfl rfl)
theorem dX7_canGive_22 : decode cX7_canGive 22 = .ok (.iload_n 2, 1) := dk_28 (dk_at dksX7_canGive_0 22 rfl rfl)
theorem dX7_canGive_23 : decode cX7_canGive 23 = .ok (.iload_n 1, 1) := dk_27 (dk_at dksX7_canGive_0 23 rfl rfl)
theorem dX7_canGive_24 : decode cX7_canGive 24 = .ok (.iload_n 3, 1) := dk_29 (dk_at dksX7_canGive_1 0 rfl rfl)
theorem dX7_canGive_25 : decode cX7_canGive 25 = .ok (.iconst 0, 1) := dk_3 (dk_at dksX7_canGive_1 1 rfl rfl)
theorem dX7_canGive_26 : decode cX7_canGive 26 = .ok (.iload 4, 2) := dk_21 4 (dk_at dksX7_canGive_1 2 rfl rfl)
theorem dX7_canGive_28 : decode cX7_canGive 28 = .ok (.iload 5, 2) := dk_21 5 (dk_at dksX7_canGive_1 4 rfl rfl)
theorem dX7_canGive_30 : decode cX7_canGive 30 = .ok (.iconst 0, 1) := dk_3 (dk_at dksX7_canGive_1 6 rfl rfl)
theorem dX7_canGive_31 : decode cX7_canGive 31 = .ok (.invokevirtual 242, 3) := dk_182 0 242 (dk_at dksX7_canGive_1 7 rfl rfl)
theorem dX7_canGive_34 : decode cX7_canGive 34 = .ok (.ifCond .eq 18, 3) := dk_153 0 18 (dk_at dksX7_canGive_1 10 rfl rfl)
theorem dX7_canGive_37 : decode cX7_canGive 37 = .ok (.aload_n 0, 1) := dk_42 (dk_at dksX7_canGive_1 13 rfl rfl)
theorem dX7_canGive_38 : decode cX7_canGive 38 = .ok (.getfield 7, 3) := dk_180 0 7 (dk_at dksX7_canGive_1 14 rfl rfl)
theorem dX7_canGive_41 : decode cX7_canGive 41 = .ok (.iconst 3, 1) := dk_6 (dk_at dksX7_canGive_1 17 rfl rfl)
theorem dX7_canGive_42 : decode cX7_canGive 42 = .ok (.iaload, 1) := dk_46 (dk_at dksX7_canGive_1 18 rfl rfl)
theorem dX7_canGive_43 : decode cX7_canGive 43 = .ok (.bipush 40, 2) := dk_16 40 (dk_at dksX7_canGive_1 19 rfl rfl)
theorem dX7_canGive_45 : decode cX7_canGive 45 = .ok (.if_icmp .ge 7, 3) := dk_162 0 7 (dk_at dksX7_canGive_1 21 rfl rfl)
theorem dX7_canGive_48 : decode cX7_canGive 48 = .ok (.iconst 1, 1) := dk_4 (dk_at dksX7_canGive_2 0 rfl rfl)
theorem dX7_canGive_49 : decode cX7_canGive 49 = .ok (.goto 4, 3) := dk_167 0 4 (dk_at dksX7_canGive_2 1 rfl rfl)
theorem dX7_canGive_52 : decode cX7_canGive 52 = .ok (.iconst 0, 1) := dk_3 (dk_at dksX7_canGive_2 4 rfl rfl)
theorem dX7_canGive_53 : decode cX7_canGive 53 = .ok (.ireturn, 1) := dk_172 (dk_at dksX7_canGive_2 5 rfl rfl)
abbrev cX7_debtOf : ByteArray := prog_23_method_34_code
def yX7_debtOf : MethodName := ⟨RX7, "debtOf", "(I)I"⟩
def dkwX7_debtOf_2 : List UInt8 := [61, 132, 3, 1, 167, 255, 210, 28, 172]
abbrev dktX7_debtOf_2 : List UInt8 := dkwX7_debtOf_2 ++ []
def dkwX7_debtOf_1 : List UInt8 := [160, 0, 22, 42, 29, 5, 182, 0, 127, 2, 159, 0, 12, 42, 29, 4, 182, 0, 127, 167, 0, 4, 3, 96]
abbrev dktX7_debtOf_1 : List UInt8 := dkwX7_debtOf_1 ++ dktX7_debtOf_2
def dkwX7_debtOf_0 : List UInt8 := [3, 61, 3, 62, 29, 42, 180, 0, 7, 6, 46, 162, 0, 42, 28, 42, 29, 3, 182, 0, 127, 27]
abbrev dktX7_debtOf_0 : List UInt8 := dkwX7_debtOf_0 ++ dktX7_debtOf_1
theorem dksX7_debtOf_0 : cX7_debtOf.data.toList.drop 0 = dktX7_debtOf_0 := by decide +kernel
theorem dksX7_debtOf_1 : cX7_debtOf.data.toList.drop 22 = dktX7_debtOf_1 := dk_seg dksX7_debtOf_0 22 rfl rfl
theorem dksX7_debtOf_2 : cX7_debtOf.data.toList.drop 46 = dktX7_debtOf_2 := dk_seg dksX7_debtOf_1 24 rfl rfl
theorem dX7_debtOf_0 : decode cX7_debtOf 0 = .ok (.iconst 0, 1) := dk_3 (dk_at dksX7_debtOf_0 0 rfl rfl)
theorem dX7_debtOf_1 : decode cX7_debtOf 1 = .ok (.istore_n 2, 1) := dk_61 (dk_at dksX7_debtOf_0 1 rfl rfl)
theorem dX7_debtOf_2 : decode cX7_debtOf 2 = .ok (.iconst 0, 1) := dk_3 (dk_at dksX7_debtOf_0 2 rfl rfl)
theorem dX7_debtOf_3 : decode cX7_debtOf 3 = .ok (.istore_n 3, 1) := dk_62 (dk_at dksX7_debtOf_0 3 rfl rfl)
theorem dX7_debtOf_4 : decode cX7_debtOf 4 = .ok (.iload_n 3, 1) := dk_29 (dk_at dksX7_debtOf_0 4 rfl rfl)
theorem dX7_debtOf_5 : decode cX7_debtOf 5 = .ok (.aload_n 0, 1) := dk_42 (dk_at dksX7_debtOf_0 5 rfl rfl)
theorem dX7_debtOf_6 : decode cX7_debtOf 6 = .ok (.getfield 7, 3) := dk_180 0 7 (dk_at dksX7_debtOf_0 6 rfl rfl)
theorem dX7_debtOf_9 : decode cX7_debtOf 9 = .ok (.iconst 3, 1) := dk_6 (dk_at dksX7_debtOf_0 9 rfl rfl)
theorem dX7_debtOf_10 : decode cX7_debtOf 10 = .ok (.iaload, 1) := dk_46 (dk_at dksX7_debtOf_0 10 rfl rfl)
theorem dX7_debtOf_11 : decode cX7_debtOf 11 = .ok (.if_icmp .ge 42, 3) := dk_162 0 42 (dk_at dksX7_debtOf_0 11 rfl rfl)
theorem dX7_debtOf_14 : decode cX7_debtOf 14 = .ok (.iload_n 2, 1) := dk_28 (dk_at dksX7_debtOf_0 14 rfl rfl)
theorem dX7_debtOf_15 : decode cX7_debtOf 15 = .ok (.aload_n 0, 1) := dk_42 (dk_at dksX7_debtOf_0 15 rfl rfl)
theorem dX7_debtOf_16 : decode cX7_debtOf 16 = .ok (.iload_n 3, 1) := dk_29 (dk_at dksX7_debtOf_0 16 rfl rfl)
theorem dX7_debtOf_17 : decode cX7_debtOf 17 = .ok (.iconst 0, 1) := dk_3 (dk_at dksX7_debtOf_0 17 rfl rfl)
theorem dX7_debtOf_18 : decode cX7_debtOf 18 = .ok (.invokevirtual 127, 3) := dk_182 0 127 (dk_at dksX7_debtOf_0 18 rfl rfl)
theorem dX7_debtOf_21 : decode cX7_debtOf 21 = .ok (.iload_n 1, 1) := dk_27 (dk_at dksX7_debtOf_0 21 rfl rfl)
theorem dX7_debtOf_22 : decode cX7_debtOf 22 = .ok (.if_icmp .ne 22, 3) := dk_160 0 22 (dk_at dksX7_debtOf_1 0 rfl rfl)
theorem dX7_debtOf_25 : decode cX7_debtOf 25 = .ok (.aload_n 0, 1) := dk_42 (dk_at dksX7_debtOf_1 3 rfl rfl)
theorem dX7_debtOf_26 : decode cX7_debtOf 26 = .ok (.iload_n 3, 1) := dk_29 (dk_at dksX7_debtOf_1 4 rfl rfl)
theorem dX7_debtOf_27 : decode cX7_debtOf 27 = .ok (.iconst 2, 1) := dk_5 (dk_at dksX7_debtOf_1 5 rfl rfl)
theorem dX7_debtOf_28 : decode cX7_debtOf 28 = .ok (.invokevirtual 127, 3) := dk_182 0 127 (dk_at dksX7_debtOf_1 6 rfl rfl)
theorem dX7_debtOf_31 : decode cX7_debtOf 31 = .ok (.iconst (-1), 1) := dk_2 (dk_at dksX7_debtOf_1 9 rfl rfl)
theorem dX7_debtOf_32 : decode cX7_debtOf 32 = .ok (.if_icmp .eq 12, 3) := dk_159 0 12 (dk_at dksX7_debtOf_1 10 rfl rfl)
theorem dX7_debtOf_35 : decode cX7_debtOf 35 = .ok (.aload_n 0, 1) := dk_42 (dk_at dksX7_debtOf_1 13 rfl rfl)
theorem dX7_debtOf_36 : decode cX7_debtOf 36 = .ok (.iload_n 3, 1) := dk_29 (dk_at dksX7_debtOf_1 14 rfl rfl)
theorem dX7_debtOf_37 : decode cX7_debtOf 37 = .ok (.iconst 1, 1) := dk_4 (dk_at dksX7_debtOf_1 15 rfl rfl)
theorem dX7_debtOf_38 : decode cX7_debtOf 38 = .ok (.invokevirtual 127, 3) := dk_182 0 127 (dk_at dksX7_debtOf_1 16 rfl rfl)
theorem dX7_debtOf_41 : decode cX7_debtOf 41 = .ok (.goto 4, 3) := dk_167 0 4 (dk_at dksX7_debtOf_1 19 rfl rfl)
theorem dX7_debtOf_44 : decode cX7_debtOf 44 = .ok (.iconst 0, 1) := dk_3 (dk_at dksX7_debtOf_1 22 rfl rfl)
theorem dX7_debtOf_45 : decode cX7_debtOf 45 = .ok (.iadd, 1) := dk_96 (dk_at dksX7_debtOf_1 23 rfl rfl)
theorem dX7_debtOf_46 : decode cX7_debtOf 46 = .ok (.istore_n 2, 1) := dk_61 (dk_at dksX7_debtOf_2 0 rfl rfl)
theorem dX7_debtOf_47 : decode cX7_debtOf 47 = .ok (.iinc 3 1, 3) := dk_132 3 1 (dk_at dksX7_debtOf_2 1 rfl rfl)
theorem dX7_debtOf_50 : decode cX7_debtOf 50 = .ok (.goto (-46), 3) := dk_167 255 210 (dk_at dksX7_debtOf_2 4 rfl rfl)
theorem dX7_debtOf_53 : decode cX7_debtOf 53 = .ok (.iload_n 2, 1) := dk_28 (dk_at dksX7_debtOf_2 7 rfl rfl)
theorem dX7_debtOf_54 : decode cX7_debtOf 54 = .ok (.ireturn, 1) := dk_172 (dk_at dksX7_debtOf_2 8 rfl rfl)
abbrev cX7_of : ByteArray := prog_23_method_6_code
def yX7_of : MethodName := ⟨RX7, "of", "(II)I"⟩
def dkwX7_of_0 : List UInt8 := [42, 180, 0, 7, 17, 0, 140, 16, 20, 27, 104, 96, 28, 96, 46, 172]
abbrev dktX7_of_0 : List UInt8 := dkwX7_of_0 ++ []
theorem dksX7_of_0 : cX7_of.data.toList.drop 0 = dktX7_of_0 := by decide +kernel
theorem dX7_of_0 : decode cX7_of 0 = .ok (.aload_n 0, 1) := dk_42 (dk_at dksX7_of_0 0 rfl rfl)
theorem dX7_of_1 : decode cX7_of 1 = .ok (.getfield 7, 3) := dk_180 0 7 (dk_at dksX7_of_0 1 rfl rfl)
theorem dX7_of_4 : decode cX7_of 4 = .ok (.sipush 140, 3) := dk_17 0 140 (dk_at dksX7_of_0 4 rfl rfl)
theorem dX7_of_7 : decode cX7_of 7 = .ok (.bipush 20, 2) := dk_16 20 (dk_at dksX7_of_0 7 rfl rfl)
theorem dX7_of_9 : decode cX7_of 9 = .ok (.iload_n 1, 1) := dk_27 (dk_at dksX7_of_0 9 rfl rfl)
theorem dX7_of_10 : decode cX7_of 10 = .ok (.imul, 1) := dk_104 (dk_at dksX7_of_0 10 rfl rfl)
theorem dX7_of_11 : decode cX7_of 11 = .ok (.iadd, 1) := dk_96 (dk_at dksX7_of_0 11 rfl rfl)
theorem dX7_of_12 : decode cX7_of 12 = .ok (.iload_n 2, 1) := dk_28 (dk_at dksX7_of_0 12 rfl rfl)
theorem dX7_of_13 : decode cX7_of 13 = .ok (.iadd, 1) := dk_96 (dk_at dksX7_of_0 13 rfl rfl)
theorem dX7_of_14 : decode cX7_of 14 = .ok (.iaload, 1) := dk_46 (dk_at dksX7_of_0 14 rfl rfl)
theorem dX7_of_15 : decode cX7_of 15 = .ok (.ireturn, 1) := dk_172 (dk_at dksX7_of_0 15 rfl rfl)
abbrev cX7_wouldTake : ByteArray := prog_23_method_35_code
def yX7_wouldTake : MethodName := ⟨RX7, "wouldTake", "(IIIIIZZ)Z"⟩
def dkwX7_wouldTake_11 : List UInt8 := [160, 0, 7, 4, 167, 0, 4, 3, 172]
abbrev dktX7_wouldTake_11 : List UInt8 := dkwX7_wouldTake_11 ++ []
def dkwX7_wouldTake_10 : List UInt8 := [21, 11, 181, 0, 69, 42, 21, 12, 181, 0, 66, 42, 21, 13, 181, 0, 150, 42, 180, 0, 223, 4]
abbrev dktX7_wouldTake_10 : List UInt8 := dkwX7_wouldTake_10 ++ dktX7_wouldTake_11
def dkwX7_wouldTake_9 : List UInt8 := [42, 2, 181, 0, 223, 42, 4, 182, 0, 163, 42, 21, 9, 181, 0, 22, 42, 21, 10, 181, 0, 63, 42]
abbrev dktX7_wouldTake_9 : List UInt8 := dkwX7_wouldTake_9 ++ dktX7_wouldTake_10
def dkwX7_wouldTake_8 : List UInt8 := [21, 8, 104, 96, 4, 96, 181, 0, 63, 42, 42, 180, 0, 7, 42, 180, 0, 63, 4, 100, 46, 181, 0, 69]
abbrev dktX7_wouldTake_8 : List UInt8 := dkwX7_wouldTake_8 ++ dktX7_wouldTake_9
def dkwX7_wouldTake_7 : List UInt8 := [180, 0, 66, 54, 12, 42, 180, 0, 150, 54, 13, 42, 2, 181, 0, 22, 42, 17, 3, 172, 17, 1, 145]
abbrev dktX7_wouldTake_7 : List UInt8 := dkwX7_wouldTake_7 ++ dktX7_wouldTake_8
def dkwX7_wouldTake_6 : List UInt8 := [21, 7, 181, 0, 192, 42, 180, 0, 22, 54, 9, 42, 180, 0, 63, 54, 10, 42, 180, 0, 69, 54, 11, 42]
abbrev dktX7_wouldTake_6 : List UInt8 := dkwX7_wouldTake_6 ++ dktX7_wouldTake_7
def dkwX7_wouldTake_5 : List UInt8 := [28, 27, 182, 0, 238, 181, 0, 181, 42, 21, 5, 2, 159, 0, 7, 4, 167, 0, 4, 3, 181, 0, 187, 42]
abbrev dktX7_wouldTake_5 : List UInt8 := dkwX7_wouldTake_5 ++ dktX7_wouldTake_6
def dkwX7_wouldTake_4 : List UInt8 := [7, 42, 27, 182, 0, 232, 17, 4, 0, 108, 79, 42, 180, 0, 26, 8, 42, 28, 182, 0, 235, 79, 42, 42]
abbrev dktX7_wouldTake_4 : List UInt8 := dkwX7_wouldTake_4 ++ dktX7_wouldTake_5
def dkwX7_wouldTake_3 : List UInt8 := [160, 0, 9, 17, 3, 231, 167, 0, 13, 21, 5, 42, 180, 0, 7, 16, 6, 46, 100, 79, 42, 180, 0, 26]
abbrev dktX7_wouldTake_3 : List UInt8 := dkwX7_wouldTake_3 ++ dktX7_wouldTake_4
def dkwX7_wouldTake_2 : List UInt8 := [180, 0, 26, 4, 29, 79, 42, 180, 0, 26, 5, 21, 4, 79, 42, 180, 0, 26, 6, 21, 5, 2]
abbrev dktX7_wouldTake_2 : List UInt8 := dkwX7_wouldTake_2 ++ dktX7_wouldTake_3
def dkwX7_wouldTake_1 : List UInt8 := [160, 0, 5, 4, 172, 42, 180, 0, 26, 3, 29, 21, 4, 184, 0, 229, 17, 4, 0, 108, 79, 42]
abbrev dktX7_wouldTake_1 : List UInt8 := dkwX7_wouldTake_1 ++ dktX7_wouldTake_2
def dkwX7_wouldTake_0 : List UInt8 := [42, 180, 0, 7, 16, 10, 6, 27, 104, 96, 4, 96, 46, 54, 8, 21, 6, 154, 0, 9, 21, 8, 2]
abbrev dktX7_wouldTake_0 : List UInt8 := dkwX7_wouldTake_0 ++ dktX7_wouldTake_1
theorem dksX7_wouldTake_0 : cX7_wouldTake.data.toList.drop 0 = dktX7_wouldTake_0 := by decide +kernel
theorem dksX7_wouldTake_1 : cX7_wouldTake.data.toList.drop 23 = dktX7_wouldTake_1 := dk_seg dksX7_wouldTake_0 23 rfl rfl
theorem dksX7_wouldTake_2 : cX7_wouldTake.data.toList.drop 45 = dktX7_wouldTake_2 := dk_seg dksX7_wouldTake_1 22 rfl rfl
theorem dksX7_wouldTake_3 : cX7_wouldTake.data.toList.drop 67 = dktX7_wouldTake_3 := dk_seg dksX7_wouldTake_2 22 rfl rfl
theorem dksX7_wouldTake_4 : cX7_wouldTake.data.toList.drop 91 = dktX7_wouldTake_4 := dk_seg dksX7_wouldTake_3 24 rfl rfl
theorem dksX7_wouldTake_5 : cX7_wouldTake.data.toList.drop 115 = dktX7_wouldTake_5 := dk_seg dksX7_wouldTake_4 24 rfl rfl
theorem dksX7_wouldTake_6 : cX7_wouldTake.data.toList.drop 139 = dktX7_wouldTake_6 := dk_seg dksX7_wouldTake_5 24 rfl rfl
theorem dksX7_wouldTake_7 : cX7_wouldTake.data.toList.drop 163 = dktX7_wouldTake_7 := dk_seg dksX7_wouldTake_6 24 rfl rfl
theorem dksX7_wouldTake_8 : cX7_wouldTake.data.toList.drop 186 = dktX7_wouldTake_8 := dk_seg dksX7_wouldTake_7 23 rfl rfl
theorem dksX7_wouldTake_9 : cX7_wouldTake.data.toList.drop 210 = dktX7_wouldTake_9 := dk_seg dksX7_wouldTake_8 24 rfl rfl
theorem dksX7_wouldTake_10 : cX7_wouldTake.data.toList.drop 233 = dktX7_wouldTake_10 := dk_seg dksX7_wouldTake_9 23 rfl rfl
theorem dksX7_wouldTake_11 : cX7_wouldTake.data.toList.drop 255 = dktX7_wouldTake_11 := dk_seg dksX7_wouldTake_10 22 rfl rfl
theorem dX7_wouldTake_0 : decode cX7_wouldTake 0 = .ok (.aload_n 0, 1) := dk_42 (dk_at dksX7_wouldTake_0 0 rfl rfl)
theorem dX7_wouldTake_1 : decode cX7_wouldTake 1 = .ok (.getfield 7, 3) := dk_180 0 7 (dk_at dksX7_wouldTake_0 1 rfl rfl)
theorem dX7_wouldTake_4 : decode cX7_wouldTake 4 = .ok (.bipush 10, 2) := dk_16 10 (dk_at dksX7_wouldTake_0 4 rfl rfl)
theorem dX7_wouldTake_6 : decode cX7_wouldTake 6 = .ok (.iconst 3, 1) := dk_6 (dk_at dksX7_wouldTake_0 6 rfl rfl)
theorem dX7_wouldTake_7 : decode cX7_wouldTake 7 = .ok (.iload_n 1, 1) := dk_27 (dk_at dksX7_wouldTake_0 7 rfl rfl)
theorem dX7_wouldTake_8 : decode cX7_wouldTake 8 = .ok (.imul, 1) := dk_104 (dk_at dksX7_wouldTake_0 8 rfl rfl)
theorem dX7_wouldTake_9 : decode cX7_wouldTake 9 = .ok (.iadd, 1) := dk_96 (dk_at dksX7_wouldTake_0 9 rfl rfl)
theorem dX7_wouldTake_10 : decode cX7_wouldTake 10 = .ok (.iconst 1, 1) := dk_4 (dk_at dksX7_wouldTake_0 10 rfl rfl)
theorem dX7_wouldTake_11 : decode cX7_wouldTake 11 = .ok (.iadd, 1) := dk_96 (dk_at dksX7_wouldTake_0 11 rfl rfl)
theorem dX7_wouldTake_12 : decode cX7_wouldTake 12 = .ok (.iaload, 1) := dk_46 (dk_at dksX7_wouldTake_0 12 rfl rfl)
theorem dX7_wouldTake_13 : decode cX7_wouldTake 13 = .ok (.istore 8, 2) := dk_54 8 (dk_at dksX7_wouldTake_0 13 rfl rfl)
theorem dX7_wouldTake_15 : decode cX7_wouldTake 15 = .ok (.iload 6, 2) := dk_21 6 (dk_at dksX7_wouldTake_0 15 rfl rfl)
theorem dX7_wouldTake_17 : decode cX7_wouldTake 17 = .ok (.ifCond .ne 9, 3) := dk_154 0 9 (dk_at dksX7_wouldTake_0 17 rfl rfl)
theorem dX7_wouldTake_20 : decode cX7_wouldTake 20 = .ok (.iload 8, 2) := dk_21 8 (dk_at dksX7_wouldTake_0 20 rfl rfl)
theorem dX7_wouldTake_22 : decode cX7_wouldTake 22 = .ok (.iconst (-1), 1) := dk_2 (dk_at dksX7_wouldTake_0 22 rfl rfl)
theorem dX7_wouldTake_23 : decode cX7_wouldTake 23 = .ok (.if_icmp .ne 5, 3) := dk_160 0 5 (dk_at dksX7_wouldTake_1 0 rfl rfl)
theorem dX7_wouldTake_26 : decode cX7_wouldTake 26 = .ok (.iconst 1, 1) := dk_4 (dk_at dksX7_wouldTake_1 3 rfl rfl)
theorem dX7_wouldTake_27 : decode cX7_wouldTake 27 = .ok (.ireturn, 1) := dk_172 (dk_at dksX7_wouldTake_1 4 rfl rfl)
theorem dX7_wouldTake_28 : decode cX7_wouldTake 28 = .ok (.aload_n 0, 1) := dk_42 (dk_at dksX7_wouldTake_1 5 rfl rfl)
theorem dX7_wouldTake_29 : decode cX7_wouldTake 29 = .ok (.getfield 26, 3) := dk_180 0 26 (dk_at dksX7_wouldTake_1 6 rfl rfl)
theorem dX7_wouldTake_32 : decode cX7_wouldTake 32 = .ok (.iconst 0, 1) := dk_3 (dk_at dksX7_wouldTake_1 9 rfl rfl)
theorem dX7_wouldTake_33 : decode cX7_wouldTake 33 = .ok (.iload_n 3, 1) := dk_29 (dk_at dksX7_wouldTake_1 10 rfl rfl)
theorem dX7_wouldTake_34 : decode cX7_wouldTake 34 = .ok (.iload 4, 2) := dk_21 4 (dk_at dksX7_wouldTake_1 11 rfl rfl)
theorem dX7_wouldTake_36 : decode cX7_wouldTake 36 = .ok (.invokestatic 229, 3) := dk_184 0 229 (dk_at dksX7_wouldTake_1 13 rfl rfl)
theorem dX7_wouldTake_39 : decode cX7_wouldTake 39 = .ok (.sipush 1024, 3) := dk_17 4 0 (dk_at dksX7_wouldTake_1 16 rfl rfl)
theorem dX7_wouldTake_42 : decode cX7_wouldTake 42 = .ok (.idiv, 1) := dk_108 (dk_at dksX7_wouldTake_1 19 rfl rfl)
theorem dX7_wouldTake_43 : decode cX7_wouldTake 43 = .ok (.iastore, 1) := dk_79 (dk_at dksX7_wouldTake_1 20 rfl rfl)
theorem dX7_wouldTake_44 : decode cX7_wouldTake 44 = .ok (.aload_n 0, 1) := dk_42 (dk_at dksX7_wouldTake_1 21 rfl rfl)
theorem dX7_wouldTake_45 : decode cX7_wouldTake 45 = .ok (.getfield 26, 3) := dk_180 0 26 (dk_at dksX7_wouldTake_2 0 rfl rfl)
theorem dX7_wouldTake_48 : decode cX7_wouldTake 48 = .ok (.iconst 1, 1) := dk_4 (dk_at dksX7_wouldTake_2 3 rfl rfl)
theorem dX7_wouldTake_49 : decode cX7_wouldTake 49 = .ok (.iload_n 3, 1) := dk_29 (dk_at dksX7_wouldTake_2 4 rfl rfl)
theorem dX7_wouldTake_50 : decode cX7_wouldTake 50 = .ok (.iastore, 1) := dk_79 (dk_at dksX7_wouldTake_2 5 rfl rfl)
theorem dX7_wouldTake_51 : decode cX7_wouldTake 51 = .ok (.aload_n 0, 1) := dk_42 (dk_at dksX7_wouldTake_2 6 rfl rfl)
theorem dX7_wouldTake_52 : decode cX7_wouldTake 52 = .ok (.getfield 26, 3) := dk_180 0 26 (dk_at dksX7_wouldTake_2 7 rfl rfl)
theorem dX7_wouldTake_55 : decode cX7_wouldTake 55 = .ok (.iconst 2, 1) := dk_5 (dk_at dksX7_wouldTake_2 10 rfl rfl)
theorem dX7_wouldTake_56 : decode cX7_wouldTake 56 = .ok (.iload 4, 2) := dk_21 4 (dk_at dksX7_wouldTake_2 11 rfl rfl)
theorem dX7_wouldTake_58 : decode cX7_wouldTake 58 = .ok (.iastore, 1) := dk_79 (dk_at dksX7_wouldTake_2 13 rfl rfl)
theorem dX7_wouldTake_59 : decode cX7_wouldTake 59 = .ok (.aload_n 0, 1) := dk_42 (dk_at dksX7_wouldTake_2 14 rfl rfl)
theorem dX7_wouldTake_60 : decode cX7_wouldTake 60 = .ok (.getfield 26, 3) := dk_180 0 26 (dk_at dksX7_wouldTake_2 15 rfl rfl)
theorem dX7_wouldTake_63 : decode cX7_wouldTake 63 = .ok (.iconst 3, 1) := dk_6 (dk_at dksX7_wouldTake_2 18 rfl rfl)
theorem dX7_wouldTake_64 : decode cX7_wouldTake 64 = .ok (.iload 5, 2) := dk_21 5 (dk_at dksX7_wouldTake_2 19 rfl rfl)
theorem dX7_wouldTake_66 : decode cX7_wouldTake 66 = .ok (.iconst (-1), 1) := dk_2 (dk_at dksX7_wouldTake_2 21 rfl rfl)
theorem dX7_wouldTake_67 : decode cX7_wouldTake 67 = .ok (.if_icmp .ne 9, 3) := dk_160 0 9 (dk_at dksX7_wouldTake_3 0 rfl rfl)
theorem dX7_wouldTake_70 : decode cX7_wouldTake 70 = .ok (.sipush 999, 3) := dk_17 3 231 (dk_at dksX7_wouldTake_3 3 rfl rfl)
theorem dX7_wouldTake_73 : decode cX7_wouldTake 73 = .ok (.goto 13, 3) := dk_167 0 13 (dk_at dksX7_wouldTake_3 6 rfl rfl)
theorem dX7_wouldTake_76 : decode cX7_wouldTake 76 = .ok (.iload 5, 2) := dk_21 5 (dk_at dksX7_wouldTake_3 9 rfl rfl)
theorem dX7_wouldTake_78 : decode cX7_wouldTake 78 = .ok (.aload_n 0, 1) := dk_42 (dk_at dksX7_wouldTake_3 11 rfl rfl)
theorem dX7_wouldTake_79 : decode cX7_wouldTake 79 = .ok (.getfield 7, 3) := dk_180 0 7 (dk_at dksX7_wouldTake_3 12 rfl rfl)
theorem dX7_wouldTake_82 : decode cX7_wouldTake 82 = .ok (.bipush 6, 2) := dk_16 6 (dk_at dksX7_wouldTake_3 15 rfl rfl)
theorem dX7_wouldTake_84 : decode cX7_wouldTake 84 = .ok (.iaload, 1) := dk_46 (dk_at dksX7_wouldTake_3 17 rfl rfl)
theorem dX7_wouldTake_85 : decode cX7_wouldTake 85 = .ok (.isub, 1) := dk_100 (dk_at dksX7_wouldTake_3 18 rfl rfl)
theorem dX7_wouldTake_86 : decode cX7_wouldTake 86 = .ok (.iastore, 1) := dk_79 (dk_at dksX7_wouldTake_3 19 rfl rfl)
theorem dX7_wouldTake_87 : decode cX7_wouldTake 87 = .ok (.aload_n 0, 1) := dk_42 (dk_at dksX7_wouldTake_3 20 rfl rfl)
theorem dX7_wouldTake_88 : decode cX7_wouldTake 88 = .ok (.getfield 26, 3) := dk_180 0 26 (dk_at dksX7_wouldTake_3 21 rfl rfl)
theorem dX7_wouldTake_91 : decode cX7_wouldTake 91 = .ok (.iconst 4, 1) := dk_7 (dk_at dksX7_wouldTake_4 0 rfl rfl)
theorem dX7_wouldTake_92 : decode cX7_wouldTake 92 = .ok (.aload_n 0, 1) := dk_42 (dk_at dksX7_wouldTake_4 1 rfl rfl)
theorem dX7_wouldTake_93 : decode cX7_wouldTake 93 = .ok (.iload_n 1, 1) := dk_27 (dk_at dksX7_wouldTake_4 2 rfl rfl)
theorem dX7_wouldTake_94 : decode cX7_wouldTake 94 = .ok (.invokevirtual 232, 3) := dk_182 0 232 (dk_at dksX7_wouldTake_4 3 rfl rfl)
theorem dX7_wouldTake_97 : decode cX7_wouldTake 97 = .ok (.sipush 1024, 3) := dk_17 4 0 (dk_at dksX7_wouldTake_4 6 rfl rfl)
theorem dX7_wouldTake_100 : decode cX7_wouldTake 100 = .ok (.idiv, 1) := dk_108 (dk_at dksX7_wouldTake_4 9 rfl rfl)
theorem dX7_wouldTake_101 : decode cX7_wouldTake 101 = .ok (.iastore, 1) := dk_79 (dk_at dksX7_wouldTake_4 10 rfl rfl)
theorem dX7_wouldTake_102 : decode cX7_wouldTake 102 = .ok (.aload_n 0, 1) := dk_42 (dk_at dksX7_wouldTake_4 11 rfl rfl)
theorem dX7_wouldTake_103 : decode cX7_wouldTake 103 = .ok (.getfield 26, 3) := dk_180 0 26 (dk_at dksX7_wouldTake_4 12 rfl rfl)
theorem dX7_wouldTake_106 : decode cX7_wouldTake 106 = .ok (.iconst 5, 1) := dk_8 (dk_at dksX7_wouldTake_4 15 rfl rfl)
theorem dX7_wouldTake_107 : decode cX7_wouldTake 107 = .ok (.aload_n 0, 1) := dk_42 (dk_at dksX7_wouldTake_4 16 rfl rfl)
theorem dX7_wouldTake_108 : decode cX7_wouldTake 108 = .ok (.iload_n 2, 1) := dk_28 (dk_at dksX7_wouldTake_4 17 rfl rfl)
theorem dX7_wouldTake_109 : decode cX7_wouldTake 109 = .ok (.invokevirtual 235, 3) := dk_182 0 235 (dk_at dksX7_wouldTake_4 18 rfl rfl)
theorem dX7_wouldTake_112 : decode cX7_wouldTake 112 = .ok (.iastore, 1) := dk_79 (dk_at dksX7_wouldTake_4 21 rfl rfl)
theorem dX7_wouldTake_113 : decode cX7_wouldTake 113 = .ok (.aload_n 0, 1) := dk_42 (dk_at dksX7_wouldTake_4 22 rfl rfl)
theorem dX7_wouldTake_114 : decode cX7_wouldTake 114 = .ok (.aload_n 0, 1) := dk_42 (dk_at dksX7_wouldTake_4 23 rfl rfl)
theorem dX7_wouldTake_115 : decode cX7_wouldTake 115 = .ok (.iload_n 2, 1) := dk_28 (dk_at dksX7_wouldTake_5 0 rfl rfl)
theorem dX7_wouldTake_116 : decode cX7_wouldTake 116 = .ok (.iload_n 1, 1) := dk_27 (dk_at dksX7_wouldTake_5 1 rfl rfl)
theorem dX7_wouldTake_117 : decode cX7_wouldTake 117 = .ok (.invokevirtual 238, 3) := dk_182 0 238 (dk_at dksX7_wouldTake_5 2 rfl rfl)
theorem dX7_wouldTake_120 : decode cX7_wouldTake 120 = .ok (.putfield 181, 3) := dk_181 0 181 (dk_at dksX7_wouldTake_5 5 rfl rfl)
theorem dX7_wouldTake_123 : decode cX7_wouldTake 123 = .ok (.aload_n 0, 1) := dk_42 (dk_at dksX7_wouldTake_5 8 rfl rfl)
theorem dX7_wouldTake_124 : decode cX7_wouldTake 124 = .ok (.iload 5, 2) := dk_21 5 (dk_at dksX7_wouldTake_5 9 rfl rfl)
theorem dX7_wouldTake_126 : decode cX7_wouldTake 126 = .ok (.iconst (-1), 1) := dk_2 (dk_at dksX7_wouldTake_5 11 rfl rfl)
theorem dX7_wouldTake_127 : decode cX7_wouldTake 127 = .ok (.if_icmp .eq 7, 3) := dk_159 0 7 (dk_at dksX7_wouldTake_5 12 rfl rfl)
theorem dX7_wouldTake_130 : decode cX7_wouldTake 130 = .ok (.iconst 1, 1) := dk_4 (dk_at dksX7_wouldTake_5 15 rfl rfl)
theorem dX7_wouldTake_131 : decode cX7_wouldTake 131 = .ok (.goto 4, 3) := dk_167 0 4 (dk_at dksX7_wouldTake_5 16 rfl rfl)
theorem dX7_wouldTake_134 : decode cX7_wouldTake 134 = .ok (.iconst 0, 1) := dk_3 (dk_at dksX7_wouldTake_5 19 rfl rfl)
theorem dX7_wouldTake_135 : decode cX7_wouldTake 135 = .ok (.putfield 187, 3) := dk_181 0 187 (dk_at dksX7_wouldTake_5 20 rfl rfl)
theorem dX7_wouldTake_138 : decode cX7_wouldTake 138 = .ok (.aload_n 0, 1) := dk_42 (dk_at dksX7_wouldTake_5 23 rfl rfl)
theorem dX7_wouldTake_139 : decode cX7_wouldTake 139 = .ok (.iload 7, 2) := dk_21 7 (dk_at dksX7_wouldTake_6 0 rfl rfl)
theorem dX7_wouldTake_141 : decode cX7_wouldTake 141 = .ok (.putfield 192, 3) := dk_181 0 192 (dk_at dksX7_wouldTake_6 2 rfl rfl)
theorem dX7_wouldTake_144 : decode cX7_wouldTake 144 = .ok (.aload_n 0, 1) := dk_42 (dk_at dksX7_wouldTake_6 5 rfl rfl)
theorem dX7_wouldTake_145 : decode cX7_wouldTake 145 = .ok (.getfield 22, 3) := dk_180 0 22 (dk_at dksX7_wouldTake_6 6 rfl rfl)
theorem dX7_wouldTake_148 : decode cX7_wouldTake 148 = .ok (.istore 9, 2) := dk_54 9 (dk_at dksX7_wouldTake_6 9 rfl rfl)
theorem dX7_wouldTake_150 : decode cX7_wouldTake 150 = .ok (.aload_n 0, 1) := dk_42 (dk_at dksX7_wouldTake_6 11 rfl rfl)
theorem dX7_wouldTake_151 : decode cX7_wouldTake 151 = .ok (.getfield 63, 3) := dk_180 0 63 (dk_at dksX7_wouldTake_6 12 rfl rfl)
theorem dX7_wouldTake_154 : decode cX7_wouldTake 154 = .ok (.istore 10, 2) := dk_54 10 (dk_at dksX7_wouldTake_6 15 rfl rfl)
theorem dX7_wouldTake_156 : decode cX7_wouldTake 156 = .ok (.aload_n 0, 1) := dk_42 (dk_at dksX7_wouldTake_6 17 rfl rfl)
theorem dX7_wouldTake_157 : decode cX7_wouldTake 157 = .ok (.getfield 69, 3) := dk_180 0 69 (dk_at dksX7_wouldTake_6 18 rfl rfl)
theorem dX7_wouldTake_160 : decode cX7_wouldTake 160 = .ok (.istore 11, 2) := dk_54 11 (dk_at dksX7_wouldTake_6 21 rfl rfl)
theorem dX7_wouldTake_162 : decode cX7_wouldTake 162 = .ok (.aload_n 0, 1) := dk_42 (dk_at dksX7_wouldTake_6 23 rfl rfl)
theorem dX7_wouldTake_163 : decode cX7_wouldTake 163 = .ok (.getfield 66, 3) := dk_180 0 66 (dk_at dksX7_wouldTake_7 0 rfl rfl)
theorem dX7_wouldTake_166 : decode cX7_wouldTake 166 = .ok (.istore 12, 2) := dk_54 12 (dk_at dksX7_wouldTake_7 3 rfl rfl)
theorem dX7_wouldTake_168 : decode cX7_wouldTake 168 = .ok (.aload_n 0, 1) := dk_42 (dk_at dksX7_wouldTake_7 5 rfl rfl)
theorem dX7_wouldTake_169 : decode cX7_wouldTake 169 = .ok (.getfield 150, 3) := dk_180 0 150 (dk_at dksX7_wouldTake_7 6 rfl rfl)
theorem dX7_wouldTake_172 : decode cX7_wouldTake 172 = .ok (.istore 13, 2) := dk_54 13 (dk_at dksX7_wouldTake_7 9 rfl rfl)
theorem dX7_wouldTake_174 : decode cX7_wouldTake 174 = .ok (.aload_n 0, 1) := dk_42 (dk_at dksX7_wouldTake_7 11 rfl rfl)
theorem dX7_wouldTake_175 : decode cX7_wouldTake 175 = .ok (.iconst (-1), 1) := dk_2 (dk_at dksX7_wouldTake_7 12 rfl rfl)
theorem dX7_wouldTake_176 : decode cX7_wouldTake 176 = .ok (.putfield 22, 3) := dk_181 0 22 (dk_at dksX7_wouldTake_7 13 rfl rfl)
theorem dX7_wouldTake_179 : decode cX7_wouldTake 179 = .ok (.aload_n 0, 1) := dk_42 (dk_at dksX7_wouldTake_7 16 rfl rfl)
theorem dX7_wouldTake_180 : decode cX7_wouldTake 180 = .ok (.sipush 940, 3) := dk_17 3 172 (dk_at dksX7_wouldTake_7 17 rfl rfl)
theorem dX7_wouldTake_183 : decode cX7_wouldTake 183 = .ok (.sipush 401, 3) := dk_17 1 145 (dk_at dksX7_wouldTake_7 20 rfl rfl)
theorem dX7_wouldTake_186 : decode cX7_wouldTake 186 = .ok (.iload 8, 2) := dk_21 8 (dk_at dksX7_wouldTake_8 0 rfl rfl)
theorem dX7_wouldTake_188 : decode cX7_wouldTake 188 = .ok (.imul, 1) := dk_104 (dk_at dksX7_wouldTake_8 2 rfl rfl)
theorem dX7_wouldTake_189 : decode cX7_wouldTake 189 = .ok (.iadd, 1) := dk_96 (dk_at dksX7_wouldTake_8 3 rfl rfl)
theorem dX7_wouldTake_190 : decode cX7_wouldTake 190 = .ok (.iconst 1, 1) := dk_4 (dk_at dksX7_wouldTake_8 4 rfl rfl)
theorem dX7_wouldTake_191 : decode cX7_wouldTake 191 = .ok (.iadd, 1) := dk_96 (dk_at dksX7_wouldTake_8 5 rfl rfl)
theorem dX7_wouldTake_192 : decode cX7_wouldTake 192 = .ok (.putfield 63, 3) := dk_181 0 63 (dk_at dksX7_wouldTake_8 6 rfl rfl)
theorem dX7_wouldTake_195 : decode cX7_wouldTake 195 = .ok (.aload_n 0, 1) := dk_42 (dk_at dksX7_wouldTake_8 9 rfl rfl)
theorem dX7_wouldTake_196 : decode cX7_wouldTake 196 = .ok (.aload_n 0, 1) := dk_42 (dk_at dksX7_wouldTake_8 10 rfl rfl)
theorem dX7_wouldTake_197 : decode cX7_wouldTake 197 = .ok (.getfield 7, 3) := dk_180 0 7 (dk_at dksX7_wouldTake_8 11 rfl rfl)
theorem dX7_wouldTake_200 : decode cX7_wouldTake 200 = .ok (.aload_n 0, 1) := dk_42 (dk_at dksX7_wouldTake_8 14 rfl rfl)
theorem dX7_wouldTake_201 : decode cX7_wouldTake 201 = .ok (.getfield 63, 3) := dk_180 0 63 (dk_at dksX7_wouldTake_8 15 rfl rfl)
theorem dX7_wouldTake_204 : decode cX7_wouldTake 204 = .ok (.iconst 1, 1) := dk_4 (dk_at dksX7_wouldTake_8 18 rfl rfl)
theorem dX7_wouldTake_205 : decode cX7_wouldTake 205 = .ok (.isub, 1) := dk_100 (dk_at dksX7_wouldTake_8 19 rfl rfl)
theorem dX7_wouldTake_206 : decode cX7_wouldTake 206 = .ok (.iaload, 1) := dk_46 (dk_at dksX7_wouldTake_8 20 rfl rfl)
theorem dX7_wouldTake_207 : decode cX7_wouldTake 207 = .ok (.putfield 69, 3) := dk_181 0 69 (dk_at dksX7_wouldTake_8 21 rfl rfl)
theorem dX7_wouldTake_210 : decode cX7_wouldTake 210 = .ok (.aload_n 0, 1) := dk_42 (dk_at dksX7_wouldTake_9 0 rfl rfl)
theorem dX7_wouldTake_211 : decode cX7_wouldTake 211 = .ok (.iconst (-1), 1) := dk_2 (dk_at dksX7_wouldTake_9 1 rfl rfl)
theorem dX7_wouldTake_212 : decode cX7_wouldTake 212 = .ok (.putfield 223, 3) := dk_181 0 223 (dk_at dksX7_wouldTake_9 2 rfl rfl)
theorem dX7_wouldTake_215 : decode cX7_wouldTake 215 = .ok (.aload_n 0, 1) := dk_42 (dk_at dksX7_wouldTake_9 5 rfl rfl)
theorem dX7_wouldTake_216 : decode cX7_wouldTake 216 = .ok (.iconst 1, 1) := dk_4 (dk_at dksX7_wouldTake_9 6 rfl rfl)
theorem dX7_wouldTake_217 : decode cX7_wouldTake 217 = .ok (.invokevirtual 163, 3) := dk_182 0 163 (dk_at dksX7_wouldTake_9 7 rfl rfl)
theorem dX7_wouldTake_220 : decode cX7_wouldTake 220 = .ok (.aload_n 0, 1) := dk_42 (dk_at dksX7_wouldTake_9 10 rfl rfl)
theorem dX7_wouldTake_221 : decode cX7_wouldTake 221 = .ok (.iload 9, 2) := dk_21 9 (dk_at dksX7_wouldTake_9 11 rfl rfl)
theorem dX7_wouldTake_223 : decode cX7_wouldTake 223 = .ok (.putfield 22, 3) := dk_181 0 22 (dk_at dksX7_wouldTake_9 13 rfl rfl)
theorem dX7_wouldTake_226 : decode cX7_wouldTake 226 = .ok (.aload_n 0, 1) := dk_42 (dk_at dksX7_wouldTake_9 16 rfl rfl)
theorem dX7_wouldTake_227 : decode cX7_wouldTake 227 = .ok (.iload 10, 2) := dk_21 10 (dk_at dksX7_wouldTake_9 17 rfl rfl)
theorem dX7_wouldTake_229 : decode cX7_wouldTake 229 = .ok (.putfield 63, 3) := dk_181 0 63 (dk_at dksX7_wouldTake_9 19 rfl rfl)
theorem dX7_wouldTake_232 : decode cX7_wouldTake 232 = .ok (.aload_n 0, 1) := dk_42 (dk_at dksX7_wouldTake_9 22 rfl rfl)
theorem dX7_wouldTake_233 : decode cX7_wouldTake 233 = .ok (.iload 11, 2) := dk_21 11 (dk_at dksX7_wouldTake_10 0 rfl rfl)
theorem dX7_wouldTake_235 : decode cX7_wouldTake 235 = .ok (.putfield 69, 3) := dk_181 0 69 (dk_at dksX7_wouldTake_10 2 rfl rfl)
theorem dX7_wouldTake_238 : decode cX7_wouldTake 238 = .ok (.aload_n 0, 1) := dk_42 (dk_at dksX7_wouldTake_10 5 rfl rfl)
theorem dX7_wouldTake_239 : decode cX7_wouldTake 239 = .ok (.iload 12, 2) := dk_21 12 (dk_at dksX7_wouldTake_10 6 rfl rfl)
theorem dX7_wouldTake_241 : decode cX7_wouldTake 241 = .ok (.putfield 66, 3) := dk_181 0 66 (dk_at dksX7_wouldTake_10 8 rfl rfl)
theorem dX7_wouldTake_244 : decode cX7_wouldTake 244 = .ok (.aload_n 0, 1) := dk_42 (dk_at dksX7_wouldTake_10 11 rfl rfl)
theorem dX7_wouldTake_245 : decode cX7_wouldTake 245 = .ok (.iload 13, 2) := dk_21 13 (dk_at dksX7_wouldTake_10 12 rfl rfl)
theorem dX7_wouldTake_247 : decode cX7_wouldTake 247 = .ok (.putfield 150, 3) := dk_181 0 150 (dk_at dksX7_wouldTake_10 14 rfl rfl)
theorem dX7_wouldTake_250 : decode cX7_wouldTake 250 = .ok (.aload_n 0, 1) := dk_42 (dk_at dksX7_wouldTake_10 17 rfl rfl)
theorem dX7_wouldTake_251 : decode cX7_wouldTake 251 = .ok (.getfield 223, 3) := dk_180 0 223 (dk_at dksX7_wouldTake_10 18 rfl rfl)
theorem dX7_wouldTake_254 : decode cX7_wouldTake 254 = .ok (.iconst 1, 1) := dk_4 (dk_at dksX7_wouldTake_10 21 rfl rfl)
theorem dX7_wouldTake_255 : decode cX7_wouldTake 255 = .ok (.if_icmp .ne 7, 3) := dk_160 0 7 (dk_at dksX7_wouldTake_11 0 rfl rfl)
theorem dX7_wouldTake_258 : decode cX7_wouldTake 258 = .ok (.iconst 1, 1) := dk_4 (dk_at dksX7_wouldTake_11 3 rfl rfl)
theorem dX7_wouldTake_259 : decode cX7_wouldTake 259 = .ok (.goto 4, 3) := dk_167 0 4 (dk_at dksX7_wouldTake_11 4 rfl rfl)
theorem dX7_wouldTake_262 : decode cX7_wouldTake 262 = .ok (.iconst 0, 1) := dk_3 (dk_at dksX7_wouldTake_11 7 rfl rfl)
theorem dX7_wouldTake_263 : decode cX7_wouldTake 263 = .ok (.ireturn, 1) := dk_172 (dk_at dksX7_wouldTake_11 8 rfl rfl)
abbrev cX7_worthOf : ByteArray := prog_23_method_32_code
def yX7_worthOf : MethodName := ⟨RX7, "worthOf", "(II)I"⟩
def dkwX7_worthOf_0 : List UInt8 := [26, 17, 4, 0, 104, 27, 122, 172]
abbrev dktX7_worthOf_0 : List UInt8 := dkwX7_worthOf_0 ++ []
theorem dksX7_worthOf_0 : cX7_worthOf.data.toList.drop 0 = dktX7_worthOf_0 := by decide +kernel
theorem dX7_worthOf_0 : decode cX7_worthOf 0 = .ok (.iload_n 0, 1) := dk_26 (dk_at dksX7_worthOf_0 0 rfl rfl)
theorem dX7_worthOf_1 : decode cX7_worthOf 1 = .ok (.sipush 1024, 3) := dk_17 4 0 (dk_at dksX7_worthOf_0 1 rfl rfl)
theorem dX7_worthOf_4 : decode cX7_worthOf 4 = .ok (.imul, 1) := dk_104 (dk_at dksX7_worthOf_0 4 rfl rfl)
theorem dX7_worthOf_5 : decode cX7_worthOf 5 = .ok (.iload_n 1, 1) := dk_27 (dk_at dksX7_worthOf_0 5 rfl rfl)
theorem dX7_worthOf_6 : decode cX7_worthOf 6 = .ok (.ishr, 1) := dk_122 (dk_at dksX7_worthOf_0 6 rfl rfl)
theorem dX7_worthOf_7 : decode cX7_worthOf 7 = .ok (.ireturn, 1) := dk_172 (dk_at dksX7_worthOf_0 7 rfl rfl)
abbrev cX7_richOf : ByteArray := prog_23_method_33_code
def yX7_richOf : MethodName := ⟨RX7, "richOf", "(I)I"⟩
def dkwX7_richOf_2 : List UInt8 := [132, 3, 1, 167, 255, 211, 28, 172]
abbrev dktX7_richOf_2 : List UInt8 := dkwX7_richOf_2 ++ []
def dkwX7_richOf_1 : List UInt8 := [160, 0, 21, 42, 29, 4, 182, 0, 127, 42, 29, 6, 182, 0, 127, 184, 0, 229, 167, 0, 4, 3, 96, 61]
abbrev dktX7_richOf_1 : List UInt8 := dkwX7_richOf_1 ++ dktX7_richOf_2
def dkwX7_richOf_0 : List UInt8 := [3, 61, 3, 62, 29, 42, 180, 0, 7, 6, 46, 162, 0, 41, 28, 42, 29, 5, 182, 0, 127, 27]
abbrev dktX7_richOf_0 : List UInt8 := dkwX7_richOf_0 ++ dktX7_richOf_1
theorem dksX7_richOf_0 : cX7_richOf.data.toList.drop 0 = dktX7_richOf_0 := by decide +kernel
theorem dksX7_richOf_1 : cX7_richOf.data.toList.drop 22 = dktX7_richOf_1 := dk_seg dksX7_richOf_0 22 rfl rfl
theorem dksX7_richOf_2 : cX7_richOf.data.toList.drop 46 = dktX7_richOf_2 := dk_seg dksX7_richOf_1 24 rfl rfl
theorem dX7_richOf_0 : decode cX7_richOf 0 = .ok (.iconst 0, 1) := dk_3 (dk_at dksX7_richOf_0 0 rfl rfl)
theorem dX7_richOf_1 : decode cX7_richOf 1 = .ok (.istore_n 2, 1) := dk_61 (dk_at dksX7_richOf_0 1 rfl rfl)
theorem dX7_richOf_2 : decode cX7_richOf 2 = .ok (.iconst 0, 1) := dk_3 (dk_at dksX7_richOf_0 2 rfl rfl)
theorem dX7_richOf_3 : decode cX7_richOf 3 = .ok (.istore_n 3, 1) := dk_62 (dk_at dksX7_richOf_0 3 rfl rfl)
theorem dX7_richOf_4 : decode cX7_richOf 4 = .ok (.iload_n 3, 1) := dk_29 (dk_at dksX7_richOf_0 4 rfl rfl)
theorem dX7_richOf_5 : decode cX7_richOf 5 = .ok (.aload_n 0, 1) := dk_42 (dk_at dksX7_richOf_0 5 rfl rfl)
theorem dX7_richOf_6 : decode cX7_richOf 6 = .ok (.getfield 7, 3) := dk_180 0 7 (dk_at dksX7_richOf_0 6 rfl rfl)
theorem dX7_richOf_9 : decode cX7_richOf 9 = .ok (.iconst 3, 1) := dk_6 (dk_at dksX7_richOf_0 9 rfl rfl)
theorem dX7_richOf_10 : decode cX7_richOf 10 = .ok (.iaload, 1) := dk_46 (dk_at dksX7_richOf_0 10 rfl rfl)
theorem dX7_richOf_11 : decode cX7_richOf 11 = .ok (.if_icmp .ge 41, 3) := dk_162 0 41 (dk_at dksX7_richOf_0 11 rfl rfl)
theorem dX7_richOf_14 : decode cX7_richOf 14 = .ok (.iload_n 2, 1) := dk_28 (dk_at dksX7_richOf_0 14 rfl rfl)
theorem dX7_richOf_15 : decode cX7_richOf 15 = .ok (.aload_n 0, 1) := dk_42 (dk_at dksX7_richOf_0 15 rfl rfl)
theorem dX7_richOf_16 : decode cX7_richOf 16 = .ok (.iload_n 3, 1) := dk_29 (dk_at dksX7_richOf_0 16 rfl rfl)
theorem dX7_richOf_17 : decode cX7_richOf 17 = .ok (.iconst 2, 1) := dk_5 (dk_at dksX7_richOf_0 17 rfl rfl)
theorem dX7_richOf_18 : decode cX7_richOf 18 = .ok (.invokevirtual 127, 3) := dk_182 0 127 (dk_at dksX7_richOf_0 18 rfl rfl)
theorem dX7_richOf_21 : decode cX7_richOf 21 = .ok (.iload_n 1, 1) := dk_27 (dk_at dksX7_richOf_0 21 rfl rfl)
theorem dX7_richOf_22 : decode cX7_richOf 22 = .ok (.if_icmp .ne 21, 3) := dk_160 0 21 (dk_at dksX7_richOf_1 0 rfl rfl)
theorem dX7_richOf_25 : decode cX7_richOf 25 = .ok (.aload_n 0, 1) := dk_42 (dk_at dksX7_richOf_1 3 rfl rfl)
theorem dX7_richOf_26 : decode cX7_richOf 26 = .ok (.iload_n 3, 1) := dk_29 (dk_at dksX7_richOf_1 4 rfl rfl)
theorem dX7_richOf_27 : decode cX7_richOf 27 = .ok (.iconst 1, 1) := dk_4 (dk_at dksX7_richOf_1 5 rfl rfl)
theorem dX7_richOf_28 : decode cX7_richOf 28 = .ok (.invokevirtual 127, 3) := dk_182 0 127 (dk_at dksX7_richOf_1 6 rfl rfl)
theorem dX7_richOf_31 : decode cX7_richOf 31 = .ok (.aload_n 0, 1) := dk_42 (dk_at dksX7_richOf_1 9 rfl rfl)
theorem dX7_richOf_32 : decode cX7_richOf 32 = .ok (.iload_n 3, 1) := dk_29 (dk_at dksX7_richOf_1 10 rfl rfl)
theorem dX7_richOf_33 : decode cX7_richOf 33 = .ok (.iconst 3, 1) := dk_6 (dk_at dksX7_richOf_1 11 rfl rfl)
theorem dX7_richOf_34 : decode cX7_richOf 34 = .ok (.invokevirtual 127, 3) := dk_182 0 127 (dk_at dksX7_richOf_1 12 rfl rfl)
theorem dX7_richOf_37 : decode cX7_richOf 37 = .ok (.invokestatic 229, 3) := dk_184 0 229 (dk_at dksX7_richOf_1 15 rfl rfl)
theorem dX7_richOf_40 : decode cX7_richOf 40 = .ok (.goto 4, 3) := dk_167 0 4 (dk_at dksX7_richOf_1 18 rfl rfl)
theorem dX7_richOf_43 : decode cX7_richOf 43 = .ok (.iconst 0, 1) := dk_3 (dk_at dksX7_richOf_1 21 rfl rfl)
theorem dX7_richOf_44 : decode cX7_richOf 44 = .ok (.iadd, 1) := dk_96 (dk_at dksX7_richOf_1 22 rfl rfl)
theorem dX7_richOf_45 : decode cX7_richOf 45 = .ok (.istore_n 2, 1) := dk_61 (dk_at dksX7_richOf_1 23 rfl rfl)
theorem dX7_richOf_46 : decode cX7_richOf 46 = .ok (.iinc 3 1, 3) := dk_132 3 1 (dk_at dksX7_richOf_2 0 rfl rfl)
theorem dX7_richOf_49 : decode cX7_richOf 49 = .ok (.goto (-45), 3) := dk_167 255 211 (dk_at dksX7_richOf_2 3 rfl rfl)
theorem dX7_richOf_52 : decode cX7_richOf 52 = .ok (.iload_n 2, 1) := dk_28 (dk_at dksX7_richOf_2 6 rfl rfl)
theorem dX7_richOf_53 : decode cX7_richOf 53 = .ok (.ireturn, 1) := dk_172 (dk_at dksX7_richOf_2 7 rfl rfl)
abbrev cX7_isNearTo : ByteArray := prog_23_method_8_code
def yX7_isNearTo : MethodName := ⟨RX7, "isNearTo", "(II)Z"⟩
def dkwX7_isNearTo_1 : List UInt8 := [167, 0, 4, 3, 172]
abbrev dktX7_isNearTo_1 : List UInt8 := dkwX7_isNearTo_1 ++ []
def dkwX7_isNearTo_0 : List UInt8 := [42, 180, 0, 7, 16, 10, 6, 27, 104, 96, 5, 96, 46, 28, 122, 4, 126, 4, 160, 0, 7, 4]
abbrev dktX7_isNearTo_0 : List UInt8 := dkwX7_isNearTo_0 ++ dktX7_isNearTo_1
theorem dksX7_isNearTo_0 : cX7_isNearTo.data.toList.drop 0 = dktX7_isNearTo_0 := by decide +kernel
theorem dksX7_isNearTo_1 : cX7_isNearTo.data.toList.drop 22 = dktX7_isNearTo_1 := dk_seg dksX7_isNearTo_0 22 rfl rfl
theorem dX7_isNearTo_0 : decode cX7_isNearTo 0 = .ok (.aload_n 0, 1) := dk_42 (dk_at dksX7_isNearTo_0 0 rfl rfl)
theorem dX7_isNearTo_1 : decode cX7_isNearTo 1 = .ok (.getfield 7, 3) := dk_180 0 7 (dk_at dksX7_isNearTo_0 1 rfl rfl)
theorem dX7_isNearTo_4 : decode cX7_isNearTo 4 = .ok (.bipush 10, 2) := dk_16 10 (dk_at dksX7_isNearTo_0 4 rfl rfl)
theorem dX7_isNearTo_6 : decode cX7_isNearTo 6 = .ok (.iconst 3, 1) := dk_6 (dk_at dksX7_isNearTo_0 6 rfl rfl)
theorem dX7_isNearTo_7 : decode cX7_isNearTo 7 = .ok (.iload_n 1, 1) := dk_27 (dk_at dksX7_isNearTo_0 7 rfl rfl)
theorem dX7_isNearTo_8 : decode cX7_isNearTo 8 = .ok (.imul, 1) := dk_104 (dk_at dksX7_isNearTo_0 8 rfl rfl)
theorem dX7_isNearTo_9 : decode cX7_isNearTo 9 = .ok (.iadd, 1) := dk_96 (dk_at dksX7_isNearTo_0 9 rfl rfl)
theorem dX7_isNearTo_10 : decode cX7_isNearTo 10 = .ok (.iconst 2, 1) := dk_5 (dk_at dksX7_isNearTo_0 10 rfl rfl)
theorem dX7_isNearTo_11 : decode cX7_isNearTo 11 = .ok (.iadd, 1) := dk_96 (dk_at dksX7_isNearTo_0 11 rfl rfl)
theorem dX7_isNearTo_12 : decode cX7_isNearTo 12 = .ok (.iaload, 1) := dk_46 (dk_at dksX7_isNearTo_0 12 rfl rfl)
theorem dX7_isNearTo_13 : decode cX7_isNearTo 13 = .ok (.iload_n 2, 1) := dk_28 (dk_at dksX7_isNearTo_0 13 rfl rfl)
theorem dX7_isNearTo_14 : decode cX7_isNearTo 14 = .ok (.ishr, 1) := dk_122 (dk_at dksX7_isNearTo_0 14 rfl rfl)
theorem dX7_isNearTo_15 : decode cX7_isNearTo 15 = .ok (.iconst 1, 1) := dk_4 (dk_at dksX7_isNearTo_0 15 rfl rfl)
theorem dX7_isNearTo_16 : decode cX7_isNearTo 16 = .ok (.iand, 1) := dk_126 (dk_at dksX7_isNearTo_0 16 rfl rfl)
theorem dX7_isNearTo_17 : decode cX7_isNearTo 17 = .ok (.iconst 1, 1) := dk_4 (dk_at dksX7_isNearTo_0 17 rfl rfl)
theorem dX7_isNearTo_18 : decode cX7_isNearTo 18 = .ok (.if_icmp .ne 7, 3) := dk_160 0 7 (dk_at dksX7_isNearTo_0 18 rfl rfl)
theorem dX7_isNearTo_21 : decode cX7_isNearTo 21 = .ok (.iconst 1, 1) := dk_4 (dk_at dksX7_isNearTo_0 21 rfl rfl)
theorem dX7_isNearTo_22 : decode cX7_isNearTo 22 = .ok (.goto 4, 3) := dk_167 0 4 (dk_at dksX7_isNearTo_1 0 rfl rfl)
theorem dX7_isNearTo_25 : decode cX7_isNearTo 25 = .ok (.iconst 0, 1) := dk_3 (dk_at dksX7_isNearTo_1 3 rfl rfl)
theorem dX7_isNearTo_26 : decode cX7_isNearTo 26 = .ok (.ireturn, 1) := dk_172 (dk_at dksX7_isNearTo_1 4 rfl rfl)
abbrev cX7_sets : ByteArray := prog_23_method_7_code
def yX7_sets : MethodName := ⟨RX7, "sets", "(III)V"⟩
def dkwX7_sets_0 : List UInt8 := [42, 180, 0, 7, 17, 0, 140, 16, 20, 27, 104, 96, 28, 96, 29, 79, 177]
abbrev dktX7_sets_0 : List UInt8 := dkwX7_sets_0 ++ []
theorem dksX7_sets_0 : cX7_sets.data.toList.drop 0 = dktX7_sets_0 := by decide +kernel
theorem dX7_sets_0 : decode cX7_sets 0 = .ok (.aload_n 0, 1) := dk_42 (dk_at dksX7_sets_0 0 rfl rfl)
theorem dX7_sets_1 : decode cX7_sets 1 = .ok (.getfield 7, 3) := dk_180 0 7 (dk_at dksX7_sets_0 1 rfl rfl)
theorem dX7_sets_4 : decode cX7_sets 4 = .ok (.sipush 140, 3) := dk_17 0 140 (dk_at dksX7_sets_0 4 rfl rfl)
theorem dX7_sets_7 : decode cX7_sets 7 = .ok (.bipush 20, 2) := dk_16 20 (dk_at dksX7_sets_0 7 rfl rfl)
theorem dX7_sets_9 : decode cX7_sets 9 = .ok (.iload_n 1, 1) := dk_27 (dk_at dksX7_sets_0 9 rfl rfl)
theorem dX7_sets_10 : decode cX7_sets 10 = .ok (.imul, 1) := dk_104 (dk_at dksX7_sets_0 10 rfl rfl)
theorem dX7_sets_11 : decode cX7_sets 11 = .ok (.iadd, 1) := dk_96 (dk_at dksX7_sets_0 11 rfl rfl)
theorem dX7_sets_12 : decode cX7_sets 12 = .ok (.iload_n 2, 1) := dk_28 (dk_at dksX7_sets_0 12 rfl rfl)
theorem dX7_sets_13 : decode cX7_sets 13 = .ok (.iadd, 1) := dk_96 (dk_at dksX7_sets_0 13 rfl rfl)
theorem dX7_sets_14 : decode cX7_sets 14 = .ok (.iload_n 3, 1) := dk_29 (dk_at dksX7_sets_0 14 rfl rfl)
theorem dX7_sets_15 : decode cX7_sets 15 = .ok (.iastore, 1) := dk_79 (dk_at dksX7_sets_0 15 rfl rfl)
theorem dX7_sets_16 : decode cX7_sets 16 = .ok (.return_, 1) := dk_177 (dk_at dksX7_sets_0 16 rfl rfl)
abbrev cX7_passes : ByteArray := prog_23_method_40_code
def yX7_passes : MethodName := ⟨RX7, "passes", "(II)I"⟩
def dkwX7_passes_4 : List UInt8 := [3, 167, 0, 18, 42, 27, 4, 182, 0, 127, 42, 27, 6, 182, 0, 127, 184, 0, 229, 172]
abbrev dktX7_passes_4 : List UInt8 := dkwX7_passes_4 ++ []
def dkwX7_passes_3 : List UInt8 := [167, 0, 4, 3, 62, 42, 27, 5, 29, 153, 0, 7, 2, 167, 0, 4, 28, 182, 0, 135, 29, 153, 0, 7]
abbrev dktX7_passes_3 : List UInt8 := dkwX7_passes_3 ++ dktX7_passes_4
def dkwX7_passes_2 : List UInt8 := [27, 16, 6, 182, 0, 127, 4, 96, 182, 0, 135, 42, 27, 3, 182, 0, 127, 28, 160, 0, 7, 4]
abbrev dktX7_passes_2 : List UInt8 := dkwX7_passes_2 ++ dktX7_passes_3
def dkwX7_passes_1 : List UInt8 := [182, 0, 135, 42, 27, 16, 7, 42, 27, 16, 6, 182, 0, 127, 96, 28, 182, 0, 135, 42, 27, 16, 6, 42]
abbrev dktX7_passes_1 : List UInt8 := dkwX7_passes_1 ++ dktX7_passes_2
def dkwX7_passes_0 : List UInt8 := [42, 27, 28, 182, 0, 253, 154, 0, 5, 2, 172, 42, 27, 6, 42, 27, 6, 182, 0, 127, 4, 96]
abbrev dktX7_passes_0 : List UInt8 := dkwX7_passes_0 ++ dktX7_passes_1
theorem dksX7_passes_0 : cX7_passes.data.toList.drop 0 = dktX7_passes_0 := by decide +kernel
theorem dksX7_passes_1 : cX7_passes.data.toList.drop 22 = dktX7_passes_1 := dk_seg dksX7_passes_0 22 rfl rfl
theorem dksX7_passes_2 : cX7_passes.data.toList.drop 46 = dktX7_passes_2 := dk_seg dksX7_passes_1 24 rfl rfl
theorem dksX7_passes_3 : cX7_passes.data.toList.drop 68 = dktX7_passes_3 := dk_seg dksX7_passes_2 22 rfl rfl
theorem dksX7_passes_4 : cX7_passes.data.toList.drop 92 = dktX7_passes_4 := dk_seg dksX7_passes_3 24 rfl rfl
theorem dX7_passes_0 : decode cX7_passes 0 = .ok (.aload_n 0, 1) := dk_42 (dk_at dksX7_passes_0 0 rfl rfl)
theorem dX7_passes_1 : decode cX7_passes 1 = .ok (.iload_n 1, 1) := dk_27 (dk_at dksX7_passes_0 1 rfl rfl)
theorem dX7_passes_2 : decode cX7_passes 2 = .ok (.iload_n 2, 1) := dk_28 (dk_at dksX7_passes_0 2 rfl rfl)
theorem dX7_passes_3 : decode cX7_passes 3 = .ok (.invokevirtual 253, 3) := dk_182 0 253 (dk_at dksX7_passes_0 3 rfl rfl)
theorem dX7_passes_6 : decode cX7_passes 6 = .ok (.ifCond .ne 5, 3) := dk_154 0 5 (dk_at dksX7_passes_0 6 rfl rfl)
theorem dX7_passes_9 : decode cX7_passes 9 = .ok (.iconst (-1), 1) := dk_2 (dk_at dksX7_passes_0 9 rfl rfl)
theorem dX7_passes_10 : decode cX7_passes 10 = .ok (.ireturn, 1) := dk_172 (dk_at dksX7_passes_0 10 rfl rfl)
theorem dX7_passes_11 : decode cX7_passes 11 = .ok (.aload_n 0, 1) := dk_42 (dk_at dksX7_passes_0 11 rfl rfl)
theorem dX7_passes_12 : decode cX7_passes 12 = .ok (.iload_n 1, 1) := dk_27 (dk_at dksX7_passes_0 12 rfl rfl)
theorem dX7_passes_13 : decode cX7_passes 13 = .ok (.iconst 3, 1) := dk_6 (dk_at dksX7_passes_0 13 rfl rfl)
theorem dX7_passes_14 : decode cX7_passes 14 = .ok (.aload_n 0, 1) := dk_42 (dk_at dksX7_passes_0 14 rfl rfl)
theorem dX7_passes_15 : decode cX7_passes 15 = .ok (.iload_n 1, 1) := dk_27 (dk_at dksX7_passes_0 15 rfl rfl)
theorem dX7_passes_16 : decode cX7_passes 16 = .ok (.iconst 3, 1) := dk_6 (dk_at dksX7_passes_0 16 rfl rfl)
theorem dX7_passes_17 : decode cX7_passes 17 = .ok (.invokevirtual 127, 3) := dk_182 0 127 (dk_at dksX7_passes_0 17 rfl rfl)
theorem dX7_passes_20 : decode cX7_passes 20 = .ok (.iconst 1, 1) := dk_4 (dk_at dksX7_passes_0 20 rfl rfl)
theorem dX7_passes_21 : decode cX7_passes 21 = .ok (.iadd, 1) := dk_96 (dk_at dksX7_passes_0 21 rfl rfl)
theorem dX7_passes_22 : decode cX7_passes 22 = .ok (.invokevirtual 135, 3) := dk_182 0 135 (dk_at dksX7_passes_1 0 rfl rfl)
theorem dX7_passes_25 : decode cX7_passes 25 = .ok (.aload_n 0, 1) := dk_42 (dk_at dksX7_passes_1 3 rfl rfl)
theorem dX7_passes_26 : decode cX7_passes 26 = .ok (.iload_n 1, 1) := dk_27 (dk_at dksX7_passes_1 4 rfl rfl)
theorem dX7_passes_27 : decode cX7_passes 27 = .ok (.bipush 7, 2) := dk_16 7 (dk_at dksX7_passes_1 5 rfl rfl)
theorem dX7_passes_29 : decode cX7_passes 29 = .ok (.aload_n 0, 1) := dk_42 (dk_at dksX7_passes_1 7 rfl rfl)
theorem dX7_passes_30 : decode cX7_passes 30 = .ok (.iload_n 1, 1) := dk_27 (dk_at dksX7_passes_1 8 rfl rfl)
theorem dX7_passes_31 : decode cX7_passes 31 = .ok (.bipush 6, 2) := dk_16 6 (dk_at dksX7_passes_1 9 rfl rfl)
theorem dX7_passes_33 : decode cX7_passes 33 = .ok (.invokevirtual 127, 3) := dk_182 0 127 (dk_at dksX7_passes_1 11 rfl rfl)
theorem dX7_passes_36 : decode cX7_passes 36 = .ok (.iadd, 1) := dk_96 (dk_at dksX7_passes_1 14 rfl rfl)
theorem dX7_passes_37 : decode cX7_passes 37 = .ok (.iload_n 2, 1) := dk_28 (dk_at dksX7_passes_1 15 rfl rfl)
theorem dX7_passes_38 : decode cX7_passes 38 = .ok (.invokevirtual 135, 3) := dk_182 0 135 (dk_at dksX7_passes_1 16 rfl rfl)
theorem dX7_passes_41 : decode cX7_passes 41 = .ok (.aload_n 0, 1) := dk_42 (dk_at dksX7_passes_1 19 rfl rfl)
theorem dX7_passes_42 : decode cX7_passes 42 = .ok (.iload_n 1, 1) := dk_27 (dk_at dksX7_passes_1 20 rfl rfl)
theorem dX7_passes_43 : decode cX7_passes 43 = .ok (.bipush 6, 2) := dk_16 6 (dk_at dksX7_passes_1 21 rfl rfl)
theorem dX7_passes_45 : decode cX7_passes 45 = .ok (.aload_n 0, 1) := dk_42 (dk_at dksX7_passes_1 23 rfl rfl)
theorem dX7_passes_46 : decode cX7_passes 46 = .ok (.iload_n 1, 1) := dk_27 (dk_at dksX7_passes_2 0 rfl rfl)
theorem dX7_passes_47 : decode cX7_passes 47 = .ok (.bipush 6, 2) := dk_16 6 (dk_at dksX7_passes_2 1 rfl rfl)
theorem dX7_passes_49 : decode cX7_passes 49 = .ok (.invokevirtual 127, 3) := dk_182 0 127 (dk_at dksX7_passes_2 3 rfl rfl)
theorem dX7_passes_52 : decode cX7_passes 52 = .ok (.iconst 1, 1) := dk_4 (dk_at dksX7_passes_2 6 rfl rfl)
theorem dX7_passes_53 : decode cX7_passes 53 = .ok (.iadd, 1) := dk_96 (dk_at dksX7_passes_2 7 rfl rfl)
theorem dX7_passes_54 : decode cX7_passes 54 = .ok (.invokevirtual 135, 3) := dk_182 0 135 (dk_at dksX7_passes_2 8 rfl rfl)
theorem dX7_passes_57 : decode cX7_passes 57 = .ok (.aload_n 0, 1) := dk_42 (dk_at dksX7_passes_2 11 rfl rfl)
theorem dX7_passes_58 : decode cX7_passes 58 = .ok (.iload_n 1, 1) := dk_27 (dk_at dksX7_passes_2 12 rfl rfl)
theorem dX7_passes_59 : decode cX7_passes 59 = .ok (.iconst 0, 1) := dk_3 (dk_at dksX7_passes_2 13 rfl rfl)
theorem dX7_passes_60 : decode cX7_passes 60 = .ok (.invokevirtual 127, 3) := dk_182 0 127 (dk_at dksX7_passes_2 14 rfl rfl)
theorem dX7_passes_63 : decode cX7_passes 63 = .ok (.iload_n 2, 1) := dk_28 (dk_at dksX7_passes_2 17 rfl rfl)
theorem dX7_passes_64 : decode cX7_passes 64 = .ok (.if_icmp .ne 7, 3) := dk_160 0 7 (dk_at dksX7_passes_2 18 rfl rfl)
theorem dX7_passes_67 : decode cX7_passes 67 = .ok (.iconst 1, 1) := dk_4 (dk_at dksX7_passes_2 21 rfl rfl)
theorem dX7_passes_68 : decode cX7_passes 68 = .ok (.goto 4, 3) := dk_167 0 4 (dk_at dksX7_passes_3 0 rfl rfl)
theorem dX7_passes_71 : decode cX7_passes 71 = .ok (.iconst 0, 1) := dk_3 (dk_at dksX7_passes_3 3 rfl rfl)
theorem dX7_passes_72 : decode cX7_passes 72 = .ok (.istore_n 3, 1) := dk_62 (dk_at dksX7_passes_3 4 rfl rfl)
theorem dX7_passes_73 : decode cX7_passes 73 = .ok (.aload_n 0, 1) := dk_42 (dk_at dksX7_passes_3 5 rfl rfl)
theorem dX7_passes_74 : decode cX7_passes 74 = .ok (.iload_n 1, 1) := dk_27 (dk_at dksX7_passes_3 6 rfl rfl)
theorem dX7_passes_75 : decode cX7_passes 75 = .ok (.iconst 2, 1) := dk_5 (dk_at dksX7_passes_3 7 rfl rfl)
theorem dX7_passes_76 : decode cX7_passes 76 = .ok (.iload_n 3, 1) := dk_29 (dk_at dksX7_passes_3 8 rfl rfl)
theorem dX7_passes_77 : decode cX7_passes 77 = .ok (.ifCond .eq 7, 3) := dk_153 0 7 (dk_at dksX7_passes_3 9 rfl rfl)
theorem dX7_passes_80 : decode cX7_passes 80 = .ok (.iconst (-1), 1) := dk_2 (dk_at dksX7_passes_3 12 rfl rfl)
theorem dX7_passes_81 : decode cX7_passes 81 = .ok (.goto 4, 3) := dk_167 0 4 (dk_at dksX7_passes_3 13 rfl rfl)
theorem dX7_passes_84 : decode cX7_passes 84 = .ok (.iload_n 2, 1) := dk_28 (dk_at dksX7_passes_3 16 rfl rfl)
theorem dX7_passes_85 : decode cX7_passes 85 = .ok (.invokevirtual 135, 3) := dk_182 0 135 (dk_at dksX7_passes_3 17 rfl rfl)
theorem dX7_passes_88 : decode cX7_passes 88 = .ok (.iload_n 3, 1) := dk_29 (dk_at dksX7_passes_3 20 rfl rfl)
theorem dX7_passes_89 : decode cX7_passes 89 = .ok (.ifCond .eq 7, 3) := dk_153 0 7 (dk_at dksX7_passes_3 21 rfl rfl)
theorem dX7_passes_92 : decode cX7_passes 92 = .ok (.iconst 0, 1) := dk_3 (dk_at dksX7_passes_4 0 rfl rfl)
theorem dX7_passes_93 : decode cX7_passes 93 = .ok (.goto 18, 3) := dk_167 0 18 (dk_at dksX7_passes_4 1 rfl rfl)
theorem dX7_passes_96 : decode cX7_passes 96 = .ok (.aload_n 0, 1) := dk_42 (dk_at dksX7_passes_4 4 rfl rfl)
theorem dX7_passes_97 : decode cX7_passes 97 = .ok (.iload_n 1, 1) := dk_27 (dk_at dksX7_passes_4 5 rfl rfl)
theorem dX7_passes_98 : decode cX7_passes 98 = .ok (.iconst 1, 1) := dk_4 (dk_at dksX7_passes_4 6 rfl rfl)
theorem dX7_passes_99 : decode cX7_passes 99 = .ok (.invokevirtual 127, 3) := dk_182 0 127 (dk_at dksX7_passes_4 7 rfl rfl)
theorem dX7_passes_102 : decode cX7_passes 102 = .ok (.aload_n 0, 1) := dk_42 (dk_at dksX7_passes_4 10 rfl rfl)
theorem dX7_passes_103 : decode cX7_passes 103 = .ok (.iload_n 1, 1) := dk_27 (dk_at dksX7_passes_4 11 rfl rfl)
theorem dX7_passes_104 : decode cX7_passes 104 = .ok (.iconst 3, 1) := dk_6 (dk_at dksX7_passes_4 12 rfl rfl)
theorem dX7_passes_105 : decode cX7_passes 105 = .ok (.invokevirtual 127, 3) := dk_182 0 127 (dk_at dksX7_passes_4 13 rfl rfl)
theorem dX7_passes_108 : decode cX7_passes 108 = .ok (.invokestatic 229, 3) := dk_184 0 229 (dk_at dksX7_passes_4 16 rfl rfl)
theorem dX7_passes_111 : decode cX7_passes 111 = .ok (.ireturn, 1) := dk_172 (dk_at dksX7_passes_4 19 rfl rfl)
abbrev cX7_canPass : ByteArray := prog_23_method_39_code
def yX7_canPass : MethodName := ⟨RX7, "canPass", "(II)Z"⟩
def dkwX7_canPass_2 : List UInt8 := [4, 167, 0, 4, 3, 172]
abbrev dktX7_canPass_2 : List UInt8 := dkwX7_canPass_2 ++ []
def dkwX7_canPass_1 : List UInt8 := [161, 0, 5, 3, 172, 42, 27, 3, 182, 0, 127, 28, 159, 0, 12, 42, 28, 27, 182, 0, 250, 153, 0, 7]
abbrev dktX7_canPass_1 : List UInt8 := dkwX7_canPass_1 ++ dktX7_canPass_2
def dkwX7_canPass_0 : List UInt8 := [42, 27, 5, 182, 0, 127, 2, 159, 0, 19, 42, 27, 6, 182, 0, 127, 42, 180, 0, 7, 16, 7, 46]
abbrev dktX7_canPass_0 : List UInt8 := dkwX7_canPass_0 ++ dktX7_canPass_1
theorem dksX7_canPass_0 : cX7_canPass.data.toList.drop 0 = dktX7_canPass_0 := by decide +kernel
theorem dksX7_canPass_1 : cX7_canPass.data.toList.drop 23 = dktX7_canPass_1 := dk_seg dksX7_canPass_0 23 rfl rfl
theorem dksX7_canPass_2 : cX7_canPass.data.toList.drop 47 = dktX7_canPass_2 := dk_seg dksX7_canPass_1 24 rfl rfl
theorem dX7_canPass_0 : decode cX7_canPass 0 = .ok (.aload_n 0, 1) := dk_42 (dk_at dksX7_canPass_0 0 rfl rfl)
theorem dX7_canPass_1 : decode cX7_canPass 1 = .ok (.iload_n 1, 1) := dk_27 (dk_at dksX7_canPass_0 1 rfl rfl)
theorem dX7_canPass_2 : decode cX7_canPass 2 = .ok (.iconst 2, 1) := dk_5 (dk_at dksX7_canPass_0 2 rfl rfl)
theorem dX7_canPass_3 : decode cX7_canPass 3 = .ok (.invokevirtual 127, 3) := dk_182 0 127 (dk_at dksX7_canPass_0 3 rfl rfl)
theorem dX7_canPass_6 : decode cX7_canPass 6 = .ok (.iconst (-1), 1) := dk_2 (dk_at dksX7_canPass_0 6 rfl rfl)
theorem dX7_canPass_7 : decode cX7_canPass 7 = .ok (.if_icmp .eq 19, 3) := dk_159 0 19 (dk_at dksX7_canPass_0 7 rfl rfl)
theorem dX7_canPass_10 : decode cX7_canPass 10 = .ok (.aload_n 0, 1) := dk_42 (dk_at dksX7_canPass_0 10 rfl rfl)
theorem dX7_canPass_11 : decode cX7_canPass 11 = .ok (.iload_n 1, 1) := dk_27 (dk_at dksX7_canPass_0 11 rfl rfl)
theorem dX7_canPass_12 : decode cX7_canPass 12 = .ok (.iconst 3, 1) := dk_6 (dk_at dksX7_canPass_0 12 rfl rfl)
theorem dX7_canPass_13 : decode cX7_canPass 13 = .ok (.invokevirtual 127, 3) := dk_182 0 127 (dk_at dksX7_canPass_0 13 rfl rfl)
theorem dX7_canPass_16 : decode cX7_canPass 16 = .ok (.aload_n 0, 1) := dk_42 (dk_at dksX7_canPass_0 16 rfl rfl)
theorem dX7_canPass_17 : decode cX7_canPass 17 = .ok (.getfield 7, 3) := dk_180 0 7 (dk_at dksX7_canPass_0 17 rfl rfl)
theorem dX7_canPass_20 : decode cX7_canPass 20 = .ok (.bipush 7, 2) := dk_16 7 (dk_at dksX7_canPass_0 20 rfl rfl)
theorem dX7_canPass_22 : decode cX7_canPass 22 = .ok (.iaload, 1) := dk_46 (dk_at dksX7_canPass_0 22 rfl rfl)
theorem dX7_canPass_23 : decode cX7_canPass 23 = .ok (.if_icmp .lt 5, 3) := dk_161 0 5 (dk_at dksX7_canPass_1 0 rfl rfl)
theorem dX7_canPass_26 : decode cX7_canPass 26 = .ok (.iconst 0, 1) := dk_3 (dk_at dksX7_canPass_1 3 rfl rfl)
theorem dX7_canPass_27 : decode cX7_canPass 27 = .ok (.ireturn, 1) := dk_172 (dk_at dksX7_canPass_1 4 rfl rfl)
theorem dX7_canPass_28 : decode cX7_canPass 28 = .ok (.aload_n 0, 1) := dk_42 (dk_at dksX7_canPass_1 5 rfl rfl)
theorem dX7_canPass_29 : decode cX7_canPass 29 = .ok (.iload_n 1, 1) := dk_27 (dk_at dksX7_canPass_1 6 rfl rfl)
theorem dX7_canPass_30 : decode cX7_canPass 30 = .ok (.iconst 0, 1) := dk_3 (dk_at dksX7_canPass_1 7 rfl rfl)
theorem dX7_canPass_31 : decode cX7_canPass 31 = .ok (.invokevirtual 127, 3) := dk_182 0 127 (dk_at dksX7_canPass_1 8 rfl rfl)
theorem dX7_canPass_34 : decode cX7_canPass 34 = .ok (.iload_n 2, 1) := dk_28 (dk_at dksX7_canPass_1 11 rfl rfl)
theorem dX7_canPass_35 : decode cX7_canPass 35 = .ok (.if_icmp .eq 12, 3) := dk_159 0 12 (dk_at dksX7_canPass_1 12 rfl rfl)
theorem dX7_canPass_38 : decode cX7_canPass 38 = .ok (.aload_n 0, 1) := dk_42 (dk_at dksX7_canPass_1 15 rfl rfl)
theorem dX7_canPass_39 : decode cX7_canPass 39 = .ok (.iload_n 2, 1) := dk_28 (dk_at dksX7_canPass_1 16 rfl rfl)
theorem dX7_canPass_40 : decode cX7_canPass 40 = .ok (.iload_n 1, 1) := dk_27 (dk_at dksX7_canPass_1 17 rfl rfl)
theorem dX7_canPass_41 : decode cX7_canPass 41 = .ok (.invokevirtual 250, 3) := dk_182 0 250 (dk_at dksX7_canPass_1 18 rfl rfl)
theorem dX7_canPass_44 : decode cX7_canPass 44 = .ok (.ifCond .eq 7, 3) := dk_153 0 7 (dk_at dksX7_canPass_1 21 rfl rfl)
theorem dX7_canPass_47 : decode cX7_canPass 47 = .ok (.iconst 1, 1) := dk_4 (dk_at dksX7_canPass_2 0 rfl rfl)
theorem dX7_canPass_48 : decode cX7_canPass 48 = .ok (.goto 4, 3) := dk_167 0 4 (dk_at dksX7_canPass_2 1 rfl rfl)
theorem dX7_canPass_51 : decode cX7_canPass 51 = .ok (.iconst 0, 1) := dk_3 (dk_at dksX7_canPass_2 4 rfl rfl)
theorem dX7_canPass_52 : decode cX7_canPass 52 = .ok (.ireturn, 1) := dk_172 (dk_at dksX7_canPass_2 5 rfl rfl)
abbrev cX7_wouldPass : ByteArray := prog_23_method_36_code
def yX7_wouldPass : MethodName := ⟨RX7, "wouldPass", "(II)Z"⟩
def dkwX7_wouldPass_3 : List UInt8 := [7, 182, 0, 127, 42, 28, 8, 182, 0, 127, 4, 160, 0, 7, 4, 167, 0, 4, 3, 29, 182, 0, 242, 172]
abbrev dktX7_wouldPass_3 : List UInt8 := dkwX7_wouldPass_3 ++ []
def dkwX7_wouldPass_2 : List UInt8 := [42, 27, 42, 28, 3, 182, 0, 127, 42, 28, 4, 182, 0, 127, 42, 28, 6, 182, 0, 127, 4, 96, 42, 28]
abbrev dktX7_wouldPass_2 : List UInt8 := dkwX7_wouldPass_2 ++ dktX7_wouldPass_3
def dkwX7_wouldPass_1 : List UInt8 := [16, 7, 21, 4, 96, 182, 0, 127, 27, 160, 0, 7, 4, 167, 0, 4, 3, 62, 132, 4, 1, 167, 255, 217]
abbrev dktX7_wouldPass_1 : List UInt8 := dkwX7_wouldPass_1 ++ dktX7_wouldPass_2
def dkwX7_wouldPass_0 : List UInt8 := [3, 62, 4, 54, 4, 21, 4, 42, 28, 16, 6, 182, 0, 127, 162, 0, 33, 29, 154, 0, 17, 42, 28]
abbrev dktX7_wouldPass_0 : List UInt8 := dkwX7_wouldPass_0 ++ dktX7_wouldPass_1
theorem dksX7_wouldPass_0 : cX7_wouldPass.data.toList.drop 0 = dktX7_wouldPass_0 := by decide +kernel
theorem dksX7_wouldPass_1 : cX7_wouldPass.data.toList.drop 23 = dktX7_wouldPass_1 := dk_seg dksX7_wouldPass_0 23 rfl rfl
theorem dksX7_wouldPass_2 : cX7_wouldPass.data.toList.drop 47 = dktX7_wouldPass_2 := dk_seg dksX7_wouldPass_1 24 rfl rfl
theorem dksX7_wouldPass_3 : cX7_wouldPass.data.toList.drop 71 = dktX7_wouldPass_3 := dk_seg dksX7_wouldPass_2 24 rfl rfl
theorem dX7_wouldPass_0 : decode cX7_wouldPass 0 = .ok (.iconst 0, 1) := dk_3 (dk_at dksX7_wouldPass_0 0 rfl rfl)
theorem dX7_wouldPass_1 : decode cX7_wouldPass 1 = .ok (.istore_n 3, 1) := dk_62 (dk_at dksX7_wouldPass_0 1 rfl rfl)
theorem dX7_wouldPass_2 : decode cX7_wouldPass 2 = .ok (.iconst 1, 1) := dk_4 (dk_at dksX7_wouldPass_0 2 rfl rfl)
theorem dX7_wouldPass_3 : decode cX7_wouldPass 3 = .ok (.istore 4, 2) := dk_54 4 (dk_at dksX7_wouldPass_0 3 rfl rfl)
theorem dX7_wouldPass_5 : decode cX7_wouldPass 5 = .ok (.iload 4, 2) := dk_21 4 (dk_at dksX7_wouldPass_0 5 rfl rfl)
theorem dX7_wouldPass_7 : decode cX7_wouldPass 7 = .ok (.aload_n 0, 1) := dk_42 (dk_at dksX7_wouldPass_0 7 rfl rfl)
theorem dX7_wouldPass_8 : decode cX7_wouldPass 8 = .ok (.iload_n 2, 1) := dk_28 (dk_at dksX7_wouldPass_0 8 rfl rfl)
theorem dX7_wouldPass_9 : decode cX7_wouldPass 9 = .ok (.bipush 6, 2) := dk_16 6 (dk_at dksX7_wouldPass_0 9 rfl rfl)
theorem dX7_wouldPass_11 : decode cX7_wouldPass 11 = .ok (.invokevirtual 127, 3) := dk_182 0 127 (dk_at dksX7_wouldPass_0 11 rfl rfl)
theorem dX7_wouldPass_14 : decode cX7_wouldPass 14 = .ok (.if_icmp .ge 33, 3) := dk_162 0 33 (dk_at dksX7_wouldPass_0 14 rfl rfl)
theorem dX7_wouldPass_17 : decode cX7_wouldPass 17 = .ok (.iload_n 3, 1) := dk_29 (dk_at dksX7_wouldPass_0 17 rfl rfl)
theorem dX7_wouldPass_18 : decode cX7_wouldPass 18 = .ok (.ifCond .ne 17, 3) := dk_154 0 17 (dk_at dksX7_wouldPass_0 18 rfl rfl)
theorem dX7_wouldPass_21 : decode cX7_wouldPass 21 = .ok (.aload_n 0, 1) := dk_42 (dk_at dksX7_wouldPass_0 21 rfl rfl)
theorem dX7_wouldPass_22 : decode cX7_wouldPass 22 = .ok (.iload_n 2, 1) := dk_28 (dk_at dksX7_wouldPass_0 22 rfl rfl)
theorem dX7_wouldPass_23 : decode cX7_wouldPass 23 = .ok (.bipush 7, 2) := dk_16 7 (dk_at dksX7_wouldPass_1 0 rfl rfl)
theorem dX7_wouldPass_25 : decode cX7_wouldPass 25 = .ok (.iload 4, 2) := dk_21 4 (dk_at dksX7_wouldPass_1 2 rfl rfl)
theorem dX7_wouldPass_27 : decode cX7_wouldPass 27 = .ok (.iadd, 1) := dk_96 (dk_at dksX7_wouldPass_1 4 rfl rfl)
theorem dX7_wouldPass_28 : decode cX7_wouldPass 28 = .ok (.invokevirtual 127, 3) := dk_182 0 127 (dk_at dksX7_wouldPass_1 5 rfl rfl)
theorem dX7_wouldPass_31 : decode cX7_wouldPass 31 = .ok (.iload_n 1, 1) := dk_27 (dk_at dksX7_wouldPass_1 8 rfl rfl)
theorem dX7_wouldPass_32 : decode cX7_wouldPass 32 = .ok (.if_icmp .ne 7, 3) := dk_160 0 7 (dk_at dksX7_wouldPass_1 9 rfl rfl)
theorem dX7_wouldPass_35 : decode cX7_wouldPass 35 = .ok (.iconst 1, 1) := dk_4 (dk_at dksX7_wouldPass_1 12 rfl rfl)
theorem dX7_wouldPass_36 : decode cX7_wouldPass 36 = .ok (.goto 4, 3) := dk_167 0 4 (dk_at dksX7_wouldPass_1 13 rfl rfl)
theorem dX7_wouldPass_39 : decode cX7_wouldPass 39 = .ok (.iconst 0, 1) := dk_3 (dk_at dksX7_wouldPass_1 16 rfl rfl)
theorem dX7_wouldPass_40 : decode cX7_wouldPass 40 = .ok (.istore_n 3, 1) := dk_62 (dk_at dksX7_wouldPass_1 17 rfl rfl)
theorem dX7_wouldPass_41 : decode cX7_wouldPass 41 = .ok (.iinc 4 1, 3) := dk_132 4 1 (dk_at dksX7_wouldPass_1 18 rfl rfl)
theorem dX7_wouldPass_44 : decode cX7_wouldPass 44 = .ok (.goto (-39), 3) := dk_167 255 217 (dk_at dksX7_wouldPass_1 21 rfl rfl)
theorem dX7_wouldPass_47 : decode cX7_wouldPass 47 = .ok (.aload_n 0, 1) := dk_42 (dk_at dksX7_wouldPass_2 0 rfl rfl)
theorem dX7_wouldPass_48 : decode cX7_wouldPass 48 = .ok (.iload_n 1, 1) := dk_27 (dk_at dksX7_wouldPass_2 1 rfl rfl)
theorem dX7_wouldPass_49 : decode cX7_wouldPass 49 = .ok (.aload_n 0, 1) := dk_42 (dk_at dksX7_wouldPass_2 2 rfl rfl)
theorem dX7_wouldPass_50 : decode cX7_wouldPass 50 = .ok (.iload_n 2, 1) := dk_28 (dk_at dksX7_wouldPass_2 3 rfl rfl)
theorem dX7_wouldPass_51 : decode cX7_wouldPass 51 = .ok (.iconst 0, 1) := dk_3 (dk_at dksX7_wouldPass_2 4 rfl rfl)
theorem dX7_wouldPass_52 : decode cX7_wouldPass 52 = .ok (.invokevirtual 127, 3) := dk_182 0 127 (dk_at dksX7_wouldPass_2 5 rfl rfl)
theorem dX7_wouldPass_55 : decode cX7_wouldPass 55 = .ok (.aload_n 0, 1) := dk_42 (dk_at dksX7_wouldPass_2 8 rfl rfl)
theorem dX7_wouldPass_56 : decode cX7_wouldPass 56 = .ok (.iload_n 2, 1) := dk_28 (dk_at dksX7_wouldPass_2 9 rfl rfl)
theorem dX7_wouldPass_57 : decode cX7_wouldPass 57 = .ok (.iconst 1, 1) := dk_4 (dk_at dksX7_wouldPass_2 10 rfl rfl)
theorem dX7_wouldPass_58 : decode cX7_wouldPass 58 = .ok (.invokevirtual 127, 3) := dk_182 0 127 (dk_at dksX7_wouldPass_2 11 rfl rfl)
theorem dX7_wouldPass_61 : decode cX7_wouldPass 61 = .ok (.aload_n 0, 1) := dk_42 (dk_at dksX7_wouldPass_2 14 rfl rfl)
theorem dX7_wouldPass_62 : decode cX7_wouldPass 62 = .ok (.iload_n 2, 1) := dk_28 (dk_at dksX7_wouldPass_2 15 rfl rfl)
theorem dX7_wouldPass_63 : decode cX7_wouldPass 63 = .ok (.iconst 3, 1) := dk_6 (dk_at dksX7_wouldPass_2 16 rfl rfl)
theorem dX7_wouldPass_64 : decode cX7_wouldPass 64 = .ok (.invokevirtual 127, 3) := dk_182 0 127 (dk_at dksX7_wouldPass_2 17 rfl rfl)
theorem dX7_wouldPass_67 : decode cX7_wouldPass 67 = .ok (.iconst 1, 1) := dk_4 (dk_at dksX7_wouldPass_2 20 rfl rfl)
theorem dX7_wouldPass_68 : decode cX7_wouldPass 68 = .ok (.iadd, 1) := dk_96 (dk_at dksX7_wouldPass_2 21 rfl rfl)
theorem dX7_wouldPass_69 : decode cX7_wouldPass 69 = .ok (.aload_n 0, 1) := dk_42 (dk_at dksX7_wouldPass_2 22 rfl rfl)
theorem dX7_wouldPass_70 : decode cX7_wouldPass 70 = .ok (.iload_n 2, 1) := dk_28 (dk_at dksX7_wouldPass_2 23 rfl rfl)
theorem dX7_wouldPass_71 : decode cX7_wouldPass 71 = .ok (.iconst 4, 1) := dk_7 (dk_at dksX7_wouldPass_3 0 rfl rfl)
theorem dX7_wouldPass_72 : decode cX7_wouldPass 72 = .ok (.invokevirtual 127, 3) := dk_182 0 127 (dk_at dksX7_wouldPass_3 1 rfl rfl)
theorem dX7_wouldPass_75 : decode cX7_wouldPass 75 = .ok (.aload_n 0, 1) := dk_42 (dk_at dksX7_wouldPass_3 4 rfl rfl)
theorem dX7_wouldPass_76 : decode cX7_wouldPass 76 = .ok (.iload_n 2, 1) := dk_28 (dk_at dksX7_wouldPass_3 5 rfl rfl)
theorem dX7_wouldPass_77 : decode cX7_wouldPass 77 = .ok (.iconst 5, 1) := dk_8 (dk_at dksX7_wouldPass_3 6 rfl rfl)
theorem dX7_wouldPass_78 : decode cX7_wouldPass 78 = .ok (.invokevirtual 127, 3) := dk_182 0 127 (dk_at dksX7_wouldPass_3 7 rfl rfl)
theorem dX7_wouldPass_81 : decode cX7_wouldPass 81 = .ok (.iconst 1, 1) := dk_4 (dk_at dksX7_wouldPass_3 10 rfl rfl)
theorem dX7_wouldPass_82 : decode cX7_wouldPass 82 = .ok (.if_icmp .ne 7, 3) := dk_160 0 7 (dk_at dksX7_wouldPass_3 11 rfl rfl)
theorem dX7_wouldPass_85 : decode cX7_wouldPass 85 = .ok (.iconst 1, 1) := dk_4 (dk_at dksX7_wouldPass_3 14 rfl rfl)
theorem dX7_wouldPass_86 : decode cX7_wouldPass 86 = .ok (.goto 4, 3) := dk_167 0 4 (dk_at dksX7_wouldPass_3 15 rfl rfl)
theorem dX7_wouldPass_89 : decode cX7_wouldPass 89 = .ok (.iconst 0, 1) := dk_3 (dk_at dksX7_wouldPass_3 18 rfl rfl)
theorem dX7_wouldPass_90 : decode cX7_wouldPass 90 = .ok (.iload_n 3, 1) := dk_29 (dk_at dksX7_wouldPass_3 19 rfl rfl)
theorem dX7_wouldPass_91 : decode cX7_wouldPass 91 = .ok (.invokevirtual 242, 3) := dk_182 0 242 (dk_at dksX7_wouldPass_3 20 rfl rfl)
theorem dX7_wouldPass_94 : decode cX7_wouldPass 94 = .ok (.ireturn, 1) := dk_172 (dk_at dksX7_wouldPass_3 23 rfl rfl)
abbrev cX7_goOn : ByteArray := prog_23_method_41_code
def yX7_goOn : MethodName := ⟨RX7, "goOn", "(I)I"⟩
def dkwX7_goOn_3 : List UInt8 := [182, 0, 135, 132, 2, 1, 132, 3, 1, 167, 255, 194, 28, 172]
abbrev dktX7_goOn_3 : List UInt8 := dkwX7_goOn_3 ++ []
def dkwX7_goOn_2 : List UInt8 := [29, 7, 182, 0, 127, 42, 180, 0, 7, 16, 6, 46, 164, 0, 6, 167, 0, 13, 42, 29, 5, 2]
abbrev dktX7_goOn_2 : List UInt8 := dkwX7_goOn_2 ++ dktX7_goOn_3
def dkwX7_goOn_1 : List UInt8 := [162, 0, 58, 42, 29, 5, 182, 0, 127, 2, 159, 0, 42, 42, 29, 7, 182, 0, 127, 2, 159, 0, 32, 42]
abbrev dktX7_goOn_1 : List UInt8 := dkwX7_goOn_1 ++ dktX7_goOn_2
def dkwX7_goOn_0 : List UInt8 := [42, 180, 0, 7, 16, 6, 92, 46, 27, 96, 79, 3, 61, 3, 62, 29, 42, 180, 0, 7, 6, 46]
abbrev dktX7_goOn_0 : List UInt8 := dkwX7_goOn_0 ++ dktX7_goOn_1
theorem dksX7_goOn_0 : cX7_goOn.data.toList.drop 0 = dktX7_goOn_0 := by decide +kernel
theorem dksX7_goOn_1 : cX7_goOn.data.toList.drop 22 = dktX7_goOn_1 := dk_seg dksX7_goOn_0 22 rfl rfl
theorem dksX7_goOn_2 : cX7_goOn.data.toList.drop 46 = dktX7_goOn_2 := dk_seg dksX7_goOn_1 24 rfl rfl
theorem dksX7_goOn_3 : cX7_goOn.data.toList.drop 68 = dktX7_goOn_3 := dk_seg dksX7_goOn_2 22 rfl rfl
theorem dX7_goOn_0 : decode cX7_goOn 0 = .ok (.aload_n 0, 1) := dk_42 (dk_at dksX7_goOn_0 0 rfl rfl)
theorem dX7_goOn_1 : decode cX7_goOn 1 = .ok (.getfield 7, 3) := dk_180 0 7 (dk_at dksX7_goOn_0 1 rfl rfl)
theorem dX7_goOn_4 : decode cX7_goOn 4 = .ok (.bipush 6, 2) := dk_16 6 (dk_at dksX7_goOn_0 4 rfl rfl)
theorem dX7_goOn_6 : decode cX7_goOn 6 = .ok (.dup2, 1) := dk_92 (dk_at dksX7_goOn_0 6 rfl rfl)
theorem dX7_goOn_7 : decode cX7_goOn 7 = .ok (.iaload, 1) := dk_46 (dk_at dksX7_goOn_0 7 rfl rfl)
theorem dX7_goOn_8 : decode cX7_goOn 8 = .ok (.iload_n 1, 1) := dk_27 (dk_at dksX7_goOn_0 8 rfl rfl)
theorem dX7_goOn_9 : decode cX7_goOn 9 = .ok (.iadd, 1) := dk_96 (dk_at dksX7_goOn_0 9 rfl rfl)
theorem dX7_goOn_10 : decode cX7_goOn 10 = .ok (.iastore, 1) := dk_79 (dk_at dksX7_goOn_0 10 rfl rfl)
theorem dX7_goOn_11 : decode cX7_goOn 11 = .ok (.iconst 0, 1) := dk_3 (dk_at dksX7_goOn_0 11 rfl rfl)
theorem dX7_goOn_12 : decode cX7_goOn 12 = .ok (.istore_n 2, 1) := dk_61 (dk_at dksX7_goOn_0 12 rfl rfl)
theorem dX7_goOn_13 : decode cX7_goOn 13 = .ok (.iconst 0, 1) := dk_3 (dk_at dksX7_goOn_0 13 rfl rfl)
theorem dX7_goOn_14 : decode cX7_goOn 14 = .ok (.istore_n 3, 1) := dk_62 (dk_at dksX7_goOn_0 14 rfl rfl)
theorem dX7_goOn_15 : decode cX7_goOn 15 = .ok (.iload_n 3, 1) := dk_29 (dk_at dksX7_goOn_0 15 rfl rfl)
theorem dX7_goOn_16 : decode cX7_goOn 16 = .ok (.aload_n 0, 1) := dk_42 (dk_at dksX7_goOn_0 16 rfl rfl)
theorem dX7_goOn_17 : decode cX7_goOn 17 = .ok (.getfield 7, 3) := dk_180 0 7 (dk_at dksX7_goOn_0 17 rfl rfl)
theorem dX7_goOn_20 : decode cX7_goOn 20 = .ok (.iconst 3, 1) := dk_6 (dk_at dksX7_goOn_0 20 rfl rfl)
theorem dX7_goOn_21 : decode cX7_goOn 21 = .ok (.iaload, 1) := dk_46 (dk_at dksX7_goOn_0 21 rfl rfl)
theorem dX7_goOn_22 : decode cX7_goOn 22 = .ok (.if_icmp .ge 58, 3) := dk_162 0 58 (dk_at dksX7_goOn_1 0 rfl rfl)
theorem dX7_goOn_25 : decode cX7_goOn 25 = .ok (.aload_n 0, 1) := dk_42 (dk_at dksX7_goOn_1 3 rfl rfl)
theorem dX7_goOn_26 : decode cX7_goOn 26 = .ok (.iload_n 3, 1) := dk_29 (dk_at dksX7_goOn_1 4 rfl rfl)
theorem dX7_goOn_27 : decode cX7_goOn 27 = .ok (.iconst 2, 1) := dk_5 (dk_at dksX7_goOn_1 5 rfl rfl)
theorem dX7_goOn_28 : decode cX7_goOn 28 = .ok (.invokevirtual 127, 3) := dk_182 0 127 (dk_at dksX7_goOn_1 6 rfl rfl)
theorem dX7_goOn_31 : decode cX7_goOn 31 = .ok (.iconst (-1), 1) := dk_2 (dk_at dksX7_goOn_1 9 rfl rfl)
theorem dX7_goOn_32 : decode cX7_goOn 32 = .ok (.if_icmp .eq 42, 3) := dk_159 0 42 (dk_at dksX7_goOn_1 10 rfl rfl)
theorem dX7_goOn_35 : decode cX7_goOn 35 = .ok (.aload_n 0, 1) := dk_42 (dk_at dksX7_goOn_1 13 rfl rfl)
theorem dX7_goOn_36 : decode cX7_goOn 36 = .ok (.iload_n 3, 1) := dk_29 (dk_at dksX7_goOn_1 14 rfl rfl)
theorem dX7_goOn_37 : decode cX7_goOn 37 = .ok (.iconst 4, 1) := dk_7 (dk_at dksX7_goOn_1 15 rfl rfl)
theorem dX7_goOn_38 : decode cX7_goOn 38 = .ok (.invokevirtual 127, 3) := dk_182 0 127 (dk_at dksX7_goOn_1 16 rfl rfl)
theorem dX7_goOn_41 : decode cX7_goOn 41 = .ok (.iconst (-1), 1) := dk_2 (dk_at dksX7_goOn_1 19 rfl rfl)
theorem dX7_goOn_42 : decode cX7_goOn 42 = .ok (.if_icmp .eq 32, 3) := dk_159 0 32 (dk_at dksX7_goOn_1 20 rfl rfl)
theorem dX7_goOn_45 : decode cX7_goOn 45 = .ok (.aload_n 0, 1) := dk_42 (dk_at dksX7_goOn_1 23 rfl rfl)
theorem dX7_goOn_46 : decode cX7_goOn 46 = .ok (.iload_n 3, 1) := dk_29 (dk_at dksX7_goOn_2 0 rfl rfl)
theorem dX7_goOn_47 : decode cX7_goOn 47 = .ok (.iconst 4, 1) := dk_7 (dk_at dksX7_goOn_2 1 rfl rfl)
theorem dX7_goOn_48 : decode cX7_goOn 48 = .ok (.invokevirtual 127, 3) := dk_182 0 127 (dk_at dksX7_goOn_2 2 rfl rfl)
theorem dX7_goOn_51 : decode cX7_goOn 51 = .ok (.aload_n 0, 1) := dk_42 (dk_at dksX7_goOn_2 5 rfl rfl)
theorem dX7_goOn_52 : decode cX7_goOn 52 = .ok (.getfield 7, 3) := dk_180 0 7 (dk_at dksX7_goOn_2 6 rfl rfl)
theorem dX7_goOn_55 : decode cX7_goOn 55 = .ok (.bipush 6, 2) := dk_16 6 (dk_at dksX7_goOn_2 9 rfl rfl)
theorem dX7_goOn_57 : decode cX7_goOn 57 = .ok (.iaload, 1) := dk_46 (dk_at dksX7_goOn_2 11 rfl rfl)
theorem dX7_goOn_58 : decode cX7_goOn 58 = .ok (.if_icmp .le 6, 3) := dk_164 0 6 (dk_at dksX7_goOn_2 12 rfl rfl)
theorem dX7_goOn_61 : decode cX7_goOn 61 = .ok (.goto 13, 3) := dk_167 0 13 (dk_at dksX7_goOn_2 15 rfl rfl)
theorem dX7_goOn_64 : decode cX7_goOn 64 = .ok (.aload_n 0, 1) := dk_42 (dk_at dksX7_goOn_2 18 rfl rfl)
theorem dX7_goOn_65 : decode cX7_goOn 65 = .ok (.iload_n 3, 1) := dk_29 (dk_at dksX7_goOn_2 19 rfl rfl)
theorem dX7_goOn_66 : decode cX7_goOn 66 = .ok (.iconst 2, 1) := dk_5 (dk_at dksX7_goOn_2 20 rfl rfl)
theorem dX7_goOn_67 : decode cX7_goOn 67 = .ok (.iconst (-1), 1) := dk_2 (dk_at dksX7_goOn_2 21 rfl rfl)
theorem dX7_goOn_68 : decode cX7_goOn 68 = .ok (.invokevirtual 135, 3) := dk_182 0 135 (dk_at dksX7_goOn_3 0 rfl rfl)
theorem dX7_goOn_71 : decode cX7_goOn 71 = .ok (.iinc 2 1, 3) := dk_132 2 1 (dk_at dksX7_goOn_3 3 rfl rfl)
theorem dX7_goOn_74 : decode cX7_goOn 74 = .ok (.iinc 3 1, 3) := dk_132 3 1 (dk_at dksX7_goOn_3 6 rfl rfl)
theorem dX7_goOn_77 : decode cX7_goOn 77 = .ok (.goto (-62), 3) := dk_167 255 194 (dk_at dksX7_goOn_3 9 rfl rfl)
theorem dX7_goOn_80 : decode cX7_goOn 80 = .ok (.iload_n 2, 1) := dk_28 (dk_at dksX7_goOn_3 12 rfl rfl)
theorem dX7_goOn_81 : decode cX7_goOn 81 = .ok (.ireturn, 1) := dk_172 (dk_at dksX7_goOn_3 13 rfl rfl)
abbrev cX7_temper : ByteArray := prog_23_method_29_code
def yX7_temper : MethodName := ⟨RX7, "temper", "()I"⟩
def dkwX7_temper_6 : List UInt8 := [180, 0, 7, 5, 46, 4, 100, 172]
abbrev dktX7_temper_6 : List UInt8 := dkwX7_temper_6 ++ []
def dkwX7_temper_5 : List UInt8 := [180, 0, 19, 29, 46, 79, 132, 3, 1, 167, 255, 232, 42, 180, 0, 7, 5, 92, 46, 4, 96, 79, 42]
abbrev dktX7_temper_5 : List UInt8 := dkwX7_temper_5 ++ dktX7_temper_6
def dkwX7_temper_4 : List UInt8 := [180, 0, 7, 28, 27, 79, 3, 62, 29, 27, 162, 0, 25, 42, 180, 0, 7, 28, 4, 96, 29, 96, 42]
abbrev dktX7_temper_4 : List UInt8 := dkwX7_temper_4 ++ dktX7_temper_5
def dkwX7_temper_3 : List UInt8 := [180, 0, 53, 158, 0, 5, 3, 172, 17, 3, 172, 17, 1, 145, 42, 180, 0, 7, 5, 46, 104, 96, 61, 42]
abbrev dktX7_temper_3 : List UInt8 := dkwX7_temper_3 ++ dktX7_temper_4
def dkwX7_temper_2 : List UInt8 := [167, 0, 19, 42, 180, 0, 7, 5, 46, 16, 6, 160, 0, 7, 5, 167, 0, 4, 3, 181, 0, 53, 42]
abbrev dktX7_temper_2 : List UInt8 := dkwX7_temper_2 ++ dktX7_temper_3
def dkwX7_temper_1 : List UInt8 := [4, 182, 0, 163, 42, 180, 0, 60, 60, 42, 3, 181, 0, 60, 42, 42, 180, 0, 22, 2, 159, 0, 7, 4]
abbrev dktX7_temper_1 : List UInt8 := dkwX7_temper_1 ++ dktX7_temper_2
def dkwX7_temper_0 : List UInt8 := [42, 2, 181, 0, 22, 42, 2, 181, 0, 63, 42, 42, 180, 0, 60, 181, 0, 69, 42, 2, 181, 0, 223, 42]
abbrev dktX7_temper_0 : List UInt8 := dkwX7_temper_0 ++ dktX7_temper_1
theorem dksX7_temper_0 : cX7_temper.data.toList.drop 0 = dktX7_temper_0 := by decide +kernel
theorem dksX7_temper_1 : cX7_temper.data.toList.drop 24 = dktX7_temper_1 := dk_seg dksX7_temper_0 24 rfl rfl
theorem dksX7_temper_2 : cX7_temper.data.toList.drop 48 = dktX7_temper_2 := dk_seg dksX7_temper_1 24 rfl rfl
theorem dksX7_temper_3 : cX7_temper.data.toList.drop 71 = dktX7_temper_3 := dk_seg dksX7_temper_2 23 rfl rfl
theorem dksX7_temper_4 : cX7_temper.data.toList.drop 95 = dktX7_temper_4 := dk_seg dksX7_temper_3 24 rfl rfl
theorem dksX7_temper_5 : cX7_temper.data.toList.drop 118 = dktX7_temper_5 := dk_seg dksX7_temper_4 23 rfl rfl
theorem dksX7_temper_6 : cX7_temper.data.toList.drop 141 = dktX7_temper_6 := dk_seg dksX7_temper_5 23 rfl rfl
theorem dX7_temper_0 : decode cX7_temper 0 = .ok (.aload_n 0, 1) := dk_42 (dk_at dksX7_temper_0 0 rfl rfl)
theorem dX7_temper_1 : decode cX7_temper 1 = .ok (.iconst (-1), 1) := dk_2 (dk_at dksX7_temper_0 1 rfl rfl)
theorem dX7_temper_2 : decode cX7_temper 2 = .ok (.putfield 22, 3) := dk_181 0 22 (dk_at dksX7_temper_0 2 rfl rfl)
theorem dX7_temper_5 : decode cX7_temper 5 = .ok (.aload_n 0, 1) := dk_42 (dk_at dksX7_temper_0 5 rfl rfl)
theorem dX7_temper_6 : decode cX7_temper 6 = .ok (.iconst (-1), 1) := dk_2 (dk_at dksX7_temper_0 6 rfl rfl)
theorem dX7_temper_7 : decode cX7_temper 7 = .ok (.putfield 63, 3) := dk_181 0 63 (dk_at dksX7_temper_0 7 rfl rfl)
theorem dX7_temper_10 : decode cX7_temper 10 = .ok (.aload_n 0, 1) := dk_42 (dk_at dksX7_temper_0 10 rfl rfl)
theorem dX7_temper_11 : decode cX7_temper 11 = .ok (.aload_n 0, 1) := dk_42 (dk_at dksX7_temper_0 11 rfl rfl)
theorem dX7_temper_12 : decode cX7_temper 12 = .ok (.getfield 60, 3) := dk_180 0 60 (dk_at dksX7_temper_0 12 rfl rfl)
theorem dX7_temper_15 : decode cX7_temper 15 = .ok (.putfield 69, 3) := dk_181 0 69 (dk_at dksX7_temper_0 15 rfl rfl)
theorem dX7_temper_18 : decode cX7_temper 18 = .ok (.aload_n 0, 1) := dk_42 (dk_at dksX7_temper_0 18 rfl rfl)
theorem dX7_temper_19 : decode cX7_temper 19 = .ok (.iconst (-1), 1) := dk_2 (dk_at dksX7_temper_0 19 rfl rfl)
theorem dX7_temper_20 : decode cX7_temper 20 = .ok (.putfield 223, 3) := dk_181 0 223 (dk_at dksX7_temper_0 20 rfl rfl)
theorem dX7_temper_23 : decode cX7_temper 23 = .ok (.aload_n 0, 1) := dk_42 (dk_at dksX7_temper_0 23 rfl rfl)
theorem dX7_temper_24 : decode cX7_temper 24 = .ok (.iconst 1, 1) := dk_4 (dk_at dksX7_temper_1 0 rfl rfl)
theorem dX7_temper_25 : decode cX7_temper 25 = .ok (.invokevirtual 163, 3) := dk_182 0 163 (dk_at dksX7_temper_1 1 rfl rfl)
theorem dX7_temper_28 : decode cX7_temper 28 = .ok (.aload_n 0, 1) := dk_42 (dk_at dksX7_temper_1 4 rfl rfl)
theorem dX7_temper_29 : decode cX7_temper 29 = .ok (.getfield 60, 3) := dk_180 0 60 (dk_at dksX7_temper_1 5 rfl rfl)
theorem dX7_temper_32 : decode cX7_temper 32 = .ok (.istore_n 1, 1) := dk_60 (dk_at dksX7_temper_1 8 rfl rfl)
theorem dX7_temper_33 : decode cX7_temper 33 = .ok (.aload_n 0, 1) := dk_42 (dk_at dksX7_temper_1 9 rfl rfl)
theorem dX7_temper_34 : decode cX7_temper 34 = .ok (.iconst 0, 1) := dk_3 (dk_at dksX7_temper_1 10 rfl rfl)
theorem dX7_temper_35 : decode cX7_temper 35 = .ok (.putfield 60, 3) := dk_181 0 60 (dk_at dksX7_temper_1 11 rfl rfl)
theorem dX7_temper_38 : decode cX7_temper 38 = .ok (.aload_n 0, 1) := dk_42 (dk_at dksX7_temper_1 14 rfl rfl)
theorem dX7_temper_39 : decode cX7_temper 39 = .ok (.aload_n 0, 1) := dk_42 (dk_at dksX7_temper_1 15 rfl rfl)
theorem dX7_temper_40 : decode cX7_temper 40 = .ok (.getfield 22, 3) := dk_180 0 22 (dk_at dksX7_temper_1 16 rfl rfl)
theorem dX7_temper_43 : decode cX7_temper 43 = .ok (.iconst (-1), 1) := dk_2 (dk_at dksX7_temper_1 19 rfl rfl)
theorem dX7_temper_44 : decode cX7_temper 44 = .ok (.if_icmp .eq 7, 3) := dk_159 0 7 (dk_at dksX7_temper_1 20 rfl rfl)
theorem dX7_temper_47 : decode cX7_temper 47 = .ok (.iconst 1, 1) := dk_4 (dk_at dksX7_temper_1 23 rfl rfl)
theorem dX7_temper_48 : decode cX7_temper 48 = .ok (.goto 19, 3) := dk_167 0 19 (dk_at dksX7_temper_2 0 rfl rfl)
theorem dX7_temper_51 : decode cX7_temper 51 = .ok (.aload_n 0, 1) := dk_42 (dk_at dksX7_temper_2 3 rfl rfl)
theorem dX7_temper_52 : decode cX7_temper 52 = .ok (.getfield 7, 3) := dk_180 0 7 (dk_at dksX7_temper_2 4 rfl rfl)
theorem dX7_temper_55 : decode cX7_temper 55 = .ok (.iconst 2, 1) := dk_5 (dk_at dksX7_temper_2 7 rfl rfl)
theorem dX7_temper_56 : decode cX7_temper 56 = .ok (.iaload, 1) := dk_46 (dk_at dksX7_temper_2 8 rfl rfl)
theorem dX7_temper_57 : decode cX7_temper 57 = .ok (.bipush 6, 2) := dk_16 6 (dk_at dksX7_temper_2 9 rfl rfl)
theorem dX7_temper_59 : decode cX7_temper 59 = .ok (.if_icmp .ne 7, 3) := dk_160 0 7 (dk_at dksX7_temper_2 11 rfl rfl)
theorem dX7_temper_62 : decode cX7_temper 62 = .ok (.iconst 2, 1) := dk_5 (dk_at dksX7_temper_2 14 rfl rfl)
theorem dX7_temper_63 : decode cX7_temper 63 = .ok (.goto 4, 3) := dk_167 0 4 (dk_at dksX7_temper_2 15 rfl rfl)
theorem dX7_temper_66 : decode cX7_temper 66 = .ok (.iconst 0, 1) := dk_3 (dk_at dksX7_temper_2 18 rfl rfl)
theorem dX7_temper_67 : decode cX7_temper 67 = .ok (.putfield 53, 3) := dk_181 0 53 (dk_at dksX7_temper_2 19 rfl rfl)
theorem dX7_temper_70 : decode cX7_temper 70 = .ok (.aload_n 0, 1) := dk_42 (dk_at dksX7_temper_2 22 rfl rfl)
theorem dX7_temper_71 : decode cX7_temper 71 = .ok (.getfield 53, 3) := dk_180 0 53 (dk_at dksX7_temper_3 0 rfl rfl)
theorem dX7_temper_74 : decode cX7_temper 74 = .ok (.ifCond .le 5, 3) := dk_158 0 5 (dk_at dksX7_temper_3 3 rfl rfl)
theorem dX7_temper_77 : decode cX7_temper 77 = .ok (.iconst 0, 1) := dk_3 (dk_at dksX7_temper_3 6 rfl rfl)
theorem dX7_temper_78 : decode cX7_temper 78 = .ok (.ireturn, 1) := dk_172 (dk_at dksX7_temper_3 7 rfl rfl)
theorem dX7_temper_79 : decode cX7_temper 79 = .ok (.sipush 940, 3) := dk_17 3 172 (dk_at dksX7_temper_3 8 rfl rfl)
theorem dX7_temper_82 : decode cX7_temper 82 = .ok (.sipush 401, 3) := dk_17 1 145 (dk_at dksX7_temper_3 11 rfl rfl)
theorem dX7_temper_85 : decode cX7_temper 85 = .ok (.aload_n 0, 1) := dk_42 (dk_at dksX7_temper_3 14 rfl rfl)
theorem dX7_temper_86 : decode cX7_temper 86 = .ok (.getfield 7, 3) := dk_180 0 7 (dk_at dksX7_temper_3 15 rfl rfl)
theorem dX7_temper_89 : decode cX7_temper 89 = .ok (.iconst 2, 1) := dk_5 (dk_at dksX7_temper_3 18 rfl rfl)
theorem dX7_temper_90 : decode cX7_temper 90 = .ok (.iaload, 1) := dk_46 (dk_at dksX7_temper_3 19 rfl rfl)
theorem dX7_temper_91 : decode cX7_temper 91 = .ok (.imul, 1) := dk_104 (dk_at dksX7_temper_3 20 rfl rfl)
theorem dX7_temper_92 : decode cX7_temper 92 = .ok (.iadd, 1) := dk_96 (dk_at dksX7_temper_3 21 rfl rfl)
theorem dX7_temper_93 : decode cX7_temper 93 = .ok (.istore_n 2, 1) := dk_61 (dk_at dksX7_temper_3 22 rfl rfl)
theorem dX7_temper_94 : decode cX7_temper 94 = .ok (.aload_n 0, 1) := dk_42 (dk_at dksX7_temper_3 23 rfl rfl)
theorem dX7_temper_95 : decode cX7_temper 95 = .ok (.getfield 7, 3) := dk_180 0 7 (dk_at dksX7_temper_4 0 rfl rfl)
theorem dX7_temper_98 : decode cX7_temper 98 = .ok (.iload_n 2, 1) := dk_28 (dk_at dksX7_temper_4 3 rfl rfl)
theorem dX7_temper_99 : decode cX7_temper 99 = .ok (.iload_n 1, 1) := dk_27 (dk_at dksX7_temper_4 4 rfl rfl)
theorem dX7_temper_100 : decode cX7_temper 100 = .ok (.iastore, 1) := dk_79 (dk_at dksX7_temper_4 5 rfl rfl)
theorem dX7_temper_101 : decode cX7_temper 101 = .ok (.iconst 0, 1) := dk_3 (dk_at dksX7_temper_4 6 rfl rfl)
theorem dX7_temper_102 : decode cX7_temper 102 = .ok (.istore_n 3, 1) := dk_62 (dk_at dksX7_temper_4 7 rfl rfl)
theorem dX7_temper_103 : decode cX7_temper 103 = .ok (.iload_n 3, 1) := dk_29 (dk_at dksX7_temper_4 8 rfl rfl)
theorem dX7_temper_104 : decode cX7_temper 104 = .ok (.iload_n 1, 1) := dk_27 (dk_at dksX7_temper_4 9 rfl rfl)
theorem dX7_temper_105 : decode cX7_temper 105 = .ok (.if_icmp .ge 25, 3) := dk_162 0 25 (dk_at dksX7_temper_4 10 rfl rfl)
theorem dX7_temper_108 : decode cX7_temper 108 = .ok (.aload_n 0, 1) := dk_42 (dk_at dksX7_temper_4 13 rfl rfl)
theorem dX7_temper_109 : decode cX7_temper 109 = .ok (.getfield 7, 3) := dk_180 0 7 (dk_at dksX7_temper_4 14 rfl rfl)
theorem dX7_temper_112 : decode cX7_temper 112 = .ok (.iload_n 2, 1) := dk_28 (dk_at dksX7_temper_4 17 rfl rfl)
theorem dX7_temper_113 : decode cX7_temper 113 = .ok (.iconst 1, 1) := dk_4 (dk_at dksX7_temper_4 18 rfl rfl)
theorem dX7_temper_114 : decode cX7_temper 114 = .ok (.iadd, 1) := dk_96 (dk_at dksX7_temper_4 19 rfl rfl)
theorem dX7_temper_115 : decode cX7_temper 115 = .ok (.iload_n 3, 1) := dk_29 (dk_at dksX7_temper_4 20 rfl rfl)
theorem dX7_temper_116 : decode cX7_temper 116 = .ok (.iadd, 1) := dk_96 (dk_at dksX7_temper_4 21 rfl rfl)
theorem dX7_temper_117 : decode cX7_temper 117 = .ok (.aload_n 0, 1) := dk_42 (dk_at dksX7_temper_4 22 rfl rfl)
theorem dX7_temper_118 : decode cX7_temper 118 = .ok (.getfield 19, 3) := dk_180 0 19 (dk_at dksX7_temper_5 0 rfl rfl)
theorem dX7_temper_121 : decode cX7_temper 121 = .ok (.iload_n 3, 1) := dk_29 (dk_at dksX7_temper_5 3 rfl rfl)
theorem dX7_temper_122 : decode cX7_temper 122 = .ok (.iaload, 1) := dk_46 (dk_at dksX7_temper_5 4 rfl rfl)
theorem dX7_temper_123 : decode cX7_temper 123 = .ok (.iastore, 1) := dk_79 (dk_at dksX7_temper_5 5 rfl rfl)
theorem dX7_temper_124 : decode cX7_temper 124 = .ok (.iinc 3 1, 3) := dk_132 3 1 (dk_at dksX7_temper_5 6 rfl rfl)
theorem dX7_temper_127 : decode cX7_temper 127 = .ok (.goto (-24), 3) := dk_167 255 232 (dk_at dksX7_temper_5 9 rfl rfl)
theorem dX7_temper_130 : decode cX7_temper 130 = .ok (.aload_n 0, 1) := dk_42 (dk_at dksX7_temper_5 12 rfl rfl)
theorem dX7_temper_131 : decode cX7_temper 131 = .ok (.getfield 7, 3) := dk_180 0 7 (dk_at dksX7_temper_5 13 rfl rfl)
theorem dX7_temper_134 : decode cX7_temper 134 = .ok (.iconst 2, 1) := dk_5 (dk_at dksX7_temper_5 16 rfl rfl)
theorem dX7_temper_135 : decode cX7_temper 135 = .ok (.dup2, 1) := dk_92 (dk_at dksX7_temper_5 17 rfl rfl)
theorem dX7_temper_136 : decode cX7_temper 136 = .ok (.iaload, 1) := dk_46 (dk_at dksX7_temper_5 18 rfl rfl)
theorem dX7_temper_137 : decode cX7_temper 137 = .ok (.iconst 1, 1) := dk_4 (dk_at dksX7_temper_5 19 rfl rfl)
theorem dX7_temper_138 : decode cX7_temper 138 = .ok (.iadd, 1) := dk_96 (dk_at dksX7_temper_5 20 rfl rfl)
theorem dX7_temper_139 : decode cX7_temper 139 = .ok (.iastore, 1) := dk_79 (dk_at dksX7_temper_5 21 rfl rfl)
theorem dX7_temper_140 : decode cX7_temper 140 = .ok (.aload_n 0, 1) := dk_42 (dk_at dksX7_temper_5 22 rfl rfl)
theorem dX7_temper_141 : decode cX7_temper 141 = .ok (.getfield 7, 3) := dk_180 0 7 (dk_at dksX7_temper_6 0 rfl rfl)
theorem dX7_temper_144 : decode cX7_temper 144 = .ok (.iconst 2, 1) := dk_5 (dk_at dksX7_temper_6 3 rfl rfl)
theorem dX7_temper_145 : decode cX7_temper 145 = .ok (.iaload, 1) := dk_46 (dk_at dksX7_temper_6 4 rfl rfl)
theorem dX7_temper_146 : decode cX7_temper 146 = .ok (.iconst 1, 1) := dk_4 (dk_at dksX7_temper_6 5 rfl rfl)
theorem dX7_temper_147 : decode cX7_temper 147 = .ok (.isub, 1) := dk_100 (dk_at dksX7_temper_6 6 rfl rfl)
theorem dX7_temper_148 : decode cX7_temper 148 = .ok (.ireturn, 1) := dk_172 (dk_at dksX7_temper_6 7 rfl rfl)
abbrev cX7_fault : ByteArray := prog_23_method_30_code
def yX7_fault : MethodName := ⟨RX7, "fault", "()I"⟩
def dkwX7_fault_0 : List UInt8 := [42, 3, 181, 0, 53, 42, 180, 0, 22, 172]
abbrev dktX7_fault_0 : List UInt8 := dkwX7_fault_0 ++ []
theorem dksX7_fault_0 : cX7_fault.data.toList.drop 0 = dktX7_fault_0 := by decide +kernel
theorem dX7_fault_0 : decode cX7_fault 0 = .ok (.aload_n 0, 1) := dk_42 (dk_at dksX7_fault_0 0 rfl rfl)
theorem dX7_fault_1 : decode cX7_fault 1 = .ok (.iconst 0, 1) := dk_3 (dk_at dksX7_fault_0 1 rfl rfl)
theorem dX7_fault_2 : decode cX7_fault 2 = .ok (.putfield 53, 3) := dk_181 0 53 (dk_at dksX7_fault_0 2 rfl rfl)
theorem dX7_fault_5 : decode cX7_fault 5 = .ok (.aload_n 0, 1) := dk_42 (dk_at dksX7_fault_0 5 rfl rfl)
theorem dX7_fault_6 : decode cX7_fault 6 = .ok (.getfield 22, 3) := dk_180 0 22 (dk_at dksX7_fault_0 6 rfl rfl)
theorem dX7_fault_9 : decode cX7_fault 9 = .ok (.ireturn, 1) := dk_172 (dk_at dksX7_fault_0 9 rfl rfl)
abbrev cX7_has : ByteArray := prog_23_method_31_code
def yX7_has : MethodName := ⟨RX7, "has", "(II)I"⟩
def dkwX7_has_3 : List UInt8 := [29, 172]
abbrev dktX7_has_3 : List UInt8 := dkwX7_has_3 ++ []
def dkwX7_has_2 : List UInt8 := [16, 10, 6, 27, 104, 96, 4, 96, 46, 62, 42, 180, 0, 7, 16, 10, 6, 27, 104, 96, 4, 96, 28, 79]
abbrev dktX7_has_2 : List UInt8 := dkwX7_has_2 ++ dktX7_has_3
def dkwX7_has_1 : List UInt8 := [154, 0, 7, 4, 167, 0, 4, 3, 181, 0, 53, 42, 180, 0, 53, 158, 0, 5, 3, 172, 42, 180, 0, 7]
abbrev dktX7_has_1 : List UInt8 := dkwX7_has_1 ++ dktX7_has_2
def dkwX7_has_0 : List UInt8 := [42, 42, 27, 182, 0, 226, 153, 0, 19, 28, 2, 42, 180, 0, 7, 5, 46, 4, 100, 184, 0, 56]
abbrev dktX7_has_0 : List UInt8 := dkwX7_has_0 ++ dktX7_has_1
theorem dksX7_has_0 : cX7_has.data.toList.drop 0 = dktX7_has_0 := by decide +kernel
theorem dksX7_has_1 : cX7_has.data.toList.drop 22 = dktX7_has_1 := dk_seg dksX7_has_0 22 rfl rfl
theorem dksX7_has_2 : cX7_has.data.toList.drop 46 = dktX7_has_2 := dk_seg dksX7_has_1 24 rfl rfl
theorem dksX7_has_3 : cX7_has.data.toList.drop 70 = dktX7_has_3 := dk_seg dksX7_has_2 24 rfl rfl
theorem dX7_has_0 : decode cX7_has 0 = .ok (.aload_n 0, 1) := dk_42 (dk_at dksX7_has_0 0 rfl rfl)
theorem dX7_has_1 : decode cX7_has 1 = .ok (.aload_n 0, 1) := dk_42 (dk_at dksX7_has_0 1 rfl rfl)
theorem dX7_has_2 : decode cX7_has 2 = .ok (.iload_n 1, 1) := dk_27 (dk_at dksX7_has_0 2 rfl rfl)
theorem dX7_has_3 : decode cX7_has 3 = .ok (.invokevirtual 226, 3) := dk_182 0 226 (dk_at dksX7_has_0 3 rfl rfl)
theorem dX7_has_6 : decode cX7_has 6 = .ok (.ifCond .eq 19, 3) := dk_153 0 19 (dk_at dksX7_has_0 6 rfl rfl)
theorem dX7_has_9 : decode cX7_has 9 = .ok (.iload_n 2, 1) := dk_28 (dk_at dksX7_has_0 9 rfl rfl)
theorem dX7_has_10 : decode cX7_has 10 = .ok (.iconst (-1), 1) := dk_2 (dk_at dksX7_has_0 10 rfl rfl)
theorem dX7_has_11 : decode cX7_has 11 = .ok (.aload_n 0, 1) := dk_42 (dk_at dksX7_has_0 11 rfl rfl)
theorem dX7_has_12 : decode cX7_has 12 = .ok (.getfield 7, 3) := dk_180 0 7 (dk_at dksX7_has_0 12 rfl rfl)
theorem dX7_has_15 : decode cX7_has 15 = .ok (.iconst 2, 1) := dk_5 (dk_at dksX7_has_0 15 rfl rfl)
theorem dX7_has_16 : decode cX7_has 16 = .ok (.iaload, 1) := dk_46 (dk_at dksX7_has_0 16 rfl rfl)
theorem dX7_has_17 : decode cX7_has 17 = .ok (.iconst 1, 1) := dk_4 (dk_at dksX7_has_0 17 rfl rfl)
theorem dX7_has_18 : decode cX7_has 18 = .ok (.isub, 1) := dk_100 (dk_at dksX7_has_0 18 rfl rfl)
theorem dX7_has_19 : decode cX7_has 19 = .ok (.invokestatic 56, 3) := dk_184 0 56 (dk_at dksX7_has_0 19 rfl rfl)
theorem dX7_has_22 : decode cX7_has 22 = .ok (.ifCond .ne 7, 3) := dk_154 0 7 (dk_at dksX7_has_1 0 rfl rfl)
theorem dX7_has_25 : decode cX7_has 25 = .ok (.iconst 1, 1) := dk_4 (dk_at dksX7_has_1 3 rfl rfl)
theorem dX7_has_26 : decode cX7_has 26 = .ok (.goto 4, 3) := dk_167 0 4 (dk_at dksX7_has_1 4 rfl rfl)
theorem dX7_has_29 : decode cX7_has 29 = .ok (.iconst 0, 1) := dk_3 (dk_at dksX7_has_1 7 rfl rfl)
theorem dX7_has_30 : decode cX7_has 30 = .ok (.putfield 53, 3) := dk_181 0 53 (dk_at dksX7_has_1 8 rfl rfl)
theorem dX7_has_33 : decode cX7_has 33 = .ok (.aload_n 0, 1) := dk_42 (dk_at dksX7_has_1 11 rfl rfl)
theorem dX7_has_34 : decode cX7_has 34 = .ok (.getfield 53, 3) := dk_180 0 53 (dk_at dksX7_has_1 12 rfl rfl)
theorem dX7_has_37 : decode cX7_has 37 = .ok (.ifCond .le 5, 3) := dk_158 0 5 (dk_at dksX7_has_1 15 rfl rfl)
theorem dX7_has_40 : decode cX7_has 40 = .ok (.iconst 0, 1) := dk_3 (dk_at dksX7_has_1 18 rfl rfl)
theorem dX7_has_41 : decode cX7_has 41 = .ok (.ireturn, 1) := dk_172 (dk_at dksX7_has_1 19 rfl rfl)
theorem dX7_has_42 : decode cX7_has 42 = .ok (.aload_n 0, 1) := dk_42 (dk_at dksX7_has_1 20 rfl rfl)
theorem dX7_has_43 : decode cX7_has 43 = .ok (.getfield 7, 3) := dk_180 0 7 (dk_at dksX7_has_1 21 rfl rfl)
theorem dX7_has_46 : decode cX7_has 46 = .ok (.bipush 10, 2) := dk_16 10 (dk_at dksX7_has_2 0 rfl rfl)
theorem dX7_has_48 : decode cX7_has 48 = .ok (.iconst 3, 1) := dk_6 (dk_at dksX7_has_2 2 rfl rfl)
theorem dX7_has_49 : decode cX7_has 49 = .ok (.iload_n 1, 1) := dk_27 (dk_at dksX7_has_2 3 rfl rfl)
theorem dX7_has_50 : decode cX7_has 50 = .ok (.imul, 1) := dk_104 (dk_at dksX7_has_2 4 rfl rfl)
theorem dX7_has_51 : decode cX7_has 51 = .ok (.iadd, 1) := dk_96 (dk_at dksX7_has_2 5 rfl rfl)
theorem dX7_has_52 : decode cX7_has 52 = .ok (.iconst 1, 1) := dk_4 (dk_at dksX7_has_2 6 rfl rfl)
theorem dX7_has_53 : decode cX7_has 53 = .ok (.iadd, 1) := dk_96 (dk_at dksX7_has_2 7 rfl rfl)
theorem dX7_has_54 : decode cX7_has 54 = .ok (.iaload, 1) := dk_46 (dk_at dksX7_has_2 8 rfl rfl)
theorem dX7_has_55 : decode cX7_has 55 = .ok (.istore_n 3, 1) := dk_62 (dk_at dksX7_has_2 9 rfl rfl)
theorem dX7_has_56 : decode cX7_has 56 = .ok (.aload_n 0, 1) := dk_42 (dk_at dksX7_has_2 10 rfl rfl)
theorem dX7_has_57 : decode cX7_has 57 = .ok (.getfield 7, 3) := dk_180 0 7 (dk_at dksX7_has_2 11 rfl rfl)
theorem dX7_has_60 : decode cX7_has 60 = .ok (.bipush 10, 2) := dk_16 10 (dk_at dksX7_has_2 14 rfl rfl)
theorem dX7_has_62 : decode cX7_has 62 = .ok (.iconst 3, 1) := dk_6 (dk_at dksX7_has_2 16 rfl rfl)
theorem dX7_has_63 : decode cX7_has 63 = .ok (.iload_n 1, 1) := dk_27 (dk_at dksX7_has_2 17 rfl rfl)
theorem dX7_has_64 : decode cX7_has 64 = .ok (.imul, 1) := dk_104 (dk_at dksX7_has_2 18 rfl rfl)
theorem dX7_has_65 : decode cX7_has 65 = .ok (.iadd, 1) := dk_96 (dk_at dksX7_has_2 19 rfl rfl)
theorem dX7_has_66 : decode cX7_has 66 = .ok (.iconst 1, 1) := dk_4 (dk_at dksX7_has_2 20 rfl rfl)
theorem dX7_has_67 : decode cX7_has 67 = .ok (.iadd, 1) := dk_96 (dk_at dksX7_has_2 21 rfl rfl)
theorem dX7_has_68 : decode cX7_has 68 = .ok (.iload_n 2, 1) := dk_28 (dk_at dksX7_has_2 22 rfl rfl)
theorem dX7_has_69 : decode cX7_has 69 = .ok (.iastore, 1) := dk_79 (dk_at dksX7_has_2 23 rfl rfl)
theorem dX7_has_70 : decode cX7_has 70 = .ok (.iload_n 3, 1) := dk_29 (dk_at dksX7_has_3 0 rfl rfl)
theorem dX7_has_71 : decode cX7_has 71 = .ok (.ireturn, 1) := dk_172 (dk_at dksX7_has_3 1 rfl rfl)
abbrev cX7_isPerson : ByteArray := prog_23_method_4_code
def yX7_isPerson : MethodName := ⟨RX7, "isPerson", "(I)Z"⟩
def dkwX7_isPerson_0 : List UInt8 := [27, 3, 42, 180, 0, 7, 4, 46, 4, 100, 184, 0, 56, 172]
abbrev dktX7_isPerson_0 : List UInt8 := dkwX7_isPerson_0 ++ []
theorem dksX7_isPerson_0 : cX7_isPerson.data.toList.drop 0 = dktX7_isPerson_0 := by decide +kernel
theorem dX7_isPerson_0 : decode cX7_isPerson 0 = .ok (.iload_n 1, 1) := dk_27 (dk_at dksX7_isPerson_0 0 rfl rfl)
theorem dX7_isPerson_1 : decode cX7_isPerson 1 = .ok (.iconst 0, 1) := dk_3 (dk_at dksX7_isPerson_0 1 rfl rfl)
theorem dX7_isPerson_2 : decode cX7_isPerson 2 = .ok (.aload_n 0, 1) := dk_42 (dk_at dksX7_isPerson_0 2 rfl rfl)
theorem dX7_isPerson_3 : decode cX7_isPerson 3 = .ok (.getfield 7, 3) := dk_180 0 7 (dk_at dksX7_isPerson_0 3 rfl rfl)
theorem dX7_isPerson_6 : decode cX7_isPerson 6 = .ok (.iconst 1, 1) := dk_4 (dk_at dksX7_isPerson_0 6 rfl rfl)
theorem dX7_isPerson_7 : decode cX7_isPerson 7 = .ok (.iaload, 1) := dk_46 (dk_at dksX7_isPerson_0 7 rfl rfl)
theorem dX7_isPerson_8 : decode cX7_isPerson 8 = .ok (.iconst 1, 1) := dk_4 (dk_at dksX7_isPerson_0 8 rfl rfl)
theorem dX7_isPerson_9 : decode cX7_isPerson 9 = .ok (.isub, 1) := dk_100 (dk_at dksX7_isPerson_0 9 rfl rfl)
theorem dX7_isPerson_10 : decode cX7_isPerson 10 = .ok (.invokestatic 56, 3) := dk_184 0 56 (dk_at dksX7_isPerson_0 10 rfl rfl)
theorem dX7_isPerson_13 : decode cX7_isPerson 13 = .ok (.ireturn, 1) := dk_172 (dk_at dksX7_isPerson_0 13 rfl rfl)
abbrev cX7_give : ByteArray := prog_23_method_42_code
def yX7_give : MethodName := ⟨RX7, "give", "(IIIIZ)I"⟩
def dkwX7_give_3 : List UInt8 := [21, 5, 182, 0, 121, 172]
abbrev dktX7_give_3 : List UInt8 := dkwX7_give_3 ++ []
def dkwX7_give_2 : List UInt8 := [5, 167, 0, 4, 3, 181, 0, 53, 42, 180, 0, 53, 158, 0, 5, 3, 172, 42, 27, 28, 29, 21, 4]
abbrev dktX7_give_2 : List UInt8 := dkwX7_give_2 ++ dktX7_give_3
def dkwX7_give_1 : List UInt8 := [159, 0, 24, 29, 4, 16, 99, 184, 0, 56, 153, 0, 14, 21, 4, 3, 16, 99, 184, 0, 56, 154, 0, 7]
abbrev dktX7_give_1 : List UInt8 := dkwX7_give_1 ++ dktX7_give_2
def dkwX7_give_0 : List UInt8 := [42, 42, 27, 182, 0, 226, 153, 0, 11, 42, 28, 182, 0, 226, 154, 0, 7, 4, 167, 0, 34, 27, 28]
abbrev dktX7_give_0 : List UInt8 := dkwX7_give_0 ++ dktX7_give_1
theorem dksX7_give_0 : cX7_give.data.toList.drop 0 = dktX7_give_0 := by decide +kernel
theorem dksX7_give_1 : cX7_give.data.toList.drop 23 = dktX7_give_1 := dk_seg dksX7_give_0 23 rfl rfl
theorem dksX7_give_2 : cX7_give.data.toList.drop 47 = dktX7_give_2 := dk_seg dksX7_give_1 24 rfl rfl
theorem dksX7_give_3 : cX7_give.data.toList.drop 70 = dktX7_give_3 := dk_seg dksX7_give_2 23 rfl rfl
theorem dX7_give_0 : decode cX7_give 0 = .ok (.aload_n 0, 1) := dk_42 (dk_at dksX7_give_0 0 rfl rfl)
theorem dX7_give_1 : decode cX7_give 1 = .ok (.aload_n 0, 1) := dk_42 (dk_at dksX7_give_0 1 rfl rfl)
theorem dX7_give_2 : decode cX7_give 2 = .ok (.iload_n 1, 1) := dk_27 (dk_at dksX7_give_0 2 rfl rfl)
theorem dX7_give_3 : decode cX7_give 3 = .ok (.invokevirtual 226, 3) := dk_182 0 226 (dk_at dksX7_give_0 3 rfl rfl)
theorem dX7_give_6 : decode cX7_give 6 = .ok (.ifCond .eq 11, 3) := dk_153 0 11 (dk_at dksX7_give_0 6 rfl rfl)
theorem dX7_give_9 : decode cX7_give 9 = .ok (.aload_n 0, 1) := dk_42 (dk_at dksX7_give_0 9 rfl rfl)
theorem dX7_give_10 : decode cX7_give 10 = .ok (.iload_n 2, 1) := dk_28 (dk_at dksX7_give_0 10 rfl rfl)
theorem dX7_give_11 : decode cX7_give 11 = .ok (.invokevirtual 226, 3) := dk_182 0 226 (dk_at dksX7_give_0 11 rfl rfl)
theorem dX7_give_14 : decode cX7_give 14 = .ok (.ifCond .ne 7, 3) := dk_154 0 7 (dk_at dksX7_give_0 14 rfl rfl)
theorem dX7_give_17 : decode cX7_give 17 = .ok (.iconst 1, 1) := dk_4 (dk_at dksX7_give_0 17 rfl rfl)
theorem dX7_give_18 : decode cX7_give 18 = .ok (.goto 34, 3) := dk_167 0 34 (dk_at dksX7_give_0 18 rfl rfl)
theorem dX7_give_21 : decode cX7_give 21 = .ok (.iload_n 1, 1) := dk_27 (dk_at dksX7_give_0 21 rfl rfl)
theorem dX7_give_22 : decode cX7_give 22 = .ok (.iload_n 2, 1) := dk_28 (dk_at dksX7_give_0 22 rfl rfl)
theorem dX7_give_23 : decode cX7_give 23 = .ok (.if_icmp .eq 24, 3) := dk_159 0 24 (dk_at dksX7_give_1 0 rfl rfl)
theorem dX7_give_26 : decode cX7_give 26 = .ok (.iload_n 3, 1) := dk_29 (dk_at dksX7_give_1 3 rfl rfl)
theorem dX7_give_27 : decode cX7_give 27 = .ok (.iconst 1, 1) := dk_4 (dk_at dksX7_give_1 4 rfl rfl)
theorem dX7_give_28 : decode cX7_give 28 = .ok (.bipush 99, 2) := dk_16 99 (dk_at dksX7_give_1 5 rfl rfl)
theorem dX7_give_30 : decode cX7_give 30 = .ok (.invokestatic 56, 3) := dk_184 0 56 (dk_at dksX7_give_1 7 rfl rfl)
theorem dX7_give_33 : decode cX7_give 33 = .ok (.ifCond .eq 14, 3) := dk_153 0 14 (dk_at dksX7_give_1 10 rfl rfl)
theorem dX7_give_36 : decode cX7_give 36 = .ok (.iload 4, 2) := dk_21 4 (dk_at dksX7_give_1 13 rfl rfl)
theorem dX7_give_38 : decode cX7_give 38 = .ok (.iconst 0, 1) := dk_3 (dk_at dksX7_give_1 15 rfl rfl)
theorem dX7_give_39 : decode cX7_give 39 = .ok (.bipush 99, 2) := dk_16 99 (dk_at dksX7_give_1 16 rfl rfl)
theorem dX7_give_41 : decode cX7_give 41 = .ok (.invokestatic 56, 3) := dk_184 0 56 (dk_at dksX7_give_1 18 rfl rfl)
theorem dX7_give_44 : decode cX7_give 44 = .ok (.ifCond .ne 7, 3) := dk_154 0 7 (dk_at dksX7_give_1 21 rfl rfl)
theorem dX7_give_47 : decode cX7_give 47 = .ok (.iconst 2, 1) := dk_5 (dk_at dksX7_give_2 0 rfl rfl)
theorem dX7_give_48 : decode cX7_give 48 = .ok (.goto 4, 3) := dk_167 0 4 (dk_at dksX7_give_2 1 rfl rfl)
theorem dX7_give_51 : decode cX7_give 51 = .ok (.iconst 0, 1) := dk_3 (dk_at dksX7_give_2 4 rfl rfl)
theorem dX7_give_52 : decode cX7_give 52 = .ok (.putfield 53, 3) := dk_181 0 53 (dk_at dksX7_give_2 5 rfl rfl)
theorem dX7_give_55 : decode cX7_give 55 = .ok (.aload_n 0, 1) := dk_42 (dk_at dksX7_give_2 8 rfl rfl)
theorem dX7_give_56 : decode cX7_give 56 = .ok (.getfield 53, 3) := dk_180 0 53 (dk_at dksX7_give_2 9 rfl rfl)
theorem dX7_give_59 : decode cX7_give 59 = .ok (.ifCond .le 5, 3) := dk_158 0 5 (dk_at dksX7_give_2 12 rfl rfl)
theorem dX7_give_62 : decode cX7_give 62 = .ok (.iconst 0, 1) := dk_3 (dk_at dksX7_give_2 15 rfl rfl)
theorem dX7_give_63 : decode cX7_give 63 = .ok (.ireturn, 1) := dk_172 (dk_at dksX7_give_2 16 rfl rfl)
theorem dX7_give_64 : decode cX7_give 64 = .ok (.aload_n 0, 1) := dk_42 (dk_at dksX7_give_2 17 rfl rfl)
theorem dX7_give_65 : decode cX7_give 65 = .ok (.iload_n 1, 1) := dk_27 (dk_at dksX7_give_2 18 rfl rfl)
theorem dX7_give_66 : decode cX7_give 66 = .ok (.iload_n 2, 1) := dk_28 (dk_at dksX7_give_2 19 rfl rfl)
theorem dX7_give_67 : decode cX7_give 67 = .ok (.iload_n 3, 1) := dk_29 (dk_at dksX7_give_2 20 rfl rfl)
theorem dX7_give_68 : decode cX7_give 68 = .ok (.iload 4, 2) := dk_21 4 (dk_at dksX7_give_2 21 rfl rfl)
theorem dX7_give_70 : decode cX7_give 70 = .ok (.iload 5, 2) := dk_21 5 (dk_at dksX7_give_3 0 rfl rfl)
theorem dX7_give_72 : decode cX7_give 72 = .ok (.invokevirtual 121, 3) := dk_182 0 121 (dk_at dksX7_give_3 2 rfl rfl)
theorem dX7_give_75 : decode cX7_give 75 = .ok (.ireturn, 1) := dk_172 (dk_at dksX7_give_3 5 rfl rfl)
abbrev cX7_pass : ByteArray := prog_23_method_43_code
def yX7_pass : MethodName := ⟨RX7, "pass", "(II)I"⟩
def dkwX7_pass_2 : List UInt8 := [42, 27, 28, 182, 0, 130, 172]
abbrev dktX7_pass_2 : List UInt8 := dkwX7_pass_2 ++ []
def dkwX7_pass_1 : List UInt8 := [182, 0, 127, 28, 160, 0, 7, 5, 167, 0, 4, 3, 181, 0, 53, 42, 180, 0, 53, 158, 0, 5, 3, 172]
abbrev dktX7_pass_1 : List UInt8 := dkwX7_pass_1 ++ dktX7_pass_2
def dkwX7_pass_0 : List UInt8 := [42, 42, 27, 182, 1, 0, 153, 0, 11, 42, 28, 182, 0, 226, 154, 0, 7, 4, 167, 0, 18, 42, 27, 5]
abbrev dktX7_pass_0 : List UInt8 := dkwX7_pass_0 ++ dktX7_pass_1
theorem dksX7_pass_0 : cX7_pass.data.toList.drop 0 = dktX7_pass_0 := by decide +kernel
theorem dksX7_pass_1 : cX7_pass.data.toList.drop 24 = dktX7_pass_1 := dk_seg dksX7_pass_0 24 rfl rfl
theorem dksX7_pass_2 : cX7_pass.data.toList.drop 48 = dktX7_pass_2 := dk_seg dksX7_pass_1 24 rfl rfl
theorem dX7_pass_0 : decode cX7_pass 0 = .ok (.aload_n 0, 1) := dk_42 (dk_at dksX7_pass_0 0 rfl rfl)
theorem dX7_pass_1 : decode cX7_pass 1 = .ok (.aload_n 0, 1) := dk_42 (dk_at dksX7_pass_0 1 rfl rfl)
theorem dX7_pass_2 : decode cX7_pass 2 = .ok (.iload_n 1, 1) := dk_27 (dk_at dksX7_pass_0 2 rfl rfl)
theorem dX7_pass_3 : decode cX7_pass 3 = .ok (.invokevirtual 256, 3) := dk_182 1 0 (dk_at dksX7_pass_0 3 rfl rfl)
theorem dX7_pass_6 : decode cX7_pass 6 = .ok (.ifCond .eq 11, 3) := dk_153 0 11 (dk_at dksX7_pass_0 6 rfl rfl)
theorem dX7_pass_9 : decode cX7_pass 9 = .ok (.aload_n 0, 1) := dk_42 (dk_at dksX7_pass_0 9 rfl rfl)
theorem dX7_pass_10 : decode cX7_pass 10 = .ok (.iload_n 2, 1) := dk_28 (dk_at dksX7_pass_0 10 rfl rfl)
theorem dX7_pass_11 : decode cX7_pass 11 = .ok (.invokevirtual 226, 3) := dk_182 0 226 (dk_at dksX7_pass_0 11 rfl rfl)
theorem dX7_pass_14 : decode cX7_pass 14 = .ok (.ifCond .ne 7, 3) := dk_154 0 7 (dk_at dksX7_pass_0 14 rfl rfl)
theorem dX7_pass_17 : decode cX7_pass 17 = .ok (.iconst 1, 1) := dk_4 (dk_at dksX7_pass_0 17 rfl rfl)
theorem dX7_pass_18 : decode cX7_pass 18 = .ok (.goto 18, 3) := dk_167 0 18 (dk_at dksX7_pass_0 18 rfl rfl)
theorem dX7_pass_21 : decode cX7_pass 21 = .ok (.aload_n 0, 1) := dk_42 (dk_at dksX7_pass_0 21 rfl rfl)
theorem dX7_pass_22 : decode cX7_pass 22 = .ok (.iload_n 1, 1) := dk_27 (dk_at dksX7_pass_0 22 rfl rfl)
theorem dX7_pass_23 : decode cX7_pass 23 = .ok (.iconst 2, 1) := dk_5 (dk_at dksX7_pass_0 23 rfl rfl)
theorem dX7_pass_24 : decode cX7_pass 24 = .ok (.invokevirtual 127, 3) := dk_182 0 127 (dk_at dksX7_pass_1 0 rfl rfl)
theorem dX7_pass_27 : decode cX7_pass 27 = .ok (.iload_n 2, 1) := dk_28 (dk_at dksX7_pass_1 3 rfl rfl)
theorem dX7_pass_28 : decode cX7_pass 28 = .ok (.if_icmp .ne 7, 3) := dk_160 0 7 (dk_at dksX7_pass_1 4 rfl rfl)
theorem dX7_pass_31 : decode cX7_pass 31 = .ok (.iconst 2, 1) := dk_5 (dk_at dksX7_pass_1 7 rfl rfl)
theorem dX7_pass_32 : decode cX7_pass 32 = .ok (.goto 4, 3) := dk_167 0 4 (dk_at dksX7_pass_1 8 rfl rfl)
theorem dX7_pass_35 : decode cX7_pass 35 = .ok (.iconst 0, 1) := dk_3 (dk_at dksX7_pass_1 11 rfl rfl)
theorem dX7_pass_36 : decode cX7_pass 36 = .ok (.putfield 53, 3) := dk_181 0 53 (dk_at dksX7_pass_1 12 rfl rfl)
theorem dX7_pass_39 : decode cX7_pass 39 = .ok (.aload_n 0, 1) := dk_42 (dk_at dksX7_pass_1 15 rfl rfl)
theorem dX7_pass_40 : decode cX7_pass 40 = .ok (.getfield 53, 3) := dk_180 0 53 (dk_at dksX7_pass_1 16 rfl rfl)
theorem dX7_pass_43 : decode cX7_pass 43 = .ok (.ifCond .le 5, 3) := dk_158 0 5 (dk_at dksX7_pass_1 19 rfl rfl)
theorem dX7_pass_46 : decode cX7_pass 46 = .ok (.iconst 0, 1) := dk_3 (dk_at dksX7_pass_1 22 rfl rfl)
theorem dX7_pass_47 : decode cX7_pass 47 = .ok (.ireturn, 1) := dk_172 (dk_at dksX7_pass_1 23 rfl rfl)
theorem dX7_pass_48 : decode cX7_pass 48 = .ok (.aload_n 0, 1) := dk_42 (dk_at dksX7_pass_2 0 rfl rfl)
theorem dX7_pass_49 : decode cX7_pass 49 = .ok (.iload_n 1, 1) := dk_27 (dk_at dksX7_pass_2 1 rfl rfl)
theorem dX7_pass_50 : decode cX7_pass 50 = .ok (.iload_n 2, 1) := dk_28 (dk_at dksX7_pass_2 2 rfl rfl)
theorem dX7_pass_51 : decode cX7_pass 51 = .ok (.invokevirtual 130, 3) := dk_182 0 130 (dk_at dksX7_pass_2 3 rfl rfl)
theorem dX7_pass_54 : decode cX7_pass 54 = .ok (.ireturn, 1) := dk_172 (dk_at dksX7_pass_2 6 rfl rfl)
abbrev cX7_isFavour : ByteArray := prog_23_method_5_code
def yX7_isFavour : MethodName := ⟨RX7, "isFavour", "(I)Z"⟩
def dkwX7_isFavour_0 : List UInt8 := [27, 3, 42, 180, 0, 7, 6, 46, 4, 100, 184, 0, 56, 172]
abbrev dktX7_isFavour_0 : List UInt8 := dkwX7_isFavour_0 ++ []
theorem dksX7_isFavour_0 : cX7_isFavour.data.toList.drop 0 = dktX7_isFavour_0 := by decide +kernel
theorem dX7_isFavour_0 : decode cX7_isFavour 0 = .ok (.iload_n 1, 1) := dk_27 (dk_at dksX7_isFavour_0 0 rfl rfl)
theorem dX7_isFavour_1 : decode cX7_isFavour 1 = .ok (.iconst 0, 1) := dk_3 (dk_at dksX7_isFavour_0 1 rfl rfl)
theorem dX7_isFavour_2 : decode cX7_isFavour 2 = .ok (.aload_n 0, 1) := dk_42 (dk_at dksX7_isFavour_0 2 rfl rfl)
theorem dX7_isFavour_3 : decode cX7_isFavour 3 = .ok (.getfield 7, 3) := dk_180 0 7 (dk_at dksX7_isFavour_0 3 rfl rfl)
theorem dX7_isFavour_6 : decode cX7_isFavour 6 = .ok (.iconst 3, 1) := dk_6 (dk_at dksX7_isFavour_0 6 rfl rfl)
theorem dX7_isFavour_7 : decode cX7_isFavour 7 = .ok (.iaload, 1) := dk_46 (dk_at dksX7_isFavour_0 7 rfl rfl)
theorem dX7_isFavour_8 : decode cX7_isFavour 8 = .ok (.iconst 1, 1) := dk_4 (dk_at dksX7_isFavour_0 8 rfl rfl)
theorem dX7_isFavour_9 : decode cX7_isFavour 9 = .ok (.isub, 1) := dk_100 (dk_at dksX7_isFavour_0 9 rfl rfl)
theorem dX7_isFavour_10 : decode cX7_isFavour 10 = .ok (.invokestatic 56, 3) := dk_184 0 56 (dk_at dksX7_isFavour_0 10 rfl rfl)
theorem dX7_isFavour_13 : decode cX7_isFavour 13 = .ok (.ireturn, 1) := dk_172 (dk_at dksX7_isFavour_0 13 rfl rfl)
abbrev cX7_call : ByteArray := prog_23_method_44_code
def yX7_call : MethodName := ⟨RX7, "call", "(I)I"⟩
def dkwX7_call_2 : List UInt8 := [182, 0, 127, 42, 27, 6, 182, 0, 127, 184, 0, 229, 172]
abbrev dktX7_call_2 : List UInt8 := dkwX7_call_2 ++ []
def dkwX7_call_1 : List UInt8 := [3, 172, 42, 27, 5, 182, 0, 127, 2, 160, 0, 5, 2, 172, 42, 27, 5, 2, 182, 0, 135, 42, 27, 4]
abbrev dktX7_call_1 : List UInt8 := dkwX7_call_1 ++ dktX7_call_2
def dkwX7_call_0 : List UInt8 := [42, 42, 27, 182, 1, 0, 154, 0, 7, 4, 167, 0, 4, 3, 181, 0, 53, 42, 180, 0, 53, 158, 0, 5]
abbrev dktX7_call_0 : List UInt8 := dkwX7_call_0 ++ dktX7_call_1
theorem dksX7_call_0 : cX7_call.data.toList.drop 0 = dktX7_call_0 := by decide +kernel
theorem dksX7_call_1 : cX7_call.data.toList.drop 24 = dktX7_call_1 := dk_seg dksX7_call_0 24 rfl rfl
theorem dksX7_call_2 : cX7_call.data.toList.drop 48 = dktX7_call_2 := dk_seg dksX7_call_1 24 rfl rfl
theorem dX7_call_0 : decode cX7_call 0 = .ok (.aload_n 0, 1) := dk_42 (dk_at dksX7_call_0 0 rfl rfl)
theorem dX7_call_1 : decode cX7_call 1 = .ok (.aload_n 0, 1) := dk_42 (dk_at dksX7_call_0 1 rfl rfl)
theorem dX7_call_2 : decode cX7_call 2 = .ok (.iload_n 1, 1) := dk_27 (dk_at dksX7_call_0 2 rfl rfl)
theorem dX7_call_3 : decode cX7_call 3 = .ok (.invokevirtual 256, 3) := dk_182 1 0 (dk_at dksX7_call_0 3 rfl rfl)
theorem dX7_call_6 : decode cX7_call 6 = .ok (.ifCond .ne 7, 3) := dk_154 0 7 (dk_at dksX7_call_0 6 rfl rfl)
theorem dX7_call_9 : decode cX7_call 9 = .ok (.iconst 1, 1) := dk_4 (dk_at dksX7_call_0 9 rfl rfl)
theorem dX7_call_10 : decode cX7_call 10 = .ok (.goto 4, 3) := dk_167 0 4 (dk_at dksX7_call_0 10 rfl rfl)
theorem dX7_call_13 : decode cX7_call 13 = .ok (.iconst 0, 1) := dk_3 (dk_at dksX7_call_0 13 rfl rfl)
theorem dX7_call_14 : decode cX7_call 14 = .ok (.putfield 53, 3) := dk_181 0 53 (dk_at dksX7_call_0 14 rfl rfl)
theorem dX7_call_17 : decode cX7_call 17 = .ok (.aload_n 0, 1) := dk_42 (dk_at dksX7_call_0 17 rfl rfl)
theorem dX7_call_18 : decode cX7_call 18 = .ok (.getfield 53, 3) := dk_180 0 53 (dk_at dksX7_call_0 18 rfl rfl)
theorem dX7_call_21 : decode cX7_call 21 = .ok (.ifCond .le 5, 3) := dk_158 0 5 (dk_at dksX7_call_0 21 rfl rfl)
theorem dX7_call_24 : decode cX7_call 24 = .ok (.iconst 0, 1) := dk_3 (dk_at dksX7_call_1 0 rfl rfl)
theorem dX7_call_25 : decode cX7_call 25 = .ok (.ireturn, 1) := dk_172 (dk_at dksX7_call_1 1 rfl rfl)
theorem dX7_call_26 : decode cX7_call 26 = .ok (.aload_n 0, 1) := dk_42 (dk_at dksX7_call_1 2 rfl rfl)
theorem dX7_call_27 : decode cX7_call 27 = .ok (.iload_n 1, 1) := dk_27 (dk_at dksX7_call_1 3 rfl rfl)
theorem dX7_call_28 : decode cX7_call 28 = .ok (.iconst 2, 1) := dk_5 (dk_at dksX7_call_1 4 rfl rfl)
theorem dX7_call_29 : decode cX7_call 29 = .ok (.invokevirtual 127, 3) := dk_182 0 127 (dk_at dksX7_call_1 5 rfl rfl)
theorem dX7_call_32 : decode cX7_call 32 = .ok (.iconst (-1), 1) := dk_2 (dk_at dksX7_call_1 8 rfl rfl)
theorem dX7_call_33 : decode cX7_call 33 = .ok (.if_icmp .ne 5, 3) := dk_160 0 5 (dk_at dksX7_call_1 9 rfl rfl)
theorem dX7_call_36 : decode cX7_call 36 = .ok (.iconst (-1), 1) := dk_2 (dk_at dksX7_call_1 12 rfl rfl)
theorem dX7_call_37 : decode cX7_call 37 = .ok (.ireturn, 1) := dk_172 (dk_at dksX7_call_1 13 rfl rfl)
theorem dX7_call_38 : decode cX7_call 38 = .ok (.aload_n 0, 1) := dk_42 (dk_at dksX7_call_1 14 rfl rfl)
theorem dX7_call_39 : decode cX7_call 39 = .ok (.iload_n 1, 1) := dk_27 (dk_at dksX7_call_1 15 rfl rfl)
theorem dX7_call_40 : decode cX7_call 40 = .ok (.iconst 2, 1) := dk_5 (dk_at dksX7_call_1 16 rfl rfl)
theorem dX7_call_41 : decode cX7_call 41 = .ok (.iconst (-1), 1) := dk_2 (dk_at dksX7_call_1 17 rfl rfl)
theorem dX7_call_42 : decode cX7_call 42 = .ok (.invokevirtual 135, 3) := dk_182 0 135 (dk_at dksX7_call_1 18 rfl rfl)
theorem dX7_call_45 : decode cX7_call 45 = .ok (.aload_n 0, 1) := dk_42 (dk_at dksX7_call_1 21 rfl rfl)
theorem dX7_call_46 : decode cX7_call 46 = .ok (.iload_n 1, 1) := dk_27 (dk_at dksX7_call_1 22 rfl rfl)
theorem dX7_call_47 : decode cX7_call 47 = .ok (.iconst 1, 1) := dk_4 (dk_at dksX7_call_1 23 rfl rfl)
theorem dX7_call_48 : decode cX7_call 48 = .ok (.invokevirtual 127, 3) := dk_182 0 127 (dk_at dksX7_call_2 0 rfl rfl)
theorem dX7_call_51 : decode cX7_call 51 = .ok (.aload_n 0, 1) := dk_42 (dk_at dksX7_call_2 3 rfl rfl)
theorem dX7_call_52 : decode cX7_call 52 = .ok (.iload_n 1, 1) := dk_27 (dk_at dksX7_call_2 4 rfl rfl)
theorem dX7_call_53 : decode cX7_call 53 = .ok (.iconst 3, 1) := dk_6 (dk_at dksX7_call_2 5 rfl rfl)
theorem dX7_call_54 : decode cX7_call 54 = .ok (.invokevirtual 127, 3) := dk_182 0 127 (dk_at dksX7_call_2 6 rfl rfl)
theorem dX7_call_57 : decode cX7_call 57 = .ok (.invokestatic 229, 3) := dk_184 0 229 (dk_at dksX7_call_2 9 rfl rfl)
theorem dX7_call_60 : decode cX7_call 60 = .ok (.ireturn, 1) := dk_172 (dk_at dksX7_call_2 12 rfl rfl)
abbrev cX7_days : ByteArray := prog_23_method_45_code
def yX7_days : MethodName := ⟨RX7, "days", "(I)I"⟩
def dkwX7_days_1 : List UInt8 := [158, 0, 5, 3, 172, 42, 27, 182, 0, 141, 172]
abbrev dktX7_days_1 : List UInt8 := dkwX7_days_1 ++ []
def dkwX7_days_0 : List UInt8 := [42, 27, 4, 16, 99, 184, 0, 56, 154, 0, 7, 4, 167, 0, 4, 3, 181, 0, 53, 42, 180, 0, 53]
abbrev dktX7_days_0 : List UInt8 := dkwX7_days_0 ++ dktX7_days_1
theorem dksX7_days_0 : cX7_days.data.toList.drop 0 = dktX7_days_0 := by decide +kernel
theorem dksX7_days_1 : cX7_days.data.toList.drop 23 = dktX7_days_1 := dk_seg dksX7_days_0 23 rfl rfl
theorem dX7_days_0 : decode cX7_days 0 = .ok (.aload_n 0, 1) := dk_42 (dk_at dksX7_days_0 0 rfl rfl)
theorem dX7_days_1 : decode cX7_days 1 = .ok (.iload_n 1, 1) := dk_27 (dk_at dksX7_days_0 1 rfl rfl)
theorem dX7_days_2 : decode cX7_days 2 = .ok (.iconst 1, 1) := dk_4 (dk_at dksX7_days_0 2 rfl rfl)
theorem dX7_days_3 : decode cX7_days 3 = .ok (.bipush 99, 2) := dk_16 99 (dk_at dksX7_days_0 3 rfl rfl)
theorem dX7_days_5 : decode cX7_days 5 = .ok (.invokestatic 56, 3) := dk_184 0 56 (dk_at dksX7_days_0 5 rfl rfl)
theorem dX7_days_8 : decode cX7_days 8 = .ok (.ifCond .ne 7, 3) := dk_154 0 7 (dk_at dksX7_days_0 8 rfl rfl)
theorem dX7_days_11 : decode cX7_days 11 = .ok (.iconst 1, 1) := dk_4 (dk_at dksX7_days_0 11 rfl rfl)
theorem dX7_days_12 : decode cX7_days 12 = .ok (.goto 4, 3) := dk_167 0 4 (dk_at dksX7_days_0 12 rfl rfl)
theorem dX7_days_15 : decode cX7_days 15 = .ok (.iconst 0, 1) := dk_3 (dk_at dksX7_days_0 15 rfl rfl)
theorem dX7_days_16 : decode cX7_days 16 = .ok (.putfield 53, 3) := dk_181 0 53 (dk_at dksX7_days_0 16 rfl rfl)
theorem dX7_days_19 : decode cX7_days 19 = .ok (.aload_n 0, 1) := dk_42 (dk_at dksX7_days_0 19 rfl rfl)
theorem dX7_days_20 : decode cX7_days 20 = .ok (.getfield 53, 3) := dk_180 0 53 (dk_at dksX7_days_0 20 rfl rfl)
theorem dX7_days_23 : decode cX7_days 23 = .ok (.ifCond .le 5, 3) := dk_158 0 5 (dk_at dksX7_days_1 0 rfl rfl)
theorem dX7_days_26 : decode cX7_days 26 = .ok (.iconst 0, 1) := dk_3 (dk_at dksX7_days_1 3 rfl rfl)
theorem dX7_days_27 : decode cX7_days 27 = .ok (.ireturn, 1) := dk_172 (dk_at dksX7_days_1 4 rfl rfl)
theorem dX7_days_28 : decode cX7_days 28 = .ok (.aload_n 0, 1) := dk_42 (dk_at dksX7_days_1 5 rfl rfl)
theorem dX7_days_29 : decode cX7_days 29 = .ok (.iload_n 1, 1) := dk_27 (dk_at dksX7_days_1 6 rfl rfl)
theorem dX7_days_30 : decode cX7_days 30 = .ok (.invokevirtual 141, 3) := dk_182 0 141 (dk_at dksX7_days_1 7 rfl rfl)
theorem dX7_days_33 : decode cX7_days 33 = .ok (.ireturn, 1) := dk_172 (dk_at dksX7_days_1 10 rfl rfl)
abbrev cX7_look : ByteArray := prog_23_method_46_code
def yX7_look : MethodName := ⟨RX7, "look", "(II)I"⟩
def dkwX7_look_6 : List UInt8 := [167, 0, 9, 42, 27, 8, 182, 0, 127, 172]
abbrev dktX7_look_6 : List UInt8 := dkwX7_look_6 ++ []
def dkwX7_look_5 : List UInt8 := [160, 0, 12, 42, 27, 6, 182, 0, 127, 167, 0, 23, 28, 8, 160, 0, 12, 42, 27, 7, 182, 0, 127]
abbrev dktX7_look_5 : List UInt8 := dkwX7_look_5 ++ dktX7_look_6
def dkwX7_look_4 : List UInt8 := [5, 182, 0, 127, 167, 0, 51, 28, 5, 160, 0, 12, 42, 27, 4, 182, 0, 127, 167, 0, 37, 28, 6]
abbrev dktX7_look_4 : List UInt8 := dkwX7_look_4 ++ dktX7_look_5
def dkwX7_look_3 : List UInt8 := [184, 0, 229, 172, 28, 154, 0, 12, 42, 27, 3, 182, 0, 127, 167, 0, 65, 28, 4, 160, 0, 12, 42, 27]
abbrev dktX7_look_3 : List UInt8 := dkwX7_look_3 ++ dktX7_look_4
def dkwX7_look_2 : List UInt8 := [182, 0, 127, 2, 160, 0, 7, 3, 167, 0, 18, 42, 27, 4, 182, 0, 127, 42, 27, 6, 182, 0, 127]
abbrev dktX7_look_2 : List UInt8 := dkwX7_look_2 ++ dktX7_look_3
def dkwX7_look_1 : List UInt8 := [167, 0, 4, 3, 181, 0, 53, 42, 180, 0, 53, 158, 0, 5, 3, 172, 28, 7, 160, 0, 33, 42, 27, 5]
abbrev dktX7_look_1 : List UInt8 := dkwX7_look_1 ++ dktX7_look_2
def dkwX7_look_0 : List UInt8 := [42, 42, 27, 182, 1, 0, 154, 0, 7, 4, 167, 0, 18, 28, 3, 16, 6, 184, 0, 56, 154, 0, 7, 5]
abbrev dktX7_look_0 : List UInt8 := dkwX7_look_0 ++ dktX7_look_1
theorem dksX7_look_0 : cX7_look.data.toList.drop 0 = dktX7_look_0 := by decide +kernel
theorem dksX7_look_1 : cX7_look.data.toList.drop 24 = dktX7_look_1 := dk_seg dksX7_look_0 24 rfl rfl
theorem dksX7_look_2 : cX7_look.data.toList.drop 48 = dktX7_look_2 := dk_seg dksX7_look_1 24 rfl rfl
theorem dksX7_look_3 : cX7_look.data.toList.drop 71 = dktX7_look_3 := dk_seg dksX7_look_2 23 rfl rfl
theorem dksX7_look_4 : cX7_look.data.toList.drop 95 = dktX7_look_4 := dk_seg dksX7_look_3 24 rfl rfl
theorem dksX7_look_5 : cX7_look.data.toList.drop 118 = dktX7_look_5 := dk_seg dksX7_look_4 23 rfl rfl
theorem dksX7_look_6 : cX7_look.data.toList.drop 141 = dktX7_look_6 := dk_seg dksX7_look_5 23 rfl rfl
theorem dX7_look_0 : decode cX7_look 0 = .ok (.aload_n 0, 1) := dk_42 (dk_at dksX7_look_0 0 rfl rfl)
theorem dX7_look_1 : decode cX7_look 1 = .ok (.aload_n 0, 1) := dk_42 (dk_at dksX7_look_0 1 rfl rfl)
theorem dX7_look_2 : decode cX7_look 2 = .ok (.iload_n 1, 1) := dk_27 (dk_at dksX7_look_0 2 rfl rfl)
theorem dX7_look_3 : decode cX7_look 3 = .ok (.invokevirtual 256, 3) := dk_182 1 0 (dk_at dksX7_look_0 3 rfl rfl)
theorem dX7_look_6 : decode cX7_look 6 = .ok (.ifCond .ne 7, 3) := dk_154 0 7 (dk_at dksX7_look_0 6 rfl rfl)
theorem dX7_look_9 : decode cX7_look 9 = .ok (.iconst 1, 1) := dk_4 (dk_at dksX7_look_0 9 rfl rfl)
theorem dX7_look_10 : decode cX7_look 10 = .ok (.goto 18, 3) := dk_167 0 18 (dk_at dksX7_look_0 10 rfl rfl)
theorem dX7_look_13 : decode cX7_look 13 = .ok (.iload_n 2, 1) := dk_28 (dk_at dksX7_look_0 13 rfl rfl)
theorem dX7_look_14 : decode cX7_look 14 = .ok (.iconst 0, 1) := dk_3 (dk_at dksX7_look_0 14 rfl rfl)
theorem dX7_look_15 : decode cX7_look 15 = .ok (.bipush 6, 2) := dk_16 6 (dk_at dksX7_look_0 15 rfl rfl)
theorem dX7_look_17 : decode cX7_look 17 = .ok (.invokestatic 56, 3) := dk_184 0 56 (dk_at dksX7_look_0 17 rfl rfl)
theorem dX7_look_20 : decode cX7_look 20 = .ok (.ifCond .ne 7, 3) := dk_154 0 7 (dk_at dksX7_look_0 20 rfl rfl)
theorem dX7_look_23 : decode cX7_look 23 = .ok (.iconst 2, 1) := dk_5 (dk_at dksX7_look_0 23 rfl rfl)
theorem dX7_look_24 : decode cX7_look 24 = .ok (.goto 4, 3) := dk_167 0 4 (dk_at dksX7_look_1 0 rfl rfl)
theorem dX7_look_27 : decode cX7_look 27 = .ok (.iconst 0, 1) := dk_3 (dk_at dksX7_look_1 3 rfl rfl)
theorem dX7_look_28 : decode cX7_look 28 = .ok (.putfield 53, 3) := dk_181 0 53 (dk_at dksX7_look_1 4 rfl rfl)
theorem dX7_look_31 : decode cX7_look 31 = .ok (.aload_n 0, 1) := dk_42 (dk_at dksX7_look_1 7 rfl rfl)
theorem dX7_look_32 : decode cX7_look 32 = .ok (.getfield 53, 3) := dk_180 0 53 (dk_at dksX7_look_1 8 rfl rfl)
theorem dX7_look_35 : decode cX7_look 35 = .ok (.ifCond .le 5, 3) := dk_158 0 5 (dk_at dksX7_look_1 11 rfl rfl)
theorem dX7_look_38 : decode cX7_look 38 = .ok (.iconst 0, 1) := dk_3 (dk_at dksX7_look_1 14 rfl rfl)
theorem dX7_look_39 : decode cX7_look 39 = .ok (.ireturn, 1) := dk_172 (dk_at dksX7_look_1 15 rfl rfl)
theorem dX7_look_40 : decode cX7_look 40 = .ok (.iload_n 2, 1) := dk_28 (dk_at dksX7_look_1 16 rfl rfl)
theorem dX7_look_41 : decode cX7_look 41 = .ok (.iconst 4, 1) := dk_7 (dk_at dksX7_look_1 17 rfl rfl)
theorem dX7_look_42 : decode cX7_look 42 = .ok (.if_icmp .ne 33, 3) := dk_160 0 33 (dk_at dksX7_look_1 18 rfl rfl)
theorem dX7_look_45 : decode cX7_look 45 = .ok (.aload_n 0, 1) := dk_42 (dk_at dksX7_look_1 21 rfl rfl)
theorem dX7_look_46 : decode cX7_look 46 = .ok (.iload_n 1, 1) := dk_27 (dk_at dksX7_look_1 22 rfl rfl)
theorem dX7_look_47 : decode cX7_look 47 = .ok (.iconst 2, 1) := dk_5 (dk_at dksX7_look_1 23 rfl rfl)
theorem dX7_look_48 : decode cX7_look 48 = .ok (.invokevirtual 127, 3) := dk_182 0 127 (dk_at dksX7_look_2 0 rfl rfl)
theorem dX7_look_51 : decode cX7_look 51 = .ok (.iconst (-1), 1) := dk_2 (dk_at dksX7_look_2 3 rfl rfl)
theorem dX7_look_52 : decode cX7_look 52 = .ok (.if_icmp .ne 7, 3) := dk_160 0 7 (dk_at dksX7_look_2 4 rfl rfl)
theorem dX7_look_55 : decode cX7_look 55 = .ok (.iconst 0, 1) := dk_3 (dk_at dksX7_look_2 7 rfl rfl)
theorem dX7_look_56 : decode cX7_look 56 = .ok (.goto 18, 3) := dk_167 0 18 (dk_at dksX7_look_2 8 rfl rfl)
theorem dX7_look_59 : decode cX7_look 59 = .ok (.aload_n 0, 1) := dk_42 (dk_at dksX7_look_2 11 rfl rfl)
theorem dX7_look_60 : decode cX7_look 60 = .ok (.iload_n 1, 1) := dk_27 (dk_at dksX7_look_2 12 rfl rfl)
theorem dX7_look_61 : decode cX7_look 61 = .ok (.iconst 1, 1) := dk_4 (dk_at dksX7_look_2 13 rfl rfl)
theorem dX7_look_62 : decode cX7_look 62 = .ok (.invokevirtual 127, 3) := dk_182 0 127 (dk_at dksX7_look_2 14 rfl rfl)
theorem dX7_look_65 : decode cX7_look 65 = .ok (.aload_n 0, 1) := dk_42 (dk_at dksX7_look_2 17 rfl rfl)
theorem dX7_look_66 : decode cX7_look 66 = .ok (.iload_n 1, 1) := dk_27 (dk_at dksX7_look_2 18 rfl rfl)
theorem dX7_look_67 : decode cX7_look 67 = .ok (.iconst 3, 1) := dk_6 (dk_at dksX7_look_2 19 rfl rfl)
theorem dX7_look_68 : decode cX7_look 68 = .ok (.invokevirtual 127, 3) := dk_182 0 127 (dk_at dksX7_look_2 20 rfl rfl)
theorem dX7_look_71 : decode cX7_look 71 = .ok (.invokestatic 229, 3) := dk_184 0 229 (dk_at dksX7_look_3 0 rfl rfl)
theorem dX7_look_74 : decode cX7_look 74 = .ok (.ireturn, 1) := dk_172 (dk_at dksX7_look_3 3 rfl rfl)
theorem dX7_look_75 : decode cX7_look 75 = .ok (.iload_n 2, 1) := dk_28 (dk_at dksX7_look_3 4 rfl rfl)
theorem dX7_look_76 : decode cX7_look 76 = .ok (.ifCond .ne 12, 3) := dk_154 0 12 (dk_at dksX7_look_3 5 rfl rfl)
theorem dX7_look_79 : decode cX7_look 79 = .ok (.aload_n 0, 1) := dk_42 (dk_at dksX7_look_3 8 rfl rfl)
theorem dX7_look_80 : decode cX7_look 80 = .ok (.iload_n 1, 1) := dk_27 (dk_at dksX7_look_3 9 rfl rfl)
theorem dX7_look_81 : decode cX7_look 81 = .ok (.iconst 0, 1) := dk_3 (dk_at dksX7_look_3 10 rfl rfl)
theorem dX7_look_82 : decode cX7_look 82 = .ok (.invokevirtual 127, 3) := dk_182 0 127 (dk_at dksX7_look_3 11 rfl rfl)
theorem dX7_look_85 : decode cX7_look 85 = .ok (.goto 65, 3) := dk_167 0 65 (dk_at dksX7_look_3 14 rfl rfl)
theorem dX7_look_88 : decode cX7_look 88 = .ok (.iload_n 2, 1) := dk_28 (dk_at dksX7_look_3 17 rfl rfl)
theorem dX7_look_89 : decode cX7_look 89 = .ok (.iconst 1, 1) := dk_4 (dk_at dksX7_look_3 18 rfl rfl)
theorem dX7_look_90 : decode cX7_look 90 = .ok (.if_icmp .ne 12, 3) := dk_160 0 12 (dk_at dksX7_look_3 19 rfl rfl)
theorem dX7_look_93 : decode cX7_look 93 = .ok (.aload_n 0, 1) := dk_42 (dk_at dksX7_look_3 22 rfl rfl)
theorem dX7_look_94 : decode cX7_look 94 = .ok (.iload_n 1, 1) := dk_27 (dk_at dksX7_look_3 23 rfl rfl)
theorem dX7_look_95 : decode cX7_look 95 = .ok (.iconst 2, 1) := dk_5 (dk_at dksX7_look_4 0 rfl rfl)
theorem dX7_look_96 : decode cX7_look 96 = .ok (.invokevirtual 127, 3) := dk_182 0 127 (dk_at dksX7_look_4 1 rfl rfl)
theorem dX7_look_99 : decode cX7_look 99 = .ok (.goto 51, 3) := dk_167 0 51 (dk_at dksX7_look_4 4 rfl rfl)
theorem dX7_look_102 : decode cX7_look 102 = .ok (.iload_n 2, 1) := dk_28 (dk_at dksX7_look_4 7 rfl rfl)
theorem dX7_look_103 : decode cX7_look 103 = .ok (.iconst 2, 1) := dk_5 (dk_at dksX7_look_4 8 rfl rfl)
theorem dX7_look_104 : decode cX7_look 104 = .ok (.if_icmp .ne 12, 3) := dk_160 0 12 (dk_at dksX7_look_4 9 rfl rfl)
theorem dX7_look_107 : decode cX7_look 107 = .ok (.aload_n 0, 1) := dk_42 (dk_at dksX7_look_4 12 rfl rfl)
theorem dX7_look_108 : decode cX7_look 108 = .ok (.iload_n 1, 1) := dk_27 (dk_at dksX7_look_4 13 rfl rfl)
theorem dX7_look_109 : decode cX7_look 109 = .ok (.iconst 1, 1) := dk_4 (dk_at dksX7_look_4 14 rfl rfl)
theorem dX7_look_110 : decode cX7_look 110 = .ok (.invokevirtual 127, 3) := dk_182 0 127 (dk_at dksX7_look_4 15 rfl rfl)
theorem dX7_look_113 : decode cX7_look 113 = .ok (.goto 37, 3) := dk_167 0 37 (dk_at dksX7_look_4 18 rfl rfl)
theorem dX7_look_116 : decode cX7_look 116 = .ok (.iload_n 2, 1) := dk_28 (dk_at dksX7_look_4 21 rfl rfl)
theorem dX7_look_117 : decode cX7_look 117 = .ok (.iconst 3, 1) := dk_6 (dk_at dksX7_look_4 22 rfl rfl)
theorem dX7_look_118 : decode cX7_look 118 = .ok (.if_icmp .ne 12, 3) := dk_160 0 12 (dk_at dksX7_look_5 0 rfl rfl)
theorem dX7_look_121 : decode cX7_look 121 = .ok (.aload_n 0, 1) := dk_42 (dk_at dksX7_look_5 3 rfl rfl)
theorem dX7_look_122 : decode cX7_look 122 = .ok (.iload_n 1, 1) := dk_27 (dk_at dksX7_look_5 4 rfl rfl)
theorem dX7_look_123 : decode cX7_look 123 = .ok (.iconst 3, 1) := dk_6 (dk_at dksX7_look_5 5 rfl rfl)
theorem dX7_look_124 : decode cX7_look 124 = .ok (.invokevirtual 127, 3) := dk_182 0 127 (dk_at dksX7_look_5 6 rfl rfl)
theorem dX7_look_127 : decode cX7_look 127 = .ok (.goto 23, 3) := dk_167 0 23 (dk_at dksX7_look_5 9 rfl rfl)
theorem dX7_look_130 : decode cX7_look 130 = .ok (.iload_n 2, 1) := dk_28 (dk_at dksX7_look_5 12 rfl rfl)
theorem dX7_look_131 : decode cX7_look 131 = .ok (.iconst 5, 1) := dk_8 (dk_at dksX7_look_5 13 rfl rfl)
theorem dX7_look_132 : decode cX7_look 132 = .ok (.if_icmp .ne 12, 3) := dk_160 0 12 (dk_at dksX7_look_5 14 rfl rfl)
theorem dX7_look_135 : decode cX7_look 135 = .ok (.aload_n 0, 1) := dk_42 (dk_at dksX7_look_5 17 rfl rfl)
theorem dX7_look_136 : decode cX7_look 136 = .ok (.iload_n 1, 1) := dk_27 (dk_at dksX7_look_5 18 rfl rfl)
theorem dX7_look_137 : decode cX7_look 137 = .ok (.iconst 4, 1) := dk_7 (dk_at dksX7_look_5 19 rfl rfl)
theorem dX7_look_138 : decode cX7_look 138 = .ok (.invokevirtual 127, 3) := dk_182 0 127 (dk_at dksX7_look_5 20 rfl rfl)
theorem dX7_look_141 : decode cX7_look 141 = .ok (.goto 9, 3) := dk_167 0 9 (dk_at dksX7_look_6 0 rfl rfl)
theorem dX7_look_144 : decode cX7_look 144 = .ok (.aload_n 0, 1) := dk_42 (dk_at dksX7_look_6 3 rfl rfl)
theorem dX7_look_145 : decode cX7_look 145 = .ok (.iload_n 1, 1) := dk_27 (dk_at dksX7_look_6 4 rfl rfl)
theorem dX7_look_146 : decode cX7_look 146 = .ok (.iconst 5, 1) := dk_8 (dk_at dksX7_look_6 5 rfl rfl)
theorem dX7_look_147 : decode cX7_look 147 = .ok (.invokevirtual 127, 3) := dk_182 0 127 (dk_at dksX7_look_6 6 rfl rfl)
theorem dX7_look_150 : decode cX7_look 150 = .ok (.ireturn, 1) := dk_172 (dk_at dksX7_look_6 9 rfl rfl)
abbrev cX7_hand : ByteArray := prog_23_method_47_code
def yX7_hand : MethodName := ⟨RX7, "hand", "(II)I"⟩
def dkwX7_hand_2 : List UInt8 := [96, 182, 0, 127, 167, 0, 4, 2, 172]
abbrev dktX7_hand_2 : List UInt8 := dkwX7_hand_2 ++ []
def dkwX7_hand_1 : List UInt8 := [3, 172, 28, 3, 42, 27, 16, 6, 182, 0, 127, 4, 100, 184, 0, 56, 153, 0, 15, 42, 27, 16, 7, 28]
abbrev dktX7_hand_1 : List UInt8 := dkwX7_hand_1 ++ dktX7_hand_2
def dkwX7_hand_0 : List UInt8 := [42, 42, 27, 182, 1, 0, 154, 0, 7, 4, 167, 0, 4, 3, 181, 0, 53, 42, 180, 0, 53, 158, 0, 5]
abbrev dktX7_hand_0 : List UInt8 := dkwX7_hand_0 ++ dktX7_hand_1
theorem dksX7_hand_0 : cX7_hand.data.toList.drop 0 = dktX7_hand_0 := by decide +kernel
theorem dksX7_hand_1 : cX7_hand.data.toList.drop 24 = dktX7_hand_1 := dk_seg dksX7_hand_0 24 rfl rfl
theorem dksX7_hand_2 : cX7_hand.data.toList.drop 48 = dktX7_hand_2 := dk_seg dksX7_hand_1 24 rfl rfl
theorem dX7_hand_0 : decode cX7_hand 0 = .ok (.aload_n 0, 1) := dk_42 (dk_at dksX7_hand_0 0 rfl rfl)
theorem dX7_hand_1 : decode cX7_hand 1 = .ok (.aload_n 0, 1) := dk_42 (dk_at dksX7_hand_0 1 rfl rfl)
theorem dX7_hand_2 : decode cX7_hand 2 = .ok (.iload_n 1, 1) := dk_27 (dk_at dksX7_hand_0 2 rfl rfl)
theorem dX7_hand_3 : decode cX7_hand 3 = .ok (.invokevirtual 256, 3) := dk_182 1 0 (dk_at dksX7_hand_0 3 rfl rfl)
theorem dX7_hand_6 : decode cX7_hand 6 = .ok (.ifCond .ne 7, 3) := dk_154 0 7 (dk_at dksX7_hand_0 6 rfl rfl)
theorem dX7_hand_9 : decode cX7_hand 9 = .ok (.iconst 1, 1) := dk_4 (dk_at dksX7_hand_0 9 rfl rfl)
theorem dX7_hand_10 : decode cX7_hand 10 = .ok (.goto 4, 3) := dk_167 0 4 (dk_at dksX7_hand_0 10 rfl rfl)
theorem dX7_hand_13 : decode cX7_hand 13 = .ok (.iconst 0, 1) := dk_3 (dk_at dksX7_hand_0 13 rfl rfl)
theorem dX7_hand_14 : decode cX7_hand 14 = .ok (.putfield 53, 3) := dk_181 0 53 (dk_at dksX7_hand_0 14 rfl rfl)
theorem dX7_hand_17 : decode cX7_hand 17 = .ok (.aload_n 0, 1) := dk_42 (dk_at dksX7_hand_0 17 rfl rfl)
theorem dX7_hand_18 : decode cX7_hand 18 = .ok (.getfield 53, 3) := dk_180 0 53 (dk_at dksX7_hand_0 18 rfl rfl)
theorem dX7_hand_21 : decode cX7_hand 21 = .ok (.ifCond .le 5, 3) := dk_158 0 5 (dk_at dksX7_hand_0 21 rfl rfl)
theorem dX7_hand_24 : decode cX7_hand 24 = .ok (.iconst 0, 1) := dk_3 (dk_at dksX7_hand_1 0 rfl rfl)
theorem dX7_hand_25 : decode cX7_hand 25 = .ok (.ireturn, 1) := dk_172 (dk_at dksX7_hand_1 1 rfl rfl)
theorem dX7_hand_26 : decode cX7_hand 26 = .ok (.iload_n 2, 1) := dk_28 (dk_at dksX7_hand_1 2 rfl rfl)
theorem dX7_hand_27 : decode cX7_hand 27 = .ok (.iconst 0, 1) := dk_3 (dk_at dksX7_hand_1 3 rfl rfl)
theorem dX7_hand_28 : decode cX7_hand 28 = .ok (.aload_n 0, 1) := dk_42 (dk_at dksX7_hand_1 4 rfl rfl)
theorem dX7_hand_29 : decode cX7_hand 29 = .ok (.iload_n 1, 1) := dk_27 (dk_at dksX7_hand_1 5 rfl rfl)
theorem dX7_hand_30 : decode cX7_hand 30 = .ok (.bipush 6, 2) := dk_16 6 (dk_at dksX7_hand_1 6 rfl rfl)
theorem dX7_hand_32 : decode cX7_hand 32 = .ok (.invokevirtual 127, 3) := dk_182 0 127 (dk_at dksX7_hand_1 8 rfl rfl)
theorem dX7_hand_35 : decode cX7_hand 35 = .ok (.iconst 1, 1) := dk_4 (dk_at dksX7_hand_1 11 rfl rfl)
theorem dX7_hand_36 : decode cX7_hand 36 = .ok (.isub, 1) := dk_100 (dk_at dksX7_hand_1 12 rfl rfl)
theorem dX7_hand_37 : decode cX7_hand 37 = .ok (.invokestatic 56, 3) := dk_184 0 56 (dk_at dksX7_hand_1 13 rfl rfl)
theorem dX7_hand_40 : decode cX7_hand 40 = .ok (.ifCond .eq 15, 3) := dk_153 0 15 (dk_at dksX7_hand_1 16 rfl rfl)
theorem dX7_hand_43 : decode cX7_hand 43 = .ok (.aload_n 0, 1) := dk_42 (dk_at dksX7_hand_1 19 rfl rfl)
theorem dX7_hand_44 : decode cX7_hand 44 = .ok (.iload_n 1, 1) := dk_27 (dk_at dksX7_hand_1 20 rfl rfl)
theorem dX7_hand_45 : decode cX7_hand 45 = .ok (.bipush 7, 2) := dk_16 7 (dk_at dksX7_hand_1 21 rfl rfl)
theorem dX7_hand_47 : decode cX7_hand 47 = .ok (.iload_n 2, 1) := dk_28 (dk_at dksX7_hand_1 23 rfl rfl)
theorem dX7_hand_48 : decode cX7_hand 48 = .ok (.iadd, 1) := dk_96 (dk_at dksX7_hand_2 0 rfl rfl)
theorem dX7_hand_49 : decode cX7_hand 49 = .ok (.invokevirtual 127, 3) := dk_182 0 127 (dk_at dksX7_hand_2 1 rfl rfl)
theorem dX7_hand_52 : decode cX7_hand 52 = .ok (.goto 4, 3) := dk_167 0 4 (dk_at dksX7_hand_2 4 rfl rfl)
theorem dX7_hand_55 : decode cX7_hand 55 = .ok (.iconst (-1), 1) := dk_2 (dk_at dksX7_hand_2 7 rfl rfl)
theorem dX7_hand_56 : decode cX7_hand 56 = .ok (.ireturn, 1) := dk_172 (dk_at dksX7_hand_2 8 rfl rfl)
abbrev cX7_takes : ByteArray := prog_23_method_48_code
def yX7_takes : MethodName := ⟨RX7, "takes", "(II)Z"⟩
def dkwX7_takes_1 : List UInt8 := [181, 0, 53, 42, 180, 0, 53, 158, 0, 5, 3, 172, 42, 27, 28, 182, 0, 250, 172]
abbrev dktX7_takes_1 : List UInt8 := dkwX7_takes_1 ++ []
def dkwX7_takes_0 : List UInt8 := [42, 42, 27, 182, 0, 226, 153, 0, 11, 42, 28, 182, 1, 0, 154, 0, 7, 4, 167, 0, 4, 3]
abbrev dktX7_takes_0 : List UInt8 := dkwX7_takes_0 ++ dktX7_takes_1
theorem dksX7_takes_0 : cX7_takes.data.toList.drop 0 = dktX7_takes_0 := by decide +kernel
theorem dksX7_takes_1 : cX7_takes.data.toList.drop 22 = dktX7_takes_1 := dk_seg dksX7_takes_0 22 rfl rfl
theorem dX7_takes_0 : decode cX7_takes 0 = .ok (.aload_n 0, 1) := dk_42 (dk_at dksX7_takes_0 0 rfl rfl)
theorem dX7_takes_1 : decode cX7_takes 1 = .ok (.aload_n 0, 1) := dk_42 (dk_at dksX7_takes_0 1 rfl rfl)
theorem dX7_takes_2 : decode cX7_takes 2 = .ok (.iload_n 1, 1) := dk_27 (dk_at dksX7_takes_0 2 rfl rfl)
theorem dX7_takes_3 : decode cX7_takes 3 = .ok (.invokevirtual 226, 3) := dk_182 0 226 (dk_at dksX7_takes_0 3 rfl rfl)
theorem dX7_takes_6 : decode cX7_takes 6 = .ok (.ifCond .eq 11, 3) := dk_153 0 11 (dk_at dksX7_takes_0 6 rfl rfl)
theorem dX7_takes_9 : decode cX7_takes 9 = .ok (.aload_n 0, 1) := dk_42 (dk_at dksX7_takes_0 9 rfl rfl)
theorem dX7_takes_10 : decode cX7_takes 10 = .ok (.iload_n 2, 1) := dk_28 (dk_at dksX7_takes_0 10 rfl rfl)
theorem dX7_takes_11 : decode cX7_takes 11 = .ok (.invokevirtual 256, 3) := dk_182 1 0 (dk_at dksX7_takes_0 11 rfl rfl)
theorem dX7_takes_14 : decode cX7_takes 14 = .ok (.ifCond .ne 7, 3) := dk_154 0 7 (dk_at dksX7_takes_0 14 rfl rfl)
theorem dX7_takes_17 : decode cX7_takes 17 = .ok (.iconst 1, 1) := dk_4 (dk_at dksX7_takes_0 17 rfl rfl)
theorem dX7_takes_18 : decode cX7_takes 18 = .ok (.goto 4, 3) := dk_167 0 4 (dk_at dksX7_takes_0 18 rfl rfl)
theorem dX7_takes_21 : decode cX7_takes 21 = .ok (.iconst 0, 1) := dk_3 (dk_at dksX7_takes_0 21 rfl rfl)
theorem dX7_takes_22 : decode cX7_takes 22 = .ok (.putfield 53, 3) := dk_181 0 53 (dk_at dksX7_takes_1 0 rfl rfl)
theorem dX7_takes_25 : decode cX7_takes 25 = .ok (.aload_n 0, 1) := dk_42 (dk_at dksX7_takes_1 3 rfl rfl)
theorem dX7_takes_26 : decode cX7_takes 26 = .ok (.getfield 53, 3) := dk_180 0 53 (dk_at dksX7_takes_1 4 rfl rfl)
theorem dX7_takes_29 : decode cX7_takes 29 = .ok (.ifCond .le 5, 3) := dk_158 0 5 (dk_at dksX7_takes_1 7 rfl rfl)
theorem dX7_takes_32 : decode cX7_takes 32 = .ok (.iconst 0, 1) := dk_3 (dk_at dksX7_takes_1 10 rfl rfl)
theorem dX7_takes_33 : decode cX7_takes 33 = .ok (.ireturn, 1) := dk_172 (dk_at dksX7_takes_1 11 rfl rfl)
theorem dX7_takes_34 : decode cX7_takes 34 = .ok (.aload_n 0, 1) := dk_42 (dk_at dksX7_takes_1 12 rfl rfl)
theorem dX7_takes_35 : decode cX7_takes 35 = .ok (.iload_n 1, 1) := dk_27 (dk_at dksX7_takes_1 13 rfl rfl)
theorem dX7_takes_36 : decode cX7_takes 36 = .ok (.iload_n 2, 1) := dk_28 (dk_at dksX7_takes_1 14 rfl rfl)
theorem dX7_takes_37 : decode cX7_takes 37 = .ok (.invokevirtual 250, 3) := dk_182 0 250 (dk_at dksX7_takes_1 15 rfl rfl)
theorem dX7_takes_40 : decode cX7_takes 40 = .ok (.ireturn, 1) := dk_172 (dk_at dksX7_takes_1 18 rfl rfl)
abbrev cX7_rich : ByteArray := prog_23_method_49_code
def yX7_rich : MethodName := ⟨RX7, "rich", "(I)I"⟩
def dkwX7_rich_1 : List UInt8 := [3, 172, 42, 27, 182, 0, 232, 172]
abbrev dktX7_rich_1 : List UInt8 := dkwX7_rich_1 ++ []
def dkwX7_rich_0 : List UInt8 := [42, 42, 27, 182, 0, 226, 154, 0, 7, 4, 167, 0, 4, 3, 181, 0, 53, 42, 180, 0, 53, 158, 0, 5]
abbrev dktX7_rich_0 : List UInt8 := dkwX7_rich_0 ++ dktX7_rich_1
theorem dksX7_rich_0 : cX7_rich.data.toList.drop 0 = dktX7_rich_0 := by decide +kernel
theorem dksX7_rich_1 : cX7_rich.data.toList.drop 24 = dktX7_rich_1 := dk_seg dksX7_rich_0 24 rfl rfl
theorem dX7_rich_0 : decode cX7_rich 0 = .ok (.aload_n 0, 1) := dk_42 (dk_at dksX7_rich_0 0 rfl rfl)
theorem dX7_rich_1 : decode cX7_rich 1 = .ok (.aload_n 0, 1) := dk_42 (dk_at dksX7_rich_0 1 rfl rfl)
theorem dX7_rich_2 : decode cX7_rich 2 = .ok (.iload_n 1, 1) := dk_27 (dk_at dksX7_rich_0 2 rfl rfl)
theorem dX7_rich_3 : decode cX7_rich 3 = .ok (.invokevirtual 226, 3) := dk_182 0 226 (dk_at dksX7_rich_0 3 rfl rfl)
theorem dX7_rich_6 : decode cX7_rich 6 = .ok (.ifCond .ne 7, 3) := dk_154 0 7 (dk_at dksX7_rich_0 6 rfl rfl)
theorem dX7_rich_9 : decode cX7_rich 9 = .ok (.iconst 1, 1) := dk_4 (dk_at dksX7_rich_0 9 rfl rfl)
theorem dX7_rich_10 : decode cX7_rich 10 = .ok (.goto 4, 3) := dk_167 0 4 (dk_at dksX7_rich_0 10 rfl rfl)
theorem dX7_rich_13 : decode cX7_rich 13 = .ok (.iconst 0, 1) := dk_3 (dk_at dksX7_rich_0 13 rfl rfl)
theorem dX7_rich_14 : decode cX7_rich 14 = .ok (.putfield 53, 3) := dk_181 0 53 (dk_at dksX7_rich_0 14 rfl rfl)
theorem dX7_rich_17 : decode cX7_rich 17 = .ok (.aload_n 0, 1) := dk_42 (dk_at dksX7_rich_0 17 rfl rfl)
theorem dX7_rich_18 : decode cX7_rich 18 = .ok (.getfield 53, 3) := dk_180 0 53 (dk_at dksX7_rich_0 18 rfl rfl)
theorem dX7_rich_21 : decode cX7_rich 21 = .ok (.ifCond .le 5, 3) := dk_158 0 5 (dk_at dksX7_rich_0 21 rfl rfl)
theorem dX7_rich_24 : decode cX7_rich 24 = .ok (.iconst 0, 1) := dk_3 (dk_at dksX7_rich_1 0 rfl rfl)
theorem dX7_rich_25 : decode cX7_rich 25 = .ok (.ireturn, 1) := dk_172 (dk_at dksX7_rich_1 1 rfl rfl)
theorem dX7_rich_26 : decode cX7_rich 26 = .ok (.aload_n 0, 1) := dk_42 (dk_at dksX7_rich_1 2 rfl rfl)
theorem dX7_rich_27 : decode cX7_rich 27 = .ok (.iload_n 1, 1) := dk_27 (dk_at dksX7_rich_1 3 rfl rfl)
theorem dX7_rich_28 : decode cX7_rich 28 = .ok (.invokevirtual 232, 3) := dk_182 0 232 (dk_at dksX7_rich_1 4 rfl rfl)
theorem dX7_rich_31 : decode cX7_rich 31 = .ok (.ireturn, 1) := dk_172 (dk_at dksX7_rich_1 7 rfl rfl)
abbrev cX7_debt : ByteArray := prog_23_method_50_code
def yX7_debt : MethodName := ⟨RX7, "debt", "(I)I"⟩
def dkwX7_debt_1 : List UInt8 := [3, 172, 42, 27, 182, 0, 235, 172]
abbrev dktX7_debt_1 : List UInt8 := dkwX7_debt_1 ++ []
def dkwX7_debt_0 : List UInt8 := [42, 42, 27, 182, 0, 226, 154, 0, 7, 4, 167, 0, 4, 3, 181, 0, 53, 42, 180, 0, 53, 158, 0, 5]
abbrev dktX7_debt_0 : List UInt8 := dkwX7_debt_0 ++ dktX7_debt_1
theorem dksX7_debt_0 : cX7_debt.data.toList.drop 0 = dktX7_debt_0 := by decide +kernel
theorem dksX7_debt_1 : cX7_debt.data.toList.drop 24 = dktX7_debt_1 := dk_seg dksX7_debt_0 24 rfl rfl
theorem dX7_debt_0 : decode cX7_debt 0 = .ok (.aload_n 0, 1) := dk_42 (dk_at dksX7_debt_0 0 rfl rfl)
theorem dX7_debt_1 : decode cX7_debt 1 = .ok (.aload_n 0, 1) := dk_42 (dk_at dksX7_debt_0 1 rfl rfl)
theorem dX7_debt_2 : decode cX7_debt 2 = .ok (.iload_n 1, 1) := dk_27 (dk_at dksX7_debt_0 2 rfl rfl)
theorem dX7_debt_3 : decode cX7_debt 3 = .ok (.invokevirtual 226, 3) := dk_182 0 226 (dk_at dksX7_debt_0 3 rfl rfl)
theorem dX7_debt_6 : decode cX7_debt 6 = .ok (.ifCond .ne 7, 3) := dk_154 0 7 (dk_at dksX7_debt_0 6 rfl rfl)
theorem dX7_debt_9 : decode cX7_debt 9 = .ok (.iconst 1, 1) := dk_4 (dk_at dksX7_debt_0 9 rfl rfl)
theorem dX7_debt_10 : decode cX7_debt 10 = .ok (.goto 4, 3) := dk_167 0 4 (dk_at dksX7_debt_0 10 rfl rfl)
theorem dX7_debt_13 : decode cX7_debt 13 = .ok (.iconst 0, 1) := dk_3 (dk_at dksX7_debt_0 13 rfl rfl)
theorem dX7_debt_14 : decode cX7_debt 14 = .ok (.putfield 53, 3) := dk_181 0 53 (dk_at dksX7_debt_0 14 rfl rfl)
theorem dX7_debt_17 : decode cX7_debt 17 = .ok (.aload_n 0, 1) := dk_42 (dk_at dksX7_debt_0 17 rfl rfl)
theorem dX7_debt_18 : decode cX7_debt 18 = .ok (.getfield 53, 3) := dk_180 0 53 (dk_at dksX7_debt_0 18 rfl rfl)
theorem dX7_debt_21 : decode cX7_debt 21 = .ok (.ifCond .le 5, 3) := dk_158 0 5 (dk_at dksX7_debt_0 21 rfl rfl)
theorem dX7_debt_24 : decode cX7_debt 24 = .ok (.iconst 0, 1) := dk_3 (dk_at dksX7_debt_1 0 rfl rfl)
theorem dX7_debt_25 : decode cX7_debt 25 = .ok (.ireturn, 1) := dk_172 (dk_at dksX7_debt_1 1 rfl rfl)
theorem dX7_debt_26 : decode cX7_debt 26 = .ok (.aload_n 0, 1) := dk_42 (dk_at dksX7_debt_1 2 rfl rfl)
theorem dX7_debt_27 : decode cX7_debt 27 = .ok (.iload_n 1, 1) := dk_27 (dk_at dksX7_debt_1 3 rfl rfl)
theorem dX7_debt_28 : decode cX7_debt 28 = .ok (.invokevirtual 235, 3) := dk_182 0 235 (dk_at dksX7_debt_1 4 rfl rfl)
theorem dX7_debt_31 : decode cX7_debt 31 = .ok (.ireturn, 1) := dk_172 (dk_at dksX7_debt_1 7 rfl rfl)
abbrev cX7_owes : ByteArray := prog_23_method_52_code
def yX7_owes : MethodName := ⟨RX7, "owes", "(II)I"⟩
def dkwX7_owes_1 : List UInt8 := [181, 0, 53, 42, 180, 0, 53, 158, 0, 5, 3, 172, 42, 27, 28, 182, 1, 3, 172]
abbrev dktX7_owes_1 : List UInt8 := dkwX7_owes_1 ++ []
def dkwX7_owes_0 : List UInt8 := [42, 42, 27, 182, 0, 226, 153, 0, 11, 42, 28, 182, 0, 226, 154, 0, 7, 4, 167, 0, 4, 3]
abbrev dktX7_owes_0 : List UInt8 := dkwX7_owes_0 ++ dktX7_owes_1
theorem dksX7_owes_0 : cX7_owes.data.toList.drop 0 = dktX7_owes_0 := by decide +kernel
theorem dksX7_owes_1 : cX7_owes.data.toList.drop 22 = dktX7_owes_1 := dk_seg dksX7_owes_0 22 rfl rfl
theorem dX7_owes_0 : decode cX7_owes 0 = .ok (.aload_n 0, 1) := dk_42 (dk_at dksX7_owes_0 0 rfl rfl)
theorem dX7_owes_1 : decode cX7_owes 1 = .ok (.aload_n 0, 1) := dk_42 (dk_at dksX7_owes_0 1 rfl rfl)
theorem dX7_owes_2 : decode cX7_owes 2 = .ok (.iload_n 1, 1) := dk_27 (dk_at dksX7_owes_0 2 rfl rfl)
theorem dX7_owes_3 : decode cX7_owes 3 = .ok (.invokevirtual 226, 3) := dk_182 0 226 (dk_at dksX7_owes_0 3 rfl rfl)
theorem dX7_owes_6 : decode cX7_owes 6 = .ok (.ifCond .eq 11, 3) := dk_153 0 11 (dk_at dksX7_owes_0 6 rfl rfl)
theorem dX7_owes_9 : decode cX7_owes 9 = .ok (.aload_n 0, 1) := dk_42 (dk_at dksX7_owes_0 9 rfl rfl)
theorem dX7_owes_10 : decode cX7_owes 10 = .ok (.iload_n 2, 1) := dk_28 (dk_at dksX7_owes_0 10 rfl rfl)
theorem dX7_owes_11 : decode cX7_owes 11 = .ok (.invokevirtual 226, 3) := dk_182 0 226 (dk_at dksX7_owes_0 11 rfl rfl)
theorem dX7_owes_14 : decode cX7_owes 14 = .ok (.ifCond .ne 7, 3) := dk_154 0 7 (dk_at dksX7_owes_0 14 rfl rfl)
theorem dX7_owes_17 : decode cX7_owes 17 = .ok (.iconst 1, 1) := dk_4 (dk_at dksX7_owes_0 17 rfl rfl)
theorem dX7_owes_18 : decode cX7_owes 18 = .ok (.goto 4, 3) := dk_167 0 4 (dk_at dksX7_owes_0 18 rfl rfl)
theorem dX7_owes_21 : decode cX7_owes 21 = .ok (.iconst 0, 1) := dk_3 (dk_at dksX7_owes_0 21 rfl rfl)
theorem dX7_owes_22 : decode cX7_owes 22 = .ok (.putfield 53, 3) := dk_181 0 53 (dk_at dksX7_owes_1 0 rfl rfl)
theorem dX7_owes_25 : decode cX7_owes 25 = .ok (.aload_n 0, 1) := dk_42 (dk_at dksX7_owes_1 3 rfl rfl)
theorem dX7_owes_26 : decode cX7_owes 26 = .ok (.getfield 53, 3) := dk_180 0 53 (dk_at dksX7_owes_1 4 rfl rfl)
theorem dX7_owes_29 : decode cX7_owes 29 = .ok (.ifCond .le 5, 3) := dk_158 0 5 (dk_at dksX7_owes_1 7 rfl rfl)
theorem dX7_owes_32 : decode cX7_owes 32 = .ok (.iconst 0, 1) := dk_3 (dk_at dksX7_owes_1 10 rfl rfl)
theorem dX7_owes_33 : decode cX7_owes 33 = .ok (.ireturn, 1) := dk_172 (dk_at dksX7_owes_1 11 rfl rfl)
theorem dX7_owes_34 : decode cX7_owes 34 = .ok (.aload_n 0, 1) := dk_42 (dk_at dksX7_owes_1 12 rfl rfl)
theorem dX7_owes_35 : decode cX7_owes 35 = .ok (.iload_n 1, 1) := dk_27 (dk_at dksX7_owes_1 13 rfl rfl)
theorem dX7_owes_36 : decode cX7_owes 36 = .ok (.iload_n 2, 1) := dk_28 (dk_at dksX7_owes_1 14 rfl rfl)
theorem dX7_owes_37 : decode cX7_owes 37 = .ok (.invokevirtual 259, 3) := dk_182 1 3 (dk_at dksX7_owes_1 15 rfl rfl)
theorem dX7_owes_40 : decode cX7_owes 40 = .ok (.ireturn, 1) := dk_172 (dk_at dksX7_owes_1 18 rfl rfl)
abbrev cX7_owesOf : ByteArray := prog_23_method_51_code
def yX7_owesOf : MethodName := ⟨RX7, "owesOf", "(II)I"⟩
def dkwX7_owesOf_2 : List UInt8 := [167, 0, 4, 3, 96, 62, 132, 4, 1, 167, 255, 206, 29, 172]
abbrev dktX7_owesOf_2 : List UInt8 := dkwX7_owesOf_2 ++ []
def dkwX7_owesOf_1 : List UInt8 := [27, 160, 0, 24, 42, 21, 4, 5, 182, 0, 127, 28, 160, 0, 13, 42, 21, 4, 4, 182, 0, 127]
abbrev dktX7_owesOf_1 : List UInt8 := dkwX7_owesOf_1 ++ dktX7_owesOf_2
def dkwX7_owesOf_0 : List UInt8 := [3, 62, 3, 54, 4, 21, 4, 42, 180, 0, 7, 6, 46, 162, 0, 45, 29, 42, 21, 4, 3, 182, 0, 127]
abbrev dktX7_owesOf_0 : List UInt8 := dkwX7_owesOf_0 ++ dktX7_owesOf_1
theorem dksX7_owesOf_0 : cX7_owesOf.data.toList.drop 0 = dktX7_owesOf_0 := by decide +kernel
theorem dksX7_owesOf_1 : cX7_owesOf.data.toList.drop 24 = dktX7_owesOf_1 := dk_seg dksX7_owesOf_0 24 rfl rfl
theorem dksX7_owesOf_2 : cX7_owesOf.data.toList.drop 46 = dktX7_owesOf_2 := dk_seg dksX7_owesOf_1 22 rfl rfl
theorem dX7_owesOf_0 : decode cX7_owesOf 0 = .ok (.iconst 0, 1) := dk_3 (dk_at dksX7_owesOf_0 0 rfl rfl)
theorem dX7_owesOf_1 : decode cX7_owesOf 1 = .ok (.istore_n 3, 1) := dk_62 (dk_at dksX7_owesOf_0 1 rfl rfl)
theorem dX7_owesOf_2 : decode cX7_owesOf 2 = .ok (.iconst 0, 1) := dk_3 (dk_at dksX7_owesOf_0 2 rfl rfl)
theorem dX7_owesOf_3 : decode cX7_owesOf 3 = .ok (.istore 4, 2) := dk_54 4 (dk_at dksX7_owesOf_0 3 rfl rfl)
theorem dX7_owesOf_5 : decode cX7_owesOf 5 = .ok (.iload 4, 2) := dk_21 4 (dk_at dksX7_owesOf_0 5 rfl rfl)
theorem dX7_owesOf_7 : decode cX7_owesOf 7 = .ok (.aload_n 0, 1) := dk_42 (dk_at dksX7_owesOf_0 7 rfl rfl)
theorem dX7_owesOf_8 : decode cX7_owesOf 8 = .ok (.getfield 7, 3) := dk_180 0 7 (dk_at dksX7_owesOf_0 8 rfl rfl)
theorem dX7_owesOf_11 : decode cX7_owesOf 11 = .ok (.iconst 3, 1) := dk_6 (dk_at dksX7_owesOf_0 11 rfl rfl)
theorem dX7_owesOf_12 : decode cX7_owesOf 12 = .ok (.iaload, 1) := dk_46 (dk_at dksX7_owesOf_0 12 rfl rfl)
theorem dX7_owesOf_13 : decode cX7_owesOf 13 = .ok (.if_icmp .ge 45, 3) := dk_162 0 45 (dk_at dksX7_owesOf_0 13 rfl rfl)
theorem dX7_owesOf_16 : decode cX7_owesOf 16 = .ok (.iload_n 3, 1) := dk_29 (dk_at dksX7_owesOf_0 16 rfl rfl)
theorem dX7_owesOf_17 : decode cX7_owesOf 17 = .ok (.aload_n 0, 1) := dk_42 (dk_at dksX7_owesOf_0 17 rfl rfl)
theorem dX7_owesOf_18 : decode cX7_owesOf 18 = .ok (.iload 4, 2) := dk_21 4 (dk_at dksX7_owesOf_0 18 rfl rfl)
theorem dX7_owesOf_20 : decode cX7_owesOf 20 = .ok (.iconst 0, 1) := dk_3 (dk_at dksX7_owesOf_0 20 rfl rfl)
theorem dX7_owesOf_21 : decode cX7_owesOf 21 = .ok (.invokevirtual 127, 3) := dk_182 0 127 (dk_at dksX7_owesOf_0 21 rfl rfl)
theorem dX7_owesOf_24 : decode cX7_owesOf 24 = .ok (.iload_n 1, 1) := dk_27 (dk_at dksX7_owesOf_1 0 rfl rfl)
theorem dX7_owesOf_25 : decode cX7_owesOf 25 = .ok (.if_icmp .ne 24, 3) := dk_160 0 24 (dk_at dksX7_owesOf_1 1 rfl rfl)
theorem dX7_owesOf_28 : decode cX7_owesOf 28 = .ok (.aload_n 0, 1) := dk_42 (dk_at dksX7_owesOf_1 4 rfl rfl)
theorem dX7_owesOf_29 : decode cX7_owesOf 29 = .ok (.iload 4, 2) := dk_21 4 (dk_at dksX7_owesOf_1 5 rfl rfl)
theorem dX7_owesOf_31 : decode cX7_owesOf 31 = .ok (.iconst 2, 1) := dk_5 (dk_at dksX7_owesOf_1 7 rfl rfl)
theorem dX7_owesOf_32 : decode cX7_owesOf 32 = .ok (.invokevirtual 127, 3) := dk_182 0 127 (dk_at dksX7_owesOf_1 8 rfl rfl)
theorem dX7_owesOf_35 : decode cX7_owesOf 35 = .ok (.iload_n 2, 1) := dk_28 (dk_at dksX7_owesOf_1 11 rfl rfl)
theorem dX7_owesOf_36 : decode cX7_owesOf 36 = .ok (.if_icmp .ne 13, 3) := dk_160 0 13 (dk_at dksX7_owesOf_1 12 rfl rfl)
theorem dX7_owesOf_39 : decode cX7_owesOf 39 = .ok (.aload_n 0, 1) := dk_42 (dk_at dksX7_owesOf_1 15 rfl rfl)
theorem dX7_owesOf_40 : decode cX7_owesOf 40 = .ok (.iload 4, 2) := dk_21 4 (dk_at dksX7_owesOf_1 16 rfl rfl)
theorem dX7_owesOf_42 : decode cX7_owesOf 42 = .ok (.iconst 1, 1) := dk_4 (dk_at dksX7_owesOf_1 18 rfl rfl)
theorem dX7_owesOf_43 : decode cX7_owesOf 43 = .ok (.invokevirtual 127, 3) := dk_182 0 127 (dk_at dksX7_owesOf_1 19 rfl rfl)
theorem dX7_owesOf_46 : decode cX7_owesOf 46 = .ok (.goto 4, 3) := dk_167 0 4 (dk_at dksX7_owesOf_2 0 rfl rfl)
theorem dX7_owesOf_49 : decode cX7_owesOf 49 = .ok (.iconst 0, 1) := dk_3 (dk_at dksX7_owesOf_2 3 rfl rfl)
theorem dX7_owesOf_50 : decode cX7_owesOf 50 = .ok (.iadd, 1) := dk_96 (dk_at dksX7_owesOf_2 4 rfl rfl)
theorem dX7_owesOf_51 : decode cX7_owesOf 51 = .ok (.istore_n 3, 1) := dk_62 (dk_at dksX7_owesOf_2 5 rfl rfl)
theorem dX7_owesOf_52 : decode cX7_owesOf 52 = .ok (.iinc 4 1, 3) := dk_132 4 1 (dk_at dksX7_owesOf_2 6 rfl rfl)
theorem dX7_owesOf_55 : decode cX7_owesOf 55 = .ok (.goto (-50), 3) := dk_167 255 206 (dk_at dksX7_owesOf_2 9 rfl rfl)
theorem dX7_owesOf_58 : decode cX7_owesOf 58 = .ok (.iload_n 3, 1) := dk_29 (dk_at dksX7_owesOf_2 12 rfl rfl)
theorem dX7_owesOf_59 : decode cX7_owesOf 59 = .ok (.ireturn, 1) := dk_172 (dk_at dksX7_owesOf_2 13 rfl rfl)
abbrev cX7_pays : ByteArray := prog_23_method_55_code
def yX7_pays : MethodName := ⟨RX7, "pays", "(III)I"⟩
def dkwX7_pays_2 : List UInt8 := [180, 0, 53, 158, 0, 5, 3, 172, 42, 27, 28, 29, 182, 1, 9, 172]
abbrev dktX7_pays_2 : List UInt8 := dkwX7_pays_2 ++ []
def dkwX7_pays_1 : List UInt8 := [159, 0, 13, 29, 4, 16, 99, 184, 0, 56, 154, 0, 7, 5, 167, 0, 4, 3, 181, 0, 53, 42]
abbrev dktX7_pays_1 : List UInt8 := dkwX7_pays_1 ++ dktX7_pays_2
def dkwX7_pays_0 : List UInt8 := [42, 42, 27, 182, 0, 226, 153, 0, 11, 42, 28, 182, 0, 226, 154, 0, 7, 4, 167, 0, 23, 27, 28]
abbrev dktX7_pays_0 : List UInt8 := dkwX7_pays_0 ++ dktX7_pays_1
theorem dksX7_pays_0 : cX7_pays.data.toList.drop 0 = dktX7_pays_0 := by decide +kernel
theorem dksX7_pays_1 : cX7_pays.data.toList.drop 23 = dktX7_pays_1 := dk_seg dksX7_pays_0 23 rfl rfl
theorem dksX7_pays_2 : cX7_pays.data.toList.drop 45 = dktX7_pays_2 := dk_seg dksX7_pays_1 22 rfl rfl
theorem dX7_pays_0 : decode cX7_pays 0 = .ok (.aload_n 0, 1) := dk_42 (dk_at dksX7_pays_0 0 rfl rfl)
theorem dX7_pays_1 : decode cX7_pays 1 = .ok (.aload_n 0, 1) := dk_42 (dk_at dksX7_pays_0 1 rfl rfl)
theorem dX7_pays_2 : decode cX7_pays 2 = .ok (.iload_n 1, 1) := dk_27 (dk_at dksX7_pays_0 2 rfl rfl)
theorem dX7_pays_3 : decode cX7_pays 3 = .ok (.invokevirtual 226, 3) := dk_182 0 226 (dk_at dksX7_pays_0 3 rfl rfl)
theorem dX7_pays_6 : decode cX7_pays 6 = .ok (.ifCond .eq 11, 3) := dk_153 0 11 (dk_at dksX7_pays_0 6 rfl rfl)
theorem dX7_pays_9 : decode cX7_pays 9 = .ok (.aload_n 0, 1) := dk_42 (dk_at dksX7_pays_0 9 rfl rfl)
theorem dX7_pays_10 : decode cX7_pays 10 = .ok (.iload_n 2, 1) := dk_28 (dk_at dksX7_pays_0 10 rfl rfl)
theorem dX7_pays_11 : decode cX7_pays 11 = .ok (.invokevirtual 226, 3) := dk_182 0 226 (dk_at dksX7_pays_0 11 rfl rfl)
theorem dX7_pays_14 : decode cX7_pays 14 = .ok (.ifCond .ne 7, 3) := dk_154 0 7 (dk_at dksX7_pays_0 14 rfl rfl)
theorem dX7_pays_17 : decode cX7_pays 17 = .ok (.iconst 1, 1) := dk_4 (dk_at dksX7_pays_0 17 rfl rfl)
theorem dX7_pays_18 : decode cX7_pays 18 = .ok (.goto 23, 3) := dk_167 0 23 (dk_at dksX7_pays_0 18 rfl rfl)
theorem dX7_pays_21 : decode cX7_pays 21 = .ok (.iload_n 1, 1) := dk_27 (dk_at dksX7_pays_0 21 rfl rfl)
theorem dX7_pays_22 : decode cX7_pays 22 = .ok (.iload_n 2, 1) := dk_28 (dk_at dksX7_pays_0 22 rfl rfl)
theorem dX7_pays_23 : decode cX7_pays 23 = .ok (.if_icmp .eq 13, 3) := dk_159 0 13 (dk_at dksX7_pays_1 0 rfl rfl)
theorem dX7_pays_26 : decode cX7_pays 26 = .ok (.iload_n 3, 1) := dk_29 (dk_at dksX7_pays_1 3 rfl rfl)
theorem dX7_pays_27 : decode cX7_pays 27 = .ok (.iconst 1, 1) := dk_4 (dk_at dksX7_pays_1 4 rfl rfl)
theorem dX7_pays_28 : decode cX7_pays 28 = .ok (.bipush 99, 2) := dk_16 99 (dk_at dksX7_pays_1 5 rfl rfl)
theorem dX7_pays_30 : decode cX7_pays 30 = .ok (.invokestatic 56, 3) := dk_184 0 56 (dk_at dksX7_pays_1 7 rfl rfl)
theorem dX7_pays_33 : decode cX7_pays 33 = .ok (.ifCond .ne 7, 3) := dk_154 0 7 (dk_at dksX7_pays_1 10 rfl rfl)
theorem dX7_pays_36 : decode cX7_pays 36 = .ok (.iconst 2, 1) := dk_5 (dk_at dksX7_pays_1 13 rfl rfl)
theorem dX7_pays_37 : decode cX7_pays 37 = .ok (.goto 4, 3) := dk_167 0 4 (dk_at dksX7_pays_1 14 rfl rfl)
theorem dX7_pays_40 : decode cX7_pays 40 = .ok (.iconst 0, 1) := dk_3 (dk_at dksX7_pays_1 17 rfl rfl)
theorem dX7_pays_41 : decode cX7_pays 41 = .ok (.putfield 53, 3) := dk_181 0 53 (dk_at dksX7_pays_1 18 rfl rfl)
theorem dX7_pays_44 : decode cX7_pays 44 = .ok (.aload_n 0, 1) := dk_42 (dk_at dksX7_pays_1 21 rfl rfl)
theorem dX7_pays_45 : decode cX7_pays 45 = .ok (.getfield 53, 3) := dk_180 0 53 (dk_at dksX7_pays_2 0 rfl rfl)
theorem dX7_pays_48 : decode cX7_pays 48 = .ok (.ifCond .le 5, 3) := dk_158 0 5 (dk_at dksX7_pays_2 3 rfl rfl)
theorem dX7_pays_51 : decode cX7_pays 51 = .ok (.iconst 0, 1) := dk_3 (dk_at dksX7_pays_2 6 rfl rfl)
theorem dX7_pays_52 : decode cX7_pays 52 = .ok (.ireturn, 1) := dk_172 (dk_at dksX7_pays_2 7 rfl rfl)
theorem dX7_pays_53 : decode cX7_pays 53 = .ok (.aload_n 0, 1) := dk_42 (dk_at dksX7_pays_2 8 rfl rfl)
theorem dX7_pays_54 : decode cX7_pays 54 = .ok (.iload_n 1, 1) := dk_27 (dk_at dksX7_pays_2 9 rfl rfl)
theorem dX7_pays_55 : decode cX7_pays 55 = .ok (.iload_n 2, 1) := dk_28 (dk_at dksX7_pays_2 10 rfl rfl)
theorem dX7_pays_56 : decode cX7_pays 56 = .ok (.iload_n 3, 1) := dk_29 (dk_at dksX7_pays_2 11 rfl rfl)
theorem dX7_pays_57 : decode cX7_pays 57 = .ok (.invokevirtual 265, 3) := dk_182 1 9 (dk_at dksX7_pays_2 12 rfl rfl)
theorem dX7_pays_60 : decode cX7_pays 60 = .ok (.ireturn, 1) := dk_172 (dk_at dksX7_pays_2 15 rfl rfl)
abbrev cX7_paysBy : ByteArray := prog_23_method_54_code
def yX7_paysBy : MethodName := ⟨RX7, "paysBy", "(III)I"⟩
def dkwX7_paysBy_4 : List UInt8 := [54, 5, 132, 6, 1, 167, 255, 165, 21, 4, 172]
abbrev dktX7_paysBy_4 : List UInt8 := dkwX7_paysBy_4 ++ []
def dkwX7_paysBy_3 : List UInt8 := [162, 0, 25, 42, 21, 6, 27, 28, 182, 1, 6, 154, 0, 6, 167, 0, 11, 21, 6, 54, 4, 21, 7]
abbrev dktX7_paysBy_3 : List UInt8 := dkwX7_paysBy_3 ++ dktX7_paysBy_4
def dkwX7_paysBy_2 : List UInt8 := [27, 160, 0, 48, 21, 7, 17, 4, 0, 29, 104, 161, 0, 38, 21, 4, 2, 159, 0, 10, 21, 7, 21, 5]
abbrev dktX7_paysBy_2 : List UInt8 := dkwX7_paysBy_2 ++ dktX7_paysBy_3
def dkwX7_paysBy_1 : List UInt8 := [182, 0, 127, 42, 21, 6, 6, 182, 0, 127, 4, 96, 184, 0, 229, 54, 7, 42, 21, 6, 5, 182, 0, 127]
abbrev dktX7_paysBy_1 : List UInt8 := dkwX7_paysBy_1 ++ dktX7_paysBy_2
def dkwX7_paysBy_0 : List UInt8 := [2, 54, 4, 3, 54, 5, 3, 54, 6, 21, 6, 42, 180, 0, 7, 6, 46, 162, 0, 86, 42, 21, 6, 4]
abbrev dktX7_paysBy_0 : List UInt8 := dkwX7_paysBy_0 ++ dktX7_paysBy_1
theorem dksX7_paysBy_0 : cX7_paysBy.data.toList.drop 0 = dktX7_paysBy_0 := by decide +kernel
theorem dksX7_paysBy_1 : cX7_paysBy.data.toList.drop 24 = dktX7_paysBy_1 := dk_seg dksX7_paysBy_0 24 rfl rfl
theorem dksX7_paysBy_2 : cX7_paysBy.data.toList.drop 48 = dktX7_paysBy_2 := dk_seg dksX7_paysBy_1 24 rfl rfl
theorem dksX7_paysBy_3 : cX7_paysBy.data.toList.drop 72 = dktX7_paysBy_3 := dk_seg dksX7_paysBy_2 24 rfl rfl
theorem dksX7_paysBy_4 : cX7_paysBy.data.toList.drop 95 = dktX7_paysBy_4 := dk_seg dksX7_paysBy_3 23 rfl rfl
theorem dX7_paysBy_0 : decode cX7_paysBy 0 = .ok (.iconst (-1), 1) := dk_2 (dk_at dksX7_paysBy_0 0 rfl rfl)
theorem dX7_paysBy_1 : decode cX7_paysBy 1 = .ok (.istore 4, 2) := dk_54 4 (dk_at dksX7_paysBy_0 1 rfl rfl)
theorem dX7_paysBy_3 : decode cX7_paysBy 3 = .ok (.iconst 0, 1) := dk_3 (dk_at dksX7_paysBy_0 3 rfl rfl)
theorem dX7_paysBy_4 : decode cX7_paysBy 4 = .ok (.istore 5, 2) := dk_54 5 (dk_at dksX7_paysBy_0 4 rfl rfl)
theorem dX7_paysBy_6 : decode cX7_paysBy 6 = .ok (.iconst 0, 1) := dk_3 (dk_at dksX7_paysBy_0 6 rfl rfl)
theorem dX7_paysBy_7 : decode cX7_paysBy 7 = .ok (.istore 6, 2) := dk_54 6 (dk_at dksX7_paysBy_0 7 rfl rfl)
theorem dX7_paysBy_9 : decode cX7_paysBy 9 = .ok (.iload 6, 2) := dk_21 6 (dk_at dksX7_paysBy_0 9 rfl rfl)
theorem dX7_paysBy_11 : decode cX7_paysBy 11 = .ok (.aload_n 0, 1) := dk_42 (dk_at dksX7_paysBy_0 11 rfl rfl)
theorem dX7_paysBy_12 : decode cX7_paysBy 12 = .ok (.getfield 7, 3) := dk_180 0 7 (dk_at dksX7_paysBy_0 12 rfl rfl)
theorem dX7_paysBy_15 : decode cX7_paysBy 15 = .ok (.iconst 3, 1) := dk_6 (dk_at dksX7_paysBy_0 15 rfl rfl)
theorem dX7_paysBy_16 : decode cX7_paysBy 16 = .ok (.iaload, 1) := dk_46 (dk_at dksX7_paysBy_0 16 rfl rfl)
theorem dX7_paysBy_17 : decode cX7_paysBy 17 = .ok (.if_icmp .ge 86, 3) := dk_162 0 86 (dk_at dksX7_paysBy_0 17 rfl rfl)
theorem dX7_paysBy_20 : decode cX7_paysBy 20 = .ok (.aload_n 0, 1) := dk_42 (dk_at dksX7_paysBy_0 20 rfl rfl)
theorem dX7_paysBy_21 : decode cX7_paysBy 21 = .ok (.iload 6, 2) := dk_21 6 (dk_at dksX7_paysBy_0 21 rfl rfl)
theorem dX7_paysBy_23 : decode cX7_paysBy 23 = .ok (.iconst 1, 1) := dk_4 (dk_at dksX7_paysBy_0 23 rfl rfl)
theorem dX7_paysBy_24 : decode cX7_paysBy 24 = .ok (.invokevirtual 127, 3) := dk_182 0 127 (dk_at dksX7_paysBy_1 0 rfl rfl)
theorem dX7_paysBy_27 : decode cX7_paysBy 27 = .ok (.aload_n 0, 1) := dk_42 (dk_at dksX7_paysBy_1 3 rfl rfl)
theorem dX7_paysBy_28 : decode cX7_paysBy 28 = .ok (.iload 6, 2) := dk_21 6 (dk_at dksX7_paysBy_1 4 rfl rfl)
theorem dX7_paysBy_30 : decode cX7_paysBy 30 = .ok (.iconst 3, 1) := dk_6 (dk_at dksX7_paysBy_1 6 rfl rfl)
theorem dX7_paysBy_31 : decode cX7_paysBy 31 = .ok (.invokevirtual 127, 3) := dk_182 0 127 (dk_at dksX7_paysBy_1 7 rfl rfl)
theorem dX7_paysBy_34 : decode cX7_paysBy 34 = .ok (.iconst 1, 1) := dk_4 (dk_at dksX7_paysBy_1 10 rfl rfl)
theorem dX7_paysBy_35 : decode cX7_paysBy 35 = .ok (.iadd, 1) := dk_96 (dk_at dksX7_paysBy_1 11 rfl rfl)
theorem dX7_paysBy_36 : decode cX7_paysBy 36 = .ok (.invokestatic 229, 3) := dk_184 0 229 (dk_at dksX7_paysBy_1 12 rfl rfl)
theorem dX7_paysBy_39 : decode cX7_paysBy 39 = .ok (.istore 7, 2) := dk_54 7 (dk_at dksX7_paysBy_1 15 rfl rfl)
theorem dX7_paysBy_41 : decode cX7_paysBy 41 = .ok (.aload_n 0, 1) := dk_42 (dk_at dksX7_paysBy_1 17 rfl rfl)
theorem dX7_paysBy_42 : decode cX7_paysBy 42 = .ok (.iload 6, 2) := dk_21 6 (dk_at dksX7_paysBy_1 18 rfl rfl)
theorem dX7_paysBy_44 : decode cX7_paysBy 44 = .ok (.iconst 2, 1) := dk_5 (dk_at dksX7_paysBy_1 20 rfl rfl)
theorem dX7_paysBy_45 : decode cX7_paysBy 45 = .ok (.invokevirtual 127, 3) := dk_182 0 127 (dk_at dksX7_paysBy_1 21 rfl rfl)
theorem dX7_paysBy_48 : decode cX7_paysBy 48 = .ok (.iload_n 1, 1) := dk_27 (dk_at dksX7_paysBy_2 0 rfl rfl)
theorem dX7_paysBy_49 : decode cX7_paysBy 49 = .ok (.if_icmp .ne 48, 3) := dk_160 0 48 (dk_at dksX7_paysBy_2 1 rfl rfl)
theorem dX7_paysBy_52 : decode cX7_paysBy 52 = .ok (.iload 7, 2) := dk_21 7 (dk_at dksX7_paysBy_2 4 rfl rfl)
theorem dX7_paysBy_54 : decode cX7_paysBy 54 = .ok (.sipush 1024, 3) := dk_17 4 0 (dk_at dksX7_paysBy_2 6 rfl rfl)
theorem dX7_paysBy_57 : decode cX7_paysBy 57 = .ok (.iload_n 3, 1) := dk_29 (dk_at dksX7_paysBy_2 9 rfl rfl)
theorem dX7_paysBy_58 : decode cX7_paysBy 58 = .ok (.imul, 1) := dk_104 (dk_at dksX7_paysBy_2 10 rfl rfl)
theorem dX7_paysBy_59 : decode cX7_paysBy 59 = .ok (.if_icmp .lt 38, 3) := dk_161 0 38 (dk_at dksX7_paysBy_2 11 rfl rfl)
theorem dX7_paysBy_62 : decode cX7_paysBy 62 = .ok (.iload 4, 2) := dk_21 4 (dk_at dksX7_paysBy_2 14 rfl rfl)
theorem dX7_paysBy_64 : decode cX7_paysBy 64 = .ok (.iconst (-1), 1) := dk_2 (dk_at dksX7_paysBy_2 16 rfl rfl)
theorem dX7_paysBy_65 : decode cX7_paysBy 65 = .ok (.if_icmp .eq 10, 3) := dk_159 0 10 (dk_at dksX7_paysBy_2 17 rfl rfl)
theorem dX7_paysBy_68 : decode cX7_paysBy 68 = .ok (.iload 7, 2) := dk_21 7 (dk_at dksX7_paysBy_2 20 rfl rfl)
theorem dX7_paysBy_70 : decode cX7_paysBy 70 = .ok (.iload 5, 2) := dk_21 5 (dk_at dksX7_paysBy_2 22 rfl rfl)
theorem dX7_paysBy_72 : decode cX7_paysBy 72 = .ok (.if_icmp .ge 25, 3) := dk_162 0 25 (dk_at dksX7_paysBy_3 0 rfl rfl)
theorem dX7_paysBy_75 : decode cX7_paysBy 75 = .ok (.aload_n 0, 1) := dk_42 (dk_at dksX7_paysBy_3 3 rfl rfl)
theorem dX7_paysBy_76 : decode cX7_paysBy 76 = .ok (.iload 6, 2) := dk_21 6 (dk_at dksX7_paysBy_3 4 rfl rfl)
theorem dX7_paysBy_78 : decode cX7_paysBy 78 = .ok (.iload_n 1, 1) := dk_27 (dk_at dksX7_paysBy_3 6 rfl rfl)
theorem dX7_paysBy_79 : decode cX7_paysBy 79 = .ok (.iload_n 2, 1) := dk_28 (dk_at dksX7_paysBy_3 7 rfl rfl)
theorem dX7_paysBy_80 : decode cX7_paysBy 80 = .ok (.invokevirtual 262, 3) := dk_182 1 6 (dk_at dksX7_paysBy_3 8 rfl rfl)
theorem dX7_paysBy_83 : decode cX7_paysBy 83 = .ok (.ifCond .ne 6, 3) := dk_154 0 6 (dk_at dksX7_paysBy_3 11 rfl rfl)
theorem dX7_paysBy_86 : decode cX7_paysBy 86 = .ok (.goto 11, 3) := dk_167 0 11 (dk_at dksX7_paysBy_3 14 rfl rfl)
theorem dX7_paysBy_89 : decode cX7_paysBy 89 = .ok (.iload 6, 2) := dk_21 6 (dk_at dksX7_paysBy_3 17 rfl rfl)
theorem dX7_paysBy_91 : decode cX7_paysBy 91 = .ok (.istore 4, 2) := dk_54 4 (dk_at dksX7_paysBy_3 19 rfl rfl)
theorem dX7_paysBy_93 : decode cX7_paysBy 93 = .ok (.iload 7, 2) := dk_21 7 (dk_at dksX7_paysBy_3 21 rfl rfl)
theorem dX7_paysBy_95 : decode cX7_paysBy 95 = .ok (.istore 5, 2) := dk_54 5 (dk_at dksX7_paysBy_4 0 rfl rfl)
theorem dX7_paysBy_97 : decode cX7_paysBy 97 = .ok (.iinc 6 1, 3) := dk_132 6 1 (dk_at dksX7_paysBy_4 2 rfl rfl)
theorem dX7_paysBy_100 : decode cX7_paysBy 100 = .ok (.goto (-91), 3) := dk_167 255 165 (dk_at dksX7_paysBy_4 5 rfl rfl)
theorem dX7_paysBy_103 : decode cX7_paysBy 103 = .ok (.iload 4, 2) := dk_21 4 (dk_at dksX7_paysBy_4 8 rfl rfl)
theorem dX7_paysBy_105 : decode cX7_paysBy 105 = .ok (.ireturn, 1) := dk_172 (dk_at dksX7_paysBy_4 10 rfl rfl)
abbrev cX7_goes : ByteArray := prog_23_method_53_code
def yX7_goes : MethodName := ⟨RX7, "goes", "(III)Z"⟩
def dkwX7_goes_1 : List UInt8 := [182, 0, 253, 153, 0, 7, 4, 167, 0, 4, 3, 172]
abbrev dktX7_goes_1 : List UInt8 := dkwX7_goes_1 ++ []
def dkwX7_goes_0 : List UInt8 := [42, 27, 5, 182, 0, 127, 28, 160, 0, 26, 42, 27, 3, 182, 0, 127, 29, 159, 0, 16, 42, 27, 29]
abbrev dktX7_goes_0 : List UInt8 := dkwX7_goes_0 ++ dktX7_goes_1
theorem dksX7_goes_0 : cX7_goes.data.toList.drop 0 = dktX7_goes_0 := by decide +kernel
theorem dksX7_goes_1 : cX7_goes.data.toList.drop 23 = dktX7_goes_1 := dk_seg dksX7_goes_0 23 rfl rfl
theorem dX7_goes_0 : decode cX7_goes 0 = .ok (.aload_n 0, 1) := dk_42 (dk_at dksX7_goes_0 0 rfl rfl)
theorem dX7_goes_1 : decode cX7_goes 1 = .ok (.iload_n 1, 1) := dk_27 (dk_at dksX7_goes_0 1 rfl rfl)
theorem dX7_goes_2 : decode cX7_goes 2 = .ok (.iconst 2, 1) := dk_5 (dk_at dksX7_goes_0 2 rfl rfl)
theorem dX7_goes_3 : decode cX7_goes 3 = .ok (.invokevirtual 127, 3) := dk_182 0 127 (dk_at dksX7_goes_0 3 rfl rfl)
theorem dX7_goes_6 : decode cX7_goes 6 = .ok (.iload_n 2, 1) := dk_28 (dk_at dksX7_goes_0 6 rfl rfl)
theorem dX7_goes_7 : decode cX7_goes 7 = .ok (.if_icmp .ne 26, 3) := dk_160 0 26 (dk_at dksX7_goes_0 7 rfl rfl)
theorem dX7_goes_10 : decode cX7_goes 10 = .ok (.aload_n 0, 1) := dk_42 (dk_at dksX7_goes_0 10 rfl rfl)
theorem dX7_goes_11 : decode cX7_goes 11 = .ok (.iload_n 1, 1) := dk_27 (dk_at dksX7_goes_0 11 rfl rfl)
theorem dX7_goes_12 : decode cX7_goes 12 = .ok (.iconst 0, 1) := dk_3 (dk_at dksX7_goes_0 12 rfl rfl)
theorem dX7_goes_13 : decode cX7_goes 13 = .ok (.invokevirtual 127, 3) := dk_182 0 127 (dk_at dksX7_goes_0 13 rfl rfl)
theorem dX7_goes_16 : decode cX7_goes 16 = .ok (.iload_n 3, 1) := dk_29 (dk_at dksX7_goes_0 16 rfl rfl)
theorem dX7_goes_17 : decode cX7_goes 17 = .ok (.if_icmp .eq 16, 3) := dk_159 0 16 (dk_at dksX7_goes_0 17 rfl rfl)
theorem dX7_goes_20 : decode cX7_goes 20 = .ok (.aload_n 0, 1) := dk_42 (dk_at dksX7_goes_0 20 rfl rfl)
theorem dX7_goes_21 : decode cX7_goes 21 = .ok (.iload_n 1, 1) := dk_27 (dk_at dksX7_goes_0 21 rfl rfl)
theorem dX7_goes_22 : decode cX7_goes 22 = .ok (.iload_n 3, 1) := dk_29 (dk_at dksX7_goes_0 22 rfl rfl)
theorem dX7_goes_23 : decode cX7_goes 23 = .ok (.invokevirtual 253, 3) := dk_182 0 253 (dk_at dksX7_goes_1 0 rfl rfl)
theorem dX7_goes_26 : decode cX7_goes 26 = .ok (.ifCond .eq 7, 3) := dk_153 0 7 (dk_at dksX7_goes_1 3 rfl rfl)
theorem dX7_goes_29 : decode cX7_goes 29 = .ok (.iconst 1, 1) := dk_4 (dk_at dksX7_goes_1 6 rfl rfl)
theorem dX7_goes_30 : decode cX7_goes 30 = .ok (.goto 4, 3) := dk_167 0 4 (dk_at dksX7_goes_1 7 rfl rfl)
theorem dX7_goes_33 : decode cX7_goes 33 = .ok (.iconst 0, 1) := dk_3 (dk_at dksX7_goes_1 10 rfl rfl)
theorem dX7_goes_34 : decode cX7_goes 34 = .ok (.ireturn, 1) := dk_172 (dk_at dksX7_goes_1 11 rfl rfl)
abbrev cX7_can : ByteArray := prog_23_method_59_code
def yX7_can : MethodName := ⟨RX7, "can", "(I)Z"⟩
def dkwX7_can_1 : List UInt8 := [3, 172, 42, 27, 182, 1, 19, 172]
abbrev dktX7_can_1 : List UInt8 := dkwX7_can_1 ++ []
def dkwX7_can_0 : List UInt8 := [42, 42, 27, 182, 1, 16, 154, 0, 7, 4, 167, 0, 4, 3, 181, 0, 53, 42, 180, 0, 53, 158, 0, 5]
abbrev dktX7_can_0 : List UInt8 := dkwX7_can_0 ++ dktX7_can_1
theorem dksX7_can_0 : cX7_can.data.toList.drop 0 = dktX7_can_0 := by decide +kernel
theorem dksX7_can_1 : cX7_can.data.toList.drop 24 = dktX7_can_1 := dk_seg dksX7_can_0 24 rfl rfl
theorem dX7_can_0 : decode cX7_can 0 = .ok (.aload_n 0, 1) := dk_42 (dk_at dksX7_can_0 0 rfl rfl)
theorem dX7_can_1 : decode cX7_can 1 = .ok (.aload_n 0, 1) := dk_42 (dk_at dksX7_can_0 1 rfl rfl)
theorem dX7_can_2 : decode cX7_can 2 = .ok (.iload_n 1, 1) := dk_27 (dk_at dksX7_can_0 2 rfl rfl)
theorem dX7_can_3 : decode cX7_can 3 = .ok (.invokevirtual 272, 3) := dk_182 1 16 (dk_at dksX7_can_0 3 rfl rfl)
theorem dX7_can_6 : decode cX7_can 6 = .ok (.ifCond .ne 7, 3) := dk_154 0 7 (dk_at dksX7_can_0 6 rfl rfl)
theorem dX7_can_9 : decode cX7_can 9 = .ok (.iconst 1, 1) := dk_4 (dk_at dksX7_can_0 9 rfl rfl)
theorem dX7_can_10 : decode cX7_can 10 = .ok (.goto 4, 3) := dk_167 0 4 (dk_at dksX7_can_0 10 rfl rfl)
theorem dX7_can_13 : decode cX7_can 13 = .ok (.iconst 0, 1) := dk_3 (dk_at dksX7_can_0 13 rfl rfl)
theorem dX7_can_14 : decode cX7_can 14 = .ok (.putfield 53, 3) := dk_181 0 53 (dk_at dksX7_can_0 14 rfl rfl)
theorem dX7_can_17 : decode cX7_can 17 = .ok (.aload_n 0, 1) := dk_42 (dk_at dksX7_can_0 17 rfl rfl)
theorem dX7_can_18 : decode cX7_can 18 = .ok (.getfield 53, 3) := dk_180 0 53 (dk_at dksX7_can_0 18 rfl rfl)
theorem dX7_can_21 : decode cX7_can 21 = .ok (.ifCond .le 5, 3) := dk_158 0 5 (dk_at dksX7_can_0 21 rfl rfl)
theorem dX7_can_24 : decode cX7_can 24 = .ok (.iconst 0, 1) := dk_3 (dk_at dksX7_can_1 0 rfl rfl)
theorem dX7_can_25 : decode cX7_can 25 = .ok (.ireturn, 1) := dk_172 (dk_at dksX7_can_1 1 rfl rfl)
theorem dX7_can_26 : decode cX7_can 26 = .ok (.aload_n 0, 1) := dk_42 (dk_at dksX7_can_1 2 rfl rfl)
theorem dX7_can_27 : decode cX7_can 27 = .ok (.iload_n 1, 1) := dk_27 (dk_at dksX7_can_1 3 rfl rfl)
theorem dX7_can_28 : decode cX7_can 28 = .ok (.invokevirtual 275, 3) := dk_182 1 19 (dk_at dksX7_can_1 4 rfl rfl)
theorem dX7_can_31 : decode cX7_can 31 = .ok (.ireturn, 1) := dk_172 (dk_at dksX7_can_1 7 rfl rfl)
abbrev cX7_isNeed : ByteArray := prog_23_method_56_code
def yX7_isNeed : MethodName := ⟨RX7, "isNeed", "(I)Z"⟩
def dkwX7_isNeed_0 : List UInt8 := [27, 3, 42, 180, 0, 7, 7, 46, 4, 100, 184, 0, 56, 172]
abbrev dktX7_isNeed_0 : List UInt8 := dkwX7_isNeed_0 ++ []
theorem dksX7_isNeed_0 : cX7_isNeed.data.toList.drop 0 = dktX7_isNeed_0 := by decide +kernel
theorem dX7_isNeed_0 : decode cX7_isNeed 0 = .ok (.iload_n 1, 1) := dk_27 (dk_at dksX7_isNeed_0 0 rfl rfl)
theorem dX7_isNeed_1 : decode cX7_isNeed 1 = .ok (.iconst 0, 1) := dk_3 (dk_at dksX7_isNeed_0 1 rfl rfl)
theorem dX7_isNeed_2 : decode cX7_isNeed 2 = .ok (.aload_n 0, 1) := dk_42 (dk_at dksX7_isNeed_0 2 rfl rfl)
theorem dX7_isNeed_3 : decode cX7_isNeed 3 = .ok (.getfield 7, 3) := dk_180 0 7 (dk_at dksX7_isNeed_0 3 rfl rfl)
theorem dX7_isNeed_6 : decode cX7_isNeed 6 = .ok (.iconst 4, 1) := dk_7 (dk_at dksX7_isNeed_0 6 rfl rfl)
theorem dX7_isNeed_7 : decode cX7_isNeed 7 = .ok (.iaload, 1) := dk_46 (dk_at dksX7_isNeed_0 7 rfl rfl)
theorem dX7_isNeed_8 : decode cX7_isNeed 8 = .ok (.iconst 1, 1) := dk_4 (dk_at dksX7_isNeed_0 8 rfl rfl)
theorem dX7_isNeed_9 : decode cX7_isNeed 9 = .ok (.isub, 1) := dk_100 (dk_at dksX7_isNeed_0 9 rfl rfl)
theorem dX7_isNeed_10 : decode cX7_isNeed 10 = .ok (.invokestatic 56, 3) := dk_184 0 56 (dk_at dksX7_isNeed_0 10 rfl rfl)
theorem dX7_isNeed_13 : decode cX7_isNeed 13 = .ok (.ireturn, 1) := dk_172 (dk_at dksX7_isNeed_0 13 rfl rfl)
abbrev cX7_canNeed : ByteArray := prog_23_method_58_code
def yX7_canNeed : MethodName := ⟨RX7, "canNeed", "(I)Z"⟩
def dkwX7_canNeed_1 : List UInt8 := [46, 42, 180, 0, 7, 16, 46, 6, 27, 104, 96, 5, 96, 46, 182, 1, 13, 172]
abbrev dktX7_canNeed_1 : List UInt8 := dkwX7_canNeed_1 ++ []
def dkwX7_canNeed_0 : List UInt8 := [42, 42, 180, 0, 7, 16, 46, 6, 27, 104, 96, 46, 42, 180, 0, 7, 16, 46, 6, 27, 104, 96, 4, 96]
abbrev dktX7_canNeed_0 : List UInt8 := dkwX7_canNeed_0 ++ dktX7_canNeed_1
theorem dksX7_canNeed_0 : cX7_canNeed.data.toList.drop 0 = dktX7_canNeed_0 := by decide +kernel
theorem dksX7_canNeed_1 : cX7_canNeed.data.toList.drop 24 = dktX7_canNeed_1 := dk_seg dksX7_canNeed_0 24 rfl rfl
theorem dX7_canNeed_0 : decode cX7_canNeed 0 = .ok (.aload_n 0, 1) := dk_42 (dk_at dksX7_canNeed_0 0 rfl rfl)
theorem dX7_canNeed_1 : decode cX7_canNeed 1 = .ok (.aload_n 0, 1) := dk_42 (dk_at dksX7_canNeed_0 1 rfl rfl)
theorem dX7_canNeed_2 : decode cX7_canNeed 2 = .ok (.getfield 7, 3) := dk_180 0 7 (dk_at dksX7_canNeed_0 2 rfl rfl)
theorem dX7_canNeed_5 : decode cX7_canNeed 5 = .ok (.bipush 46, 2) := dk_16 46 (dk_at dksX7_canNeed_0 5 rfl rfl)
theorem dX7_canNeed_7 : decode cX7_canNeed 7 = .ok (.iconst 3, 1) := dk_6 (dk_at dksX7_canNeed_0 7 rfl rfl)
theorem dX7_canNeed_8 : decode cX7_canNeed 8 = .ok (.iload_n 1, 1) := dk_27 (dk_at dksX7_canNeed_0 8 rfl rfl)
theorem dX7_canNeed_9 : decode cX7_canNeed 9 = .ok (.imul, 1) := dk_104 (dk_at dksX7_canNeed_0 9 rfl rfl)
theorem dX7_canNeed_10 : decode cX7_canNeed 10 = .ok (.iadd, 1) := dk_96 (dk_at dksX7_canNeed_0 10 rfl rfl)
theorem dX7_canNeed_11 : decode cX7_canNeed 11 = .ok (.iaload, 1) := dk_46 (dk_at dksX7_canNeed_0 11 rfl rfl)
theorem dX7_canNeed_12 : decode cX7_canNeed 12 = .ok (.aload_n 0, 1) := dk_42 (dk_at dksX7_canNeed_0 12 rfl rfl)
theorem dX7_canNeed_13 : decode cX7_canNeed 13 = .ok (.getfield 7, 3) := dk_180 0 7 (dk_at dksX7_canNeed_0 13 rfl rfl)
theorem dX7_canNeed_16 : decode cX7_canNeed 16 = .ok (.bipush 46, 2) := dk_16 46 (dk_at dksX7_canNeed_0 16 rfl rfl)
theorem dX7_canNeed_18 : decode cX7_canNeed 18 = .ok (.iconst 3, 1) := dk_6 (dk_at dksX7_canNeed_0 18 rfl rfl)
theorem dX7_canNeed_19 : decode cX7_canNeed 19 = .ok (.iload_n 1, 1) := dk_27 (dk_at dksX7_canNeed_0 19 rfl rfl)
theorem dX7_canNeed_20 : decode cX7_canNeed 20 = .ok (.imul, 1) := dk_104 (dk_at dksX7_canNeed_0 20 rfl rfl)
theorem dX7_canNeed_21 : decode cX7_canNeed 21 = .ok (.iadd, 1) := dk_96 (dk_at dksX7_canNeed_0 21 rfl rfl)
theorem dX7_canNeed_22 : decode cX7_canNeed 22 = .ok (.iconst 1, 1) := dk_4 (dk_at dksX7_canNeed_0 22 rfl rfl)
theorem dX7_canNeed_23 : decode cX7_canNeed 23 = .ok (.iadd, 1) := dk_96 (dk_at dksX7_canNeed_0 23 rfl rfl)
theorem dX7_canNeed_24 : decode cX7_canNeed 24 = .ok (.iaload, 1) := dk_46 (dk_at dksX7_canNeed_1 0 rfl rfl)
theorem dX7_canNeed_25 : decode cX7_canNeed 25 = .ok (.aload_n 0, 1) := dk_42 (dk_at dksX7_canNeed_1 1 rfl rfl)
theorem dX7_canNeed_26 : decode cX7_canNeed 26 = .ok (.getfield 7, 3) := dk_180 0 7 (dk_at dksX7_canNeed_1 2 rfl rfl)
theorem dX7_canNeed_29 : decode cX7_canNeed 29 = .ok (.bipush 46, 2) := dk_16 46 (dk_at dksX7_canNeed_1 5 rfl rfl)
theorem dX7_canNeed_31 : decode cX7_canNeed 31 = .ok (.iconst 3, 1) := dk_6 (dk_at dksX7_canNeed_1 7 rfl rfl)
theorem dX7_canNeed_32 : decode cX7_canNeed 32 = .ok (.iload_n 1, 1) := dk_27 (dk_at dksX7_canNeed_1 8 rfl rfl)
theorem dX7_canNeed_33 : decode cX7_canNeed 33 = .ok (.imul, 1) := dk_104 (dk_at dksX7_canNeed_1 9 rfl rfl)
theorem dX7_canNeed_34 : decode cX7_canNeed 34 = .ok (.iadd, 1) := dk_96 (dk_at dksX7_canNeed_1 10 rfl rfl)
theorem dX7_canNeed_35 : decode cX7_canNeed 35 = .ok (.iconst 2, 1) := dk_5 (dk_at dksX7_canNeed_1 11 rfl rfl)
theorem dX7_canNeed_36 : decode cX7_canNeed 36 = .ok (.iadd, 1) := dk_96 (dk_at dksX7_canNeed_1 12 rfl rfl)
theorem dX7_canNeed_37 : decode cX7_canNeed 37 = .ok (.iaload, 1) := dk_46 (dk_at dksX7_canNeed_1 13 rfl rfl)
theorem dX7_canNeed_38 : decode cX7_canNeed 38 = .ok (.invokevirtual 269, 3) := dk_182 1 13 (dk_at dksX7_canNeed_1 14 rfl rfl)
theorem dX7_canNeed_41 : decode cX7_canNeed 41 = .ok (.ireturn, 1) := dk_172 (dk_at dksX7_canNeed_1 17 rfl rfl)
abbrev cX7_canMeet : ByteArray := prog_23_method_57_code
def yX7_canMeet : MethodName := ⟨RX7, "canMeet", "(III)Z"⟩
def dkwX7_canMeet_1 : List UInt8 := [167, 0, 4, 3, 172]
abbrev dktX7_canMeet_1 : List UInt8 := dkwX7_canMeet_1 ++ []
def dkwX7_canMeet_0 : List UInt8 := [42, 27, 28, 29, 182, 1, 9, 2, 160, 0, 15, 42, 27, 28, 29, 2, 3, 182, 0, 246, 153, 0, 7, 4]
abbrev dktX7_canMeet_0 : List UInt8 := dkwX7_canMeet_0 ++ dktX7_canMeet_1
theorem dksX7_canMeet_0 : cX7_canMeet.data.toList.drop 0 = dktX7_canMeet_0 := by decide +kernel
theorem dksX7_canMeet_1 : cX7_canMeet.data.toList.drop 24 = dktX7_canMeet_1 := dk_seg dksX7_canMeet_0 24 rfl rfl
theorem dX7_canMeet_0 : decode cX7_canMeet 0 = .ok (.aload_n 0, 1) := dk_42 (dk_at dksX7_canMeet_0 0 rfl rfl)
theorem dX7_canMeet_1 : decode cX7_canMeet 1 = .ok (.iload_n 1, 1) := dk_27 (dk_at dksX7_canMeet_0 1 rfl rfl)
theorem dX7_canMeet_2 : decode cX7_canMeet 2 = .ok (.iload_n 2, 1) := dk_28 (dk_at dksX7_canMeet_0 2 rfl rfl)
theorem dX7_canMeet_3 : decode cX7_canMeet 3 = .ok (.iload_n 3, 1) := dk_29 (dk_at dksX7_canMeet_0 3 rfl rfl)
theorem dX7_canMeet_4 : decode cX7_canMeet 4 = .ok (.invokevirtual 265, 3) := dk_182 1 9 (dk_at dksX7_canMeet_0 4 rfl rfl)
theorem dX7_canMeet_7 : decode cX7_canMeet 7 = .ok (.iconst (-1), 1) := dk_2 (dk_at dksX7_canMeet_0 7 rfl rfl)
theorem dX7_canMeet_8 : decode cX7_canMeet 8 = .ok (.if_icmp .ne 15, 3) := dk_160 0 15 (dk_at dksX7_canMeet_0 8 rfl rfl)
theorem dX7_canMeet_11 : decode cX7_canMeet 11 = .ok (.aload_n 0, 1) := dk_42 (dk_at dksX7_canMeet_0 11 rfl rfl)
theorem dX7_canMeet_12 : decode cX7_canMeet 12 = .ok (.iload_n 1, 1) := dk_27 (dk_at dksX7_canMeet_0 12 rfl rfl)
theorem dX7_canMeet_13 : decode cX7_canMeet 13 = .ok (.iload_n 2, 1) := dk_28 (dk_at dksX7_canMeet_0 13 rfl rfl)
theorem dX7_canMeet_14 : decode cX7_canMeet 14 = .ok (.iload_n 3, 1) := dk_29 (dk_at dksX7_canMeet_0 14 rfl rfl)
theorem dX7_canMeet_15 : decode cX7_canMeet 15 = .ok (.iconst (-1), 1) := dk_2 (dk_at dksX7_canMeet_0 15 rfl rfl)
theorem dX7_canMeet_16 : decode cX7_canMeet 16 = .ok (.iconst 0, 1) := dk_3 (dk_at dksX7_canMeet_0 16 rfl rfl)
theorem dX7_canMeet_17 : decode cX7_canMeet 17 = .ok (.invokevirtual 246, 3) := dk_182 0 246 (dk_at dksX7_canMeet_0 17 rfl rfl)
theorem dX7_canMeet_20 : decode cX7_canMeet 20 = .ok (.ifCond .eq 7, 3) := dk_153 0 7 (dk_at dksX7_canMeet_0 20 rfl rfl)
theorem dX7_canMeet_23 : decode cX7_canMeet 23 = .ok (.iconst 1, 1) := dk_4 (dk_at dksX7_canMeet_0 23 rfl rfl)
theorem dX7_canMeet_24 : decode cX7_canMeet 24 = .ok (.goto 4, 3) := dk_167 0 4 (dk_at dksX7_canMeet_1 0 rfl rfl)
theorem dX7_canMeet_27 : decode cX7_canMeet 27 = .ok (.iconst 0, 1) := dk_3 (dk_at dksX7_canMeet_1 3 rfl rfl)
theorem dX7_canMeet_28 : decode cX7_canMeet 28 = .ok (.ireturn, 1) := dk_172 (dk_at dksX7_canMeet_1 4 rfl rfl)
abbrev cX7_meet : ByteArray := prog_23_method_61_code
def yX7_meet : MethodName := ⟨RX7, "meet", "(I)I"⟩
def dkwX7_meet_2 : List UInt8 := [4, 96, 46, 42, 180, 0, 7, 16, 46, 6, 27, 104, 96, 5, 96, 46, 182, 1, 25, 172]
abbrev dktX7_meet_2 : List UInt8 := dkwX7_meet_2 ++ []
def dkwX7_meet_1 : List UInt8 := [3, 172, 42, 42, 180, 0, 7, 16, 46, 6, 27, 104, 96, 46, 42, 180, 0, 7, 16, 46, 6, 27, 104, 96]
abbrev dktX7_meet_1 : List UInt8 := dkwX7_meet_1 ++ dktX7_meet_2
def dkwX7_meet_0 : List UInt8 := [42, 42, 27, 182, 1, 16, 154, 0, 7, 4, 167, 0, 4, 3, 181, 0, 53, 42, 180, 0, 53, 158, 0, 5]
abbrev dktX7_meet_0 : List UInt8 := dkwX7_meet_0 ++ dktX7_meet_1
theorem dksX7_meet_0 : cX7_meet.data.toList.drop 0 = dktX7_meet_0 := by decide +kernel
theorem dksX7_meet_1 : cX7_meet.data.toList.drop 24 = dktX7_meet_1 := dk_seg dksX7_meet_0 24 rfl rfl
theorem dksX7_meet_2 : cX7_meet.data.toList.drop 48 = dktX7_meet_2 := dk_seg dksX7_meet_1 24 rfl rfl
theorem dX7_meet_0 : decode cX7_meet 0 = .ok (.aload_n 0, 1) := dk_42 (dk_at dksX7_meet_0 0 rfl rfl)
theorem dX7_meet_1 : decode cX7_meet 1 = .ok (.aload_n 0, 1) := dk_42 (dk_at dksX7_meet_0 1 rfl rfl)
theorem dX7_meet_2 : decode cX7_meet 2 = .ok (.iload_n 1, 1) := dk_27 (dk_at dksX7_meet_0 2 rfl rfl)
theorem dX7_meet_3 : decode cX7_meet 3 = .ok (.invokevirtual 272, 3) := dk_182 1 16 (dk_at dksX7_meet_0 3 rfl rfl)
theorem dX7_meet_6 : decode cX7_meet 6 = .ok (.ifCond .ne 7, 3) := dk_154 0 7 (dk_at dksX7_meet_0 6 rfl rfl)
theorem dX7_meet_9 : decode cX7_meet 9 = .ok (.iconst 1, 1) := dk_4 (dk_at dksX7_meet_0 9 rfl rfl)
theorem dX7_meet_10 : decode cX7_meet 10 = .ok (.goto 4, 3) := dk_167 0 4 (dk_at dksX7_meet_0 10 rfl rfl)
theorem dX7_meet_13 : decode cX7_meet 13 = .ok (.iconst 0, 1) := dk_3 (dk_at dksX7_meet_0 13 rfl rfl)
theorem dX7_meet_14 : decode cX7_meet 14 = .ok (.putfield 53, 3) := dk_181 0 53 (dk_at dksX7_meet_0 14 rfl rfl)
theorem dX7_meet_17 : decode cX7_meet 17 = .ok (.aload_n 0, 1) := dk_42 (dk_at dksX7_meet_0 17 rfl rfl)
theorem dX7_meet_18 : decode cX7_meet 18 = .ok (.getfield 53, 3) := dk_180 0 53 (dk_at dksX7_meet_0 18 rfl rfl)
theorem dX7_meet_21 : decode cX7_meet 21 = .ok (.ifCond .le 5, 3) := dk_158 0 5 (dk_at dksX7_meet_0 21 rfl rfl)
theorem dX7_meet_24 : decode cX7_meet 24 = .ok (.iconst 0, 1) := dk_3 (dk_at dksX7_meet_1 0 rfl rfl)
theorem dX7_meet_25 : decode cX7_meet 25 = .ok (.ireturn, 1) := dk_172 (dk_at dksX7_meet_1 1 rfl rfl)
theorem dX7_meet_26 : decode cX7_meet 26 = .ok (.aload_n 0, 1) := dk_42 (dk_at dksX7_meet_1 2 rfl rfl)
theorem dX7_meet_27 : decode cX7_meet 27 = .ok (.aload_n 0, 1) := dk_42 (dk_at dksX7_meet_1 3 rfl rfl)
theorem dX7_meet_28 : decode cX7_meet 28 = .ok (.getfield 7, 3) := dk_180 0 7 (dk_at dksX7_meet_1 4 rfl rfl)
theorem dX7_meet_31 : decode cX7_meet 31 = .ok (.bipush 46, 2) := dk_16 46 (dk_at dksX7_meet_1 7 rfl rfl)
theorem dX7_meet_33 : decode cX7_meet 33 = .ok (.iconst 3, 1) := dk_6 (dk_at dksX7_meet_1 9 rfl rfl)
theorem dX7_meet_34 : decode cX7_meet 34 = .ok (.iload_n 1, 1) := dk_27 (dk_at dksX7_meet_1 10 rfl rfl)
theorem dX7_meet_35 : decode cX7_meet 35 = .ok (.imul, 1) := dk_104 (dk_at dksX7_meet_1 11 rfl rfl)
theorem dX7_meet_36 : decode cX7_meet 36 = .ok (.iadd, 1) := dk_96 (dk_at dksX7_meet_1 12 rfl rfl)
theorem dX7_meet_37 : decode cX7_meet 37 = .ok (.iaload, 1) := dk_46 (dk_at dksX7_meet_1 13 rfl rfl)
theorem dX7_meet_38 : decode cX7_meet 38 = .ok (.aload_n 0, 1) := dk_42 (dk_at dksX7_meet_1 14 rfl rfl)
theorem dX7_meet_39 : decode cX7_meet 39 = .ok (.getfield 7, 3) := dk_180 0 7 (dk_at dksX7_meet_1 15 rfl rfl)
theorem dX7_meet_42 : decode cX7_meet 42 = .ok (.bipush 46, 2) := dk_16 46 (dk_at dksX7_meet_1 18 rfl rfl)
theorem dX7_meet_44 : decode cX7_meet 44 = .ok (.iconst 3, 1) := dk_6 (dk_at dksX7_meet_1 20 rfl rfl)
theorem dX7_meet_45 : decode cX7_meet 45 = .ok (.iload_n 1, 1) := dk_27 (dk_at dksX7_meet_1 21 rfl rfl)
theorem dX7_meet_46 : decode cX7_meet 46 = .ok (.imul, 1) := dk_104 (dk_at dksX7_meet_1 22 rfl rfl)
theorem dX7_meet_47 : decode cX7_meet 47 = .ok (.iadd, 1) := dk_96 (dk_at dksX7_meet_1 23 rfl rfl)
theorem dX7_meet_48 : decode cX7_meet 48 = .ok (.iconst 1, 1) := dk_4 (dk_at dksX7_meet_2 0 rfl rfl)
theorem dX7_meet_49 : decode cX7_meet 49 = .ok (.iadd, 1) := dk_96 (dk_at dksX7_meet_2 1 rfl rfl)
theorem dX7_meet_50 : decode cX7_meet 50 = .ok (.iaload, 1) := dk_46 (dk_at dksX7_meet_2 2 rfl rfl)
theorem dX7_meet_51 : decode cX7_meet 51 = .ok (.aload_n 0, 1) := dk_42 (dk_at dksX7_meet_2 3 rfl rfl)
theorem dX7_meet_52 : decode cX7_meet 52 = .ok (.getfield 7, 3) := dk_180 0 7 (dk_at dksX7_meet_2 4 rfl rfl)
theorem dX7_meet_55 : decode cX7_meet 55 = .ok (.bipush 46, 2) := dk_16 46 (dk_at dksX7_meet_2 7 rfl rfl)
theorem dX7_meet_57 : decode cX7_meet 57 = .ok (.iconst 3, 1) := dk_6 (dk_at dksX7_meet_2 9 rfl rfl)
theorem dX7_meet_58 : decode cX7_meet 58 = .ok (.iload_n 1, 1) := dk_27 (dk_at dksX7_meet_2 10 rfl rfl)
theorem dX7_meet_59 : decode cX7_meet 59 = .ok (.imul, 1) := dk_104 (dk_at dksX7_meet_2 11 rfl rfl)
theorem dX7_meet_60 : decode cX7_meet 60 = .ok (.iadd, 1) := dk_96 (dk_at dksX7_meet_2 12 rfl rfl)
theorem dX7_meet_61 : decode cX7_meet 61 = .ok (.iconst 2, 1) := dk_5 (dk_at dksX7_meet_2 13 rfl rfl)
theorem dX7_meet_62 : decode cX7_meet 62 = .ok (.iadd, 1) := dk_96 (dk_at dksX7_meet_2 14 rfl rfl)
theorem dX7_meet_63 : decode cX7_meet 63 = .ok (.iaload, 1) := dk_46 (dk_at dksX7_meet_2 15 rfl rfl)
theorem dX7_meet_64 : decode cX7_meet 64 = .ok (.invokevirtual 281, 3) := dk_182 1 25 (dk_at dksX7_meet_2 16 rfl rfl)
theorem dX7_meet_67 : decode cX7_meet 67 = .ok (.ireturn, 1) := dk_172 (dk_at dksX7_meet_2 19 rfl rfl)
abbrev cX7_meets : ByteArray := prog_23_method_60_code
def yX7_meets : MethodName := ⟨RX7, "meets", "(III)I"⟩
def dkwX7_meets_2 : List UInt8 := [160, 0, 7, 2, 167, 0, 5, 21, 4, 172]
abbrev dktX7_meets_2 : List UInt8 := dkwX7_meets_2 ++ []
def dkwX7_meets_1 : List UInt8 := [21, 4, 2, 160, 0, 13, 42, 27, 28, 29, 3, 3, 182, 0, 121, 172, 42, 21, 4, 28, 182, 0, 130, 2]
abbrev dktX7_meets_1 : List UInt8 := dkwX7_meets_1 ++ dktX7_meets_2
def dkwX7_meets_0 : List UInt8 := [42, 27, 28, 29, 182, 1, 9, 54, 4, 42, 21, 4, 2, 159, 0, 7, 4, 167, 0, 4, 3, 181, 1, 22]
abbrev dktX7_meets_0 : List UInt8 := dkwX7_meets_0 ++ dktX7_meets_1
theorem dksX7_meets_0 : cX7_meets.data.toList.drop 0 = dktX7_meets_0 := by decide +kernel
theorem dksX7_meets_1 : cX7_meets.data.toList.drop 24 = dktX7_meets_1 := dk_seg dksX7_meets_0 24 rfl rfl
theorem dksX7_meets_2 : cX7_meets.data.toList.drop 48 = dktX7_meets_2 := dk_seg dksX7_meets_1 24 rfl rfl
theorem dX7_meets_0 : decode cX7_meets 0 = .ok (.aload_n 0, 1) := dk_42 (dk_at dksX7_meets_0 0 rfl rfl)
theorem dX7_meets_1 : decode cX7_meets 1 = .ok (.iload_n 1, 1) := dk_27 (dk_at dksX7_meets_0 1 rfl rfl)
theorem dX7_meets_2 : decode cX7_meets 2 = .ok (.iload_n 2, 1) := dk_28 (dk_at dksX7_meets_0 2 rfl rfl)
theorem dX7_meets_3 : decode cX7_meets 3 = .ok (.iload_n 3, 1) := dk_29 (dk_at dksX7_meets_0 3 rfl rfl)
theorem dX7_meets_4 : decode cX7_meets 4 = .ok (.invokevirtual 265, 3) := dk_182 1 9 (dk_at dksX7_meets_0 4 rfl rfl)
theorem dX7_meets_7 : decode cX7_meets 7 = .ok (.istore 4, 2) := dk_54 4 (dk_at dksX7_meets_0 7 rfl rfl)
theorem dX7_meets_9 : decode cX7_meets 9 = .ok (.aload_n 0, 1) := dk_42 (dk_at dksX7_meets_0 9 rfl rfl)
theorem dX7_meets_10 : decode cX7_meets 10 = .ok (.iload 4, 2) := dk_21 4 (dk_at dksX7_meets_0 10 rfl rfl)
theorem dX7_meets_12 : decode cX7_meets 12 = .ok (.iconst (-1), 1) := dk_2 (dk_at dksX7_meets_0 12 rfl rfl)
theorem dX7_meets_13 : decode cX7_meets 13 = .ok (.if_icmp .eq 7, 3) := dk_159 0 7 (dk_at dksX7_meets_0 13 rfl rfl)
theorem dX7_meets_16 : decode cX7_meets 16 = .ok (.iconst 1, 1) := dk_4 (dk_at dksX7_meets_0 16 rfl rfl)
theorem dX7_meets_17 : decode cX7_meets 17 = .ok (.goto 4, 3) := dk_167 0 4 (dk_at dksX7_meets_0 17 rfl rfl)
theorem dX7_meets_20 : decode cX7_meets 20 = .ok (.iconst 0, 1) := dk_3 (dk_at dksX7_meets_0 20 rfl rfl)
theorem dX7_meets_21 : decode cX7_meets 21 = .ok (.putfield 278, 3) := dk_181 1 22 (dk_at dksX7_meets_0 21 rfl rfl)
theorem dX7_meets_24 : decode cX7_meets 24 = .ok (.iload 4, 2) := dk_21 4 (dk_at dksX7_meets_1 0 rfl rfl)
theorem dX7_meets_26 : decode cX7_meets 26 = .ok (.iconst (-1), 1) := dk_2 (dk_at dksX7_meets_1 2 rfl rfl)
theorem dX7_meets_27 : decode cX7_meets 27 = .ok (.if_icmp .ne 13, 3) := dk_160 0 13 (dk_at dksX7_meets_1 3 rfl rfl)
theorem dX7_meets_30 : decode cX7_meets 30 = .ok (.aload_n 0, 1) := dk_42 (dk_at dksX7_meets_1 6 rfl rfl)
theorem dX7_meets_31 : decode cX7_meets 31 = .ok (.iload_n 1, 1) := dk_27 (dk_at dksX7_meets_1 7 rfl rfl)
theorem dX7_meets_32 : decode cX7_meets 32 = .ok (.iload_n 2, 1) := dk_28 (dk_at dksX7_meets_1 8 rfl rfl)
theorem dX7_meets_33 : decode cX7_meets 33 = .ok (.iload_n 3, 1) := dk_29 (dk_at dksX7_meets_1 9 rfl rfl)
theorem dX7_meets_34 : decode cX7_meets 34 = .ok (.iconst 0, 1) := dk_3 (dk_at dksX7_meets_1 10 rfl rfl)
theorem dX7_meets_35 : decode cX7_meets 35 = .ok (.iconst 0, 1) := dk_3 (dk_at dksX7_meets_1 11 rfl rfl)
theorem dX7_meets_36 : decode cX7_meets 36 = .ok (.invokevirtual 121, 3) := dk_182 0 121 (dk_at dksX7_meets_1 12 rfl rfl)
theorem dX7_meets_39 : decode cX7_meets 39 = .ok (.ireturn, 1) := dk_172 (dk_at dksX7_meets_1 15 rfl rfl)
theorem dX7_meets_40 : decode cX7_meets 40 = .ok (.aload_n 0, 1) := dk_42 (dk_at dksX7_meets_1 16 rfl rfl)
theorem dX7_meets_41 : decode cX7_meets 41 = .ok (.iload 4, 2) := dk_21 4 (dk_at dksX7_meets_1 17 rfl rfl)
theorem dX7_meets_43 : decode cX7_meets 43 = .ok (.iload_n 2, 1) := dk_28 (dk_at dksX7_meets_1 19 rfl rfl)
theorem dX7_meets_44 : decode cX7_meets 44 = .ok (.invokevirtual 130, 3) := dk_182 0 130 (dk_at dksX7_meets_1 20 rfl rfl)
theorem dX7_meets_47 : decode cX7_meets 47 = .ok (.iconst (-1), 1) := dk_2 (dk_at dksX7_meets_1 23 rfl rfl)
theorem dX7_meets_48 : decode cX7_meets 48 = .ok (.if_icmp .ne 7, 3) := dk_160 0 7 (dk_at dksX7_meets_2 0 rfl rfl)
theorem dX7_meets_51 : decode cX7_meets 51 = .ok (.iconst (-1), 1) := dk_2 (dk_at dksX7_meets_2 3 rfl rfl)
theorem dX7_meets_52 : decode cX7_meets 52 = .ok (.goto 5, 3) := dk_167 0 5 (dk_at dksX7_meets_2 4 rfl rfl)
theorem dX7_meets_55 : decode cX7_meets 55 = .ok (.iload 4, 2) := dk_21 4 (dk_at dksX7_meets_2 7 rfl rfl)
theorem dX7_meets_57 : decode cX7_meets 57 = .ok (.ireturn, 1) := dk_172 (dk_at dksX7_meets_2 9 rfl rfl)
abbrev cX7_enough : ByteArray := prog_23_method_64_code
def yX7_enough : MethodName := ⟨RX7, "enough", "(I)Z"⟩
def dkwX7_enough_0 : List UInt8 := [42, 3, 181, 0, 53, 42, 27, 182, 1, 31, 2, 160, 0, 7, 4, 167, 0, 4, 3, 172]
abbrev dktX7_enough_0 : List UInt8 := dkwX7_enough_0 ++ []
theorem dksX7_enough_0 : cX7_enough.data.toList.drop 0 = dktX7_enough_0 := by decide +kernel
theorem dX7_enough_0 : decode cX7_enough 0 = .ok (.aload_n 0, 1) := dk_42 (dk_at dksX7_enough_0 0 rfl rfl)
theorem dX7_enough_1 : decode cX7_enough 1 = .ok (.iconst 0, 1) := dk_3 (dk_at dksX7_enough_0 1 rfl rfl)
theorem dX7_enough_2 : decode cX7_enough 2 = .ok (.putfield 53, 3) := dk_181 0 53 (dk_at dksX7_enough_0 2 rfl rfl)
theorem dX7_enough_5 : decode cX7_enough 5 = .ok (.aload_n 0, 1) := dk_42 (dk_at dksX7_enough_0 5 rfl rfl)
theorem dX7_enough_6 : decode cX7_enough 6 = .ok (.iload_n 1, 1) := dk_27 (dk_at dksX7_enough_0 6 rfl rfl)
theorem dX7_enough_7 : decode cX7_enough 7 = .ok (.invokevirtual 287, 3) := dk_182 1 31 (dk_at dksX7_enough_0 7 rfl rfl)
theorem dX7_enough_10 : decode cX7_enough 10 = .ok (.iconst (-1), 1) := dk_2 (dk_at dksX7_enough_0 10 rfl rfl)
theorem dX7_enough_11 : decode cX7_enough 11 = .ok (.if_icmp .ne 7, 3) := dk_160 0 7 (dk_at dksX7_enough_0 11 rfl rfl)
theorem dX7_enough_14 : decode cX7_enough 14 = .ok (.iconst 1, 1) := dk_4 (dk_at dksX7_enough_0 14 rfl rfl)
theorem dX7_enough_15 : decode cX7_enough 15 = .ok (.goto 4, 3) := dk_167 0 4 (dk_at dksX7_enough_0 15 rfl rfl)
theorem dX7_enough_18 : decode cX7_enough 18 = .ok (.iconst 0, 1) := dk_3 (dk_at dksX7_enough_0 18 rfl rfl)
theorem dX7_enough_19 : decode cX7_enough 19 = .ok (.ireturn, 1) := dk_172 (dk_at dksX7_enough_0 19 rfl rfl)
abbrev cX7_witnessOf : ByteArray := prog_23_method_63_code
def yX7_witnessOf : MethodName := ⟨RX7, "witnessOf", "(I)I"⟩
def dkwX7_witnessOf_4 : List UInt8 := [180, 0, 7, 7, 46, 162, 0, 7, 28, 167, 0, 4, 2, 172]
abbrev dktX7_witnessOf_4 : List UInt8 := dkwX7_witnessOf_4 ++ []
def dkwX7_witnessOf_3 : List UInt8 := [162, 0, 21, 42, 29, 5, 42, 180, 0, 50, 29, 46, 182, 0, 135, 132, 3, 1, 167, 255, 231, 28, 42]
abbrev dktX7_witnessOf_3 : List UInt8 := dkwX7_witnessOf_3 ++ dktX7_witnessOf_4
def dkwX7_witnessOf_2 : List UInt8 := [42, 28, 182, 1, 19, 153, 0, 9, 132, 2, 1, 167, 255, 235, 3, 62, 29, 42, 180, 0, 7, 6, 46]
abbrev dktX7_witnessOf_2 : List UInt8 := dkwX7_witnessOf_2 ++ dktX7_witnessOf_3
def dkwX7_witnessOf_1 : List UInt8 := [132, 2, 1, 167, 255, 231, 42, 27, 182, 1, 28, 87, 3, 61, 28, 42, 180, 0, 7, 7, 46, 162, 0, 17]
abbrev dktX7_witnessOf_1 : List UInt8 := dkwX7_witnessOf_1 ++ dktX7_witnessOf_2
def dkwX7_witnessOf_0 : List UInt8 := [3, 61, 28, 42, 180, 0, 7, 6, 46, 162, 0, 21, 42, 180, 0, 50, 28, 42, 28, 5, 182, 0, 127, 79]
abbrev dktX7_witnessOf_0 : List UInt8 := dkwX7_witnessOf_0 ++ dktX7_witnessOf_1
theorem dksX7_witnessOf_0 : cX7_witnessOf.data.toList.drop 0 = dktX7_witnessOf_0 := by decide +kernel
theorem dksX7_witnessOf_1 : cX7_witnessOf.data.toList.drop 24 = dktX7_witnessOf_1 := dk_seg dksX7_witnessOf_0 24 rfl rfl
theorem dksX7_witnessOf_2 : cX7_witnessOf.data.toList.drop 48 = dktX7_witnessOf_2 := dk_seg dksX7_witnessOf_1 24 rfl rfl
theorem dksX7_witnessOf_3 : cX7_witnessOf.data.toList.drop 71 = dktX7_witnessOf_3 := dk_seg dksX7_witnessOf_2 23 rfl rfl
theorem dksX7_witnessOf_4 : cX7_witnessOf.data.toList.drop 94 = dktX7_witnessOf_4 := dk_seg dksX7_witnessOf_3 23 rfl rfl
theorem dX7_witnessOf_0 : decode cX7_witnessOf 0 = .ok (.iconst 0, 1) := dk_3 (dk_at dksX7_witnessOf_0 0 rfl rfl)
theorem dX7_witnessOf_1 : decode cX7_witnessOf 1 = .ok (.istore_n 2, 1) := dk_61 (dk_at dksX7_witnessOf_0 1 rfl rfl)
theorem dX7_witnessOf_2 : decode cX7_witnessOf 2 = .ok (.iload_n 2, 1) := dk_28 (dk_at dksX7_witnessOf_0 2 rfl rfl)
theorem dX7_witnessOf_3 : decode cX7_witnessOf 3 = .ok (.aload_n 0, 1) := dk_42 (dk_at dksX7_witnessOf_0 3 rfl rfl)
theorem dX7_witnessOf_4 : decode cX7_witnessOf 4 = .ok (.getfield 7, 3) := dk_180 0 7 (dk_at dksX7_witnessOf_0 4 rfl rfl)
theorem dX7_witnessOf_7 : decode cX7_witnessOf 7 = .ok (.iconst 3, 1) := dk_6 (dk_at dksX7_witnessOf_0 7 rfl rfl)
theorem dX7_witnessOf_8 : decode cX7_witnessOf 8 = .ok (.iaload, 1) := dk_46 (dk_at dksX7_witnessOf_0 8 rfl rfl)
theorem dX7_witnessOf_9 : decode cX7_witnessOf 9 = .ok (.if_icmp .ge 21, 3) := dk_162 0 21 (dk_at dksX7_witnessOf_0 9 rfl rfl)
theorem dX7_witnessOf_12 : decode cX7_witnessOf 12 = .ok (.aload_n 0, 1) := dk_42 (dk_at dksX7_witnessOf_0 12 rfl rfl)
theorem dX7_witnessOf_13 : decode cX7_witnessOf 13 = .ok (.getfield 50, 3) := dk_180 0 50 (dk_at dksX7_witnessOf_0 13 rfl rfl)
theorem dX7_witnessOf_16 : decode cX7_witnessOf 16 = .ok (.iload_n 2, 1) := dk_28 (dk_at dksX7_witnessOf_0 16 rfl rfl)
theorem dX7_witnessOf_17 : decode cX7_witnessOf 17 = .ok (.aload_n 0, 1) := dk_42 (dk_at dksX7_witnessOf_0 17 rfl rfl)
theorem dX7_witnessOf_18 : decode cX7_witnessOf 18 = .ok (.iload_n 2, 1) := dk_28 (dk_at dksX7_witnessOf_0 18 rfl rfl)
theorem dX7_witnessOf_19 : decode cX7_witnessOf 19 = .ok (.iconst 2, 1) := dk_5 (dk_at dksX7_witnessOf_0 19 rfl rfl)
theorem dX7_witnessOf_20 : decode cX7_witnessOf 20 = .ok (.invokevirtual 127, 3) := dk_182 0 127 (dk_at dksX7_witnessOf_0 20 rfl rfl)
theorem dX7_witnessOf_23 : decode cX7_witnessOf 23 = .ok (.iastore, 1) := dk_79 (dk_at dksX7_witnessOf_0 23 rfl rfl)
theorem dX7_witnessOf_24 : decode cX7_witnessOf 24 = .ok (.iinc 2 1, 3) := dk_132 2 1 (dk_at dksX7_witnessOf_1 0 rfl rfl)
theorem dX7_witnessOf_27 : decode cX7_witnessOf 27 = .ok (.goto (-25), 3) := dk_167 255 231 (dk_at dksX7_witnessOf_1 3 rfl rfl)
theorem dX7_witnessOf_30 : decode cX7_witnessOf 30 = .ok (.aload_n 0, 1) := dk_42 (dk_at dksX7_witnessOf_1 6 rfl rfl)
theorem dX7_witnessOf_31 : decode cX7_witnessOf 31 = .ok (.iload_n 1, 1) := dk_27 (dk_at dksX7_witnessOf_1 7 rfl rfl)
theorem dX7_witnessOf_32 : decode cX7_witnessOf 32 = .ok (.invokevirtual 284, 3) := dk_182 1 28 (dk_at dksX7_witnessOf_1 8 rfl rfl)
theorem dX7_witnessOf_35 : decode cX7_witnessOf 35 = .ok (.pop, 1) := dk_87 (dk_at dksX7_witnessOf_1 11 rfl rfl)
theorem dX7_witnessOf_36 : decode cX7_witnessOf 36 = .ok (.iconst 0, 1) := dk_3 (dk_at dksX7_witnessOf_1 12 rfl rfl)
theorem dX7_witnessOf_37 : decode cX7_witnessOf 37 = .ok (.istore_n 2, 1) := dk_61 (dk_at dksX7_witnessOf_1 13 rfl rfl)
theorem dX7_witnessOf_38 : decode cX7_witnessOf 38 = .ok (.iload_n 2, 1) := dk_28 (dk_at dksX7_witnessOf_1 14 rfl rfl)
theorem dX7_witnessOf_39 : decode cX7_witnessOf 39 = .ok (.aload_n 0, 1) := dk_42 (dk_at dksX7_witnessOf_1 15 rfl rfl)
theorem dX7_witnessOf_40 : decode cX7_witnessOf 40 = .ok (.getfield 7, 3) := dk_180 0 7 (dk_at dksX7_witnessOf_1 16 rfl rfl)
theorem dX7_witnessOf_43 : decode cX7_witnessOf 43 = .ok (.iconst 4, 1) := dk_7 (dk_at dksX7_witnessOf_1 19 rfl rfl)
theorem dX7_witnessOf_44 : decode cX7_witnessOf 44 = .ok (.iaload, 1) := dk_46 (dk_at dksX7_witnessOf_1 20 rfl rfl)
theorem dX7_witnessOf_45 : decode cX7_witnessOf 45 = .ok (.if_icmp .ge 17, 3) := dk_162 0 17 (dk_at dksX7_witnessOf_1 21 rfl rfl)
theorem dX7_witnessOf_48 : decode cX7_witnessOf 48 = .ok (.aload_n 0, 1) := dk_42 (dk_at dksX7_witnessOf_2 0 rfl rfl)
theorem dX7_witnessOf_49 : decode cX7_witnessOf 49 = .ok (.iload_n 2, 1) := dk_28 (dk_at dksX7_witnessOf_2 1 rfl rfl)
theorem dX7_witnessOf_50 : decode cX7_witnessOf 50 = .ok (.invokevirtual 275, 3) := dk_182 1 19 (dk_at dksX7_witnessOf_2 2 rfl rfl)
theorem dX7_witnessOf_53 : decode cX7_witnessOf 53 = .ok (.ifCond .eq 9, 3) := dk_153 0 9 (dk_at dksX7_witnessOf_2 5 rfl rfl)
theorem dX7_witnessOf_56 : decode cX7_witnessOf 56 = .ok (.iinc 2 1, 3) := dk_132 2 1 (dk_at dksX7_witnessOf_2 8 rfl rfl)
theorem dX7_witnessOf_59 : decode cX7_witnessOf 59 = .ok (.goto (-21), 3) := dk_167 255 235 (dk_at dksX7_witnessOf_2 11 rfl rfl)
theorem dX7_witnessOf_62 : decode cX7_witnessOf 62 = .ok (.iconst 0, 1) := dk_3 (dk_at dksX7_witnessOf_2 14 rfl rfl)
theorem dX7_witnessOf_63 : decode cX7_witnessOf 63 = .ok (.istore_n 3, 1) := dk_62 (dk_at dksX7_witnessOf_2 15 rfl rfl)
theorem dX7_witnessOf_64 : decode cX7_witnessOf 64 = .ok (.iload_n 3, 1) := dk_29 (dk_at dksX7_witnessOf_2 16 rfl rfl)
theorem dX7_witnessOf_65 : decode cX7_witnessOf 65 = .ok (.aload_n 0, 1) := dk_42 (dk_at dksX7_witnessOf_2 17 rfl rfl)
theorem dX7_witnessOf_66 : decode cX7_witnessOf 66 = .ok (.getfield 7, 3) := dk_180 0 7 (dk_at dksX7_witnessOf_2 18 rfl rfl)
theorem dX7_witnessOf_69 : decode cX7_witnessOf 69 = .ok (.iconst 3, 1) := dk_6 (dk_at dksX7_witnessOf_2 21 rfl rfl)
theorem dX7_witnessOf_70 : decode cX7_witnessOf 70 = .ok (.iaload, 1) := dk_46 (dk_at dksX7_witnessOf_2 22 rfl rfl)
theorem dX7_witnessOf_71 : decode cX7_witnessOf 71 = .ok (.if_icmp .ge 21, 3) := dk_162 0 21 (dk_at dksX7_witnessOf_3 0 rfl rfl)
theorem dX7_witnessOf_74 : decode cX7_witnessOf 74 = .ok (.aload_n 0, 1) := dk_42 (dk_at dksX7_witnessOf_3 3 rfl rfl)
theorem dX7_witnessOf_75 : decode cX7_witnessOf 75 = .ok (.iload_n 3, 1) := dk_29 (dk_at dksX7_witnessOf_3 4 rfl rfl)
theorem dX7_witnessOf_76 : decode cX7_witnessOf 76 = .ok (.iconst 2, 1) := dk_5 (dk_at dksX7_witnessOf_3 5 rfl rfl)
theorem dX7_witnessOf_77 : decode cX7_witnessOf 77 = .ok (.aload_n 0, 1) := dk_42 (dk_at dksX7_witnessOf_3 6 rfl rfl)
theorem dX7_witnessOf_78 : decode cX7_witnessOf 78 = .ok (.getfield 50, 3) := dk_180 0 50 (dk_at dksX7_witnessOf_3 7 rfl rfl)
theorem dX7_witnessOf_81 : decode cX7_witnessOf 81 = .ok (.iload_n 3, 1) := dk_29 (dk_at dksX7_witnessOf_3 10 rfl rfl)
theorem dX7_witnessOf_82 : decode cX7_witnessOf 82 = .ok (.iaload, 1) := dk_46 (dk_at dksX7_witnessOf_3 11 rfl rfl)
theorem dX7_witnessOf_83 : decode cX7_witnessOf 83 = .ok (.invokevirtual 135, 3) := dk_182 0 135 (dk_at dksX7_witnessOf_3 12 rfl rfl)
theorem dX7_witnessOf_86 : decode cX7_witnessOf 86 = .ok (.iinc 3 1, 3) := dk_132 3 1 (dk_at dksX7_witnessOf_3 15 rfl rfl)
theorem dX7_witnessOf_89 : decode cX7_witnessOf 89 = .ok (.goto (-25), 3) := dk_167 255 231 (dk_at dksX7_witnessOf_3 18 rfl rfl)
theorem dX7_witnessOf_92 : decode cX7_witnessOf 92 = .ok (.iload_n 2, 1) := dk_28 (dk_at dksX7_witnessOf_3 21 rfl rfl)
theorem dX7_witnessOf_93 : decode cX7_witnessOf 93 = .ok (.aload_n 0, 1) := dk_42 (dk_at dksX7_witnessOf_3 22 rfl rfl)
theorem dX7_witnessOf_94 : decode cX7_witnessOf 94 = .ok (.getfield 7, 3) := dk_180 0 7 (dk_at dksX7_witnessOf_4 0 rfl rfl)
theorem dX7_witnessOf_97 : decode cX7_witnessOf 97 = .ok (.iconst 4, 1) := dk_7 (dk_at dksX7_witnessOf_4 3 rfl rfl)
theorem dX7_witnessOf_98 : decode cX7_witnessOf 98 = .ok (.iaload, 1) := dk_46 (dk_at dksX7_witnessOf_4 4 rfl rfl)
theorem dX7_witnessOf_99 : decode cX7_witnessOf 99 = .ok (.if_icmp .ge 7, 3) := dk_162 0 7 (dk_at dksX7_witnessOf_4 5 rfl rfl)
theorem dX7_witnessOf_102 : decode cX7_witnessOf 102 = .ok (.iload_n 2, 1) := dk_28 (dk_at dksX7_witnessOf_4 8 rfl rfl)
theorem dX7_witnessOf_103 : decode cX7_witnessOf 103 = .ok (.goto 4, 3) := dk_167 0 4 (dk_at dksX7_witnessOf_4 9 rfl rfl)
theorem dX7_witnessOf_106 : decode cX7_witnessOf 106 = .ok (.iconst (-1), 1) := dk_2 (dk_at dksX7_witnessOf_4 12 rfl rfl)
theorem dX7_witnessOf_107 : decode cX7_witnessOf 107 = .ok (.ireturn, 1) := dk_172 (dk_at dksX7_witnessOf_4 13 rfl rfl)
abbrev cX7_lets : ByteArray := prog_23_method_62_code
def yX7_lets : MethodName := ⟨RX7, "lets", "(I)I"⟩
def dkwX7_lets_2 : List UInt8 := [132, 2, 1, 132, 3, 1, 167, 255, 207, 28, 172]
abbrev dktX7_lets_2 : List UInt8 := dkwX7_lets_2 ++ []
def dkwX7_lets_1 : List UInt8 := [2, 159, 0, 25, 27, 21, 4, 122, 4, 126, 154, 0, 6, 167, 0, 13, 42, 29, 5, 2, 182, 0, 135]
abbrev dktX7_lets_1 : List UInt8 := dkwX7_lets_1 ++ dktX7_lets_2
def dkwX7_lets_0 : List UInt8 := [3, 61, 3, 62, 29, 42, 180, 0, 7, 6, 46, 162, 0, 45, 42, 29, 5, 182, 0, 127, 54, 4, 21, 4]
abbrev dktX7_lets_0 : List UInt8 := dkwX7_lets_0 ++ dktX7_lets_1
theorem dksX7_lets_0 : cX7_lets.data.toList.drop 0 = dktX7_lets_0 := by decide +kernel
theorem dksX7_lets_1 : cX7_lets.data.toList.drop 24 = dktX7_lets_1 := dk_seg dksX7_lets_0 24 rfl rfl
theorem dksX7_lets_2 : cX7_lets.data.toList.drop 47 = dktX7_lets_2 := dk_seg dksX7_lets_1 23 rfl rfl
theorem dX7_lets_0 : decode cX7_lets 0 = .ok (.iconst 0, 1) := dk_3 (dk_at dksX7_lets_0 0 rfl rfl)
theorem dX7_lets_1 : decode cX7_lets 1 = .ok (.istore_n 2, 1) := dk_61 (dk_at dksX7_lets_0 1 rfl rfl)
theorem dX7_lets_2 : decode cX7_lets 2 = .ok (.iconst 0, 1) := dk_3 (dk_at dksX7_lets_0 2 rfl rfl)
theorem dX7_lets_3 : decode cX7_lets 3 = .ok (.istore_n 3, 1) := dk_62 (dk_at dksX7_lets_0 3 rfl rfl)
theorem dX7_lets_4 : decode cX7_lets 4 = .ok (.iload_n 3, 1) := dk_29 (dk_at dksX7_lets_0 4 rfl rfl)
theorem dX7_lets_5 : decode cX7_lets 5 = .ok (.aload_n 0, 1) := dk_42 (dk_at dksX7_lets_0 5 rfl rfl)
theorem dX7_lets_6 : decode cX7_lets 6 = .ok (.getfield 7, 3) := dk_180 0 7 (dk_at dksX7_lets_0 6 rfl rfl)
theorem dX7_lets_9 : decode cX7_lets 9 = .ok (.iconst 3, 1) := dk_6 (dk_at dksX7_lets_0 9 rfl rfl)
theorem dX7_lets_10 : decode cX7_lets 10 = .ok (.iaload, 1) := dk_46 (dk_at dksX7_lets_0 10 rfl rfl)
theorem dX7_lets_11 : decode cX7_lets 11 = .ok (.if_icmp .ge 45, 3) := dk_162 0 45 (dk_at dksX7_lets_0 11 rfl rfl)
theorem dX7_lets_14 : decode cX7_lets 14 = .ok (.aload_n 0, 1) := dk_42 (dk_at dksX7_lets_0 14 rfl rfl)
theorem dX7_lets_15 : decode cX7_lets 15 = .ok (.iload_n 3, 1) := dk_29 (dk_at dksX7_lets_0 15 rfl rfl)
theorem dX7_lets_16 : decode cX7_lets 16 = .ok (.iconst 2, 1) := dk_5 (dk_at dksX7_lets_0 16 rfl rfl)
theorem dX7_lets_17 : decode cX7_lets 17 = .ok (.invokevirtual 127, 3) := dk_182 0 127 (dk_at dksX7_lets_0 17 rfl rfl)
theorem dX7_lets_20 : decode cX7_lets 20 = .ok (.istore 4, 2) := dk_54 4 (dk_at dksX7_lets_0 20 rfl rfl)
theorem dX7_lets_22 : decode cX7_lets 22 = .ok (.iload 4, 2) := dk_21 4 (dk_at dksX7_lets_0 22 rfl rfl)
theorem dX7_lets_24 : decode cX7_lets 24 = .ok (.iconst (-1), 1) := dk_2 (dk_at dksX7_lets_1 0 rfl rfl)
theorem dX7_lets_25 : decode cX7_lets 25 = .ok (.if_icmp .eq 25, 3) := dk_159 0 25 (dk_at dksX7_lets_1 1 rfl rfl)
theorem dX7_lets_28 : decode cX7_lets 28 = .ok (.iload_n 1, 1) := dk_27 (dk_at dksX7_lets_1 4 rfl rfl)
theorem dX7_lets_29 : decode cX7_lets 29 = .ok (.iload 4, 2) := dk_21 4 (dk_at dksX7_lets_1 5 rfl rfl)
theorem dX7_lets_31 : decode cX7_lets 31 = .ok (.ishr, 1) := dk_122 (dk_at dksX7_lets_1 7 rfl rfl)
theorem dX7_lets_32 : decode cX7_lets 32 = .ok (.iconst 1, 1) := dk_4 (dk_at dksX7_lets_1 8 rfl rfl)
theorem dX7_lets_33 : decode cX7_lets 33 = .ok (.iand, 1) := dk_126 (dk_at dksX7_lets_1 9 rfl rfl)
theorem dX7_lets_34 : decode cX7_lets 34 = .ok (.ifCond .ne 6, 3) := dk_154 0 6 (dk_at dksX7_lets_1 10 rfl rfl)
theorem dX7_lets_37 : decode cX7_lets 37 = .ok (.goto 13, 3) := dk_167 0 13 (dk_at dksX7_lets_1 13 rfl rfl)
theorem dX7_lets_40 : decode cX7_lets 40 = .ok (.aload_n 0, 1) := dk_42 (dk_at dksX7_lets_1 16 rfl rfl)
theorem dX7_lets_41 : decode cX7_lets 41 = .ok (.iload_n 3, 1) := dk_29 (dk_at dksX7_lets_1 17 rfl rfl)
theorem dX7_lets_42 : decode cX7_lets 42 = .ok (.iconst 2, 1) := dk_5 (dk_at dksX7_lets_1 18 rfl rfl)
theorem dX7_lets_43 : decode cX7_lets 43 = .ok (.iconst (-1), 1) := dk_2 (dk_at dksX7_lets_1 19 rfl rfl)
theorem dX7_lets_44 : decode cX7_lets 44 = .ok (.invokevirtual 135, 3) := dk_182 0 135 (dk_at dksX7_lets_1 20 rfl rfl)
theorem dX7_lets_47 : decode cX7_lets 47 = .ok (.iinc 2 1, 3) := dk_132 2 1 (dk_at dksX7_lets_2 0 rfl rfl)
theorem dX7_lets_50 : decode cX7_lets 50 = .ok (.iinc 3 1, 3) := dk_132 3 1 (dk_at dksX7_lets_2 3 rfl rfl)
theorem dX7_lets_53 : decode cX7_lets 53 = .ok (.goto (-49), 3) := dk_167 255 207 (dk_at dksX7_lets_2 6 rfl rfl)
theorem dX7_lets_56 : decode cX7_lets 56 = .ok (.iload_n 2, 1) := dk_28 (dk_at dksX7_lets_2 9 rfl rfl)
theorem dX7_lets_57 : decode cX7_lets 57 = .ok (.ireturn, 1) := dk_172 (dk_at dksX7_lets_2 10 rfl rfl)
abbrev cX7_witness : ByteArray := prog_23_method_65_code
def yX7_witness : MethodName := ⟨RX7, "witness", "(I)I"⟩
def dkwX7_witness_0 : List UInt8 := [42, 3, 181, 0, 53, 42, 27, 182, 1, 31, 172]
abbrev dktX7_witness_0 : List UInt8 := dkwX7_witness_0 ++ []
theorem dksX7_witness_0 : cX7_witness.data.toList.drop 0 = dktX7_witness_0 := by decide +kernel
theorem dX7_witness_0 : decode cX7_witness 0 = .ok (.aload_n 0, 1) := dk_42 (dk_at dksX7_witness_0 0 rfl rfl)
theorem dX7_witness_1 : decode cX7_witness 1 = .ok (.iconst 0, 1) := dk_3 (dk_at dksX7_witness_0 1 rfl rfl)
theorem dX7_witness_2 : decode cX7_witness 2 = .ok (.putfield 53, 3) := dk_181 0 53 (dk_at dksX7_witness_0 2 rfl rfl)
theorem dX7_witness_5 : decode cX7_witness 5 = .ok (.aload_n 0, 1) := dk_42 (dk_at dksX7_witness_0 5 rfl rfl)
theorem dX7_witness_6 : decode cX7_witness 6 = .ok (.iload_n 1, 1) := dk_27 (dk_at dksX7_witness_0 6 rfl rfl)
theorem dX7_witness_7 : decode cX7_witness 7 = .ok (.invokevirtual 287, 3) := dk_182 1 31 (dk_at dksX7_witness_0 7 rfl rfl)
theorem dX7_witness_10 : decode cX7_witness 10 = .ok (.ireturn, 1) := dk_172 (dk_at dksX7_witness_0 10 rfl rfl)
abbrev cX7_fewest : ByteArray := prog_23_method_67_code
def yX7_fewest : MethodName := ⟨RX7, "fewest", "()I"⟩
def dkwX7_fewest_2 : List UInt8 := [160, 0, 5, 28, 172, 132, 2, 1, 167, 255, 222, 132, 1, 1, 167, 255, 204, 2, 172]
abbrev dktX7_fewest_2 : List UInt8 := dkwX7_fewest_2 ++ []
def dkwX7_fewest_1 : List UInt8 := [180, 0, 7, 4, 46, 120, 162, 0, 28, 28, 184, 1, 34, 27, 160, 0, 14, 42, 28, 182, 1, 31, 2]
abbrev dktX7_fewest_1 : List UInt8 := dkwX7_fewest_1 ++ dktX7_fewest_2
def dkwX7_fewest_0 : List UInt8 := [42, 3, 181, 0, 53, 3, 60, 27, 42, 180, 0, 7, 4, 46, 163, 0, 48, 3, 61, 28, 4, 42]
abbrev dktX7_fewest_0 : List UInt8 := dkwX7_fewest_0 ++ dktX7_fewest_1
theorem dksX7_fewest_0 : cX7_fewest.data.toList.drop 0 = dktX7_fewest_0 := by decide +kernel
theorem dksX7_fewest_1 : cX7_fewest.data.toList.drop 22 = dktX7_fewest_1 := dk_seg dksX7_fewest_0 22 rfl rfl
theorem dksX7_fewest_2 : cX7_fewest.data.toList.drop 45 = dktX7_fewest_2 := dk_seg dksX7_fewest_1 23 rfl rfl
theorem dX7_fewest_0 : decode cX7_fewest 0 = .ok (.aload_n 0, 1) := dk_42 (dk_at dksX7_fewest_0 0 rfl rfl)
theorem dX7_fewest_1 : decode cX7_fewest 1 = .ok (.iconst 0, 1) := dk_3 (dk_at dksX7_fewest_0 1 rfl rfl)
theorem dX7_fewest_2 : decode cX7_fewest 2 = .ok (.putfield 53, 3) := dk_181 0 53 (dk_at dksX7_fewest_0 2 rfl rfl)
theorem dX7_fewest_5 : decode cX7_fewest 5 = .ok (.iconst 0, 1) := dk_3 (dk_at dksX7_fewest_0 5 rfl rfl)
theorem dX7_fewest_6 : decode cX7_fewest 6 = .ok (.istore_n 1, 1) := dk_60 (dk_at dksX7_fewest_0 6 rfl rfl)
theorem dX7_fewest_7 : decode cX7_fewest 7 = .ok (.iload_n 1, 1) := dk_27 (dk_at dksX7_fewest_0 7 rfl rfl)
theorem dX7_fewest_8 : decode cX7_fewest 8 = .ok (.aload_n 0, 1) := dk_42 (dk_at dksX7_fewest_0 8 rfl rfl)
theorem dX7_fewest_9 : decode cX7_fewest 9 = .ok (.getfield 7, 3) := dk_180 0 7 (dk_at dksX7_fewest_0 9 rfl rfl)
theorem dX7_fewest_12 : decode cX7_fewest 12 = .ok (.iconst 1, 1) := dk_4 (dk_at dksX7_fewest_0 12 rfl rfl)
theorem dX7_fewest_13 : decode cX7_fewest 13 = .ok (.iaload, 1) := dk_46 (dk_at dksX7_fewest_0 13 rfl rfl)
theorem dX7_fewest_14 : decode cX7_fewest 14 = .ok (.if_icmp .gt 48, 3) := dk_163 0 48 (dk_at dksX7_fewest_0 14 rfl rfl)
theorem dX7_fewest_17 : decode cX7_fewest 17 = .ok (.iconst 0, 1) := dk_3 (dk_at dksX7_fewest_0 17 rfl rfl)
theorem dX7_fewest_18 : decode cX7_fewest 18 = .ok (.istore_n 2, 1) := dk_61 (dk_at dksX7_fewest_0 18 rfl rfl)
theorem dX7_fewest_19 : decode cX7_fewest 19 = .ok (.iload_n 2, 1) := dk_28 (dk_at dksX7_fewest_0 19 rfl rfl)
theorem dX7_fewest_20 : decode cX7_fewest 20 = .ok (.iconst 1, 1) := dk_4 (dk_at dksX7_fewest_0 20 rfl rfl)
theorem dX7_fewest_21 : decode cX7_fewest 21 = .ok (.aload_n 0, 1) := dk_42 (dk_at dksX7_fewest_0 21 rfl rfl)
theorem dX7_fewest_22 : decode cX7_fewest 22 = .ok (.getfield 7, 3) := dk_180 0 7 (dk_at dksX7_fewest_1 0 rfl rfl)
theorem dX7_fewest_25 : decode cX7_fewest 25 = .ok (.iconst 1, 1) := dk_4 (dk_at dksX7_fewest_1 3 rfl rfl)
theorem dX7_fewest_26 : decode cX7_fewest 26 = .ok (.iaload, 1) := dk_46 (dk_at dksX7_fewest_1 4 rfl rfl)
theorem dX7_fewest_27 : decode cX7_fewest 27 = .ok (.ishl, 1) := dk_120 (dk_at dksX7_fewest_1 5 rfl rfl)
theorem dX7_fewest_28 : decode cX7_fewest 28 = .ok (.if_icmp .ge 28, 3) := dk_162 0 28 (dk_at dksX7_fewest_1 6 rfl rfl)
theorem dX7_fewest_31 : decode cX7_fewest 31 = .ok (.iload_n 2, 1) := dk_28 (dk_at dksX7_fewest_1 9 rfl rfl)
theorem dX7_fewest_32 : decode cX7_fewest 32 = .ok (.invokestatic 290, 3) := dk_184 1 34 (dk_at dksX7_fewest_1 10 rfl rfl)
theorem dX7_fewest_35 : decode cX7_fewest 35 = .ok (.iload_n 1, 1) := dk_27 (dk_at dksX7_fewest_1 13 rfl rfl)
theorem dX7_fewest_36 : decode cX7_fewest 36 = .ok (.if_icmp .ne 14, 3) := dk_160 0 14 (dk_at dksX7_fewest_1 14 rfl rfl)
theorem dX7_fewest_39 : decode cX7_fewest 39 = .ok (.aload_n 0, 1) := dk_42 (dk_at dksX7_fewest_1 17 rfl rfl)
theorem dX7_fewest_40 : decode cX7_fewest 40 = .ok (.iload_n 2, 1) := dk_28 (dk_at dksX7_fewest_1 18 rfl rfl)
theorem dX7_fewest_41 : decode cX7_fewest 41 = .ok (.invokevirtual 287, 3) := dk_182 1 31 (dk_at dksX7_fewest_1 19 rfl rfl)
theorem dX7_fewest_44 : decode cX7_fewest 44 = .ok (.iconst (-1), 1) := dk_2 (dk_at dksX7_fewest_1 22 rfl rfl)
theorem dX7_fewest_45 : decode cX7_fewest 45 = .ok (.if_icmp .ne 5, 3) := dk_160 0 5 (dk_at dksX7_fewest_2 0 rfl rfl)
theorem dX7_fewest_48 : decode cX7_fewest 48 = .ok (.iload_n 2, 1) := dk_28 (dk_at dksX7_fewest_2 3 rfl rfl)
theorem dX7_fewest_49 : decode cX7_fewest 49 = .ok (.ireturn, 1) := dk_172 (dk_at dksX7_fewest_2 4 rfl rfl)
theorem dX7_fewest_50 : decode cX7_fewest 50 = .ok (.iinc 2 1, 3) := dk_132 2 1 (dk_at dksX7_fewest_2 5 rfl rfl)
theorem dX7_fewest_53 : decode cX7_fewest 53 = .ok (.goto (-34), 3) := dk_167 255 222 (dk_at dksX7_fewest_2 8 rfl rfl)
theorem dX7_fewest_56 : decode cX7_fewest 56 = .ok (.iinc 1 1, 3) := dk_132 1 1 (dk_at dksX7_fewest_2 11 rfl rfl)
theorem dX7_fewest_59 : decode cX7_fewest 59 = .ok (.goto (-52), 3) := dk_167 255 204 (dk_at dksX7_fewest_2 14 rfl rfl)
theorem dX7_fewest_62 : decode cX7_fewest 62 = .ok (.iconst (-1), 1) := dk_2 (dk_at dksX7_fewest_2 17 rfl rfl)
theorem dX7_fewest_63 : decode cX7_fewest 63 = .ok (.ireturn, 1) := dk_172 (dk_at dksX7_fewest_2 18 rfl rfl)
abbrev cX7_bits : ByteArray := prog_23_method_66_code
def yX7_bits : MethodName := ⟨RX7, "bits", "(I)I"⟩
def dkwX7_bits_1 : List UInt8 := [27, 172]
abbrev dktX7_bits_1 : List UInt8 := dkwX7_bits_1 ++ []
def dkwX7_bits_0 : List UInt8 := [3, 60, 3, 61, 28, 16, 12, 162, 0, 17, 27, 26, 28, 122, 4, 126, 96, 60, 132, 2, 1, 167, 255, 239]
abbrev dktX7_bits_0 : List UInt8 := dkwX7_bits_0 ++ dktX7_bits_1
theorem dksX7_bits_0 : cX7_bits.data.toList.drop 0 = dktX7_bits_0 := by decide +kernel
theorem dksX7_bits_1 : cX7_bits.data.toList.drop 24 = dktX7_bits_1 := dk_seg dksX7_bits_0 24 rfl rfl
theorem dX7_bits_0 : decode cX7_bits 0 = .ok (.iconst 0, 1) := dk_3 (dk_at dksX7_bits_0 0 rfl rfl)
theorem dX7_bits_1 : decode cX7_bits 1 = .ok (.istore_n 1, 1) := dk_60 (dk_at dksX7_bits_0 1 rfl rfl)
theorem dX7_bits_2 : decode cX7_bits 2 = .ok (.iconst 0, 1) := dk_3 (dk_at dksX7_bits_0 2 rfl rfl)
theorem dX7_bits_3 : decode cX7_bits 3 = .ok (.istore_n 2, 1) := dk_61 (dk_at dksX7_bits_0 3 rfl rfl)
theorem dX7_bits_4 : decode cX7_bits 4 = .ok (.iload_n 2, 1) := dk_28 (dk_at dksX7_bits_0 4 rfl rfl)
theorem dX7_bits_5 : decode cX7_bits 5 = .ok (.bipush 12, 2) := dk_16 12 (dk_at dksX7_bits_0 5 rfl rfl)
theorem dX7_bits_7 : decode cX7_bits 7 = .ok (.if_icmp .ge 17, 3) := dk_162 0 17 (dk_at dksX7_bits_0 7 rfl rfl)
theorem dX7_bits_10 : decode cX7_bits 10 = .ok (.iload_n 1, 1) := dk_27 (dk_at dksX7_bits_0 10 rfl rfl)
theorem dX7_bits_11 : decode cX7_bits 11 = .ok (.iload_n 0, 1) := dk_26 (dk_at dksX7_bits_0 11 rfl rfl)
theorem dX7_bits_12 : decode cX7_bits 12 = .ok (.iload_n 2, 1) := dk_28 (dk_at dksX7_bits_0 12 rfl rfl)
theorem dX7_bits_13 : decode cX7_bits 13 = .ok (.ishr, 1) := dk_122 (dk_at dksX7_bits_0 13 rfl rfl)
theorem dX7_bits_14 : decode cX7_bits 14 = .ok (.iconst 1, 1) := dk_4 (dk_at dksX7_bits_0 14 rfl rfl)
theorem dX7_bits_15 : decode cX7_bits 15 = .ok (.iand, 1) := dk_126 (dk_at dksX7_bits_0 15 rfl rfl)
theorem dX7_bits_16 : decode cX7_bits 16 = .ok (.iadd, 1) := dk_96 (dk_at dksX7_bits_0 16 rfl rfl)
theorem dX7_bits_17 : decode cX7_bits 17 = .ok (.istore_n 1, 1) := dk_60 (dk_at dksX7_bits_0 17 rfl rfl)
theorem dX7_bits_18 : decode cX7_bits 18 = .ok (.iinc 2 1, 3) := dk_132 2 1 (dk_at dksX7_bits_0 18 rfl rfl)
theorem dX7_bits_21 : decode cX7_bits 21 = .ok (.goto (-17), 3) := dk_167 255 239 (dk_at dksX7_bits_0 21 rfl rfl)
theorem dX7_bits_24 : decode cX7_bits 24 = .ok (.iload_n 1, 1) := dk_27 (dk_at dksX7_bits_1 0 rfl rfl)
theorem dX7_bits_25 : decode cX7_bits 25 = .ok (.ireturn, 1) := dk_172 (dk_at dksX7_bits_1 1 rfl rfl)
abbrev cX7_forgive : ByteArray := prog_23_method_68_code
def yX7_forgive : MethodName := ⟨RX7, "forgive", "(I)I"⟩
def dkwX7_forgive_0 : List UInt8 := [42, 3, 181, 0, 53, 42, 27, 182, 1, 28, 172]
abbrev dktX7_forgive_0 : List UInt8 := dkwX7_forgive_0 ++ []
theorem dksX7_forgive_0 : cX7_forgive.data.toList.drop 0 = dktX7_forgive_0 := by decide +kernel
theorem dX7_forgive_0 : decode cX7_forgive 0 = .ok (.aload_n 0, 1) := dk_42 (dk_at dksX7_forgive_0 0 rfl rfl)
theorem dX7_forgive_1 : decode cX7_forgive 1 = .ok (.iconst 0, 1) := dk_3 (dk_at dksX7_forgive_0 1 rfl rfl)
theorem dX7_forgive_2 : decode cX7_forgive 2 = .ok (.putfield 53, 3) := dk_181 0 53 (dk_at dksX7_forgive_0 2 rfl rfl)
theorem dX7_forgive_5 : decode cX7_forgive 5 = .ok (.aload_n 0, 1) := dk_42 (dk_at dksX7_forgive_0 5 rfl rfl)
theorem dX7_forgive_6 : decode cX7_forgive 6 = .ok (.iload_n 1, 1) := dk_27 (dk_at dksX7_forgive_0 6 rfl rfl)
theorem dX7_forgive_7 : decode cX7_forgive 7 = .ok (.invokevirtual 284, 3) := dk_182 1 28 (dk_at dksX7_forgive_0 7 rfl rfl)
theorem dX7_forgive_10 : decode cX7_forgive 10 = .ok (.ireturn, 1) := dk_172 (dk_at dksX7_forgive_0 10 rfl rfl)
abbrev cX7_port : ByteArray := prog_23_method_71_code
def yX7_port : MethodName := ⟨RX7, "port", "(II)I"⟩
def dkwX7_port_1 : List UInt8 := [182, 1, 40, 172]
abbrev dktX7_port_1 : List UInt8 := dkwX7_port_1 ++ []
def dkwX7_port_0 : List UInt8 := [42, 42, 27, 28, 182, 1, 37, 181, 0, 53, 42, 180, 0, 53, 158, 0, 5, 3, 172, 42, 27, 28]
abbrev dktX7_port_0 : List UInt8 := dkwX7_port_0 ++ dktX7_port_1
theorem dksX7_port_0 : cX7_port.data.toList.drop 0 = dktX7_port_0 := by decide +kernel
theorem dksX7_port_1 : cX7_port.data.toList.drop 22 = dktX7_port_1 := dk_seg dksX7_port_0 22 rfl rfl
theorem dX7_port_0 : decode cX7_port 0 = .ok (.aload_n 0, 1) := dk_42 (dk_at dksX7_port_0 0 rfl rfl)
theorem dX7_port_1 : decode cX7_port 1 = .ok (.aload_n 0, 1) := dk_42 (dk_at dksX7_port_0 1 rfl rfl)
theorem dX7_port_2 : decode cX7_port 2 = .ok (.iload_n 1, 1) := dk_27 (dk_at dksX7_port_0 2 rfl rfl)
theorem dX7_port_3 : decode cX7_port 3 = .ok (.iload_n 2, 1) := dk_28 (dk_at dksX7_port_0 3 rfl rfl)
theorem dX7_port_4 : decode cX7_port 4 = .ok (.invokevirtual 293, 3) := dk_182 1 37 (dk_at dksX7_port_0 4 rfl rfl)
theorem dX7_port_7 : decode cX7_port 7 = .ok (.putfield 53, 3) := dk_181 0 53 (dk_at dksX7_port_0 7 rfl rfl)
theorem dX7_port_10 : decode cX7_port 10 = .ok (.aload_n 0, 1) := dk_42 (dk_at dksX7_port_0 10 rfl rfl)
theorem dX7_port_11 : decode cX7_port 11 = .ok (.getfield 53, 3) := dk_180 0 53 (dk_at dksX7_port_0 11 rfl rfl)
theorem dX7_port_14 : decode cX7_port 14 = .ok (.ifCond .le 5, 3) := dk_158 0 5 (dk_at dksX7_port_0 14 rfl rfl)
theorem dX7_port_17 : decode cX7_port 17 = .ok (.iconst 0, 1) := dk_3 (dk_at dksX7_port_0 17 rfl rfl)
theorem dX7_port_18 : decode cX7_port 18 = .ok (.ireturn, 1) := dk_172 (dk_at dksX7_port_0 18 rfl rfl)
theorem dX7_port_19 : decode cX7_port 19 = .ok (.aload_n 0, 1) := dk_42 (dk_at dksX7_port_0 19 rfl rfl)
theorem dX7_port_20 : decode cX7_port 20 = .ok (.iload_n 1, 1) := dk_27 (dk_at dksX7_port_0 20 rfl rfl)
theorem dX7_port_21 : decode cX7_port 21 = .ok (.iload_n 2, 1) := dk_28 (dk_at dksX7_port_0 21 rfl rfl)
theorem dX7_port_22 : decode cX7_port 22 = .ok (.invokevirtual 296, 3) := dk_182 1 40 (dk_at dksX7_port_1 0 rfl rfl)
theorem dX7_port_25 : decode cX7_port 25 = .ok (.ireturn, 1) := dk_172 (dk_at dksX7_port_1 3 rfl rfl)
abbrev cX7_twoOf : ByteArray := prog_23_method_70_code
def yX7_twoOf : MethodName := ⟨RX7, "twoOf", "(II)I"⟩
def dkwX7_twoOf_1 : List UInt8 := [160, 0, 7, 5, 167, 0, 4, 3, 172]
abbrev dktX7_twoOf_1 : List UInt8 := dkwX7_twoOf_1 ++ []
def dkwX7_twoOf_0 : List UInt8 := [42, 27, 182, 0, 226, 153, 0, 11, 42, 28, 182, 0, 226, 154, 0, 7, 4, 167, 0, 13, 27, 28]
abbrev dktX7_twoOf_0 : List UInt8 := dkwX7_twoOf_0 ++ dktX7_twoOf_1
theorem dksX7_twoOf_0 : cX7_twoOf.data.toList.drop 0 = dktX7_twoOf_0 := by decide +kernel
theorem dksX7_twoOf_1 : cX7_twoOf.data.toList.drop 22 = dktX7_twoOf_1 := dk_seg dksX7_twoOf_0 22 rfl rfl
theorem dX7_twoOf_0 : decode cX7_twoOf 0 = .ok (.aload_n 0, 1) := dk_42 (dk_at dksX7_twoOf_0 0 rfl rfl)
theorem dX7_twoOf_1 : decode cX7_twoOf 1 = .ok (.iload_n 1, 1) := dk_27 (dk_at dksX7_twoOf_0 1 rfl rfl)
theorem dX7_twoOf_2 : decode cX7_twoOf 2 = .ok (.invokevirtual 226, 3) := dk_182 0 226 (dk_at dksX7_twoOf_0 2 rfl rfl)
theorem dX7_twoOf_5 : decode cX7_twoOf 5 = .ok (.ifCond .eq 11, 3) := dk_153 0 11 (dk_at dksX7_twoOf_0 5 rfl rfl)
theorem dX7_twoOf_8 : decode cX7_twoOf 8 = .ok (.aload_n 0, 1) := dk_42 (dk_at dksX7_twoOf_0 8 rfl rfl)
theorem dX7_twoOf_9 : decode cX7_twoOf 9 = .ok (.iload_n 2, 1) := dk_28 (dk_at dksX7_twoOf_0 9 rfl rfl)
theorem dX7_twoOf_10 : decode cX7_twoOf 10 = .ok (.invokevirtual 226, 3) := dk_182 0 226 (dk_at dksX7_twoOf_0 10 rfl rfl)
theorem dX7_twoOf_13 : decode cX7_twoOf 13 = .ok (.ifCond .ne 7, 3) := dk_154 0 7 (dk_at dksX7_twoOf_0 13 rfl rfl)
theorem dX7_twoOf_16 : decode cX7_twoOf 16 = .ok (.iconst 1, 1) := dk_4 (dk_at dksX7_twoOf_0 16 rfl rfl)
theorem dX7_twoOf_17 : decode cX7_twoOf 17 = .ok (.goto 13, 3) := dk_167 0 13 (dk_at dksX7_twoOf_0 17 rfl rfl)
theorem dX7_twoOf_20 : decode cX7_twoOf 20 = .ok (.iload_n 1, 1) := dk_27 (dk_at dksX7_twoOf_0 20 rfl rfl)
theorem dX7_twoOf_21 : decode cX7_twoOf 21 = .ok (.iload_n 2, 1) := dk_28 (dk_at dksX7_twoOf_0 21 rfl rfl)
theorem dX7_twoOf_22 : decode cX7_twoOf 22 = .ok (.if_icmp .ne 7, 3) := dk_160 0 7 (dk_at dksX7_twoOf_1 0 rfl rfl)
theorem dX7_twoOf_25 : decode cX7_twoOf 25 = .ok (.iconst 2, 1) := dk_5 (dk_at dksX7_twoOf_1 3 rfl rfl)
theorem dX7_twoOf_26 : decode cX7_twoOf 26 = .ok (.goto 4, 3) := dk_167 0 4 (dk_at dksX7_twoOf_1 4 rfl rfl)
theorem dX7_twoOf_29 : decode cX7_twoOf 29 = .ok (.iconst 0, 1) := dk_3 (dk_at dksX7_twoOf_1 7 rfl rfl)
theorem dX7_twoOf_30 : decode cX7_twoOf 30 = .ok (.ireturn, 1) := dk_172 (dk_at dksX7_twoOf_1 8 rfl rfl)
abbrev cX7_portOf : ByteArray := prog_23_method_69_code
def yX7_portOf : MethodName := ⟨RX7, "portOf", "(II)I"⟩
def dkwX7_portOf_3 : List UInt8 := [172]
abbrev dktX7_portOf_3 : List UInt8 := dkwX7_portOf_3 ++ []
def dkwX7_portOf_2 : List UInt8 := [21, 4, 6, 182, 0, 127, 4, 96, 184, 0, 229, 17, 4, 0, 108, 96, 62, 132, 4, 1, 167, 255, 194, 29]
abbrev dktX7_portOf_2 : List UInt8 := dkwX7_portOf_2 ++ dktX7_portOf_3
def dkwX7_portOf_1 : List UInt8 := [160, 0, 40, 42, 21, 4, 27, 28, 182, 1, 6, 153, 0, 29, 29, 42, 21, 4, 4, 182, 0, 127, 42]
abbrev dktX7_portOf_1 : List UInt8 := dkwX7_portOf_1 ++ dktX7_portOf_2
def dkwX7_portOf_0 : List UInt8 := [3, 62, 3, 54, 4, 21, 4, 42, 180, 0, 7, 6, 46, 162, 0, 57, 42, 21, 4, 5, 182, 0, 127, 27]
abbrev dktX7_portOf_0 : List UInt8 := dkwX7_portOf_0 ++ dktX7_portOf_1
theorem dksX7_portOf_0 : cX7_portOf.data.toList.drop 0 = dktX7_portOf_0 := by decide +kernel
theorem dksX7_portOf_1 : cX7_portOf.data.toList.drop 24 = dktX7_portOf_1 := dk_seg dksX7_portOf_0 24 rfl rfl
theorem dksX7_portOf_2 : cX7_portOf.data.toList.drop 47 = dktX7_portOf_2 := dk_seg dksX7_portOf_1 23 rfl rfl
theorem dksX7_portOf_3 : cX7_portOf.data.toList.drop 71 = dktX7_portOf_3 := dk_seg dksX7_portOf_2 24 rfl rfl
theorem dX7_portOf_0 : decode cX7_portOf 0 = .ok (.iconst 0, 1) := dk_3 (dk_at dksX7_portOf_0 0 rfl rfl)
theorem dX7_portOf_1 : decode cX7_portOf 1 = .ok (.istore_n 3, 1) := dk_62 (dk_at dksX7_portOf_0 1 rfl rfl)
theorem dX7_portOf_2 : decode cX7_portOf 2 = .ok (.iconst 0, 1) := dk_3 (dk_at dksX7_portOf_0 2 rfl rfl)
theorem dX7_portOf_3 : decode cX7_portOf 3 = .ok (.istore 4, 2) := dk_54 4 (dk_at dksX7_portOf_0 3 rfl rfl)
theorem dX7_portOf_5 : decode cX7_portOf 5 = .ok (.iload 4, 2) := dk_21 4 (dk_at dksX7_portOf_0 5 rfl rfl)
theorem dX7_portOf_7 : decode cX7_portOf 7 = .ok (.aload_n 0, 1) := dk_42 (dk_at dksX7_portOf_0 7 rfl rfl)
theorem dX7_portOf_8 : decode cX7_portOf 8 = .ok (.getfield 7, 3) := dk_180 0 7 (dk_at dksX7_portOf_0 8 rfl rfl)
theorem dX7_portOf_11 : decode cX7_portOf 11 = .ok (.iconst 3, 1) := dk_6 (dk_at dksX7_portOf_0 11 rfl rfl)
theorem dX7_portOf_12 : decode cX7_portOf 12 = .ok (.iaload, 1) := dk_46 (dk_at dksX7_portOf_0 12 rfl rfl)
theorem dX7_portOf_13 : decode cX7_portOf 13 = .ok (.if_icmp .ge 57, 3) := dk_162 0 57 (dk_at dksX7_portOf_0 13 rfl rfl)
theorem dX7_portOf_16 : decode cX7_portOf 16 = .ok (.aload_n 0, 1) := dk_42 (dk_at dksX7_portOf_0 16 rfl rfl)
theorem dX7_portOf_17 : decode cX7_portOf 17 = .ok (.iload 4, 2) := dk_21 4 (dk_at dksX7_portOf_0 17 rfl rfl)
theorem dX7_portOf_19 : decode cX7_portOf 19 = .ok (.iconst 2, 1) := dk_5 (dk_at dksX7_portOf_0 19 rfl rfl)
theorem dX7_portOf_20 : decode cX7_portOf 20 = .ok (.invokevirtual 127, 3) := dk_182 0 127 (dk_at dksX7_portOf_0 20 rfl rfl)
theorem dX7_portOf_23 : decode cX7_portOf 23 = .ok (.iload_n 1, 1) := dk_27 (dk_at dksX7_portOf_0 23 rfl rfl)
theorem dX7_portOf_24 : decode cX7_portOf 24 = .ok (.if_icmp .ne 40, 3) := dk_160 0 40 (dk_at dksX7_portOf_1 0 rfl rfl)
theorem dX7_portOf_27 : decode cX7_portOf 27 = .ok (.aload_n 0, 1) := dk_42 (dk_at dksX7_portOf_1 3 rfl rfl)
theorem dX7_portOf_28 : decode cX7_portOf 28 = .ok (.iload 4, 2) := dk_21 4 (dk_at dksX7_portOf_1 4 rfl rfl)
theorem dX7_portOf_30 : decode cX7_portOf 30 = .ok (.iload_n 1, 1) := dk_27 (dk_at dksX7_portOf_1 6 rfl rfl)
theorem dX7_portOf_31 : decode cX7_portOf 31 = .ok (.iload_n 2, 1) := dk_28 (dk_at dksX7_portOf_1 7 rfl rfl)
theorem dX7_portOf_32 : decode cX7_portOf 32 = .ok (.invokevirtual 262, 3) := dk_182 1 6 (dk_at dksX7_portOf_1 8 rfl rfl)
theorem dX7_portOf_35 : decode cX7_portOf 35 = .ok (.ifCond .eq 29, 3) := dk_153 0 29 (dk_at dksX7_portOf_1 11 rfl rfl)
theorem dX7_portOf_38 : decode cX7_portOf 38 = .ok (.iload_n 3, 1) := dk_29 (dk_at dksX7_portOf_1 14 rfl rfl)
theorem dX7_portOf_39 : decode cX7_portOf 39 = .ok (.aload_n 0, 1) := dk_42 (dk_at dksX7_portOf_1 15 rfl rfl)
theorem dX7_portOf_40 : decode cX7_portOf 40 = .ok (.iload 4, 2) := dk_21 4 (dk_at dksX7_portOf_1 16 rfl rfl)
theorem dX7_portOf_42 : decode cX7_portOf 42 = .ok (.iconst 1, 1) := dk_4 (dk_at dksX7_portOf_1 18 rfl rfl)
theorem dX7_portOf_43 : decode cX7_portOf 43 = .ok (.invokevirtual 127, 3) := dk_182 0 127 (dk_at dksX7_portOf_1 19 rfl rfl)
theorem dX7_portOf_46 : decode cX7_portOf 46 = .ok (.aload_n 0, 1) := dk_42 (dk_at dksX7_portOf_1 22 rfl rfl)
theorem dX7_portOf_47 : decode cX7_portOf 47 = .ok (.iload 4, 2) := dk_21 4 (dk_at dksX7_portOf_2 0 rfl rfl)
theorem dX7_portOf_49 : decode cX7_portOf 49 = .ok (.iconst 3, 1) := dk_6 (dk_at dksX7_portOf_2 2 rfl rfl)
theorem dX7_portOf_50 : decode cX7_portOf 50 = .ok (.invokevirtual 127, 3) := dk_182 0 127 (dk_at dksX7_portOf_2 3 rfl rfl)
theorem dX7_portOf_53 : decode cX7_portOf 53 = .ok (.iconst 1, 1) := dk_4 (dk_at dksX7_portOf_2 6 rfl rfl)
theorem dX7_portOf_54 : decode cX7_portOf 54 = .ok (.iadd, 1) := dk_96 (dk_at dksX7_portOf_2 7 rfl rfl)
theorem dX7_portOf_55 : decode cX7_portOf 55 = .ok (.invokestatic 229, 3) := dk_184 0 229 (dk_at dksX7_portOf_2 8 rfl rfl)
theorem dX7_portOf_58 : decode cX7_portOf 58 = .ok (.sipush 1024, 3) := dk_17 4 0 (dk_at dksX7_portOf_2 11 rfl rfl)
theorem dX7_portOf_61 : decode cX7_portOf 61 = .ok (.idiv, 1) := dk_108 (dk_at dksX7_portOf_2 14 rfl rfl)
theorem dX7_portOf_62 : decode cX7_portOf 62 = .ok (.iadd, 1) := dk_96 (dk_at dksX7_portOf_2 15 rfl rfl)
theorem dX7_portOf_63 : decode cX7_portOf 63 = .ok (.istore_n 3, 1) := dk_62 (dk_at dksX7_portOf_2 16 rfl rfl)
theorem dX7_portOf_64 : decode cX7_portOf 64 = .ok (.iinc 4 1, 3) := dk_132 4 1 (dk_at dksX7_portOf_2 17 rfl rfl)
theorem dX7_portOf_67 : decode cX7_portOf 67 = .ok (.goto (-62), 3) := dk_167 255 194 (dk_at dksX7_portOf_2 20 rfl rfl)
theorem dX7_portOf_70 : decode cX7_portOf 70 = .ok (.iload_n 3, 1) := dk_29 (dk_at dksX7_portOf_2 23 rfl rfl)
theorem dX7_portOf_71 : decode cX7_portOf 71 = .ok (.ireturn, 1) := dk_172 (dk_at dksX7_portOf_3 0 rfl rfl)
abbrev cX7_most : ByteArray := prog_23_method_75_code
def yX7_most : MethodName := ⟨RX7, "most", "(II)I"⟩
def dkwX7_most_1 : List UInt8 := [182, 1, 49, 172]
abbrev dktX7_most_1 : List UInt8 := dkwX7_most_1 ++ []
def dkwX7_most_0 : List UInt8 := [42, 42, 27, 28, 182, 1, 37, 181, 0, 53, 42, 180, 0, 53, 158, 0, 5, 3, 172, 42, 27, 28]
abbrev dktX7_most_0 : List UInt8 := dkwX7_most_0 ++ dktX7_most_1
theorem dksX7_most_0 : cX7_most.data.toList.drop 0 = dktX7_most_0 := by decide +kernel
theorem dksX7_most_1 : cX7_most.data.toList.drop 22 = dktX7_most_1 := dk_seg dksX7_most_0 22 rfl rfl
theorem dX7_most_0 : decode cX7_most 0 = .ok (.aload_n 0, 1) := dk_42 (dk_at dksX7_most_0 0 rfl rfl)
theorem dX7_most_1 : decode cX7_most 1 = .ok (.aload_n 0, 1) := dk_42 (dk_at dksX7_most_0 1 rfl rfl)
theorem dX7_most_2 : decode cX7_most 2 = .ok (.iload_n 1, 1) := dk_27 (dk_at dksX7_most_0 2 rfl rfl)
theorem dX7_most_3 : decode cX7_most 3 = .ok (.iload_n 2, 1) := dk_28 (dk_at dksX7_most_0 3 rfl rfl)
theorem dX7_most_4 : decode cX7_most 4 = .ok (.invokevirtual 293, 3) := dk_182 1 37 (dk_at dksX7_most_0 4 rfl rfl)
theorem dX7_most_7 : decode cX7_most 7 = .ok (.putfield 53, 3) := dk_181 0 53 (dk_at dksX7_most_0 7 rfl rfl)
theorem dX7_most_10 : decode cX7_most 10 = .ok (.aload_n 0, 1) := dk_42 (dk_at dksX7_most_0 10 rfl rfl)
theorem dX7_most_11 : decode cX7_most 11 = .ok (.getfield 53, 3) := dk_180 0 53 (dk_at dksX7_most_0 11 rfl rfl)
theorem dX7_most_14 : decode cX7_most 14 = .ok (.ifCond .le 5, 3) := dk_158 0 5 (dk_at dksX7_most_0 14 rfl rfl)
theorem dX7_most_17 : decode cX7_most 17 = .ok (.iconst 0, 1) := dk_3 (dk_at dksX7_most_0 17 rfl rfl)
theorem dX7_most_18 : decode cX7_most 18 = .ok (.ireturn, 1) := dk_172 (dk_at dksX7_most_0 18 rfl rfl)
theorem dX7_most_19 : decode cX7_most 19 = .ok (.aload_n 0, 1) := dk_42 (dk_at dksX7_most_0 19 rfl rfl)
theorem dX7_most_20 : decode cX7_most 20 = .ok (.iload_n 1, 1) := dk_27 (dk_at dksX7_most_0 20 rfl rfl)
theorem dX7_most_21 : decode cX7_most 21 = .ok (.iload_n 2, 1) := dk_28 (dk_at dksX7_most_0 21 rfl rfl)
theorem dX7_most_22 : decode cX7_most 22 = .ok (.invokevirtual 305, 3) := dk_182 1 49 (dk_at dksX7_most_1 0 rfl rfl)
theorem dX7_most_25 : decode cX7_most 25 = .ok (.ireturn, 1) := dk_172 (dk_at dksX7_most_1 3 rfl rfl)
abbrev cX7_flows : ByteArray := prog_23_method_74_code
def yX7_flows : MethodName := ⟨RX7, "flows", "(II)I"⟩
def dkwX7_flows_7 : List UInt8 := [180, 0, 32, 21, 5, 46, 54, 5, 167, 255, 195, 29, 21, 4, 96, 62, 167, 255, 84, 29, 172]
abbrev dktX7_flows_7 : List UInt8 := dkwX7_flows_7 ++ []
def dkwX7_flows_6 : List UInt8 := [180, 0, 29, 16, 12, 21, 5, 104, 42, 180, 0, 32, 21, 5, 46, 96, 92, 46, 21, 4, 96, 79, 42]
abbrev dktX7_flows_6 : List UInt8 := dkwX7_flows_6 ++ dktX7_flows_7
def dkwX7_flows_5 : List UInt8 := [180, 0, 29, 16, 12, 42, 180, 0, 32, 21, 5, 46, 104, 21, 5, 96, 92, 46, 21, 4, 100, 79, 42]
abbrev dktX7_flows_5 : List UInt8 := dkwX7_flows_5 ++ dktX7_flows_6
def dkwX7_flows_4 : List UInt8 := [42, 180, 0, 32, 21, 5, 46, 54, 5, 167, 255, 193, 28, 54, 5, 21, 5, 27, 159, 0, 61, 42]
abbrev dktX7_flows_4 : List UInt8 := dkwX7_flows_4 ++ dktX7_flows_5
def dkwX7_flows_3 : List UInt8 := [180, 0, 29, 16, 12, 42, 180, 0, 32, 21, 5, 46, 104, 21, 5, 96, 46, 167, 0, 5, 21, 4, 54, 4]
abbrev dktX7_flows_3 : List UInt8 := dkwX7_flows_3 ++ dktX7_flows_4
def dkwX7_flows_2 : List UInt8 := [180, 0, 29, 16, 12, 42, 180, 0, 32, 21, 5, 46, 104, 21, 5, 96, 46, 21, 4, 162, 0, 24, 42]
abbrev dktX7_flows_2 : List UInt8 := dkwX7_flows_2 ++ dktX7_flows_3
def dkwX7_flows_1 : List UInt8 := [16, 12, 42, 180, 0, 32, 28, 46, 104, 28, 96, 46, 54, 4, 28, 54, 5, 21, 5, 27, 159, 0, 63, 42]
abbrev dktX7_flows_1 : List UInt8 := dkwX7_flows_1 ++ dktX7_flows_2
def dkwX7_flows_0 : List UInt8 := [42, 182, 1, 43, 3, 62, 42, 27, 182, 1, 46, 28, 122, 4, 126, 4, 160, 0, 165, 42, 180, 0, 29]
abbrev dktX7_flows_0 : List UInt8 := dkwX7_flows_0 ++ dktX7_flows_1
theorem dksX7_flows_0 : cX7_flows.data.toList.drop 0 = dktX7_flows_0 := by decide +kernel
theorem dksX7_flows_1 : cX7_flows.data.toList.drop 23 = dktX7_flows_1 := dk_seg dksX7_flows_0 23 rfl rfl
theorem dksX7_flows_2 : cX7_flows.data.toList.drop 47 = dktX7_flows_2 := dk_seg dksX7_flows_1 24 rfl rfl
theorem dksX7_flows_3 : cX7_flows.data.toList.drop 70 = dktX7_flows_3 := dk_seg dksX7_flows_2 23 rfl rfl
theorem dksX7_flows_4 : cX7_flows.data.toList.drop 94 = dktX7_flows_4 := dk_seg dksX7_flows_3 24 rfl rfl
theorem dksX7_flows_5 : cX7_flows.data.toList.drop 116 = dktX7_flows_5 := dk_seg dksX7_flows_4 22 rfl rfl
theorem dksX7_flows_6 : cX7_flows.data.toList.drop 139 = dktX7_flows_6 := dk_seg dksX7_flows_5 23 rfl rfl
theorem dksX7_flows_7 : cX7_flows.data.toList.drop 162 = dktX7_flows_7 := dk_seg dksX7_flows_6 23 rfl rfl
theorem dX7_flows_0 : decode cX7_flows 0 = .ok (.aload_n 0, 1) := dk_42 (dk_at dksX7_flows_0 0 rfl rfl)
theorem dX7_flows_1 : decode cX7_flows 1 = .ok (.invokevirtual 299, 3) := dk_182 1 43 (dk_at dksX7_flows_0 1 rfl rfl)
theorem dX7_flows_4 : decode cX7_flows 4 = .ok (.iconst 0, 1) := dk_3 (dk_at dksX7_flows_0 4 rfl rfl)
theorem dX7_flows_5 : decode cX7_flows 5 = .ok (.istore_n 3, 1) := dk_62 (dk_at dksX7_flows_0 5 rfl rfl)
theorem dX7_flows_6 : decode cX7_flows 6 = .ok (.aload_n 0, 1) := dk_42 (dk_at dksX7_flows_0 6 rfl rfl)
theorem dX7_flows_7 : decode cX7_flows 7 = .ok (.iload_n 1, 1) := dk_27 (dk_at dksX7_flows_0 7 rfl rfl)
theorem dX7_flows_8 : decode cX7_flows 8 = .ok (.invokevirtual 302, 3) := dk_182 1 46 (dk_at dksX7_flows_0 8 rfl rfl)
theorem dX7_flows_11 : decode cX7_flows 11 = .ok (.iload_n 2, 1) := dk_28 (dk_at dksX7_flows_0 11 rfl rfl)
theorem dX7_flows_12 : decode cX7_flows 12 = .ok (.ishr, 1) := dk_122 (dk_at dksX7_flows_0 12 rfl rfl)
theorem dX7_flows_13 : decode cX7_flows 13 = .ok (.iconst 1, 1) := dk_4 (dk_at dksX7_flows_0 13 rfl rfl)
theorem dX7_flows_14 : decode cX7_flows 14 = .ok (.iand, 1) := dk_126 (dk_at dksX7_flows_0 14 rfl rfl)
theorem dX7_flows_15 : decode cX7_flows 15 = .ok (.iconst 1, 1) := dk_4 (dk_at dksX7_flows_0 15 rfl rfl)
theorem dX7_flows_16 : decode cX7_flows 16 = .ok (.if_icmp .ne 165, 3) := dk_160 0 165 (dk_at dksX7_flows_0 16 rfl rfl)
theorem dX7_flows_19 : decode cX7_flows 19 = .ok (.aload_n 0, 1) := dk_42 (dk_at dksX7_flows_0 19 rfl rfl)
theorem dX7_flows_20 : decode cX7_flows 20 = .ok (.getfield 29, 3) := dk_180 0 29 (dk_at dksX7_flows_0 20 rfl rfl)
theorem dX7_flows_23 : decode cX7_flows 23 = .ok (.bipush 12, 2) := dk_16 12 (dk_at dksX7_flows_1 0 rfl rfl)
theorem dX7_flows_25 : decode cX7_flows 25 = .ok (.aload_n 0, 1) := dk_42 (dk_at dksX7_flows_1 2 rfl rfl)
theorem dX7_flows_26 : decode cX7_flows 26 = .ok (.getfield 32, 3) := dk_180 0 32 (dk_at dksX7_flows_1 3 rfl rfl)
theorem dX7_flows_29 : decode cX7_flows 29 = .ok (.iload_n 2, 1) := dk_28 (dk_at dksX7_flows_1 6 rfl rfl)
theorem dX7_flows_30 : decode cX7_flows 30 = .ok (.iaload, 1) := dk_46 (dk_at dksX7_flows_1 7 rfl rfl)
theorem dX7_flows_31 : decode cX7_flows 31 = .ok (.imul, 1) := dk_104 (dk_at dksX7_flows_1 8 rfl rfl)
theorem dX7_flows_32 : decode cX7_flows 32 = .ok (.iload_n 2, 1) := dk_28 (dk_at dksX7_flows_1 9 rfl rfl)
theorem dX7_flows_33 : decode cX7_flows 33 = .ok (.iadd, 1) := dk_96 (dk_at dksX7_flows_1 10 rfl rfl)
theorem dX7_flows_34 : decode cX7_flows 34 = .ok (.iaload, 1) := dk_46 (dk_at dksX7_flows_1 11 rfl rfl)
theorem dX7_flows_35 : decode cX7_flows 35 = .ok (.istore 4, 2) := dk_54 4 (dk_at dksX7_flows_1 12 rfl rfl)
theorem dX7_flows_37 : decode cX7_flows 37 = .ok (.iload_n 2, 1) := dk_28 (dk_at dksX7_flows_1 14 rfl rfl)
theorem dX7_flows_38 : decode cX7_flows 38 = .ok (.istore 5, 2) := dk_54 5 (dk_at dksX7_flows_1 15 rfl rfl)
theorem dX7_flows_40 : decode cX7_flows 40 = .ok (.iload 5, 2) := dk_21 5 (dk_at dksX7_flows_1 17 rfl rfl)
theorem dX7_flows_42 : decode cX7_flows 42 = .ok (.iload_n 1, 1) := dk_27 (dk_at dksX7_flows_1 19 rfl rfl)
theorem dX7_flows_43 : decode cX7_flows 43 = .ok (.if_icmp .eq 63, 3) := dk_159 0 63 (dk_at dksX7_flows_1 20 rfl rfl)
theorem dX7_flows_46 : decode cX7_flows 46 = .ok (.aload_n 0, 1) := dk_42 (dk_at dksX7_flows_1 23 rfl rfl)
theorem dX7_flows_47 : decode cX7_flows 47 = .ok (.getfield 29, 3) := dk_180 0 29 (dk_at dksX7_flows_2 0 rfl rfl)
theorem dX7_flows_50 : decode cX7_flows 50 = .ok (.bipush 12, 2) := dk_16 12 (dk_at dksX7_flows_2 3 rfl rfl)
theorem dX7_flows_52 : decode cX7_flows 52 = .ok (.aload_n 0, 1) := dk_42 (dk_at dksX7_flows_2 5 rfl rfl)
theorem dX7_flows_53 : decode cX7_flows 53 = .ok (.getfield 32, 3) := dk_180 0 32 (dk_at dksX7_flows_2 6 rfl rfl)
theorem dX7_flows_56 : decode cX7_flows 56 = .ok (.iload 5, 2) := dk_21 5 (dk_at dksX7_flows_2 9 rfl rfl)
theorem dX7_flows_58 : decode cX7_flows 58 = .ok (.iaload, 1) := dk_46 (dk_at dksX7_flows_2 11 rfl rfl)
theorem dX7_flows_59 : decode cX7_flows 59 = .ok (.imul, 1) := dk_104 (dk_at dksX7_flows_2 12 rfl rfl)
theorem dX7_flows_60 : decode cX7_flows 60 = .ok (.iload 5, 2) := dk_21 5 (dk_at dksX7_flows_2 13 rfl rfl)
theorem dX7_flows_62 : decode cX7_flows 62 = .ok (.iadd, 1) := dk_96 (dk_at dksX7_flows_2 15 rfl rfl)
theorem dX7_flows_63 : decode cX7_flows 63 = .ok (.iaload, 1) := dk_46 (dk_at dksX7_flows_2 16 rfl rfl)
theorem dX7_flows_64 : decode cX7_flows 64 = .ok (.iload 4, 2) := dk_21 4 (dk_at dksX7_flows_2 17 rfl rfl)
theorem dX7_flows_66 : decode cX7_flows 66 = .ok (.if_icmp .ge 24, 3) := dk_162 0 24 (dk_at dksX7_flows_2 19 rfl rfl)
theorem dX7_flows_69 : decode cX7_flows 69 = .ok (.aload_n 0, 1) := dk_42 (dk_at dksX7_flows_2 22 rfl rfl)
theorem dX7_flows_70 : decode cX7_flows 70 = .ok (.getfield 29, 3) := dk_180 0 29 (dk_at dksX7_flows_3 0 rfl rfl)
theorem dX7_flows_73 : decode cX7_flows 73 = .ok (.bipush 12, 2) := dk_16 12 (dk_at dksX7_flows_3 3 rfl rfl)
theorem dX7_flows_75 : decode cX7_flows 75 = .ok (.aload_n 0, 1) := dk_42 (dk_at dksX7_flows_3 5 rfl rfl)
theorem dX7_flows_76 : decode cX7_flows 76 = .ok (.getfield 32, 3) := dk_180 0 32 (dk_at dksX7_flows_3 6 rfl rfl)
theorem dX7_flows_79 : decode cX7_flows 79 = .ok (.iload 5, 2) := dk_21 5 (dk_at dksX7_flows_3 9 rfl rfl)
theorem dX7_flows_81 : decode cX7_flows 81 = .ok (.iaload, 1) := dk_46 (dk_at dksX7_flows_3 11 rfl rfl)
theorem dX7_flows_82 : decode cX7_flows 82 = .ok (.imul, 1) := dk_104 (dk_at dksX7_flows_3 12 rfl rfl)
theorem dX7_flows_83 : decode cX7_flows 83 = .ok (.iload 5, 2) := dk_21 5 (dk_at dksX7_flows_3 13 rfl rfl)
theorem dX7_flows_85 : decode cX7_flows 85 = .ok (.iadd, 1) := dk_96 (dk_at dksX7_flows_3 15 rfl rfl)
theorem dX7_flows_86 : decode cX7_flows 86 = .ok (.iaload, 1) := dk_46 (dk_at dksX7_flows_3 16 rfl rfl)
theorem dX7_flows_87 : decode cX7_flows 87 = .ok (.goto 5, 3) := dk_167 0 5 (dk_at dksX7_flows_3 17 rfl rfl)
theorem dX7_flows_90 : decode cX7_flows 90 = .ok (.iload 4, 2) := dk_21 4 (dk_at dksX7_flows_3 20 rfl rfl)
theorem dX7_flows_92 : decode cX7_flows 92 = .ok (.istore 4, 2) := dk_54 4 (dk_at dksX7_flows_3 22 rfl rfl)
theorem dX7_flows_94 : decode cX7_flows 94 = .ok (.aload_n 0, 1) := dk_42 (dk_at dksX7_flows_4 0 rfl rfl)
theorem dX7_flows_95 : decode cX7_flows 95 = .ok (.getfield 32, 3) := dk_180 0 32 (dk_at dksX7_flows_4 1 rfl rfl)
theorem dX7_flows_98 : decode cX7_flows 98 = .ok (.iload 5, 2) := dk_21 5 (dk_at dksX7_flows_4 4 rfl rfl)
theorem dX7_flows_100 : decode cX7_flows 100 = .ok (.iaload, 1) := dk_46 (dk_at dksX7_flows_4 6 rfl rfl)
theorem dX7_flows_101 : decode cX7_flows 101 = .ok (.istore 5, 2) := dk_54 5 (dk_at dksX7_flows_4 7 rfl rfl)
theorem dX7_flows_103 : decode cX7_flows 103 = .ok (.goto (-63), 3) := dk_167 255 193 (dk_at dksX7_flows_4 9 rfl rfl)
theorem dX7_flows_106 : decode cX7_flows 106 = .ok (.iload_n 2, 1) := dk_28 (dk_at dksX7_flows_4 12 rfl rfl)
theorem dX7_flows_107 : decode cX7_flows 107 = .ok (.istore 5, 2) := dk_54 5 (dk_at dksX7_flows_4 13 rfl rfl)
theorem dX7_flows_109 : decode cX7_flows 109 = .ok (.iload 5, 2) := dk_21 5 (dk_at dksX7_flows_4 15 rfl rfl)
theorem dX7_flows_111 : decode cX7_flows 111 = .ok (.iload_n 1, 1) := dk_27 (dk_at dksX7_flows_4 17 rfl rfl)
theorem dX7_flows_112 : decode cX7_flows 112 = .ok (.if_icmp .eq 61, 3) := dk_159 0 61 (dk_at dksX7_flows_4 18 rfl rfl)
theorem dX7_flows_115 : decode cX7_flows 115 = .ok (.aload_n 0, 1) := dk_42 (dk_at dksX7_flows_4 21 rfl rfl)
theorem dX7_flows_116 : decode cX7_flows 116 = .ok (.getfield 29, 3) := dk_180 0 29 (dk_at dksX7_flows_5 0 rfl rfl)
theorem dX7_flows_119 : decode cX7_flows 119 = .ok (.bipush 12, 2) := dk_16 12 (dk_at dksX7_flows_5 3 rfl rfl)
theorem dX7_flows_121 : decode cX7_flows 121 = .ok (.aload_n 0, 1) := dk_42 (dk_at dksX7_flows_5 5 rfl rfl)
theorem dX7_flows_122 : decode cX7_flows 122 = .ok (.getfield 32, 3) := dk_180 0 32 (dk_at dksX7_flows_5 6 rfl rfl)
theorem dX7_flows_125 : decode cX7_flows 125 = .ok (.iload 5, 2) := dk_21 5 (dk_at dksX7_flows_5 9 rfl rfl)
theorem dX7_flows_127 : decode cX7_flows 127 = .ok (.iaload, 1) := dk_46 (dk_at dksX7_flows_5 11 rfl rfl)
theorem dX7_flows_128 : decode cX7_flows 128 = .ok (.imul, 1) := dk_104 (dk_at dksX7_flows_5 12 rfl rfl)
theorem dX7_flows_129 : decode cX7_flows 129 = .ok (.iload 5, 2) := dk_21 5 (dk_at dksX7_flows_5 13 rfl rfl)
theorem dX7_flows_131 : decode cX7_flows 131 = .ok (.iadd, 1) := dk_96 (dk_at dksX7_flows_5 15 rfl rfl)
theorem dX7_flows_132 : decode cX7_flows 132 = .ok (.dup2, 1) := dk_92 (dk_at dksX7_flows_5 16 rfl rfl)
theorem dX7_flows_133 : decode cX7_flows 133 = .ok (.iaload, 1) := dk_46 (dk_at dksX7_flows_5 17 rfl rfl)
theorem dX7_flows_134 : decode cX7_flows 134 = .ok (.iload 4, 2) := dk_21 4 (dk_at dksX7_flows_5 18 rfl rfl)
theorem dX7_flows_136 : decode cX7_flows 136 = .ok (.isub, 1) := dk_100 (dk_at dksX7_flows_5 20 rfl rfl)
theorem dX7_flows_137 : decode cX7_flows 137 = .ok (.iastore, 1) := dk_79 (dk_at dksX7_flows_5 21 rfl rfl)
theorem dX7_flows_138 : decode cX7_flows 138 = .ok (.aload_n 0, 1) := dk_42 (dk_at dksX7_flows_5 22 rfl rfl)
theorem dX7_flows_139 : decode cX7_flows 139 = .ok (.getfield 29, 3) := dk_180 0 29 (dk_at dksX7_flows_6 0 rfl rfl)
theorem dX7_flows_142 : decode cX7_flows 142 = .ok (.bipush 12, 2) := dk_16 12 (dk_at dksX7_flows_6 3 rfl rfl)
theorem dX7_flows_144 : decode cX7_flows 144 = .ok (.iload 5, 2) := dk_21 5 (dk_at dksX7_flows_6 5 rfl rfl)
theorem dX7_flows_146 : decode cX7_flows 146 = .ok (.imul, 1) := dk_104 (dk_at dksX7_flows_6 7 rfl rfl)
theorem dX7_flows_147 : decode cX7_flows 147 = .ok (.aload_n 0, 1) := dk_42 (dk_at dksX7_flows_6 8 rfl rfl)
theorem dX7_flows_148 : decode cX7_flows 148 = .ok (.getfield 32, 3) := dk_180 0 32 (dk_at dksX7_flows_6 9 rfl rfl)
theorem dX7_flows_151 : decode cX7_flows 151 = .ok (.iload 5, 2) := dk_21 5 (dk_at dksX7_flows_6 12 rfl rfl)
theorem dX7_flows_153 : decode cX7_flows 153 = .ok (.iaload, 1) := dk_46 (dk_at dksX7_flows_6 14 rfl rfl)
theorem dX7_flows_154 : decode cX7_flows 154 = .ok (.iadd, 1) := dk_96 (dk_at dksX7_flows_6 15 rfl rfl)
theorem dX7_flows_155 : decode cX7_flows 155 = .ok (.dup2, 1) := dk_92 (dk_at dksX7_flows_6 16 rfl rfl)
theorem dX7_flows_156 : decode cX7_flows 156 = .ok (.iaload, 1) := dk_46 (dk_at dksX7_flows_6 17 rfl rfl)
theorem dX7_flows_157 : decode cX7_flows 157 = .ok (.iload 4, 2) := dk_21 4 (dk_at dksX7_flows_6 18 rfl rfl)
theorem dX7_flows_159 : decode cX7_flows 159 = .ok (.iadd, 1) := dk_96 (dk_at dksX7_flows_6 20 rfl rfl)
theorem dX7_flows_160 : decode cX7_flows 160 = .ok (.iastore, 1) := dk_79 (dk_at dksX7_flows_6 21 rfl rfl)
theorem dX7_flows_161 : decode cX7_flows 161 = .ok (.aload_n 0, 1) := dk_42 (dk_at dksX7_flows_6 22 rfl rfl)
theorem dX7_flows_162 : decode cX7_flows 162 = .ok (.getfield 32, 3) := dk_180 0 32 (dk_at dksX7_flows_7 0 rfl rfl)
theorem dX7_flows_165 : decode cX7_flows 165 = .ok (.iload 5, 2) := dk_21 5 (dk_at dksX7_flows_7 3 rfl rfl)
theorem dX7_flows_167 : decode cX7_flows 167 = .ok (.iaload, 1) := dk_46 (dk_at dksX7_flows_7 5 rfl rfl)
theorem dX7_flows_168 : decode cX7_flows 168 = .ok (.istore 5, 2) := dk_54 5 (dk_at dksX7_flows_7 6 rfl rfl)
theorem dX7_flows_170 : decode cX7_flows 170 = .ok (.goto (-61), 3) := dk_167 255 195 (dk_at dksX7_flows_7 8 rfl rfl)
theorem dX7_flows_173 : decode cX7_flows 173 = .ok (.iload_n 3, 1) := dk_29 (dk_at dksX7_flows_7 11 rfl rfl)
theorem dX7_flows_174 : decode cX7_flows 174 = .ok (.iload 4, 2) := dk_21 4 (dk_at dksX7_flows_7 12 rfl rfl)
theorem dX7_flows_176 : decode cX7_flows 176 = .ok (.iadd, 1) := dk_96 (dk_at dksX7_flows_7 14 rfl rfl)
theorem dX7_flows_177 : decode cX7_flows 177 = .ok (.istore_n 3, 1) := dk_62 (dk_at dksX7_flows_7 15 rfl rfl)
theorem dX7_flows_178 : decode cX7_flows 178 = .ok (.goto (-172), 3) := dk_167 255 84 (dk_at dksX7_flows_7 16 rfl rfl)
theorem dX7_flows_181 : decode cX7_flows 181 = .ok (.iload_n 3, 1) := dk_29 (dk_at dksX7_flows_7 19 rfl rfl)
theorem dX7_flows_182 : decode cX7_flows 182 = .ok (.ireturn, 1) := dk_172 (dk_at dksX7_flows_7 20 rfl rfl)
abbrev cX7_allPorts : ByteArray := prog_23_method_72_code
def yX7_allPorts : MethodName := ⟨RX7, "allPorts", "()V"⟩
def dkwX7_allPorts_2 : List UInt8 := [182, 1, 40, 79, 132, 2, 1, 167, 255, 217, 132, 1, 1, 167, 255, 199, 177]
abbrev dktX7_allPorts_2 : List UInt8 := dkwX7_allPorts_2 ++ []
def dkwX7_allPorts_1 : List UInt8 := [42, 180, 0, 29, 16, 12, 27, 104, 28, 96, 27, 28, 160, 0, 7, 3, 167, 0, 9, 42, 27, 28]
abbrev dktX7_allPorts_1 : List UInt8 := dkwX7_allPorts_1 ++ dktX7_allPorts_2
def dkwX7_allPorts_0 : List UInt8 := [3, 60, 27, 42, 180, 0, 7, 4, 46, 162, 0, 53, 3, 61, 28, 42, 180, 0, 7, 4, 46, 162, 0, 35]
abbrev dktX7_allPorts_0 : List UInt8 := dkwX7_allPorts_0 ++ dktX7_allPorts_1
theorem dksX7_allPorts_0 : cX7_allPorts.data.toList.drop 0 = dktX7_allPorts_0 := by decide +kernel
theorem dksX7_allPorts_1 : cX7_allPorts.data.toList.drop 24 = dktX7_allPorts_1 := dk_seg dksX7_allPorts_0 24 rfl rfl
theorem dksX7_allPorts_2 : cX7_allPorts.data.toList.drop 46 = dktX7_allPorts_2 := dk_seg dksX7_allPorts_1 22 rfl rfl
theorem dX7_allPorts_0 : decode cX7_allPorts 0 = .ok (.iconst 0, 1) := dk_3 (dk_at dksX7_allPorts_0 0 rfl rfl)
theorem dX7_allPorts_1 : decode cX7_allPorts 1 = .ok (.istore_n 1, 1) := dk_60 (dk_at dksX7_allPorts_0 1 rfl rfl)
theorem dX7_allPorts_2 : decode cX7_allPorts 2 = .ok (.iload_n 1, 1) := dk_27 (dk_at dksX7_allPorts_0 2 rfl rfl)
theorem dX7_allPorts_3 : decode cX7_allPorts 3 = .ok (.aload_n 0, 1) := dk_42 (dk_at dksX7_allPorts_0 3 rfl rfl)
theorem dX7_allPorts_4 : decode cX7_allPorts 4 = .ok (.getfield 7, 3) := dk_180 0 7 (dk_at dksX7_allPorts_0 4 rfl rfl)
theorem dX7_allPorts_7 : decode cX7_allPorts 7 = .ok (.iconst 1, 1) := dk_4 (dk_at dksX7_allPorts_0 7 rfl rfl)
theorem dX7_allPorts_8 : decode cX7_allPorts 8 = .ok (.iaload, 1) := dk_46 (dk_at dksX7_allPorts_0 8 rfl rfl)
theorem dX7_allPorts_9 : decode cX7_allPorts 9 = .ok (.if_icmp .ge 53, 3) := dk_162 0 53 (dk_at dksX7_allPorts_0 9 rfl rfl)
theorem dX7_allPorts_12 : decode cX7_allPorts 12 = .ok (.iconst 0, 1) := dk_3 (dk_at dksX7_allPorts_0 12 rfl rfl)
theorem dX7_allPorts_13 : decode cX7_allPorts 13 = .ok (.istore_n 2, 1) := dk_61 (dk_at dksX7_allPorts_0 13 rfl rfl)
theorem dX7_allPorts_14 : decode cX7_allPorts 14 = .ok (.iload_n 2, 1) := dk_28 (dk_at dksX7_allPorts_0 14 rfl rfl)
theorem dX7_allPorts_15 : decode cX7_allPorts 15 = .ok (.aload_n 0, 1) := dk_42 (dk_at dksX7_allPorts_0 15 rfl rfl)
theorem dX7_allPorts_16 : decode cX7_allPorts 16 = .ok (.getfield 7, 3) := dk_180 0 7 (dk_at dksX7_allPorts_0 16 rfl rfl)
theorem dX7_allPorts_19 : decode cX7_allPorts 19 = .ok (.iconst 1, 1) := dk_4 (dk_at dksX7_allPorts_0 19 rfl rfl)
theorem dX7_allPorts_20 : decode cX7_allPorts 20 = .ok (.iaload, 1) := dk_46 (dk_at dksX7_allPorts_0 20 rfl rfl)
theorem dX7_allPorts_21 : decode cX7_allPorts 21 = .ok (.if_icmp .ge 35, 3) := dk_162 0 35 (dk_at dksX7_allPorts_0 21 rfl rfl)
theorem dX7_allPorts_24 : decode cX7_allPorts 24 = .ok (.aload_n 0, 1) := dk_42 (dk_at dksX7_allPorts_1 0 rfl rfl)
theorem dX7_allPorts_25 : decode cX7_allPorts 25 = .ok (.getfield 29, 3) := dk_180 0 29 (dk_at dksX7_allPorts_1 1 rfl rfl)
theorem dX7_allPorts_28 : decode cX7_allPorts 28 = .ok (.bipush 12, 2) := dk_16 12 (dk_at dksX7_allPorts_1 4 rfl rfl)
theorem dX7_allPorts_30 : decode cX7_allPorts 30 = .ok (.iload_n 1, 1) := dk_27 (dk_at dksX7_allPorts_1 6 rfl rfl)
theorem dX7_allPorts_31 : decode cX7_allPorts 31 = .ok (.imul, 1) := dk_104 (dk_at dksX7_allPorts_1 7 rfl rfl)
theorem dX7_allPorts_32 : decode cX7_allPorts 32 = .ok (.iload_n 2, 1) := dk_28 (dk_at dksX7_allPorts_1 8 rfl rfl)
theorem dX7_allPorts_33 : decode cX7_allPorts 33 = .ok (.iadd, 1) := dk_96 (dk_at dksX7_allPorts_1 9 rfl rfl)
theorem dX7_allPorts_34 : decode cX7_allPorts 34 = .ok (.iload_n 1, 1) := dk_27 (dk_at dksX7_allPorts_1 10 rfl rfl)
theorem dX7_allPorts_35 : decode cX7_allPorts 35 = .ok (.iload_n 2, 1) := dk_28 (dk_at dksX7_allPorts_1 11 rfl rfl)
theorem dX7_allPorts_36 : decode cX7_allPorts 36 = .ok (.if_icmp .ne 7, 3) := dk_160 0 7 (dk_at dksX7_allPorts_1 12 rfl rfl)
theorem dX7_allPorts_39 : decode cX7_allPorts 39 = .ok (.iconst 0, 1) := dk_3 (dk_at dksX7_allPorts_1 15 rfl rfl)
theorem dX7_allPorts_40 : decode cX7_allPorts 40 = .ok (.goto 9, 3) := dk_167 0 9 (dk_at dksX7_allPorts_1 16 rfl rfl)
theorem dX7_allPorts_43 : decode cX7_allPorts 43 = .ok (.aload_n 0, 1) := dk_42 (dk_at dksX7_allPorts_1 19 rfl rfl)
theorem dX7_allPorts_44 : decode cX7_allPorts 44 = .ok (.iload_n 1, 1) := dk_27 (dk_at dksX7_allPorts_1 20 rfl rfl)
theorem dX7_allPorts_45 : decode cX7_allPorts 45 = .ok (.iload_n 2, 1) := dk_28 (dk_at dksX7_allPorts_1 21 rfl rfl)
theorem dX7_allPorts_46 : decode cX7_allPorts 46 = .ok (.invokevirtual 296, 3) := dk_182 1 40 (dk_at dksX7_allPorts_2 0 rfl rfl)
theorem dX7_allPorts_49 : decode cX7_allPorts 49 = .ok (.iastore, 1) := dk_79 (dk_at dksX7_allPorts_2 3 rfl rfl)
theorem dX7_allPorts_50 : decode cX7_allPorts 50 = .ok (.iinc 2 1, 3) := dk_132 2 1 (dk_at dksX7_allPorts_2 4 rfl rfl)
theorem dX7_allPorts_53 : decode cX7_allPorts 53 = .ok (.goto (-39), 3) := dk_167 255 217 (dk_at dksX7_allPorts_2 7 rfl rfl)
theorem dX7_allPorts_56 : decode cX7_allPorts 56 = .ok (.iinc 1 1, 3) := dk_132 1 1 (dk_at dksX7_allPorts_2 10 rfl rfl)
theorem dX7_allPorts_59 : decode cX7_allPorts 59 = .ok (.goto (-57), 3) := dk_167 255 199 (dk_at dksX7_allPorts_2 13 rfl rfl)
theorem dX7_allPorts_62 : decode cX7_allPorts 62 = .ok (.return_, 1) := dk_177 (dk_at dksX7_allPorts_2 16 rfl rfl)
abbrev cX7_reaches : ByteArray := prog_23_method_73_code
def yX7_reaches : MethodName := ⟨RX7, "reaches", "(I)I"⟩
def dkwX7_reaches_4 : List UInt8 := [180, 0, 35, 29, 21, 6, 79, 132, 3, 1, 132, 6, 1, 167, 255, 186, 132, 4, 1, 167, 255, 162, 28, 172]
abbrev dktX7_reaches_4 : List UInt8 := dkwX7_reaches_4 ++ []
def dkwX7_reaches_3 : List UInt8 := [160, 0, 6, 167, 0, 30, 28, 4, 21, 6, 120, 128, 61, 42, 180, 0, 32, 21, 6, 21, 5, 79, 42]
abbrev dktX7_reaches_3 : List UInt8 := dkwX7_reaches_3 ++ dktX7_reaches_4
def dkwX7_reaches_2 : List UInt8 := [180, 0, 29, 16, 12, 21, 5, 104, 21, 6, 96, 46, 153, 0, 43, 28, 21, 6, 122, 4, 126, 4]
abbrev dktX7_reaches_2 : List UInt8 := dkwX7_reaches_2 ++ dktX7_reaches_3
def dkwX7_reaches_1 : List UInt8 := [180, 0, 35, 21, 4, 46, 54, 5, 3, 54, 6, 21, 6, 42, 180, 0, 7, 4, 46, 162, 0, 65, 42]
abbrev dktX7_reaches_1 : List UInt8 := dkwX7_reaches_1 ++ dktX7_reaches_2
def dkwX7_reaches_0 : List UInt8 := [4, 27, 120, 61, 4, 62, 42, 180, 0, 35, 3, 27, 79, 3, 54, 4, 21, 4, 29, 162, 0, 94, 42]
abbrev dktX7_reaches_0 : List UInt8 := dkwX7_reaches_0 ++ dktX7_reaches_1
theorem dksX7_reaches_0 : cX7_reaches.data.toList.drop 0 = dktX7_reaches_0 := by decide +kernel
theorem dksX7_reaches_1 : cX7_reaches.data.toList.drop 23 = dktX7_reaches_1 := dk_seg dksX7_reaches_0 23 rfl rfl
theorem dksX7_reaches_2 : cX7_reaches.data.toList.drop 46 = dktX7_reaches_2 := dk_seg dksX7_reaches_1 23 rfl rfl
theorem dksX7_reaches_3 : cX7_reaches.data.toList.drop 68 = dktX7_reaches_3 := dk_seg dksX7_reaches_2 22 rfl rfl
theorem dksX7_reaches_4 : cX7_reaches.data.toList.drop 91 = dktX7_reaches_4 := dk_seg dksX7_reaches_3 23 rfl rfl
theorem dX7_reaches_0 : decode cX7_reaches 0 = .ok (.iconst 1, 1) := dk_4 (dk_at dksX7_reaches_0 0 rfl rfl)
theorem dX7_reaches_1 : decode cX7_reaches 1 = .ok (.iload_n 1, 1) := dk_27 (dk_at dksX7_reaches_0 1 rfl rfl)
theorem dX7_reaches_2 : decode cX7_reaches 2 = .ok (.ishl, 1) := dk_120 (dk_at dksX7_reaches_0 2 rfl rfl)
theorem dX7_reaches_3 : decode cX7_reaches 3 = .ok (.istore_n 2, 1) := dk_61 (dk_at dksX7_reaches_0 3 rfl rfl)
theorem dX7_reaches_4 : decode cX7_reaches 4 = .ok (.iconst 1, 1) := dk_4 (dk_at dksX7_reaches_0 4 rfl rfl)
theorem dX7_reaches_5 : decode cX7_reaches 5 = .ok (.istore_n 3, 1) := dk_62 (dk_at dksX7_reaches_0 5 rfl rfl)
theorem dX7_reaches_6 : decode cX7_reaches 6 = .ok (.aload_n 0, 1) := dk_42 (dk_at dksX7_reaches_0 6 rfl rfl)
theorem dX7_reaches_7 : decode cX7_reaches 7 = .ok (.getfield 35, 3) := dk_180 0 35 (dk_at dksX7_reaches_0 7 rfl rfl)
theorem dX7_reaches_10 : decode cX7_reaches 10 = .ok (.iconst 0, 1) := dk_3 (dk_at dksX7_reaches_0 10 rfl rfl)
theorem dX7_reaches_11 : decode cX7_reaches 11 = .ok (.iload_n 1, 1) := dk_27 (dk_at dksX7_reaches_0 11 rfl rfl)
theorem dX7_reaches_12 : decode cX7_reaches 12 = .ok (.iastore, 1) := dk_79 (dk_at dksX7_reaches_0 12 rfl rfl)
theorem dX7_reaches_13 : decode cX7_reaches 13 = .ok (.iconst 0, 1) := dk_3 (dk_at dksX7_reaches_0 13 rfl rfl)
theorem dX7_reaches_14 : decode cX7_reaches 14 = .ok (.istore 4, 2) := dk_54 4 (dk_at dksX7_reaches_0 14 rfl rfl)
theorem dX7_reaches_16 : decode cX7_reaches 16 = .ok (.iload 4, 2) := dk_21 4 (dk_at dksX7_reaches_0 16 rfl rfl)
theorem dX7_reaches_18 : decode cX7_reaches 18 = .ok (.iload_n 3, 1) := dk_29 (dk_at dksX7_reaches_0 18 rfl rfl)
theorem dX7_reaches_19 : decode cX7_reaches 19 = .ok (.if_icmp .ge 94, 3) := dk_162 0 94 (dk_at dksX7_reaches_0 19 rfl rfl)
theorem dX7_reaches_22 : decode cX7_reaches 22 = .ok (.aload_n 0, 1) := dk_42 (dk_at dksX7_reaches_0 22 rfl rfl)
theorem dX7_reaches_23 : decode cX7_reaches 23 = .ok (.getfield 35, 3) := dk_180 0 35 (dk_at dksX7_reaches_1 0 rfl rfl)
theorem dX7_reaches_26 : decode cX7_reaches 26 = .ok (.iload 4, 2) := dk_21 4 (dk_at dksX7_reaches_1 3 rfl rfl)
theorem dX7_reaches_28 : decode cX7_reaches 28 = .ok (.iaload, 1) := dk_46 (dk_at dksX7_reaches_1 5 rfl rfl)
theorem dX7_reaches_29 : decode cX7_reaches 29 = .ok (.istore 5, 2) := dk_54 5 (dk_at dksX7_reaches_1 6 rfl rfl)
theorem dX7_reaches_31 : decode cX7_reaches 31 = .ok (.iconst 0, 1) := dk_3 (dk_at dksX7_reaches_1 8 rfl rfl)
theorem dX7_reaches_32 : decode cX7_reaches 32 = .ok (.istore 6, 2) := dk_54 6 (dk_at dksX7_reaches_1 9 rfl rfl)
theorem dX7_reaches_34 : decode cX7_reaches 34 = .ok (.iload 6, 2) := dk_21 6 (dk_at dksX7_reaches_1 11 rfl rfl)
theorem dX7_reaches_36 : decode cX7_reaches 36 = .ok (.aload_n 0, 1) := dk_42 (dk_at dksX7_reaches_1 13 rfl rfl)
theorem dX7_reaches_37 : decode cX7_reaches 37 = .ok (.getfield 7, 3) := dk_180 0 7 (dk_at dksX7_reaches_1 14 rfl rfl)
theorem dX7_reaches_40 : decode cX7_reaches 40 = .ok (.iconst 1, 1) := dk_4 (dk_at dksX7_reaches_1 17 rfl rfl)
theorem dX7_reaches_41 : decode cX7_reaches 41 = .ok (.iaload, 1) := dk_46 (dk_at dksX7_reaches_1 18 rfl rfl)
theorem dX7_reaches_42 : decode cX7_reaches 42 = .ok (.if_icmp .ge 65, 3) := dk_162 0 65 (dk_at dksX7_reaches_1 19 rfl rfl)
theorem dX7_reaches_45 : decode cX7_reaches 45 = .ok (.aload_n 0, 1) := dk_42 (dk_at dksX7_reaches_1 22 rfl rfl)
theorem dX7_reaches_46 : decode cX7_reaches 46 = .ok (.getfield 29, 3) := dk_180 0 29 (dk_at dksX7_reaches_2 0 rfl rfl)
theorem dX7_reaches_49 : decode cX7_reaches 49 = .ok (.bipush 12, 2) := dk_16 12 (dk_at dksX7_reaches_2 3 rfl rfl)
theorem dX7_reaches_51 : decode cX7_reaches 51 = .ok (.iload 5, 2) := dk_21 5 (dk_at dksX7_reaches_2 5 rfl rfl)
theorem dX7_reaches_53 : decode cX7_reaches 53 = .ok (.imul, 1) := dk_104 (dk_at dksX7_reaches_2 7 rfl rfl)
theorem dX7_reaches_54 : decode cX7_reaches 54 = .ok (.iload 6, 2) := dk_21 6 (dk_at dksX7_reaches_2 8 rfl rfl)
theorem dX7_reaches_56 : decode cX7_reaches 56 = .ok (.iadd, 1) := dk_96 (dk_at dksX7_reaches_2 10 rfl rfl)
theorem dX7_reaches_57 : decode cX7_reaches 57 = .ok (.iaload, 1) := dk_46 (dk_at dksX7_reaches_2 11 rfl rfl)
theorem dX7_reaches_58 : decode cX7_reaches 58 = .ok (.ifCond .eq 43, 3) := dk_153 0 43 (dk_at dksX7_reaches_2 12 rfl rfl)
theorem dX7_reaches_61 : decode cX7_reaches 61 = .ok (.iload_n 2, 1) := dk_28 (dk_at dksX7_reaches_2 15 rfl rfl)
theorem dX7_reaches_62 : decode cX7_reaches 62 = .ok (.iload 6, 2) := dk_21 6 (dk_at dksX7_reaches_2 16 rfl rfl)
theorem dX7_reaches_64 : decode cX7_reaches 64 = .ok (.ishr, 1) := dk_122 (dk_at dksX7_reaches_2 18 rfl rfl)
theorem dX7_reaches_65 : decode cX7_reaches 65 = .ok (.iconst 1, 1) := dk_4 (dk_at dksX7_reaches_2 19 rfl rfl)
theorem dX7_reaches_66 : decode cX7_reaches 66 = .ok (.iand, 1) := dk_126 (dk_at dksX7_reaches_2 20 rfl rfl)
theorem dX7_reaches_67 : decode cX7_reaches 67 = .ok (.iconst 1, 1) := dk_4 (dk_at dksX7_reaches_2 21 rfl rfl)
theorem dX7_reaches_68 : decode cX7_reaches 68 = .ok (.if_icmp .ne 6, 3) := dk_160 0 6 (dk_at dksX7_reaches_3 0 rfl rfl)
theorem dX7_reaches_71 : decode cX7_reaches 71 = .ok (.goto 30, 3) := dk_167 0 30 (dk_at dksX7_reaches_3 3 rfl rfl)
theorem dX7_reaches_74 : decode cX7_reaches 74 = .ok (.iload_n 2, 1) := dk_28 (dk_at dksX7_reaches_3 6 rfl rfl)
theorem dX7_reaches_75 : decode cX7_reaches 75 = .ok (.iconst 1, 1) := dk_4 (dk_at dksX7_reaches_3 7 rfl rfl)
theorem dX7_reaches_76 : decode cX7_reaches 76 = .ok (.iload 6, 2) := dk_21 6 (dk_at dksX7_reaches_3 8 rfl rfl)
theorem dX7_reaches_78 : decode cX7_reaches 78 = .ok (.ishl, 1) := dk_120 (dk_at dksX7_reaches_3 10 rfl rfl)
theorem dX7_reaches_79 : decode cX7_reaches 79 = .ok (.ior, 1) := dk_128 (dk_at dksX7_reaches_3 11 rfl rfl)
theorem dX7_reaches_80 : decode cX7_reaches 80 = .ok (.istore_n 2, 1) := dk_61 (dk_at dksX7_reaches_3 12 rfl rfl)
theorem dX7_reaches_81 : decode cX7_reaches 81 = .ok (.aload_n 0, 1) := dk_42 (dk_at dksX7_reaches_3 13 rfl rfl)
theorem dX7_reaches_82 : decode cX7_reaches 82 = .ok (.getfield 32, 3) := dk_180 0 32 (dk_at dksX7_reaches_3 14 rfl rfl)
theorem dX7_reaches_85 : decode cX7_reaches 85 = .ok (.iload 6, 2) := dk_21 6 (dk_at dksX7_reaches_3 17 rfl rfl)
theorem dX7_reaches_87 : decode cX7_reaches 87 = .ok (.iload 5, 2) := dk_21 5 (dk_at dksX7_reaches_3 19 rfl rfl)
theorem dX7_reaches_89 : decode cX7_reaches 89 = .ok (.iastore, 1) := dk_79 (dk_at dksX7_reaches_3 21 rfl rfl)
theorem dX7_reaches_90 : decode cX7_reaches 90 = .ok (.aload_n 0, 1) := dk_42 (dk_at dksX7_reaches_3 22 rfl rfl)
theorem dX7_reaches_91 : decode cX7_reaches 91 = .ok (.getfield 35, 3) := dk_180 0 35 (dk_at dksX7_reaches_4 0 rfl rfl)
theorem dX7_reaches_94 : decode cX7_reaches 94 = .ok (.iload_n 3, 1) := dk_29 (dk_at dksX7_reaches_4 3 rfl rfl)
theorem dX7_reaches_95 : decode cX7_reaches 95 = .ok (.iload 6, 2) := dk_21 6 (dk_at dksX7_reaches_4 4 rfl rfl)
theorem dX7_reaches_97 : decode cX7_reaches 97 = .ok (.iastore, 1) := dk_79 (dk_at dksX7_reaches_4 6 rfl rfl)
theorem dX7_reaches_98 : decode cX7_reaches 98 = .ok (.iinc 3 1, 3) := dk_132 3 1 (dk_at dksX7_reaches_4 7 rfl rfl)
theorem dX7_reaches_101 : decode cX7_reaches 101 = .ok (.iinc 6 1, 3) := dk_132 6 1 (dk_at dksX7_reaches_4 10 rfl rfl)
theorem dX7_reaches_104 : decode cX7_reaches 104 = .ok (.goto (-70), 3) := dk_167 255 186 (dk_at dksX7_reaches_4 13 rfl rfl)
theorem dX7_reaches_107 : decode cX7_reaches 107 = .ok (.iinc 4 1, 3) := dk_132 4 1 (dk_at dksX7_reaches_4 16 rfl rfl)
theorem dX7_reaches_110 : decode cX7_reaches 110 = .ok (.goto (-94), 3) := dk_167 255 162 (dk_at dksX7_reaches_4 19 rfl rfl)
theorem dX7_reaches_113 : decode cX7_reaches 113 = .ok (.iload_n 2, 1) := dk_28 (dk_at dksX7_reaches_4 22 rfl rfl)
theorem dX7_reaches_114 : decode cX7_reaches 114 = .ok (.ireturn, 1) := dk_172 (dk_at dksX7_reaches_4 23 rfl rfl)
abbrev cX7_cut : ByteArray := prog_23_method_76_code
def yX7_cut : MethodName := ⟨RX7, "cut", "(II)I"⟩
def dkwX7_cut_1 : List UInt8 := [182, 1, 49, 156, 0, 7, 3, 167, 0, 8, 42, 27, 182, 1, 46, 172]
abbrev dktX7_cut_1 : List UInt8 := dkwX7_cut_1 ++ []
def dkwX7_cut_0 : List UInt8 := [42, 42, 27, 28, 182, 1, 37, 181, 0, 53, 42, 180, 0, 53, 158, 0, 5, 3, 172, 42, 27, 28]
abbrev dktX7_cut_0 : List UInt8 := dkwX7_cut_0 ++ dktX7_cut_1
theorem dksX7_cut_0 : cX7_cut.data.toList.drop 0 = dktX7_cut_0 := by decide +kernel
theorem dksX7_cut_1 : cX7_cut.data.toList.drop 22 = dktX7_cut_1 := dk_seg dksX7_cut_0 22 rfl rfl
theorem dX7_cut_0 : decode cX7_cut 0 = .ok (.aload_n 0, 1) := dk_42 (dk_at dksX7_cut_0 0 rfl rfl)
theorem dX7_cut_1 : decode cX7_cut 1 = .ok (.aload_n 0, 1) := dk_42 (dk_at dksX7_cut_0 1 rfl rfl)
theorem dX7_cut_2 : decode cX7_cut 2 = .ok (.iload_n 1, 1) := dk_27 (dk_at dksX7_cut_0 2 rfl rfl)
theorem dX7_cut_3 : decode cX7_cut 3 = .ok (.iload_n 2, 1) := dk_28 (dk_at dksX7_cut_0 3 rfl rfl)
theorem dX7_cut_4 : decode cX7_cut 4 = .ok (.invokevirtual 293, 3) := dk_182 1 37 (dk_at dksX7_cut_0 4 rfl rfl)
theorem dX7_cut_7 : decode cX7_cut 7 = .ok (.putfield 53, 3) := dk_181 0 53 (dk_at dksX7_cut_0 7 rfl rfl)
theorem dX7_cut_10 : decode cX7_cut 10 = .ok (.aload_n 0, 1) := dk_42 (dk_at dksX7_cut_0 10 rfl rfl)
theorem dX7_cut_11 : decode cX7_cut 11 = .ok (.getfield 53, 3) := dk_180 0 53 (dk_at dksX7_cut_0 11 rfl rfl)
theorem dX7_cut_14 : decode cX7_cut 14 = .ok (.ifCond .le 5, 3) := dk_158 0 5 (dk_at dksX7_cut_0 14 rfl rfl)
theorem dX7_cut_17 : decode cX7_cut 17 = .ok (.iconst 0, 1) := dk_3 (dk_at dksX7_cut_0 17 rfl rfl)
theorem dX7_cut_18 : decode cX7_cut 18 = .ok (.ireturn, 1) := dk_172 (dk_at dksX7_cut_0 18 rfl rfl)
theorem dX7_cut_19 : decode cX7_cut 19 = .ok (.aload_n 0, 1) := dk_42 (dk_at dksX7_cut_0 19 rfl rfl)
theorem dX7_cut_20 : decode cX7_cut 20 = .ok (.iload_n 1, 1) := dk_27 (dk_at dksX7_cut_0 20 rfl rfl)
theorem dX7_cut_21 : decode cX7_cut 21 = .ok (.iload_n 2, 1) := dk_28 (dk_at dksX7_cut_0 21 rfl rfl)
theorem dX7_cut_22 : decode cX7_cut 22 = .ok (.invokevirtual 305, 3) := dk_182 1 49 (dk_at dksX7_cut_1 0 rfl rfl)
theorem dX7_cut_25 : decode cX7_cut 25 = .ok (.ifCond .ge 7, 3) := dk_156 0 7 (dk_at dksX7_cut_1 3 rfl rfl)
theorem dX7_cut_28 : decode cX7_cut 28 = .ok (.iconst 0, 1) := dk_3 (dk_at dksX7_cut_1 6 rfl rfl)
theorem dX7_cut_29 : decode cX7_cut 29 = .ok (.goto 8, 3) := dk_167 0 8 (dk_at dksX7_cut_1 7 rfl rfl)
theorem dX7_cut_32 : decode cX7_cut 32 = .ok (.aload_n 0, 1) := dk_42 (dk_at dksX7_cut_1 10 rfl rfl)
theorem dX7_cut_33 : decode cX7_cut 33 = .ok (.iload_n 1, 1) := dk_27 (dk_at dksX7_cut_1 11 rfl rfl)
theorem dX7_cut_34 : decode cX7_cut 34 = .ok (.invokevirtual 302, 3) := dk_182 1 46 (dk_at dksX7_cut_1 12 rfl rfl)
theorem dX7_cut_37 : decode cX7_cut 37 = .ok (.ireturn, 1) := dk_172 (dk_at dksX7_cut_1 15 rfl rfl)
abbrev cX7_chain : ByteArray := prog_23_method_77_code
def yX7_chain : MethodName := ⟨RX7, "chain", "(IIII)I"⟩
def dkwX7_chain_12 : List UInt8 := [29, 162, 0, 9, 132, 7, 1, 167, 255, 217, 21, 7, 54, 5, 132, 6, 1, 167, 255, 197, 21, 5, 172]
abbrev dktX7_chain_12 : List UInt8 := dkwX7_chain_12 ++ []
def dkwX7_chain_11 : List UInt8 := [180, 0, 38, 21, 5, 46, 4, 100, 160, 0, 20, 42, 180, 0, 29, 16, 12, 21, 5, 104, 21, 7, 96, 46]
abbrev dktX7_chain_11 : List UInt8 := dkwX7_chain_11 ++ dktX7_chain_12
def dkwX7_chain_10 : List UInt8 := [27, 54, 5, 3, 54, 6, 21, 6, 21, 4, 162, 0, 58, 3, 54, 7, 42, 180, 0, 38, 21, 7, 46, 42]
abbrev dktX7_chain_10 : List UInt8 := dkwX7_chain_10 ++ dktX7_chain_11
def dkwX7_chain_9 : List UInt8 := [2, 160, 0, 10, 42, 180, 0, 38, 27, 46, 172, 21, 4, 42, 180, 0, 38, 27, 46, 164, 0, 5, 2, 172]
abbrev dktX7_chain_9 : List UInt8 := dkwX7_chain_9 ++ dktX7_chain_10
def dkwX7_chain_8 : List UInt8 := [132, 6, 1, 167, 255, 168, 132, 5, 1, 167, 255, 148, 42, 180, 0, 38, 27, 46, 2, 159, 0, 9, 21, 4]
abbrev dktX7_chain_8 : List UInt8 := dkwX7_chain_8 ++ dktX7_chain_9
def dkwX7_chain_7 : List UInt8 := [21, 7, 96, 46, 29, 161, 0, 12, 42, 180, 0, 38, 21, 6, 21, 5, 79, 132, 7, 1, 167, 255, 202]
abbrev dktX7_chain_7 : List UInt8 := dkwX7_chain_7 ++ dktX7_chain_8
def dkwX7_chain_6 : List UInt8 := [42, 180, 0, 38, 21, 7, 46, 21, 5, 4, 100, 160, 0, 29, 42, 180, 0, 29, 16, 12, 21, 6, 104]
abbrev dktX7_chain_6 : List UInt8 := dkwX7_chain_6 ++ dktX7_chain_7
def dkwX7_chain_5 : List UInt8 := [21, 6, 46, 2, 159, 0, 6, 167, 0, 63, 3, 54, 7, 21, 7, 42, 180, 0, 7, 4, 46, 162, 0, 49]
abbrev dktX7_chain_5 : List UInt8 := dkwX7_chain_5 ++ dktX7_chain_6
def dkwX7_chain_4 : List UInt8 := [4, 46, 162, 0, 103, 3, 54, 6, 21, 6, 42, 180, 0, 7, 4, 46, 162, 0, 83, 42, 180, 0, 38]
abbrev dktX7_chain_4 : List UInt8 := dkwX7_chain_4 ++ dktX7_chain_5
def dkwX7_chain_3 : List UInt8 := [160, 0, 7, 3, 167, 0, 4, 2, 79, 132, 5, 1, 167, 255, 228, 4, 54, 5, 21, 5, 42, 180, 0, 7]
abbrev dktX7_chain_3 : List UInt8 := dkwX7_chain_3 ++ dktX7_chain_4
def dkwX7_chain_2 : List UInt8 := [182, 1, 43, 3, 54, 5, 21, 5, 16, 12, 162, 0, 27, 42, 180, 0, 38, 21, 5, 21, 5, 28]
abbrev dktX7_chain_2 : List UInt8 := dkwX7_chain_2 ++ dktX7_chain_3
def dkwX7_chain_1 : List UInt8 := [153, 0, 9, 21, 4, 2, 162, 0, 8, 42, 5, 181, 0, 53, 42, 180, 0, 53, 158, 0, 5, 3, 172, 42]
abbrev dktX7_chain_1 : List UInt8 := dkwX7_chain_1 ++ dktX7_chain_2
def dkwX7_chain_0 : List UInt8 := [42, 42, 27, 28, 182, 1, 37, 181, 0, 53, 42, 180, 0, 53, 154, 0, 24, 29, 4, 16, 99, 184, 0, 56]
abbrev dktX7_chain_0 : List UInt8 := dkwX7_chain_0 ++ dktX7_chain_1
theorem dksX7_chain_0 : cX7_chain.data.toList.drop 0 = dktX7_chain_0 := by decide +kernel
theorem dksX7_chain_1 : cX7_chain.data.toList.drop 24 = dktX7_chain_1 := dk_seg dksX7_chain_0 24 rfl rfl
theorem dksX7_chain_2 : cX7_chain.data.toList.drop 48 = dktX7_chain_2 := dk_seg dksX7_chain_1 24 rfl rfl
theorem dksX7_chain_3 : cX7_chain.data.toList.drop 70 = dktX7_chain_3 := dk_seg dksX7_chain_2 22 rfl rfl
theorem dksX7_chain_4 : cX7_chain.data.toList.drop 94 = dktX7_chain_4 := dk_seg dksX7_chain_3 24 rfl rfl
theorem dksX7_chain_5 : cX7_chain.data.toList.drop 117 = dktX7_chain_5 := dk_seg dksX7_chain_4 23 rfl rfl
theorem dksX7_chain_6 : cX7_chain.data.toList.drop 141 = dktX7_chain_6 := dk_seg dksX7_chain_5 24 rfl rfl
theorem dksX7_chain_7 : cX7_chain.data.toList.drop 164 = dktX7_chain_7 := dk_seg dksX7_chain_6 23 rfl rfl
theorem dksX7_chain_8 : cX7_chain.data.toList.drop 187 = dktX7_chain_8 := dk_seg dksX7_chain_7 23 rfl rfl
theorem dksX7_chain_9 : cX7_chain.data.toList.drop 211 = dktX7_chain_9 := dk_seg dksX7_chain_8 24 rfl rfl
theorem dksX7_chain_10 : cX7_chain.data.toList.drop 235 = dktX7_chain_10 := dk_seg dksX7_chain_9 24 rfl rfl
theorem dksX7_chain_11 : cX7_chain.data.toList.drop 259 = dktX7_chain_11 := dk_seg dksX7_chain_10 24 rfl rfl
theorem dksX7_chain_12 : cX7_chain.data.toList.drop 283 = dktX7_chain_12 := dk_seg dksX7_chain_11 24 rfl rfl
theorem dX7_chain_0 : decode cX7_chain 0 = .ok (.aload_n 0, 1) := dk_42 (dk_at dksX7_chain_0 0 rfl rfl)
theorem dX7_chain_1 : decode cX7_chain 1 = .ok (.aload_n 0, 1) := dk_42 (dk_at dksX7_chain_0 1 rfl rfl)
theorem dX7_chain_2 : decode cX7_chain 2 = .ok (.iload_n 1, 1) := dk_27 (dk_at dksX7_chain_0 2 rfl rfl)
theorem dX7_chain_3 : decode cX7_chain 3 = .ok (.iload_n 2, 1) := dk_28 (dk_at dksX7_chain_0 3 rfl rfl)
theorem dX7_chain_4 : decode cX7_chain 4 = .ok (.invokevirtual 293, 3) := dk_182 1 37 (dk_at dksX7_chain_0 4 rfl rfl)
theorem dX7_chain_7 : decode cX7_chain 7 = .ok (.putfield 53, 3) := dk_181 0 53 (dk_at dksX7_chain_0 7 rfl rfl)
theorem dX7_chain_10 : decode cX7_chain 10 = .ok (.aload_n 0, 1) := dk_42 (dk_at dksX7_chain_0 10 rfl rfl)
theorem dX7_chain_11 : decode cX7_chain 11 = .ok (.getfield 53, 3) := dk_180 0 53 (dk_at dksX7_chain_0 11 rfl rfl)
theorem dX7_chain_14 : decode cX7_chain 14 = .ok (.ifCond .ne 24, 3) := dk_154 0 24 (dk_at dksX7_chain_0 14 rfl rfl)
theorem dX7_chain_17 : decode cX7_chain 17 = .ok (.iload_n 3, 1) := dk_29 (dk_at dksX7_chain_0 17 rfl rfl)
theorem dX7_chain_18 : decode cX7_chain 18 = .ok (.iconst 1, 1) := dk_4 (dk_at dksX7_chain_0 18 rfl rfl)
theorem dX7_chain_19 : decode cX7_chain 19 = .ok (.bipush 99, 2) := dk_16 99 (dk_at dksX7_chain_0 19 rfl rfl)
theorem dX7_chain_21 : decode cX7_chain 21 = .ok (.invokestatic 56, 3) := dk_184 0 56 (dk_at dksX7_chain_0 21 rfl rfl)
theorem dX7_chain_24 : decode cX7_chain 24 = .ok (.ifCond .eq 9, 3) := dk_153 0 9 (dk_at dksX7_chain_1 0 rfl rfl)
theorem dX7_chain_27 : decode cX7_chain 27 = .ok (.iload 4, 2) := dk_21 4 (dk_at dksX7_chain_1 3 rfl rfl)
theorem dX7_chain_29 : decode cX7_chain 29 = .ok (.iconst (-1), 1) := dk_2 (dk_at dksX7_chain_1 5 rfl rfl)
theorem dX7_chain_30 : decode cX7_chain 30 = .ok (.if_icmp .ge 8, 3) := dk_162 0 8 (dk_at dksX7_chain_1 6 rfl rfl)
theorem dX7_chain_33 : decode cX7_chain 33 = .ok (.aload_n 0, 1) := dk_42 (dk_at dksX7_chain_1 9 rfl rfl)
theorem dX7_chain_34 : decode cX7_chain 34 = .ok (.iconst 2, 1) := dk_5 (dk_at dksX7_chain_1 10 rfl rfl)
theorem dX7_chain_35 : decode cX7_chain 35 = .ok (.putfield 53, 3) := dk_181 0 53 (dk_at dksX7_chain_1 11 rfl rfl)
theorem dX7_chain_38 : decode cX7_chain 38 = .ok (.aload_n 0, 1) := dk_42 (dk_at dksX7_chain_1 14 rfl rfl)
theorem dX7_chain_39 : decode cX7_chain 39 = .ok (.getfield 53, 3) := dk_180 0 53 (dk_at dksX7_chain_1 15 rfl rfl)
theorem dX7_chain_42 : decode cX7_chain 42 = .ok (.ifCond .le 5, 3) := dk_158 0 5 (dk_at dksX7_chain_1 18 rfl rfl)
theorem dX7_chain_45 : decode cX7_chain 45 = .ok (.iconst 0, 1) := dk_3 (dk_at dksX7_chain_1 21 rfl rfl)
theorem dX7_chain_46 : decode cX7_chain 46 = .ok (.ireturn, 1) := dk_172 (dk_at dksX7_chain_1 22 rfl rfl)
theorem dX7_chain_47 : decode cX7_chain 47 = .ok (.aload_n 0, 1) := dk_42 (dk_at dksX7_chain_1 23 rfl rfl)
theorem dX7_chain_48 : decode cX7_chain 48 = .ok (.invokevirtual 299, 3) := dk_182 1 43 (dk_at dksX7_chain_2 0 rfl rfl)
theorem dX7_chain_51 : decode cX7_chain 51 = .ok (.iconst 0, 1) := dk_3 (dk_at dksX7_chain_2 3 rfl rfl)
theorem dX7_chain_52 : decode cX7_chain 52 = .ok (.istore 5, 2) := dk_54 5 (dk_at dksX7_chain_2 4 rfl rfl)
theorem dX7_chain_54 : decode cX7_chain 54 = .ok (.iload 5, 2) := dk_21 5 (dk_at dksX7_chain_2 6 rfl rfl)
theorem dX7_chain_56 : decode cX7_chain 56 = .ok (.bipush 12, 2) := dk_16 12 (dk_at dksX7_chain_2 8 rfl rfl)
theorem dX7_chain_58 : decode cX7_chain 58 = .ok (.if_icmp .ge 27, 3) := dk_162 0 27 (dk_at dksX7_chain_2 10 rfl rfl)
theorem dX7_chain_61 : decode cX7_chain 61 = .ok (.aload_n 0, 1) := dk_42 (dk_at dksX7_chain_2 13 rfl rfl)
theorem dX7_chain_62 : decode cX7_chain 62 = .ok (.getfield 38, 3) := dk_180 0 38 (dk_at dksX7_chain_2 14 rfl rfl)
theorem dX7_chain_65 : decode cX7_chain 65 = .ok (.iload 5, 2) := dk_21 5 (dk_at dksX7_chain_2 17 rfl rfl)
theorem dX7_chain_67 : decode cX7_chain 67 = .ok (.iload 5, 2) := dk_21 5 (dk_at dksX7_chain_2 19 rfl rfl)
theorem dX7_chain_69 : decode cX7_chain 69 = .ok (.iload_n 2, 1) := dk_28 (dk_at dksX7_chain_2 21 rfl rfl)
theorem dX7_chain_70 : decode cX7_chain 70 = .ok (.if_icmp .ne 7, 3) := dk_160 0 7 (dk_at dksX7_chain_3 0 rfl rfl)
theorem dX7_chain_73 : decode cX7_chain 73 = .ok (.iconst 0, 1) := dk_3 (dk_at dksX7_chain_3 3 rfl rfl)
theorem dX7_chain_74 : decode cX7_chain 74 = .ok (.goto 4, 3) := dk_167 0 4 (dk_at dksX7_chain_3 4 rfl rfl)
theorem dX7_chain_77 : decode cX7_chain 77 = .ok (.iconst (-1), 1) := dk_2 (dk_at dksX7_chain_3 7 rfl rfl)
theorem dX7_chain_78 : decode cX7_chain 78 = .ok (.iastore, 1) := dk_79 (dk_at dksX7_chain_3 8 rfl rfl)
theorem dX7_chain_79 : decode cX7_chain 79 = .ok (.iinc 5 1, 3) := dk_132 5 1 (dk_at dksX7_chain_3 9 rfl rfl)
theorem dX7_chain_82 : decode cX7_chain 82 = .ok (.goto (-28), 3) := dk_167 255 228 (dk_at dksX7_chain_3 12 rfl rfl)
theorem dX7_chain_85 : decode cX7_chain 85 = .ok (.iconst 1, 1) := dk_4 (dk_at dksX7_chain_3 15 rfl rfl)
theorem dX7_chain_86 : decode cX7_chain 86 = .ok (.istore 5, 2) := dk_54 5 (dk_at dksX7_chain_3 16 rfl rfl)
theorem dX7_chain_88 : decode cX7_chain 88 = .ok (.iload 5, 2) := dk_21 5 (dk_at dksX7_chain_3 18 rfl rfl)
theorem dX7_chain_90 : decode cX7_chain 90 = .ok (.aload_n 0, 1) := dk_42 (dk_at dksX7_chain_3 20 rfl rfl)
theorem dX7_chain_91 : decode cX7_chain 91 = .ok (.getfield 7, 3) := dk_180 0 7 (dk_at dksX7_chain_3 21 rfl rfl)
theorem dX7_chain_94 : decode cX7_chain 94 = .ok (.iconst 1, 1) := dk_4 (dk_at dksX7_chain_4 0 rfl rfl)
theorem dX7_chain_95 : decode cX7_chain 95 = .ok (.iaload, 1) := dk_46 (dk_at dksX7_chain_4 1 rfl rfl)
theorem dX7_chain_96 : decode cX7_chain 96 = .ok (.if_icmp .ge 103, 3) := dk_162 0 103 (dk_at dksX7_chain_4 2 rfl rfl)
theorem dX7_chain_99 : decode cX7_chain 99 = .ok (.iconst 0, 1) := dk_3 (dk_at dksX7_chain_4 5 rfl rfl)
theorem dX7_chain_100 : decode cX7_chain 100 = .ok (.istore 6, 2) := dk_54 6 (dk_at dksX7_chain_4 6 rfl rfl)
theorem dX7_chain_102 : decode cX7_chain 102 = .ok (.iload 6, 2) := dk_21 6 (dk_at dksX7_chain_4 8 rfl rfl)
theorem dX7_chain_104 : decode cX7_chain 104 = .ok (.aload_n 0, 1) := dk_42 (dk_at dksX7_chain_4 10 rfl rfl)
theorem dX7_chain_105 : decode cX7_chain 105 = .ok (.getfield 7, 3) := dk_180 0 7 (dk_at dksX7_chain_4 11 rfl rfl)
theorem dX7_chain_108 : decode cX7_chain 108 = .ok (.iconst 1, 1) := dk_4 (dk_at dksX7_chain_4 14 rfl rfl)
theorem dX7_chain_109 : decode cX7_chain 109 = .ok (.iaload, 1) := dk_46 (dk_at dksX7_chain_4 15 rfl rfl)
theorem dX7_chain_110 : decode cX7_chain 110 = .ok (.if_icmp .ge 83, 3) := dk_162 0 83 (dk_at dksX7_chain_4 16 rfl rfl)
theorem dX7_chain_113 : decode cX7_chain 113 = .ok (.aload_n 0, 1) := dk_42 (dk_at dksX7_chain_4 19 rfl rfl)
theorem dX7_chain_114 : decode cX7_chain 114 = .ok (.getfield 38, 3) := dk_180 0 38 (dk_at dksX7_chain_4 20 rfl rfl)
theorem dX7_chain_117 : decode cX7_chain 117 = .ok (.iload 6, 2) := dk_21 6 (dk_at dksX7_chain_5 0 rfl rfl)
theorem dX7_chain_119 : decode cX7_chain 119 = .ok (.iaload, 1) := dk_46 (dk_at dksX7_chain_5 2 rfl rfl)
theorem dX7_chain_120 : decode cX7_chain 120 = .ok (.iconst (-1), 1) := dk_2 (dk_at dksX7_chain_5 3 rfl rfl)
theorem dX7_chain_121 : decode cX7_chain 121 = .ok (.if_icmp .eq 6, 3) := dk_159 0 6 (dk_at dksX7_chain_5 4 rfl rfl)
theorem dX7_chain_124 : decode cX7_chain 124 = .ok (.goto 63, 3) := dk_167 0 63 (dk_at dksX7_chain_5 7 rfl rfl)
theorem dX7_chain_127 : decode cX7_chain 127 = .ok (.iconst 0, 1) := dk_3 (dk_at dksX7_chain_5 10 rfl rfl)
theorem dX7_chain_128 : decode cX7_chain 128 = .ok (.istore 7, 2) := dk_54 7 (dk_at dksX7_chain_5 11 rfl rfl)
theorem dX7_chain_130 : decode cX7_chain 130 = .ok (.iload 7, 2) := dk_21 7 (dk_at dksX7_chain_5 13 rfl rfl)
theorem dX7_chain_132 : decode cX7_chain 132 = .ok (.aload_n 0, 1) := dk_42 (dk_at dksX7_chain_5 15 rfl rfl)
theorem dX7_chain_133 : decode cX7_chain 133 = .ok (.getfield 7, 3) := dk_180 0 7 (dk_at dksX7_chain_5 16 rfl rfl)
theorem dX7_chain_136 : decode cX7_chain 136 = .ok (.iconst 1, 1) := dk_4 (dk_at dksX7_chain_5 19 rfl rfl)
theorem dX7_chain_137 : decode cX7_chain 137 = .ok (.iaload, 1) := dk_46 (dk_at dksX7_chain_5 20 rfl rfl)
theorem dX7_chain_138 : decode cX7_chain 138 = .ok (.if_icmp .ge 49, 3) := dk_162 0 49 (dk_at dksX7_chain_5 21 rfl rfl)
theorem dX7_chain_141 : decode cX7_chain 141 = .ok (.aload_n 0, 1) := dk_42 (dk_at dksX7_chain_6 0 rfl rfl)
theorem dX7_chain_142 : decode cX7_chain 142 = .ok (.getfield 38, 3) := dk_180 0 38 (dk_at dksX7_chain_6 1 rfl rfl)
theorem dX7_chain_145 : decode cX7_chain 145 = .ok (.iload 7, 2) := dk_21 7 (dk_at dksX7_chain_6 4 rfl rfl)
theorem dX7_chain_147 : decode cX7_chain 147 = .ok (.iaload, 1) := dk_46 (dk_at dksX7_chain_6 6 rfl rfl)
theorem dX7_chain_148 : decode cX7_chain 148 = .ok (.iload 5, 2) := dk_21 5 (dk_at dksX7_chain_6 7 rfl rfl)
theorem dX7_chain_150 : decode cX7_chain 150 = .ok (.iconst 1, 1) := dk_4 (dk_at dksX7_chain_6 9 rfl rfl)
theorem dX7_chain_151 : decode cX7_chain 151 = .ok (.isub, 1) := dk_100 (dk_at dksX7_chain_6 10 rfl rfl)
theorem dX7_chain_152 : decode cX7_chain 152 = .ok (.if_icmp .ne 29, 3) := dk_160 0 29 (dk_at dksX7_chain_6 11 rfl rfl)
theorem dX7_chain_155 : decode cX7_chain 155 = .ok (.aload_n 0, 1) := dk_42 (dk_at dksX7_chain_6 14 rfl rfl)
theorem dX7_chain_156 : decode cX7_chain 156 = .ok (.getfield 29, 3) := dk_180 0 29 (dk_at dksX7_chain_6 15 rfl rfl)
theorem dX7_chain_159 : decode cX7_chain 159 = .ok (.bipush 12, 2) := dk_16 12 (dk_at dksX7_chain_6 18 rfl rfl)
theorem dX7_chain_161 : decode cX7_chain 161 = .ok (.iload 6, 2) := dk_21 6 (dk_at dksX7_chain_6 20 rfl rfl)
theorem dX7_chain_163 : decode cX7_chain 163 = .ok (.imul, 1) := dk_104 (dk_at dksX7_chain_6 22 rfl rfl)
theorem dX7_chain_164 : decode cX7_chain 164 = .ok (.iload 7, 2) := dk_21 7 (dk_at dksX7_chain_7 0 rfl rfl)
theorem dX7_chain_166 : decode cX7_chain 166 = .ok (.iadd, 1) := dk_96 (dk_at dksX7_chain_7 2 rfl rfl)
theorem dX7_chain_167 : decode cX7_chain 167 = .ok (.iaload, 1) := dk_46 (dk_at dksX7_chain_7 3 rfl rfl)
theorem dX7_chain_168 : decode cX7_chain 168 = .ok (.iload_n 3, 1) := dk_29 (dk_at dksX7_chain_7 4 rfl rfl)
theorem dX7_chain_169 : decode cX7_chain 169 = .ok (.if_icmp .lt 12, 3) := dk_161 0 12 (dk_at dksX7_chain_7 5 rfl rfl)
theorem dX7_chain_172 : decode cX7_chain 172 = .ok (.aload_n 0, 1) := dk_42 (dk_at dksX7_chain_7 8 rfl rfl)
theorem dX7_chain_173 : decode cX7_chain 173 = .ok (.getfield 38, 3) := dk_180 0 38 (dk_at dksX7_chain_7 9 rfl rfl)
theorem dX7_chain_176 : decode cX7_chain 176 = .ok (.iload 6, 2) := dk_21 6 (dk_at dksX7_chain_7 12 rfl rfl)
theorem dX7_chain_178 : decode cX7_chain 178 = .ok (.iload 5, 2) := dk_21 5 (dk_at dksX7_chain_7 14 rfl rfl)
theorem dX7_chain_180 : decode cX7_chain 180 = .ok (.iastore, 1) := dk_79 (dk_at dksX7_chain_7 16 rfl rfl)
theorem dX7_chain_181 : decode cX7_chain 181 = .ok (.iinc 7 1, 3) := dk_132 7 1 (dk_at dksX7_chain_7 17 rfl rfl)
theorem dX7_chain_184 : decode cX7_chain 184 = .ok (.goto (-54), 3) := dk_167 255 202 (dk_at dksX7_chain_7 20 rfl rfl)
theorem dX7_chain_187 : decode cX7_chain 187 = .ok (.iinc 6 1, 3) := dk_132 6 1 (dk_at dksX7_chain_8 0 rfl rfl)
theorem dX7_chain_190 : decode cX7_chain 190 = .ok (.goto (-88), 3) := dk_167 255 168 (dk_at dksX7_chain_8 3 rfl rfl)
theorem dX7_chain_193 : decode cX7_chain 193 = .ok (.iinc 5 1, 3) := dk_132 5 1 (dk_at dksX7_chain_8 6 rfl rfl)
theorem dX7_chain_196 : decode cX7_chain 196 = .ok (.goto (-108), 3) := dk_167 255 148 (dk_at dksX7_chain_8 9 rfl rfl)
theorem dX7_chain_199 : decode cX7_chain 199 = .ok (.aload_n 0, 1) := dk_42 (dk_at dksX7_chain_8 12 rfl rfl)
theorem dX7_chain_200 : decode cX7_chain 200 = .ok (.getfield 38, 3) := dk_180 0 38 (dk_at dksX7_chain_8 13 rfl rfl)
theorem dX7_chain_203 : decode cX7_chain 203 = .ok (.iload_n 1, 1) := dk_27 (dk_at dksX7_chain_8 16 rfl rfl)
theorem dX7_chain_204 : decode cX7_chain 204 = .ok (.iaload, 1) := dk_46 (dk_at dksX7_chain_8 17 rfl rfl)
theorem dX7_chain_205 : decode cX7_chain 205 = .ok (.iconst (-1), 1) := dk_2 (dk_at dksX7_chain_8 18 rfl rfl)
theorem dX7_chain_206 : decode cX7_chain 206 = .ok (.if_icmp .eq 9, 3) := dk_159 0 9 (dk_at dksX7_chain_8 19 rfl rfl)
theorem dX7_chain_209 : decode cX7_chain 209 = .ok (.iload 4, 2) := dk_21 4 (dk_at dksX7_chain_8 22 rfl rfl)
theorem dX7_chain_211 : decode cX7_chain 211 = .ok (.iconst (-1), 1) := dk_2 (dk_at dksX7_chain_9 0 rfl rfl)
theorem dX7_chain_212 : decode cX7_chain 212 = .ok (.if_icmp .ne 10, 3) := dk_160 0 10 (dk_at dksX7_chain_9 1 rfl rfl)
theorem dX7_chain_215 : decode cX7_chain 215 = .ok (.aload_n 0, 1) := dk_42 (dk_at dksX7_chain_9 4 rfl rfl)
theorem dX7_chain_216 : decode cX7_chain 216 = .ok (.getfield 38, 3) := dk_180 0 38 (dk_at dksX7_chain_9 5 rfl rfl)
theorem dX7_chain_219 : decode cX7_chain 219 = .ok (.iload_n 1, 1) := dk_27 (dk_at dksX7_chain_9 8 rfl rfl)
theorem dX7_chain_220 : decode cX7_chain 220 = .ok (.iaload, 1) := dk_46 (dk_at dksX7_chain_9 9 rfl rfl)
theorem dX7_chain_221 : decode cX7_chain 221 = .ok (.ireturn, 1) := dk_172 (dk_at dksX7_chain_9 10 rfl rfl)
theorem dX7_chain_222 : decode cX7_chain 222 = .ok (.iload 4, 2) := dk_21 4 (dk_at dksX7_chain_9 11 rfl rfl)
theorem dX7_chain_224 : decode cX7_chain 224 = .ok (.aload_n 0, 1) := dk_42 (dk_at dksX7_chain_9 13 rfl rfl)
theorem dX7_chain_225 : decode cX7_chain 225 = .ok (.getfield 38, 3) := dk_180 0 38 (dk_at dksX7_chain_9 14 rfl rfl)
theorem dX7_chain_228 : decode cX7_chain 228 = .ok (.iload_n 1, 1) := dk_27 (dk_at dksX7_chain_9 17 rfl rfl)
theorem dX7_chain_229 : decode cX7_chain 229 = .ok (.iaload, 1) := dk_46 (dk_at dksX7_chain_9 18 rfl rfl)
theorem dX7_chain_230 : decode cX7_chain 230 = .ok (.if_icmp .le 5, 3) := dk_164 0 5 (dk_at dksX7_chain_9 19 rfl rfl)
theorem dX7_chain_233 : decode cX7_chain 233 = .ok (.iconst (-1), 1) := dk_2 (dk_at dksX7_chain_9 22 rfl rfl)
theorem dX7_chain_234 : decode cX7_chain 234 = .ok (.ireturn, 1) := dk_172 (dk_at dksX7_chain_9 23 rfl rfl)
theorem dX7_chain_235 : decode cX7_chain 235 = .ok (.iload_n 1, 1) := dk_27 (dk_at dksX7_chain_10 0 rfl rfl)
theorem dX7_chain_236 : decode cX7_chain 236 = .ok (.istore 5, 2) := dk_54 5 (dk_at dksX7_chain_10 1 rfl rfl)
theorem dX7_chain_238 : decode cX7_chain 238 = .ok (.iconst 0, 1) := dk_3 (dk_at dksX7_chain_10 3 rfl rfl)
theorem dX7_chain_239 : decode cX7_chain 239 = .ok (.istore 6, 2) := dk_54 6 (dk_at dksX7_chain_10 4 rfl rfl)
theorem dX7_chain_241 : decode cX7_chain 241 = .ok (.iload 6, 2) := dk_21 6 (dk_at dksX7_chain_10 6 rfl rfl)
theorem dX7_chain_243 : decode cX7_chain 243 = .ok (.iload 4, 2) := dk_21 4 (dk_at dksX7_chain_10 8 rfl rfl)
theorem dX7_chain_245 : decode cX7_chain 245 = .ok (.if_icmp .ge 58, 3) := dk_162 0 58 (dk_at dksX7_chain_10 10 rfl rfl)
theorem dX7_chain_248 : decode cX7_chain 248 = .ok (.iconst 0, 1) := dk_3 (dk_at dksX7_chain_10 13 rfl rfl)
theorem dX7_chain_249 : decode cX7_chain 249 = .ok (.istore 7, 2) := dk_54 7 (dk_at dksX7_chain_10 14 rfl rfl)
theorem dX7_chain_251 : decode cX7_chain 251 = .ok (.aload_n 0, 1) := dk_42 (dk_at dksX7_chain_10 16 rfl rfl)
theorem dX7_chain_252 : decode cX7_chain 252 = .ok (.getfield 38, 3) := dk_180 0 38 (dk_at dksX7_chain_10 17 rfl rfl)
theorem dX7_chain_255 : decode cX7_chain 255 = .ok (.iload 7, 2) := dk_21 7 (dk_at dksX7_chain_10 20 rfl rfl)
theorem dX7_chain_257 : decode cX7_chain 257 = .ok (.iaload, 1) := dk_46 (dk_at dksX7_chain_10 22 rfl rfl)
theorem dX7_chain_258 : decode cX7_chain 258 = .ok (.aload_n 0, 1) := dk_42 (dk_at dksX7_chain_10 23 rfl rfl)
theorem dX7_chain_259 : decode cX7_chain 259 = .ok (.getfield 38, 3) := dk_180 0 38 (dk_at dksX7_chain_11 0 rfl rfl)
theorem dX7_chain_262 : decode cX7_chain 262 = .ok (.iload 5, 2) := dk_21 5 (dk_at dksX7_chain_11 3 rfl rfl)
theorem dX7_chain_264 : decode cX7_chain 264 = .ok (.iaload, 1) := dk_46 (dk_at dksX7_chain_11 5 rfl rfl)
theorem dX7_chain_265 : decode cX7_chain 265 = .ok (.iconst 1, 1) := dk_4 (dk_at dksX7_chain_11 6 rfl rfl)
theorem dX7_chain_266 : decode cX7_chain 266 = .ok (.isub, 1) := dk_100 (dk_at dksX7_chain_11 7 rfl rfl)
theorem dX7_chain_267 : decode cX7_chain 267 = .ok (.if_icmp .ne 20, 3) := dk_160 0 20 (dk_at dksX7_chain_11 8 rfl rfl)
theorem dX7_chain_270 : decode cX7_chain 270 = .ok (.aload_n 0, 1) := dk_42 (dk_at dksX7_chain_11 11 rfl rfl)
theorem dX7_chain_271 : decode cX7_chain 271 = .ok (.getfield 29, 3) := dk_180 0 29 (dk_at dksX7_chain_11 12 rfl rfl)
theorem dX7_chain_274 : decode cX7_chain 274 = .ok (.bipush 12, 2) := dk_16 12 (dk_at dksX7_chain_11 15 rfl rfl)
theorem dX7_chain_276 : decode cX7_chain 276 = .ok (.iload 5, 2) := dk_21 5 (dk_at dksX7_chain_11 17 rfl rfl)
theorem dX7_chain_278 : decode cX7_chain 278 = .ok (.imul, 1) := dk_104 (dk_at dksX7_chain_11 19 rfl rfl)
theorem dX7_chain_279 : decode cX7_chain 279 = .ok (.iload 7, 2) := dk_21 7 (dk_at dksX7_chain_11 20 rfl rfl)
theorem dX7_chain_281 : decode cX7_chain 281 = .ok (.iadd, 1) := dk_96 (dk_at dksX7_chain_11 22 rfl rfl)
theorem dX7_chain_282 : decode cX7_chain 282 = .ok (.iaload, 1) := dk_46 (dk_at dksX7_chain_11 23 rfl rfl)
theorem dX7_chain_283 : decode cX7_chain 283 = .ok (.iload_n 3, 1) := dk_29 (dk_at dksX7_chain_12 0 rfl rfl)
theorem dX7_chain_284 : decode cX7_chain 284 = .ok (.if_icmp .ge 9, 3) := dk_162 0 9 (dk_at dksX7_chain_12 1 rfl rfl)
theorem dX7_chain_287 : decode cX7_chain 287 = .ok (.iinc 7 1, 3) := dk_132 7 1 (dk_at dksX7_chain_12 4 rfl rfl)
theorem dX7_chain_290 : decode cX7_chain 290 = .ok (.goto (-39), 3) := dk_167 255 217 (dk_at dksX7_chain_12 7 rfl rfl)
theorem dX7_chain_293 : decode cX7_chain 293 = .ok (.iload 7, 2) := dk_21 7 (dk_at dksX7_chain_12 10 rfl rfl)
theorem dX7_chain_295 : decode cX7_chain 295 = .ok (.istore 5, 2) := dk_54 5 (dk_at dksX7_chain_12 12 rfl rfl)
theorem dX7_chain_297 : decode cX7_chain 297 = .ok (.iinc 6 1, 3) := dk_132 6 1 (dk_at dksX7_chain_12 14 rfl rfl)
theorem dX7_chain_300 : decode cX7_chain 300 = .ok (.goto (-59), 3) := dk_167 255 197 (dk_at dksX7_chain_12 17 rfl rfl)
theorem dX7_chain_303 : decode cX7_chain 303 = .ok (.iload 5, 2) := dk_21 5 (dk_at dksX7_chain_12 20 rfl rfl)
theorem dX7_chain_305 : decode cX7_chain 305 = .ok (.ireturn, 1) := dk_172 (dk_at dksX7_chain_12 22 rfl rfl)
abbrev cX7_ring : ByteArray := prog_23_method_78_code
def yX7_ring : MethodName := ⟨RX7, "ring", "()I"⟩
def dkwX7_ring_8 : List UInt8 := [46, 4, 96, 79, 42, 180, 0, 7, 8, 46, 4, 100, 172]
abbrev dktX7_ring_8 : List UInt8 := dkwX7_ring_8 ++ []
def dkwX7_ring_7 : List UInt8 := [96, 42, 180, 0, 19, 21, 4, 46, 16, 97, 100, 79, 132, 4, 1, 167, 255, 226, 42, 180, 0, 7, 8, 92]
abbrev dktX7_ring_7 : List UInt8 := dkwX7_ring_7 ++ dktX7_ring_8
def dkwX7_ring_6 : List UInt8 := [180, 0, 7, 29, 27, 79, 3, 54, 4, 21, 4, 27, 162, 0, 30, 42, 180, 0, 7, 29, 4, 96, 21, 4]
abbrev dktX7_ring_6 : List UInt8 := dkwX7_ring_6 ++ dktX7_ring_7
def dkwX7_ring_5 : List UInt8 := [180, 0, 53, 158, 0, 5, 3, 172, 16, 82, 16, 7, 42, 180, 0, 7, 8, 46, 104, 96, 62, 42]
abbrev dktX7_ring_5 : List UInt8 := dkwX7_ring_5 ++ dktX7_ring_6
def dkwX7_ring_4 : List UInt8 := [167, 0, 19, 42, 180, 0, 7, 8, 46, 16, 8, 160, 0, 7, 5, 167, 0, 4, 3, 181, 0, 53, 42]
abbrev dktX7_ring_4 : List UInt8 := dkwX7_ring_4 ++ dktX7_ring_5
def dkwX7_ring_3 : List UInt8 := [4, 167, 0, 4, 3, 61, 132, 4, 1, 167, 255, 221, 132, 3, 1, 167, 255, 189, 42, 28, 154, 0, 7, 4]
abbrev dktX7_ring_3 : List UInt8 := dkwX7_ring_3 ++ dktX7_ring_4
def dkwX7_ring_2 : List UInt8 := [29, 162, 0, 35, 28, 153, 0, 23, 42, 180, 0, 19, 21, 4, 46, 42, 180, 0, 19, 29, 46, 159, 0, 7]
abbrev dktX7_ring_2 : List UInt8 := dkwX7_ring_2 ++ dktX7_ring_3
def dkwX7_ring_1 : List UInt8 := [29, 27, 162, 0, 64, 42, 42, 180, 0, 19, 29, 46, 16, 97, 100, 182, 0, 226, 61, 3, 54, 4, 21, 4]
abbrev dktX7_ring_1 : List UInt8 := dkwX7_ring_1 ++ dktX7_ring_2
def dkwX7_ring_0 : List UInt8 := [42, 180, 0, 60, 60, 42, 3, 181, 0, 60, 27, 5, 16, 6, 184, 0, 56, 61, 3, 62, 28, 153, 0, 69]
abbrev dktX7_ring_0 : List UInt8 := dkwX7_ring_0 ++ dktX7_ring_1
theorem dksX7_ring_0 : cX7_ring.data.toList.drop 0 = dktX7_ring_0 := by decide +kernel
theorem dksX7_ring_1 : cX7_ring.data.toList.drop 24 = dktX7_ring_1 := dk_seg dksX7_ring_0 24 rfl rfl
theorem dksX7_ring_2 : cX7_ring.data.toList.drop 48 = dktX7_ring_2 := dk_seg dksX7_ring_1 24 rfl rfl
theorem dksX7_ring_3 : cX7_ring.data.toList.drop 72 = dktX7_ring_3 := dk_seg dksX7_ring_2 24 rfl rfl
theorem dksX7_ring_4 : cX7_ring.data.toList.drop 96 = dktX7_ring_4 := dk_seg dksX7_ring_3 24 rfl rfl
theorem dksX7_ring_5 : cX7_ring.data.toList.drop 119 = dktX7_ring_5 := dk_seg dksX7_ring_4 23 rfl rfl
theorem dksX7_ring_6 : cX7_ring.data.toList.drop 141 = dktX7_ring_6 := dk_seg dksX7_ring_5 22 rfl rfl
theorem dksX7_ring_7 : cX7_ring.data.toList.drop 165 = dktX7_ring_7 := dk_seg dksX7_ring_6 24 rfl rfl
theorem dksX7_ring_8 : cX7_ring.data.toList.drop 189 = dktX7_ring_8 := dk_seg dksX7_ring_7 24 rfl rfl
theorem dX7_ring_0 : decode cX7_ring 0 = .ok (.aload_n 0, 1) := dk_42 (dk_at dksX7_ring_0 0 rfl rfl)
theorem dX7_ring_1 : decode cX7_ring 1 = .ok (.getfield 60, 3) := dk_180 0 60 (dk_at dksX7_ring_0 1 rfl rfl)
theorem dX7_ring_4 : decode cX7_ring 4 = .ok (.istore_n 1, 1) := dk_60 (dk_at dksX7_ring_0 4 rfl rfl)
theorem dX7_ring_5 : decode cX7_ring 5 = .ok (.aload_n 0, 1) := dk_42 (dk_at dksX7_ring_0 5 rfl rfl)
theorem dX7_ring_6 : decode cX7_ring 6 = .ok (.iconst 0, 1) := dk_3 (dk_at dksX7_ring_0 6 rfl rfl)
theorem dX7_ring_7 : decode cX7_ring 7 = .ok (.putfield 60, 3) := dk_181 0 60 (dk_at dksX7_ring_0 7 rfl rfl)
theorem dX7_ring_10 : decode cX7_ring 10 = .ok (.iload_n 1, 1) := dk_27 (dk_at dksX7_ring_0 10 rfl rfl)
theorem dX7_ring_11 : decode cX7_ring 11 = .ok (.iconst 2, 1) := dk_5 (dk_at dksX7_ring_0 11 rfl rfl)
theorem dX7_ring_12 : decode cX7_ring 12 = .ok (.bipush 6, 2) := dk_16 6 (dk_at dksX7_ring_0 12 rfl rfl)
theorem dX7_ring_14 : decode cX7_ring 14 = .ok (.invokestatic 56, 3) := dk_184 0 56 (dk_at dksX7_ring_0 14 rfl rfl)
theorem dX7_ring_17 : decode cX7_ring 17 = .ok (.istore_n 2, 1) := dk_61 (dk_at dksX7_ring_0 17 rfl rfl)
theorem dX7_ring_18 : decode cX7_ring 18 = .ok (.iconst 0, 1) := dk_3 (dk_at dksX7_ring_0 18 rfl rfl)
theorem dX7_ring_19 : decode cX7_ring 19 = .ok (.istore_n 3, 1) := dk_62 (dk_at dksX7_ring_0 19 rfl rfl)
theorem dX7_ring_20 : decode cX7_ring 20 = .ok (.iload_n 2, 1) := dk_28 (dk_at dksX7_ring_0 20 rfl rfl)
theorem dX7_ring_21 : decode cX7_ring 21 = .ok (.ifCond .eq 69, 3) := dk_153 0 69 (dk_at dksX7_ring_0 21 rfl rfl)
theorem dX7_ring_24 : decode cX7_ring 24 = .ok (.iload_n 3, 1) := dk_29 (dk_at dksX7_ring_1 0 rfl rfl)
theorem dX7_ring_25 : decode cX7_ring 25 = .ok (.iload_n 1, 1) := dk_27 (dk_at dksX7_ring_1 1 rfl rfl)
theorem dX7_ring_26 : decode cX7_ring 26 = .ok (.if_icmp .ge 64, 3) := dk_162 0 64 (dk_at dksX7_ring_1 2 rfl rfl)
theorem dX7_ring_29 : decode cX7_ring 29 = .ok (.aload_n 0, 1) := dk_42 (dk_at dksX7_ring_1 5 rfl rfl)
theorem dX7_ring_30 : decode cX7_ring 30 = .ok (.aload_n 0, 1) := dk_42 (dk_at dksX7_ring_1 6 rfl rfl)
theorem dX7_ring_31 : decode cX7_ring 31 = .ok (.getfield 19, 3) := dk_180 0 19 (dk_at dksX7_ring_1 7 rfl rfl)
theorem dX7_ring_34 : decode cX7_ring 34 = .ok (.iload_n 3, 1) := dk_29 (dk_at dksX7_ring_1 10 rfl rfl)
theorem dX7_ring_35 : decode cX7_ring 35 = .ok (.iaload, 1) := dk_46 (dk_at dksX7_ring_1 11 rfl rfl)
theorem dX7_ring_36 : decode cX7_ring 36 = .ok (.bipush 97, 2) := dk_16 97 (dk_at dksX7_ring_1 12 rfl rfl)
theorem dX7_ring_38 : decode cX7_ring 38 = .ok (.isub, 1) := dk_100 (dk_at dksX7_ring_1 14 rfl rfl)
theorem dX7_ring_39 : decode cX7_ring 39 = .ok (.invokevirtual 226, 3) := dk_182 0 226 (dk_at dksX7_ring_1 15 rfl rfl)
theorem dX7_ring_42 : decode cX7_ring 42 = .ok (.istore_n 2, 1) := dk_61 (dk_at dksX7_ring_1 18 rfl rfl)
theorem dX7_ring_43 : decode cX7_ring 43 = .ok (.iconst 0, 1) := dk_3 (dk_at dksX7_ring_1 19 rfl rfl)
theorem dX7_ring_44 : decode cX7_ring 44 = .ok (.istore 4, 2) := dk_54 4 (dk_at dksX7_ring_1 20 rfl rfl)
theorem dX7_ring_46 : decode cX7_ring 46 = .ok (.iload 4, 2) := dk_21 4 (dk_at dksX7_ring_1 22 rfl rfl)
theorem dX7_ring_48 : decode cX7_ring 48 = .ok (.iload_n 3, 1) := dk_29 (dk_at dksX7_ring_2 0 rfl rfl)
theorem dX7_ring_49 : decode cX7_ring 49 = .ok (.if_icmp .ge 35, 3) := dk_162 0 35 (dk_at dksX7_ring_2 1 rfl rfl)
theorem dX7_ring_52 : decode cX7_ring 52 = .ok (.iload_n 2, 1) := dk_28 (dk_at dksX7_ring_2 4 rfl rfl)
theorem dX7_ring_53 : decode cX7_ring 53 = .ok (.ifCond .eq 23, 3) := dk_153 0 23 (dk_at dksX7_ring_2 5 rfl rfl)
theorem dX7_ring_56 : decode cX7_ring 56 = .ok (.aload_n 0, 1) := dk_42 (dk_at dksX7_ring_2 8 rfl rfl)
theorem dX7_ring_57 : decode cX7_ring 57 = .ok (.getfield 19, 3) := dk_180 0 19 (dk_at dksX7_ring_2 9 rfl rfl)
theorem dX7_ring_60 : decode cX7_ring 60 = .ok (.iload 4, 2) := dk_21 4 (dk_at dksX7_ring_2 12 rfl rfl)
theorem dX7_ring_62 : decode cX7_ring 62 = .ok (.iaload, 1) := dk_46 (dk_at dksX7_ring_2 14 rfl rfl)
theorem dX7_ring_63 : decode cX7_ring 63 = .ok (.aload_n 0, 1) := dk_42 (dk_at dksX7_ring_2 15 rfl rfl)
theorem dX7_ring_64 : decode cX7_ring 64 = .ok (.getfield 19, 3) := dk_180 0 19 (dk_at dksX7_ring_2 16 rfl rfl)
theorem dX7_ring_67 : decode cX7_ring 67 = .ok (.iload_n 3, 1) := dk_29 (dk_at dksX7_ring_2 19 rfl rfl)
theorem dX7_ring_68 : decode cX7_ring 68 = .ok (.iaload, 1) := dk_46 (dk_at dksX7_ring_2 20 rfl rfl)
theorem dX7_ring_69 : decode cX7_ring 69 = .ok (.if_icmp .eq 7, 3) := dk_159 0 7 (dk_at dksX7_ring_2 21 rfl rfl)
theorem dX7_ring_72 : decode cX7_ring 72 = .ok (.iconst 1, 1) := dk_4 (dk_at dksX7_ring_3 0 rfl rfl)
theorem dX7_ring_73 : decode cX7_ring 73 = .ok (.goto 4, 3) := dk_167 0 4 (dk_at dksX7_ring_3 1 rfl rfl)
theorem dX7_ring_76 : decode cX7_ring 76 = .ok (.iconst 0, 1) := dk_3 (dk_at dksX7_ring_3 4 rfl rfl)
theorem dX7_ring_77 : decode cX7_ring 77 = .ok (.istore_n 2, 1) := dk_61 (dk_at dksX7_ring_3 5 rfl rfl)
theorem dX7_ring_78 : decode cX7_ring 78 = .ok (.iinc 4 1, 3) := dk_132 4 1 (dk_at dksX7_ring_3 6 rfl rfl)
theorem dX7_ring_81 : decode cX7_ring 81 = .ok (.goto (-35), 3) := dk_167 255 221 (dk_at dksX7_ring_3 9 rfl rfl)
theorem dX7_ring_84 : decode cX7_ring 84 = .ok (.iinc 3 1, 3) := dk_132 3 1 (dk_at dksX7_ring_3 12 rfl rfl)
theorem dX7_ring_87 : decode cX7_ring 87 = .ok (.goto (-67), 3) := dk_167 255 189 (dk_at dksX7_ring_3 15 rfl rfl)
theorem dX7_ring_90 : decode cX7_ring 90 = .ok (.aload_n 0, 1) := dk_42 (dk_at dksX7_ring_3 18 rfl rfl)
theorem dX7_ring_91 : decode cX7_ring 91 = .ok (.iload_n 2, 1) := dk_28 (dk_at dksX7_ring_3 19 rfl rfl)
theorem dX7_ring_92 : decode cX7_ring 92 = .ok (.ifCond .ne 7, 3) := dk_154 0 7 (dk_at dksX7_ring_3 20 rfl rfl)
theorem dX7_ring_95 : decode cX7_ring 95 = .ok (.iconst 1, 1) := dk_4 (dk_at dksX7_ring_3 23 rfl rfl)
theorem dX7_ring_96 : decode cX7_ring 96 = .ok (.goto 19, 3) := dk_167 0 19 (dk_at dksX7_ring_4 0 rfl rfl)
theorem dX7_ring_99 : decode cX7_ring 99 = .ok (.aload_n 0, 1) := dk_42 (dk_at dksX7_ring_4 3 rfl rfl)
theorem dX7_ring_100 : decode cX7_ring 100 = .ok (.getfield 7, 3) := dk_180 0 7 (dk_at dksX7_ring_4 4 rfl rfl)
theorem dX7_ring_103 : decode cX7_ring 103 = .ok (.iconst 5, 1) := dk_8 (dk_at dksX7_ring_4 7 rfl rfl)
theorem dX7_ring_104 : decode cX7_ring 104 = .ok (.iaload, 1) := dk_46 (dk_at dksX7_ring_4 8 rfl rfl)
theorem dX7_ring_105 : decode cX7_ring 105 = .ok (.bipush 8, 2) := dk_16 8 (dk_at dksX7_ring_4 9 rfl rfl)
theorem dX7_ring_107 : decode cX7_ring 107 = .ok (.if_icmp .ne 7, 3) := dk_160 0 7 (dk_at dksX7_ring_4 11 rfl rfl)
theorem dX7_ring_110 : decode cX7_ring 110 = .ok (.iconst 2, 1) := dk_5 (dk_at dksX7_ring_4 14 rfl rfl)
theorem dX7_ring_111 : decode cX7_ring 111 = .ok (.goto 4, 3) := dk_167 0 4 (dk_at dksX7_ring_4 15 rfl rfl)
theorem dX7_ring_114 : decode cX7_ring 114 = .ok (.iconst 0, 1) := dk_3 (dk_at dksX7_ring_4 18 rfl rfl)
theorem dX7_ring_115 : decode cX7_ring 115 = .ok (.putfield 53, 3) := dk_181 0 53 (dk_at dksX7_ring_4 19 rfl rfl)
theorem dX7_ring_118 : decode cX7_ring 118 = .ok (.aload_n 0, 1) := dk_42 (dk_at dksX7_ring_4 22 rfl rfl)
theorem dX7_ring_119 : decode cX7_ring 119 = .ok (.getfield 53, 3) := dk_180 0 53 (dk_at dksX7_ring_5 0 rfl rfl)
theorem dX7_ring_122 : decode cX7_ring 122 = .ok (.ifCond .le 5, 3) := dk_158 0 5 (dk_at dksX7_ring_5 3 rfl rfl)
theorem dX7_ring_125 : decode cX7_ring 125 = .ok (.iconst 0, 1) := dk_3 (dk_at dksX7_ring_5 6 rfl rfl)
theorem dX7_ring_126 : decode cX7_ring 126 = .ok (.ireturn, 1) := dk_172 (dk_at dksX7_ring_5 7 rfl rfl)
theorem dX7_ring_127 : decode cX7_ring 127 = .ok (.bipush 82, 2) := dk_16 82 (dk_at dksX7_ring_5 8 rfl rfl)
theorem dX7_ring_129 : decode cX7_ring 129 = .ok (.bipush 7, 2) := dk_16 7 (dk_at dksX7_ring_5 10 rfl rfl)
theorem dX7_ring_131 : decode cX7_ring 131 = .ok (.aload_n 0, 1) := dk_42 (dk_at dksX7_ring_5 12 rfl rfl)
theorem dX7_ring_132 : decode cX7_ring 132 = .ok (.getfield 7, 3) := dk_180 0 7 (dk_at dksX7_ring_5 13 rfl rfl)
theorem dX7_ring_135 : decode cX7_ring 135 = .ok (.iconst 5, 1) := dk_8 (dk_at dksX7_ring_5 16 rfl rfl)
theorem dX7_ring_136 : decode cX7_ring 136 = .ok (.iaload, 1) := dk_46 (dk_at dksX7_ring_5 17 rfl rfl)
theorem dX7_ring_137 : decode cX7_ring 137 = .ok (.imul, 1) := dk_104 (dk_at dksX7_ring_5 18 rfl rfl)
theorem dX7_ring_138 : decode cX7_ring 138 = .ok (.iadd, 1) := dk_96 (dk_at dksX7_ring_5 19 rfl rfl)
theorem dX7_ring_139 : decode cX7_ring 139 = .ok (.istore_n 3, 1) := dk_62 (dk_at dksX7_ring_5 20 rfl rfl)
theorem dX7_ring_140 : decode cX7_ring 140 = .ok (.aload_n 0, 1) := dk_42 (dk_at dksX7_ring_5 21 rfl rfl)
theorem dX7_ring_141 : decode cX7_ring 141 = .ok (.getfield 7, 3) := dk_180 0 7 (dk_at dksX7_ring_6 0 rfl rfl)
theorem dX7_ring_144 : decode cX7_ring 144 = .ok (.iload_n 3, 1) := dk_29 (dk_at dksX7_ring_6 3 rfl rfl)
theorem dX7_ring_145 : decode cX7_ring 145 = .ok (.iload_n 1, 1) := dk_27 (dk_at dksX7_ring_6 4 rfl rfl)
theorem dX7_ring_146 : decode cX7_ring 146 = .ok (.iastore, 1) := dk_79 (dk_at dksX7_ring_6 5 rfl rfl)
theorem dX7_ring_147 : decode cX7_ring 147 = .ok (.iconst 0, 1) := dk_3 (dk_at dksX7_ring_6 6 rfl rfl)
theorem dX7_ring_148 : decode cX7_ring 148 = .ok (.istore 4, 2) := dk_54 4 (dk_at dksX7_ring_6 7 rfl rfl)
theorem dX7_ring_150 : decode cX7_ring 150 = .ok (.iload 4, 2) := dk_21 4 (dk_at dksX7_ring_6 9 rfl rfl)
theorem dX7_ring_152 : decode cX7_ring 152 = .ok (.iload_n 1, 1) := dk_27 (dk_at dksX7_ring_6 11 rfl rfl)
theorem dX7_ring_153 : decode cX7_ring 153 = .ok (.if_icmp .ge 30, 3) := dk_162 0 30 (dk_at dksX7_ring_6 12 rfl rfl)
theorem dX7_ring_156 : decode cX7_ring 156 = .ok (.aload_n 0, 1) := dk_42 (dk_at dksX7_ring_6 15 rfl rfl)
theorem dX7_ring_157 : decode cX7_ring 157 = .ok (.getfield 7, 3) := dk_180 0 7 (dk_at dksX7_ring_6 16 rfl rfl)
theorem dX7_ring_160 : decode cX7_ring 160 = .ok (.iload_n 3, 1) := dk_29 (dk_at dksX7_ring_6 19 rfl rfl)
theorem dX7_ring_161 : decode cX7_ring 161 = .ok (.iconst 1, 1) := dk_4 (dk_at dksX7_ring_6 20 rfl rfl)
theorem dX7_ring_162 : decode cX7_ring 162 = .ok (.iadd, 1) := dk_96 (dk_at dksX7_ring_6 21 rfl rfl)
theorem dX7_ring_163 : decode cX7_ring 163 = .ok (.iload 4, 2) := dk_21 4 (dk_at dksX7_ring_6 22 rfl rfl)
theorem dX7_ring_165 : decode cX7_ring 165 = .ok (.iadd, 1) := dk_96 (dk_at dksX7_ring_7 0 rfl rfl)
theorem dX7_ring_166 : decode cX7_ring 166 = .ok (.aload_n 0, 1) := dk_42 (dk_at dksX7_ring_7 1 rfl rfl)
theorem dX7_ring_167 : decode cX7_ring 167 = .ok (.getfield 19, 3) := dk_180 0 19 (dk_at dksX7_ring_7 2 rfl rfl)
theorem dX7_ring_170 : decode cX7_ring 170 = .ok (.iload 4, 2) := dk_21 4 (dk_at dksX7_ring_7 5 rfl rfl)
theorem dX7_ring_172 : decode cX7_ring 172 = .ok (.iaload, 1) := dk_46 (dk_at dksX7_ring_7 7 rfl rfl)
theorem dX7_ring_173 : decode cX7_ring 173 = .ok (.bipush 97, 2) := dk_16 97 (dk_at dksX7_ring_7 8 rfl rfl)
theorem dX7_ring_175 : decode cX7_ring 175 = .ok (.isub, 1) := dk_100 (dk_at dksX7_ring_7 10 rfl rfl)
theorem dX7_ring_176 : decode cX7_ring 176 = .ok (.iastore, 1) := dk_79 (dk_at dksX7_ring_7 11 rfl rfl)
theorem dX7_ring_177 : decode cX7_ring 177 = .ok (.iinc 4 1, 3) := dk_132 4 1 (dk_at dksX7_ring_7 12 rfl rfl)
theorem dX7_ring_180 : decode cX7_ring 180 = .ok (.goto (-30), 3) := dk_167 255 226 (dk_at dksX7_ring_7 15 rfl rfl)
theorem dX7_ring_183 : decode cX7_ring 183 = .ok (.aload_n 0, 1) := dk_42 (dk_at dksX7_ring_7 18 rfl rfl)
theorem dX7_ring_184 : decode cX7_ring 184 = .ok (.getfield 7, 3) := dk_180 0 7 (dk_at dksX7_ring_7 19 rfl rfl)
theorem dX7_ring_187 : decode cX7_ring 187 = .ok (.iconst 5, 1) := dk_8 (dk_at dksX7_ring_7 22 rfl rfl)
theorem dX7_ring_188 : decode cX7_ring 188 = .ok (.dup2, 1) := dk_92 (dk_at dksX7_ring_7 23 rfl rfl)
theorem dX7_ring_189 : decode cX7_ring 189 = .ok (.iaload, 1) := dk_46 (dk_at dksX7_ring_8 0 rfl rfl)
theorem dX7_ring_190 : decode cX7_ring 190 = .ok (.iconst 1, 1) := dk_4 (dk_at dksX7_ring_8 1 rfl rfl)
theorem dX7_ring_191 : decode cX7_ring 191 = .ok (.iadd, 1) := dk_96 (dk_at dksX7_ring_8 2 rfl rfl)
theorem dX7_ring_192 : decode cX7_ring 192 = .ok (.iastore, 1) := dk_79 (dk_at dksX7_ring_8 3 rfl rfl)
theorem dX7_ring_193 : decode cX7_ring 193 = .ok (.aload_n 0, 1) := dk_42 (dk_at dksX7_ring_8 4 rfl rfl)
theorem dX7_ring_194 : decode cX7_ring 194 = .ok (.getfield 7, 3) := dk_180 0 7 (dk_at dksX7_ring_8 5 rfl rfl)
theorem dX7_ring_197 : decode cX7_ring 197 = .ok (.iconst 5, 1) := dk_8 (dk_at dksX7_ring_8 8 rfl rfl)
theorem dX7_ring_198 : decode cX7_ring 198 = .ok (.iaload, 1) := dk_46 (dk_at dksX7_ring_8 9 rfl rfl)
theorem dX7_ring_199 : decode cX7_ring 199 = .ok (.iconst 1, 1) := dk_4 (dk_at dksX7_ring_8 10 rfl rfl)
theorem dX7_ring_200 : decode cX7_ring 200 = .ok (.isub, 1) := dk_100 (dk_at dksX7_ring_8 11 rfl rfl)
theorem dX7_ring_201 : decode cX7_ring 201 = .ok (.ireturn, 1) := dk_172 (dk_at dksX7_ring_8 12 rfl rfl)
abbrev cX7_clear : ByteArray := prog_23_method_82_code
def yX7_clear : MethodName := ⟨RX7, "clear", "(I)I"⟩
def dkwX7_clear_5 : List UInt8 := [167, 0, 4, 2, 172]
abbrev dktX7_clear_5 : List UInt8 := dkwX7_clear_5 ++ []
def dkwX7_clear_4 : List UInt8 := [180, 1, 56, 167, 0, 23, 27, 42, 180, 0, 7, 8, 46, 162, 0, 12, 42, 180, 0, 47, 27, 46]
abbrev dktX7_clear_4 : List UInt8 := dkwX7_clear_4 ++ dktX7_clear_5
def dkwX7_clear_3 : List UInt8 := [132, 2, 1, 167, 255, 208, 42, 2, 181, 1, 56, 42, 3, 3, 3, 182, 1, 62, 27, 2, 160, 0, 10, 42]
abbrev dktX7_clear_3 : List UInt8 := dkwX7_clear_3 ++ dktX7_clear_4
def dkwX7_clear_2 : List UInt8 := [180, 0, 41, 16, 12, 28, 104, 29, 96, 42, 28, 29, 182, 1, 3, 79, 132, 3, 1, 167, 255, 226]
abbrev dktX7_clear_2 : List UInt8 := dkwX7_clear_2 ++ dktX7_clear_3
def dkwX7_clear_1 : List UInt8 := [61, 28, 42, 180, 0, 7, 4, 46, 162, 0, 44, 3, 62, 29, 42, 180, 0, 7, 4, 46, 162, 0, 26, 42]
abbrev dktX7_clear_1 : List UInt8 := dkwX7_clear_1 ++ dktX7_clear_2
def dkwX7_clear_0 : List UInt8 := [42, 27, 2, 162, 0, 7, 4, 167, 0, 4, 3, 181, 0, 53, 42, 180, 0, 53, 158, 0, 5, 3, 172, 3]
abbrev dktX7_clear_0 : List UInt8 := dkwX7_clear_0 ++ dktX7_clear_1
theorem dksX7_clear_0 : cX7_clear.data.toList.drop 0 = dktX7_clear_0 := by decide +kernel
theorem dksX7_clear_1 : cX7_clear.data.toList.drop 24 = dktX7_clear_1 := dk_seg dksX7_clear_0 24 rfl rfl
theorem dksX7_clear_2 : cX7_clear.data.toList.drop 48 = dktX7_clear_2 := dk_seg dksX7_clear_1 24 rfl rfl
theorem dksX7_clear_3 : cX7_clear.data.toList.drop 70 = dktX7_clear_3 := dk_seg dksX7_clear_2 22 rfl rfl
theorem dksX7_clear_4 : cX7_clear.data.toList.drop 94 = dktX7_clear_4 := dk_seg dksX7_clear_3 24 rfl rfl
theorem dksX7_clear_5 : cX7_clear.data.toList.drop 116 = dktX7_clear_5 := dk_seg dksX7_clear_4 22 rfl rfl
theorem dX7_clear_0 : decode cX7_clear 0 = .ok (.aload_n 0, 1) := dk_42 (dk_at dksX7_clear_0 0 rfl rfl)
theorem dX7_clear_1 : decode cX7_clear 1 = .ok (.iload_n 1, 1) := dk_27 (dk_at dksX7_clear_0 1 rfl rfl)
theorem dX7_clear_2 : decode cX7_clear 2 = .ok (.iconst (-1), 1) := dk_2 (dk_at dksX7_clear_0 2 rfl rfl)
theorem dX7_clear_3 : decode cX7_clear 3 = .ok (.if_icmp .ge 7, 3) := dk_162 0 7 (dk_at dksX7_clear_0 3 rfl rfl)
theorem dX7_clear_6 : decode cX7_clear 6 = .ok (.iconst 1, 1) := dk_4 (dk_at dksX7_clear_0 6 rfl rfl)
theorem dX7_clear_7 : decode cX7_clear 7 = .ok (.goto 4, 3) := dk_167 0 4 (dk_at dksX7_clear_0 7 rfl rfl)
theorem dX7_clear_10 : decode cX7_clear 10 = .ok (.iconst 0, 1) := dk_3 (dk_at dksX7_clear_0 10 rfl rfl)
theorem dX7_clear_11 : decode cX7_clear 11 = .ok (.putfield 53, 3) := dk_181 0 53 (dk_at dksX7_clear_0 11 rfl rfl)
theorem dX7_clear_14 : decode cX7_clear 14 = .ok (.aload_n 0, 1) := dk_42 (dk_at dksX7_clear_0 14 rfl rfl)
theorem dX7_clear_15 : decode cX7_clear 15 = .ok (.getfield 53, 3) := dk_180 0 53 (dk_at dksX7_clear_0 15 rfl rfl)
theorem dX7_clear_18 : decode cX7_clear 18 = .ok (.ifCond .le 5, 3) := dk_158 0 5 (dk_at dksX7_clear_0 18 rfl rfl)
theorem dX7_clear_21 : decode cX7_clear 21 = .ok (.iconst 0, 1) := dk_3 (dk_at dksX7_clear_0 21 rfl rfl)
theorem dX7_clear_22 : decode cX7_clear 22 = .ok (.ireturn, 1) := dk_172 (dk_at dksX7_clear_0 22 rfl rfl)
theorem dX7_clear_23 : decode cX7_clear 23 = .ok (.iconst 0, 1) := dk_3 (dk_at dksX7_clear_0 23 rfl rfl)
theorem dX7_clear_24 : decode cX7_clear 24 = .ok (.istore_n 2, 1) := dk_61 (dk_at dksX7_clear_1 0 rfl rfl)
theorem dX7_clear_25 : decode cX7_clear 25 = .ok (.iload_n 2, 1) := dk_28 (dk_at dksX7_clear_1 1 rfl rfl)
theorem dX7_clear_26 : decode cX7_clear 26 = .ok (.aload_n 0, 1) := dk_42 (dk_at dksX7_clear_1 2 rfl rfl)
theorem dX7_clear_27 : decode cX7_clear 27 = .ok (.getfield 7, 3) := dk_180 0 7 (dk_at dksX7_clear_1 3 rfl rfl)
theorem dX7_clear_30 : decode cX7_clear 30 = .ok (.iconst 1, 1) := dk_4 (dk_at dksX7_clear_1 6 rfl rfl)
theorem dX7_clear_31 : decode cX7_clear 31 = .ok (.iaload, 1) := dk_46 (dk_at dksX7_clear_1 7 rfl rfl)
theorem dX7_clear_32 : decode cX7_clear 32 = .ok (.if_icmp .ge 44, 3) := dk_162 0 44 (dk_at dksX7_clear_1 8 rfl rfl)
theorem dX7_clear_35 : decode cX7_clear 35 = .ok (.iconst 0, 1) := dk_3 (dk_at dksX7_clear_1 11 rfl rfl)
theorem dX7_clear_36 : decode cX7_clear 36 = .ok (.istore_n 3, 1) := dk_62 (dk_at dksX7_clear_1 12 rfl rfl)
theorem dX7_clear_37 : decode cX7_clear 37 = .ok (.iload_n 3, 1) := dk_29 (dk_at dksX7_clear_1 13 rfl rfl)
theorem dX7_clear_38 : decode cX7_clear 38 = .ok (.aload_n 0, 1) := dk_42 (dk_at dksX7_clear_1 14 rfl rfl)
theorem dX7_clear_39 : decode cX7_clear 39 = .ok (.getfield 7, 3) := dk_180 0 7 (dk_at dksX7_clear_1 15 rfl rfl)
theorem dX7_clear_42 : decode cX7_clear 42 = .ok (.iconst 1, 1) := dk_4 (dk_at dksX7_clear_1 18 rfl rfl)
theorem dX7_clear_43 : decode cX7_clear 43 = .ok (.iaload, 1) := dk_46 (dk_at dksX7_clear_1 19 rfl rfl)
theorem dX7_clear_44 : decode cX7_clear 44 = .ok (.if_icmp .ge 26, 3) := dk_162 0 26 (dk_at dksX7_clear_1 20 rfl rfl)
theorem dX7_clear_47 : decode cX7_clear 47 = .ok (.aload_n 0, 1) := dk_42 (dk_at dksX7_clear_1 23 rfl rfl)
theorem dX7_clear_48 : decode cX7_clear 48 = .ok (.getfield 41, 3) := dk_180 0 41 (dk_at dksX7_clear_2 0 rfl rfl)
theorem dX7_clear_51 : decode cX7_clear 51 = .ok (.bipush 12, 2) := dk_16 12 (dk_at dksX7_clear_2 3 rfl rfl)
theorem dX7_clear_53 : decode cX7_clear 53 = .ok (.iload_n 2, 1) := dk_28 (dk_at dksX7_clear_2 5 rfl rfl)
theorem dX7_clear_54 : decode cX7_clear 54 = .ok (.imul, 1) := dk_104 (dk_at dksX7_clear_2 6 rfl rfl)
theorem dX7_clear_55 : decode cX7_clear 55 = .ok (.iload_n 3, 1) := dk_29 (dk_at dksX7_clear_2 7 rfl rfl)
theorem dX7_clear_56 : decode cX7_clear 56 = .ok (.iadd, 1) := dk_96 (dk_at dksX7_clear_2 8 rfl rfl)
theorem dX7_clear_57 : decode cX7_clear 57 = .ok (.aload_n 0, 1) := dk_42 (dk_at dksX7_clear_2 9 rfl rfl)
theorem dX7_clear_58 : decode cX7_clear 58 = .ok (.iload_n 2, 1) := dk_28 (dk_at dksX7_clear_2 10 rfl rfl)
theorem dX7_clear_59 : decode cX7_clear 59 = .ok (.iload_n 3, 1) := dk_29 (dk_at dksX7_clear_2 11 rfl rfl)
theorem dX7_clear_60 : decode cX7_clear 60 = .ok (.invokevirtual 259, 3) := dk_182 1 3 (dk_at dksX7_clear_2 12 rfl rfl)
theorem dX7_clear_63 : decode cX7_clear 63 = .ok (.iastore, 1) := dk_79 (dk_at dksX7_clear_2 15 rfl rfl)
theorem dX7_clear_64 : decode cX7_clear 64 = .ok (.iinc 3 1, 3) := dk_132 3 1 (dk_at dksX7_clear_2 16 rfl rfl)
theorem dX7_clear_67 : decode cX7_clear 67 = .ok (.goto (-30), 3) := dk_167 255 226 (dk_at dksX7_clear_2 19 rfl rfl)
theorem dX7_clear_70 : decode cX7_clear 70 = .ok (.iinc 2 1, 3) := dk_132 2 1 (dk_at dksX7_clear_3 0 rfl rfl)
theorem dX7_clear_73 : decode cX7_clear 73 = .ok (.goto (-48), 3) := dk_167 255 208 (dk_at dksX7_clear_3 3 rfl rfl)
theorem dX7_clear_76 : decode cX7_clear 76 = .ok (.aload_n 0, 1) := dk_42 (dk_at dksX7_clear_3 6 rfl rfl)
theorem dX7_clear_77 : decode cX7_clear 77 = .ok (.iconst (-1), 1) := dk_2 (dk_at dksX7_clear_3 7 rfl rfl)
theorem dX7_clear_78 : decode cX7_clear 78 = .ok (.putfield 312, 3) := dk_181 1 56 (dk_at dksX7_clear_3 8 rfl rfl)
theorem dX7_clear_81 : decode cX7_clear 81 = .ok (.aload_n 0, 1) := dk_42 (dk_at dksX7_clear_3 11 rfl rfl)
theorem dX7_clear_82 : decode cX7_clear 82 = .ok (.iconst 0, 1) := dk_3 (dk_at dksX7_clear_3 12 rfl rfl)
theorem dX7_clear_83 : decode cX7_clear 83 = .ok (.iconst 0, 1) := dk_3 (dk_at dksX7_clear_3 13 rfl rfl)
theorem dX7_clear_84 : decode cX7_clear 84 = .ok (.iconst 0, 1) := dk_3 (dk_at dksX7_clear_3 14 rfl rfl)
theorem dX7_clear_85 : decode cX7_clear 85 = .ok (.invokevirtual 318, 3) := dk_182 1 62 (dk_at dksX7_clear_3 15 rfl rfl)
theorem dX7_clear_88 : decode cX7_clear 88 = .ok (.iload_n 1, 1) := dk_27 (dk_at dksX7_clear_3 18 rfl rfl)
theorem dX7_clear_89 : decode cX7_clear 89 = .ok (.iconst (-1), 1) := dk_2 (dk_at dksX7_clear_3 19 rfl rfl)
theorem dX7_clear_90 : decode cX7_clear 90 = .ok (.if_icmp .ne 10, 3) := dk_160 0 10 (dk_at dksX7_clear_3 20 rfl rfl)
theorem dX7_clear_93 : decode cX7_clear 93 = .ok (.aload_n 0, 1) := dk_42 (dk_at dksX7_clear_3 23 rfl rfl)
theorem dX7_clear_94 : decode cX7_clear 94 = .ok (.getfield 312, 3) := dk_180 1 56 (dk_at dksX7_clear_4 0 rfl rfl)
theorem dX7_clear_97 : decode cX7_clear 97 = .ok (.goto 23, 3) := dk_167 0 23 (dk_at dksX7_clear_4 3 rfl rfl)
theorem dX7_clear_100 : decode cX7_clear 100 = .ok (.iload_n 1, 1) := dk_27 (dk_at dksX7_clear_4 6 rfl rfl)
theorem dX7_clear_101 : decode cX7_clear 101 = .ok (.aload_n 0, 1) := dk_42 (dk_at dksX7_clear_4 7 rfl rfl)
theorem dX7_clear_102 : decode cX7_clear 102 = .ok (.getfield 7, 3) := dk_180 0 7 (dk_at dksX7_clear_4 8 rfl rfl)
theorem dX7_clear_105 : decode cX7_clear 105 = .ok (.iconst 5, 1) := dk_8 (dk_at dksX7_clear_4 11 rfl rfl)
theorem dX7_clear_106 : decode cX7_clear 106 = .ok (.iaload, 1) := dk_46 (dk_at dksX7_clear_4 12 rfl rfl)
theorem dX7_clear_107 : decode cX7_clear 107 = .ok (.if_icmp .ge 12, 3) := dk_162 0 12 (dk_at dksX7_clear_4 13 rfl rfl)
theorem dX7_clear_110 : decode cX7_clear 110 = .ok (.aload_n 0, 1) := dk_42 (dk_at dksX7_clear_4 16 rfl rfl)
theorem dX7_clear_111 : decode cX7_clear 111 = .ok (.getfield 47, 3) := dk_180 0 47 (dk_at dksX7_clear_4 17 rfl rfl)
theorem dX7_clear_114 : decode cX7_clear 114 = .ok (.iload_n 1, 1) := dk_27 (dk_at dksX7_clear_4 20 rfl rfl)
theorem dX7_clear_115 : decode cX7_clear 115 = .ok (.iaload, 1) := dk_46 (dk_at dksX7_clear_4 21 rfl rfl)
theorem dX7_clear_116 : decode cX7_clear 116 = .ok (.goto 4, 3) := dk_167 0 4 (dk_at dksX7_clear_5 0 rfl rfl)
theorem dX7_clear_119 : decode cX7_clear 119 = .ok (.iconst (-1), 1) := dk_2 (dk_at dksX7_clear_5 3 rfl rfl)
theorem dX7_clear_120 : decode cX7_clear 120 = .ok (.ireturn, 1) := dk_172 (dk_at dksX7_clear_5 4 rfl rfl)
abbrev cX7_orders : ByteArray := prog_23_method_81_code
def yX7_orders : MethodName := ⟨RX7, "orders", "(III)V"⟩
def dkwX7_orders_6 : List UInt8 := [177]
abbrev dktX7_orders_6 : List UInt8 := dkwX7_orders_6 ++ []
def dkwX7_orders_5 : List UInt8 := [21, 4, 104, 96, 46, 104, 96, 182, 1, 62, 42, 21, 4, 21, 5, 182, 1, 52, 132, 4, 1, 167, 255, 174]
abbrev dktX7_orders_5 : List UInt8 := dkwX7_orders_5 ++ dktX7_orders_6
def dkwX7_orders_4 : List UInt8 := [54, 5, 42, 27, 4, 96, 28, 4, 21, 4, 120, 128, 29, 21, 5, 42, 180, 0, 7, 16, 82, 16, 7]
abbrev dktX7_orders_4 : List UInt8 := dkwX7_orders_4 ++ dktX7_orders_5
def dkwX7_orders_3 : List UInt8 := [122, 4, 126, 4, 160, 0, 6, 167, 0, 58, 42, 180, 0, 44, 27, 21, 4, 79, 42, 21, 4, 182, 1, 59]
abbrev dktX7_orders_3 : List UInt8 := dkwX7_orders_3 ++ dktX7_orders_4
def dkwX7_orders_2 : List UInt8 := [132, 4, 1, 167, 255, 233, 177, 3, 54, 4, 21, 4, 42, 180, 0, 7, 8, 46, 162, 0, 77, 28, 21, 4]
abbrev dktX7_orders_2 : List UInt8 := dkwX7_orders_2 ++ dktX7_orders_3
def dkwX7_orders_1 : List UInt8 := [3, 54, 4, 21, 4, 27, 162, 0, 23, 42, 180, 0, 47, 21, 4, 42, 180, 0, 44, 21, 4, 46, 79]
abbrev dktX7_orders_1 : List UInt8 := dkwX7_orders_1 ++ dktX7_orders_2
def dkwX7_orders_0 : List UInt8 := [27, 42, 180, 0, 7, 8, 46, 160, 0, 47, 29, 42, 180, 1, 56, 163, 0, 4, 177, 42, 29, 181, 1, 56]
abbrev dktX7_orders_0 : List UInt8 := dkwX7_orders_0 ++ dktX7_orders_1
theorem dksX7_orders_0 : cX7_orders.data.toList.drop 0 = dktX7_orders_0 := by decide +kernel
theorem dksX7_orders_1 : cX7_orders.data.toList.drop 24 = dktX7_orders_1 := dk_seg dksX7_orders_0 24 rfl rfl
theorem dksX7_orders_2 : cX7_orders.data.toList.drop 47 = dktX7_orders_2 := dk_seg dksX7_orders_1 23 rfl rfl
theorem dksX7_orders_3 : cX7_orders.data.toList.drop 71 = dktX7_orders_3 := dk_seg dksX7_orders_2 24 rfl rfl
theorem dksX7_orders_4 : cX7_orders.data.toList.drop 95 = dktX7_orders_4 := dk_seg dksX7_orders_3 24 rfl rfl
theorem dksX7_orders_5 : cX7_orders.data.toList.drop 118 = dktX7_orders_5 := dk_seg dksX7_orders_4 23 rfl rfl
theorem dksX7_orders_6 : cX7_orders.data.toList.drop 142 = dktX7_orders_6 := dk_seg dksX7_orders_5 24 rfl rfl
theorem dX7_orders_0 : decode cX7_orders 0 = .ok (.iload_n 1, 1) := dk_27 (dk_at dksX7_orders_0 0 rfl rfl)
theorem dX7_orders_1 : decode cX7_orders 1 = .ok (.aload_n 0, 1) := dk_42 (dk_at dksX7_orders_0 1 rfl rfl)
theorem dX7_orders_2 : decode cX7_orders 2 = .ok (.getfield 7, 3) := dk_180 0 7 (dk_at dksX7_orders_0 2 rfl rfl)
theorem dX7_orders_5 : decode cX7_orders 5 = .ok (.iconst 5, 1) := dk_8 (dk_at dksX7_orders_0 5 rfl rfl)
theorem dX7_orders_6 : decode cX7_orders 6 = .ok (.iaload, 1) := dk_46 (dk_at dksX7_orders_0 6 rfl rfl)
theorem dX7_orders_7 : decode cX7_orders 7 = .ok (.if_icmp .ne 47, 3) := dk_160 0 47 (dk_at dksX7_orders_0 7 rfl rfl)
theorem dX7_orders_10 : decode cX7_orders 10 = .ok (.iload_n 3, 1) := dk_29 (dk_at dksX7_orders_0 10 rfl rfl)
theorem dX7_orders_11 : decode cX7_orders 11 = .ok (.aload_n 0, 1) := dk_42 (dk_at dksX7_orders_0 11 rfl rfl)
theorem dX7_orders_12 : decode cX7_orders 12 = .ok (.getfield 312, 3) := dk_180 1 56 (dk_at dksX7_orders_0 12 rfl rfl)
theorem dX7_orders_15 : decode cX7_orders 15 = .ok (.if_icmp .gt 4, 3) := dk_163 0 4 (dk_at dksX7_orders_0 15 rfl rfl)
theorem dX7_orders_18 : decode cX7_orders 18 = .ok (.return_, 1) := dk_177 (dk_at dksX7_orders_0 18 rfl rfl)
theorem dX7_orders_19 : decode cX7_orders 19 = .ok (.aload_n 0, 1) := dk_42 (dk_at dksX7_orders_0 19 rfl rfl)
theorem dX7_orders_20 : decode cX7_orders 20 = .ok (.iload_n 3, 1) := dk_29 (dk_at dksX7_orders_0 20 rfl rfl)
theorem dX7_orders_21 : decode cX7_orders 21 = .ok (.putfield 312, 3) := dk_181 1 56 (dk_at dksX7_orders_0 21 rfl rfl)
theorem dX7_orders_24 : decode cX7_orders 24 = .ok (.iconst 0, 1) := dk_3 (dk_at dksX7_orders_1 0 rfl rfl)
theorem dX7_orders_25 : decode cX7_orders 25 = .ok (.istore 4, 2) := dk_54 4 (dk_at dksX7_orders_1 1 rfl rfl)
theorem dX7_orders_27 : decode cX7_orders 27 = .ok (.iload 4, 2) := dk_21 4 (dk_at dksX7_orders_1 3 rfl rfl)
theorem dX7_orders_29 : decode cX7_orders 29 = .ok (.iload_n 1, 1) := dk_27 (dk_at dksX7_orders_1 5 rfl rfl)
theorem dX7_orders_30 : decode cX7_orders 30 = .ok (.if_icmp .ge 23, 3) := dk_162 0 23 (dk_at dksX7_orders_1 6 rfl rfl)
theorem dX7_orders_33 : decode cX7_orders 33 = .ok (.aload_n 0, 1) := dk_42 (dk_at dksX7_orders_1 9 rfl rfl)
theorem dX7_orders_34 : decode cX7_orders 34 = .ok (.getfield 47, 3) := dk_180 0 47 (dk_at dksX7_orders_1 10 rfl rfl)
theorem dX7_orders_37 : decode cX7_orders 37 = .ok (.iload 4, 2) := dk_21 4 (dk_at dksX7_orders_1 13 rfl rfl)
theorem dX7_orders_39 : decode cX7_orders 39 = .ok (.aload_n 0, 1) := dk_42 (dk_at dksX7_orders_1 15 rfl rfl)
theorem dX7_orders_40 : decode cX7_orders 40 = .ok (.getfield 44, 3) := dk_180 0 44 (dk_at dksX7_orders_1 16 rfl rfl)
theorem dX7_orders_43 : decode cX7_orders 43 = .ok (.iload 4, 2) := dk_21 4 (dk_at dksX7_orders_1 19 rfl rfl)
theorem dX7_orders_45 : decode cX7_orders 45 = .ok (.iaload, 1) := dk_46 (dk_at dksX7_orders_1 21 rfl rfl)
theorem dX7_orders_46 : decode cX7_orders 46 = .ok (.iastore, 1) := dk_79 (dk_at dksX7_orders_1 22 rfl rfl)
theorem dX7_orders_47 : decode cX7_orders 47 = .ok (.iinc 4 1, 3) := dk_132 4 1 (dk_at dksX7_orders_2 0 rfl rfl)
theorem dX7_orders_50 : decode cX7_orders 50 = .ok (.goto (-23), 3) := dk_167 255 233 (dk_at dksX7_orders_2 3 rfl rfl)
theorem dX7_orders_53 : decode cX7_orders 53 = .ok (.return_, 1) := dk_177 (dk_at dksX7_orders_2 6 rfl rfl)
theorem dX7_orders_54 : decode cX7_orders 54 = .ok (.iconst 0, 1) := dk_3 (dk_at dksX7_orders_2 7 rfl rfl)
theorem dX7_orders_55 : decode cX7_orders 55 = .ok (.istore 4, 2) := dk_54 4 (dk_at dksX7_orders_2 8 rfl rfl)
theorem dX7_orders_57 : decode cX7_orders 57 = .ok (.iload 4, 2) := dk_21 4 (dk_at dksX7_orders_2 10 rfl rfl)
theorem dX7_orders_59 : decode cX7_orders 59 = .ok (.aload_n 0, 1) := dk_42 (dk_at dksX7_orders_2 12 rfl rfl)
theorem dX7_orders_60 : decode cX7_orders 60 = .ok (.getfield 7, 3) := dk_180 0 7 (dk_at dksX7_orders_2 13 rfl rfl)
theorem dX7_orders_63 : decode cX7_orders 63 = .ok (.iconst 5, 1) := dk_8 (dk_at dksX7_orders_2 16 rfl rfl)
theorem dX7_orders_64 : decode cX7_orders 64 = .ok (.iaload, 1) := dk_46 (dk_at dksX7_orders_2 17 rfl rfl)
theorem dX7_orders_65 : decode cX7_orders 65 = .ok (.if_icmp .ge 77, 3) := dk_162 0 77 (dk_at dksX7_orders_2 18 rfl rfl)
theorem dX7_orders_68 : decode cX7_orders 68 = .ok (.iload_n 2, 1) := dk_28 (dk_at dksX7_orders_2 21 rfl rfl)
theorem dX7_orders_69 : decode cX7_orders 69 = .ok (.iload 4, 2) := dk_21 4 (dk_at dksX7_orders_2 22 rfl rfl)
theorem dX7_orders_71 : decode cX7_orders 71 = .ok (.ishr, 1) := dk_122 (dk_at dksX7_orders_3 0 rfl rfl)
theorem dX7_orders_72 : decode cX7_orders 72 = .ok (.iconst 1, 1) := dk_4 (dk_at dksX7_orders_3 1 rfl rfl)
theorem dX7_orders_73 : decode cX7_orders 73 = .ok (.iand, 1) := dk_126 (dk_at dksX7_orders_3 2 rfl rfl)
theorem dX7_orders_74 : decode cX7_orders 74 = .ok (.iconst 1, 1) := dk_4 (dk_at dksX7_orders_3 3 rfl rfl)
theorem dX7_orders_75 : decode cX7_orders 75 = .ok (.if_icmp .ne 6, 3) := dk_160 0 6 (dk_at dksX7_orders_3 4 rfl rfl)
theorem dX7_orders_78 : decode cX7_orders 78 = .ok (.goto 58, 3) := dk_167 0 58 (dk_at dksX7_orders_3 7 rfl rfl)
theorem dX7_orders_81 : decode cX7_orders 81 = .ok (.aload_n 0, 1) := dk_42 (dk_at dksX7_orders_3 10 rfl rfl)
theorem dX7_orders_82 : decode cX7_orders 82 = .ok (.getfield 44, 3) := dk_180 0 44 (dk_at dksX7_orders_3 11 rfl rfl)
theorem dX7_orders_85 : decode cX7_orders 85 = .ok (.iload_n 1, 1) := dk_27 (dk_at dksX7_orders_3 14 rfl rfl)
theorem dX7_orders_86 : decode cX7_orders 86 = .ok (.iload 4, 2) := dk_21 4 (dk_at dksX7_orders_3 15 rfl rfl)
theorem dX7_orders_88 : decode cX7_orders 88 = .ok (.iastore, 1) := dk_79 (dk_at dksX7_orders_3 17 rfl rfl)
theorem dX7_orders_89 : decode cX7_orders 89 = .ok (.aload_n 0, 1) := dk_42 (dk_at dksX7_orders_3 18 rfl rfl)
theorem dX7_orders_90 : decode cX7_orders 90 = .ok (.iload 4, 2) := dk_21 4 (dk_at dksX7_orders_3 19 rfl rfl)
theorem dX7_orders_92 : decode cX7_orders 92 = .ok (.invokevirtual 315, 3) := dk_182 1 59 (dk_at dksX7_orders_3 21 rfl rfl)
theorem dX7_orders_95 : decode cX7_orders 95 = .ok (.istore 5, 2) := dk_54 5 (dk_at dksX7_orders_4 0 rfl rfl)
theorem dX7_orders_97 : decode cX7_orders 97 = .ok (.aload_n 0, 1) := dk_42 (dk_at dksX7_orders_4 2 rfl rfl)
theorem dX7_orders_98 : decode cX7_orders 98 = .ok (.iload_n 1, 1) := dk_27 (dk_at dksX7_orders_4 3 rfl rfl)
theorem dX7_orders_99 : decode cX7_orders 99 = .ok (.iconst 1, 1) := dk_4 (dk_at dksX7_orders_4 4 rfl rfl)
theorem dX7_orders_100 : decode cX7_orders 100 = .ok (.iadd, 1) := dk_96 (dk_at dksX7_orders_4 5 rfl rfl)
theorem dX7_orders_101 : decode cX7_orders 101 = .ok (.iload_n 2, 1) := dk_28 (dk_at dksX7_orders_4 6 rfl rfl)
theorem dX7_orders_102 : decode cX7_orders 102 = .ok (.iconst 1, 1) := dk_4 (dk_at dksX7_orders_4 7 rfl rfl)
theorem dX7_orders_103 : decode cX7_orders 103 = .ok (.iload 4, 2) := dk_21 4 (dk_at dksX7_orders_4 8 rfl rfl)
theorem dX7_orders_105 : decode cX7_orders 105 = .ok (.ishl, 1) := dk_120 (dk_at dksX7_orders_4 10 rfl rfl)
theorem dX7_orders_106 : decode cX7_orders 106 = .ok (.ior, 1) := dk_128 (dk_at dksX7_orders_4 11 rfl rfl)
theorem dX7_orders_107 : decode cX7_orders 107 = .ok (.iload_n 3, 1) := dk_29 (dk_at dksX7_orders_4 12 rfl rfl)
theorem dX7_orders_108 : decode cX7_orders 108 = .ok (.iload 5, 2) := dk_21 5 (dk_at dksX7_orders_4 13 rfl rfl)
theorem dX7_orders_110 : decode cX7_orders 110 = .ok (.aload_n 0, 1) := dk_42 (dk_at dksX7_orders_4 15 rfl rfl)
theorem dX7_orders_111 : decode cX7_orders 111 = .ok (.getfield 7, 3) := dk_180 0 7 (dk_at dksX7_orders_4 16 rfl rfl)
theorem dX7_orders_114 : decode cX7_orders 114 = .ok (.bipush 82, 2) := dk_16 82 (dk_at dksX7_orders_4 19 rfl rfl)
theorem dX7_orders_116 : decode cX7_orders 116 = .ok (.bipush 7, 2) := dk_16 7 (dk_at dksX7_orders_4 21 rfl rfl)
theorem dX7_orders_118 : decode cX7_orders 118 = .ok (.iload 4, 2) := dk_21 4 (dk_at dksX7_orders_5 0 rfl rfl)
theorem dX7_orders_120 : decode cX7_orders 120 = .ok (.imul, 1) := dk_104 (dk_at dksX7_orders_5 2 rfl rfl)
theorem dX7_orders_121 : decode cX7_orders 121 = .ok (.iadd, 1) := dk_96 (dk_at dksX7_orders_5 3 rfl rfl)
theorem dX7_orders_122 : decode cX7_orders 122 = .ok (.iaload, 1) := dk_46 (dk_at dksX7_orders_5 4 rfl rfl)
theorem dX7_orders_123 : decode cX7_orders 123 = .ok (.imul, 1) := dk_104 (dk_at dksX7_orders_5 5 rfl rfl)
theorem dX7_orders_124 : decode cX7_orders 124 = .ok (.iadd, 1) := dk_96 (dk_at dksX7_orders_5 6 rfl rfl)
theorem dX7_orders_125 : decode cX7_orders 125 = .ok (.invokevirtual 318, 3) := dk_182 1 62 (dk_at dksX7_orders_5 7 rfl rfl)
theorem dX7_orders_128 : decode cX7_orders 128 = .ok (.aload_n 0, 1) := dk_42 (dk_at dksX7_orders_5 10 rfl rfl)
theorem dX7_orders_129 : decode cX7_orders 129 = .ok (.iload 4, 2) := dk_21 4 (dk_at dksX7_orders_5 11 rfl rfl)
theorem dX7_orders_131 : decode cX7_orders 131 = .ok (.iload 5, 2) := dk_21 5 (dk_at dksX7_orders_5 13 rfl rfl)
theorem dX7_orders_133 : decode cX7_orders 133 = .ok (.invokevirtual 308, 3) := dk_182 1 52 (dk_at dksX7_orders_5 15 rfl rfl)
theorem dX7_orders_136 : decode cX7_orders 136 = .ok (.iinc 4 1, 3) := dk_132 4 1 (dk_at dksX7_orders_5 18 rfl rfl)
theorem dX7_orders_139 : decode cX7_orders 139 = .ok (.goto (-82), 3) := dk_167 255 174 (dk_at dksX7_orders_5 21 rfl rfl)
theorem dX7_orders_142 : decode cX7_orders 142 = .ok (.return_, 1) := dk_177 (dk_at dksX7_orders_6 0 rfl rfl)
abbrev cX7_ringOf : ByteArray := prog_23_method_80_code
def yX7_ringOf : MethodName := ⟨RX7, "ringOf", "(I)I"⟩
def dkwX7_ringOf_4 : List UInt8 := [167, 255, 183, 42, 27, 21, 4, 116, 182, 1, 52, 21, 4, 172]
abbrev dktX7_ringOf_4 : List UInt8 := dkwX7_ringOf_4 ++ []
def dkwX7_ringOf_3 : List UInt8 := [21, 4, 162, 0, 13, 42, 180, 0, 41, 21, 6, 46, 167, 0, 5, 21, 4, 54, 4, 132, 5, 1]
abbrev dktX7_ringOf_3 : List UInt8 := dkwX7_ringOf_3 ++ dktX7_ringOf_4
def dkwX7_ringOf_2 : List UInt8 := [21, 5, 4, 96, 29, 112, 96, 46, 96, 54, 6, 21, 4, 2, 159, 0, 15, 42, 180, 0, 41, 21, 6, 46]
abbrev dktX7_ringOf_2 : List UInt8 := dkwX7_ringOf_2 ++ dktX7_ringOf_3
def dkwX7_ringOf_1 : List UInt8 := [162, 0, 73, 16, 12, 42, 180, 0, 7, 28, 4, 96, 21, 5, 96, 46, 104, 42, 180, 0, 7, 28, 4, 96]
abbrev dktX7_ringOf_1 : List UInt8 := dkwX7_ringOf_1 ++ dktX7_ringOf_2
def dkwX7_ringOf_0 : List UInt8 := [16, 82, 16, 7, 27, 104, 96, 61, 42, 180, 0, 7, 28, 46, 62, 2, 54, 4, 3, 54, 5, 21, 5, 29]
abbrev dktX7_ringOf_0 : List UInt8 := dkwX7_ringOf_0 ++ dktX7_ringOf_1
theorem dksX7_ringOf_0 : cX7_ringOf.data.toList.drop 0 = dktX7_ringOf_0 := by decide +kernel
theorem dksX7_ringOf_1 : cX7_ringOf.data.toList.drop 24 = dktX7_ringOf_1 := dk_seg dksX7_ringOf_0 24 rfl rfl
theorem dksX7_ringOf_2 : cX7_ringOf.data.toList.drop 48 = dktX7_ringOf_2 := dk_seg dksX7_ringOf_1 24 rfl rfl
theorem dksX7_ringOf_3 : cX7_ringOf.data.toList.drop 72 = dktX7_ringOf_3 := dk_seg dksX7_ringOf_2 24 rfl rfl
theorem dksX7_ringOf_4 : cX7_ringOf.data.toList.drop 94 = dktX7_ringOf_4 := dk_seg dksX7_ringOf_3 22 rfl rfl
theorem dX7_ringOf_0 : decode cX7_ringOf 0 = .ok (.bipush 82, 2) := dk_16 82 (dk_at dksX7_ringOf_0 0 rfl rfl)
theorem dX7_ringOf_2 : decode cX7_ringOf 2 = .ok (.bipush 7, 2) := dk_16 7 (dk_at dksX7_ringOf_0 2 rfl rfl)
theorem dX7_ringOf_4 : decode cX7_ringOf 4 = .ok (.iload_n 1, 1) := dk_27 (dk_at dksX7_ringOf_0 4 rfl rfl)
theorem dX7_ringOf_5 : decode cX7_ringOf 5 = .ok (.imul, 1) := dk_104 (dk_at dksX7_ringOf_0 5 rfl rfl)
theorem dX7_ringOf_6 : decode cX7_ringOf 6 = .ok (.iadd, 1) := dk_96 (dk_at dksX7_ringOf_0 6 rfl rfl)
theorem dX7_ringOf_7 : decode cX7_ringOf 7 = .ok (.istore_n 2, 1) := dk_61 (dk_at dksX7_ringOf_0 7 rfl rfl)
theorem dX7_ringOf_8 : decode cX7_ringOf 8 = .ok (.aload_n 0, 1) := dk_42 (dk_at dksX7_ringOf_0 8 rfl rfl)
theorem dX7_ringOf_9 : decode cX7_ringOf 9 = .ok (.getfield 7, 3) := dk_180 0 7 (dk_at dksX7_ringOf_0 9 rfl rfl)
theorem dX7_ringOf_12 : decode cX7_ringOf 12 = .ok (.iload_n 2, 1) := dk_28 (dk_at dksX7_ringOf_0 12 rfl rfl)
theorem dX7_ringOf_13 : decode cX7_ringOf 13 = .ok (.iaload, 1) := dk_46 (dk_at dksX7_ringOf_0 13 rfl rfl)
theorem dX7_ringOf_14 : decode cX7_ringOf 14 = .ok (.istore_n 3, 1) := dk_62 (dk_at dksX7_ringOf_0 14 rfl rfl)
theorem dX7_ringOf_15 : decode cX7_ringOf 15 = .ok (.iconst (-1), 1) := dk_2 (dk_at dksX7_ringOf_0 15 rfl rfl)
theorem dX7_ringOf_16 : decode cX7_ringOf 16 = .ok (.istore 4, 2) := dk_54 4 (dk_at dksX7_ringOf_0 16 rfl rfl)
theorem dX7_ringOf_18 : decode cX7_ringOf 18 = .ok (.iconst 0, 1) := dk_3 (dk_at dksX7_ringOf_0 18 rfl rfl)
theorem dX7_ringOf_19 : decode cX7_ringOf 19 = .ok (.istore 5, 2) := dk_54 5 (dk_at dksX7_ringOf_0 19 rfl rfl)
theorem dX7_ringOf_21 : decode cX7_ringOf 21 = .ok (.iload 5, 2) := dk_21 5 (dk_at dksX7_ringOf_0 21 rfl rfl)
theorem dX7_ringOf_23 : decode cX7_ringOf 23 = .ok (.iload_n 3, 1) := dk_29 (dk_at dksX7_ringOf_0 23 rfl rfl)
theorem dX7_ringOf_24 : decode cX7_ringOf 24 = .ok (.if_icmp .ge 73, 3) := dk_162 0 73 (dk_at dksX7_ringOf_1 0 rfl rfl)
theorem dX7_ringOf_27 : decode cX7_ringOf 27 = .ok (.bipush 12, 2) := dk_16 12 (dk_at dksX7_ringOf_1 3 rfl rfl)
theorem dX7_ringOf_29 : decode cX7_ringOf 29 = .ok (.aload_n 0, 1) := dk_42 (dk_at dksX7_ringOf_1 5 rfl rfl)
theorem dX7_ringOf_30 : decode cX7_ringOf 30 = .ok (.getfield 7, 3) := dk_180 0 7 (dk_at dksX7_ringOf_1 6 rfl rfl)
theorem dX7_ringOf_33 : decode cX7_ringOf 33 = .ok (.iload_n 2, 1) := dk_28 (dk_at dksX7_ringOf_1 9 rfl rfl)
theorem dX7_ringOf_34 : decode cX7_ringOf 34 = .ok (.iconst 1, 1) := dk_4 (dk_at dksX7_ringOf_1 10 rfl rfl)
theorem dX7_ringOf_35 : decode cX7_ringOf 35 = .ok (.iadd, 1) := dk_96 (dk_at dksX7_ringOf_1 11 rfl rfl)
theorem dX7_ringOf_36 : decode cX7_ringOf 36 = .ok (.iload 5, 2) := dk_21 5 (dk_at dksX7_ringOf_1 12 rfl rfl)
theorem dX7_ringOf_38 : decode cX7_ringOf 38 = .ok (.iadd, 1) := dk_96 (dk_at dksX7_ringOf_1 14 rfl rfl)
theorem dX7_ringOf_39 : decode cX7_ringOf 39 = .ok (.iaload, 1) := dk_46 (dk_at dksX7_ringOf_1 15 rfl rfl)
theorem dX7_ringOf_40 : decode cX7_ringOf 40 = .ok (.imul, 1) := dk_104 (dk_at dksX7_ringOf_1 16 rfl rfl)
theorem dX7_ringOf_41 : decode cX7_ringOf 41 = .ok (.aload_n 0, 1) := dk_42 (dk_at dksX7_ringOf_1 17 rfl rfl)
theorem dX7_ringOf_42 : decode cX7_ringOf 42 = .ok (.getfield 7, 3) := dk_180 0 7 (dk_at dksX7_ringOf_1 18 rfl rfl)
theorem dX7_ringOf_45 : decode cX7_ringOf 45 = .ok (.iload_n 2, 1) := dk_28 (dk_at dksX7_ringOf_1 21 rfl rfl)
theorem dX7_ringOf_46 : decode cX7_ringOf 46 = .ok (.iconst 1, 1) := dk_4 (dk_at dksX7_ringOf_1 22 rfl rfl)
theorem dX7_ringOf_47 : decode cX7_ringOf 47 = .ok (.iadd, 1) := dk_96 (dk_at dksX7_ringOf_1 23 rfl rfl)
theorem dX7_ringOf_48 : decode cX7_ringOf 48 = .ok (.iload 5, 2) := dk_21 5 (dk_at dksX7_ringOf_2 0 rfl rfl)
theorem dX7_ringOf_50 : decode cX7_ringOf 50 = .ok (.iconst 1, 1) := dk_4 (dk_at dksX7_ringOf_2 2 rfl rfl)
theorem dX7_ringOf_51 : decode cX7_ringOf 51 = .ok (.iadd, 1) := dk_96 (dk_at dksX7_ringOf_2 3 rfl rfl)
theorem dX7_ringOf_52 : decode cX7_ringOf 52 = .ok (.iload_n 3, 1) := dk_29 (dk_at dksX7_ringOf_2 4 rfl rfl)
theorem dX7_ringOf_53 : decode cX7_ringOf 53 = .ok (.irem, 1) := dk_112 (dk_at dksX7_ringOf_2 5 rfl rfl)
theorem dX7_ringOf_54 : decode cX7_ringOf 54 = .ok (.iadd, 1) := dk_96 (dk_at dksX7_ringOf_2 6 rfl rfl)
theorem dX7_ringOf_55 : decode cX7_ringOf 55 = .ok (.iaload, 1) := dk_46 (dk_at dksX7_ringOf_2 7 rfl rfl)
theorem dX7_ringOf_56 : decode cX7_ringOf 56 = .ok (.iadd, 1) := dk_96 (dk_at dksX7_ringOf_2 8 rfl rfl)
theorem dX7_ringOf_57 : decode cX7_ringOf 57 = .ok (.istore 6, 2) := dk_54 6 (dk_at dksX7_ringOf_2 9 rfl rfl)
theorem dX7_ringOf_59 : decode cX7_ringOf 59 = .ok (.iload 4, 2) := dk_21 4 (dk_at dksX7_ringOf_2 11 rfl rfl)
theorem dX7_ringOf_61 : decode cX7_ringOf 61 = .ok (.iconst (-1), 1) := dk_2 (dk_at dksX7_ringOf_2 13 rfl rfl)
theorem dX7_ringOf_62 : decode cX7_ringOf 62 = .ok (.if_icmp .eq 15, 3) := dk_159 0 15 (dk_at dksX7_ringOf_2 14 rfl rfl)
theorem dX7_ringOf_65 : decode cX7_ringOf 65 = .ok (.aload_n 0, 1) := dk_42 (dk_at dksX7_ringOf_2 17 rfl rfl)
theorem dX7_ringOf_66 : decode cX7_ringOf 66 = .ok (.getfield 41, 3) := dk_180 0 41 (dk_at dksX7_ringOf_2 18 rfl rfl)
theorem dX7_ringOf_69 : decode cX7_ringOf 69 = .ok (.iload 6, 2) := dk_21 6 (dk_at dksX7_ringOf_2 21 rfl rfl)
theorem dX7_ringOf_71 : decode cX7_ringOf 71 = .ok (.iaload, 1) := dk_46 (dk_at dksX7_ringOf_2 23 rfl rfl)
theorem dX7_ringOf_72 : decode cX7_ringOf 72 = .ok (.iload 4, 2) := dk_21 4 (dk_at dksX7_ringOf_3 0 rfl rfl)
theorem dX7_ringOf_74 : decode cX7_ringOf 74 = .ok (.if_icmp .ge 13, 3) := dk_162 0 13 (dk_at dksX7_ringOf_3 2 rfl rfl)
theorem dX7_ringOf_77 : decode cX7_ringOf 77 = .ok (.aload_n 0, 1) := dk_42 (dk_at dksX7_ringOf_3 5 rfl rfl)
theorem dX7_ringOf_78 : decode cX7_ringOf 78 = .ok (.getfield 41, 3) := dk_180 0 41 (dk_at dksX7_ringOf_3 6 rfl rfl)
theorem dX7_ringOf_81 : decode cX7_ringOf 81 = .ok (.iload 6, 2) := dk_21 6 (dk_at dksX7_ringOf_3 9 rfl rfl)
theorem dX7_ringOf_83 : decode cX7_ringOf 83 = .ok (.iaload, 1) := dk_46 (dk_at dksX7_ringOf_3 11 rfl rfl)
theorem dX7_ringOf_84 : decode cX7_ringOf 84 = .ok (.goto 5, 3) := dk_167 0 5 (dk_at dksX7_ringOf_3 12 rfl rfl)
theorem dX7_ringOf_87 : decode cX7_ringOf 87 = .ok (.iload 4, 2) := dk_21 4 (dk_at dksX7_ringOf_3 15 rfl rfl)
theorem dX7_ringOf_89 : decode cX7_ringOf 89 = .ok (.istore 4, 2) := dk_54 4 (dk_at dksX7_ringOf_3 17 rfl rfl)
theorem dX7_ringOf_91 : decode cX7_ringOf 91 = .ok (.iinc 5 1, 3) := dk_132 5 1 (dk_at dksX7_ringOf_3 19 rfl rfl)
theorem dX7_ringOf_94 : decode cX7_ringOf 94 = .ok (.goto (-73), 3) := dk_167 255 183 (dk_at dksX7_ringOf_4 0 rfl rfl)
theorem dX7_ringOf_97 : decode cX7_ringOf 97 = .ok (.aload_n 0, 1) := dk_42 (dk_at dksX7_ringOf_4 3 rfl rfl)
theorem dX7_ringOf_98 : decode cX7_ringOf 98 = .ok (.iload_n 1, 1) := dk_27 (dk_at dksX7_ringOf_4 4 rfl rfl)
theorem dX7_ringOf_99 : decode cX7_ringOf 99 = .ok (.iload 4, 2) := dk_21 4 (dk_at dksX7_ringOf_4 5 rfl rfl)
theorem dX7_ringOf_101 : decode cX7_ringOf 101 = .ok (.ineg, 1) := dk_116 (dk_at dksX7_ringOf_4 7 rfl rfl)
theorem dX7_ringOf_102 : decode cX7_ringOf 102 = .ok (.invokevirtual 308, 3) := dk_182 1 52 (dk_at dksX7_ringOf_4 8 rfl rfl)
theorem dX7_ringOf_105 : decode cX7_ringOf 105 = .ok (.iload 4, 2) := dk_21 4 (dk_at dksX7_ringOf_4 11 rfl rfl)
theorem dX7_ringOf_107 : decode cX7_ringOf 107 = .ok (.ireturn, 1) := dk_172 (dk_at dksX7_ringOf_4 13 rfl rfl)
abbrev cX7_putsBack : ByteArray := prog_23_method_79_code
def yX7_putsBack : MethodName := ⟨RX7, "putsBack", "(II)V"⟩
def dkwX7_putsBack_3 : List UInt8 := [167, 255, 198, 177]
abbrev dktX7_putsBack_3 : List UInt8 := dkwX7_putsBack_3 ++ []
def dkwX7_putsBack_2 : List UInt8 := [21, 4, 4, 96, 42, 180, 0, 7, 29, 46, 112, 96, 46, 96, 92, 46, 28, 96, 79, 132, 4, 1]
abbrev dktX7_putsBack_2 : List UInt8 := dkwX7_putsBack_2 ++ dktX7_putsBack_3
def dkwX7_putsBack_1 : List UInt8 := [180, 0, 41, 16, 12, 42, 180, 0, 7, 29, 4, 96, 21, 4, 96, 46, 104, 42, 180, 0, 7, 29, 4, 96]
abbrev dktX7_putsBack_1 : List UInt8 := dkwX7_putsBack_1 ++ dktX7_putsBack_2
def dkwX7_putsBack_0 : List UInt8 := [16, 82, 16, 7, 27, 104, 96, 62, 3, 54, 4, 21, 4, 42, 180, 0, 7, 29, 46, 162, 0, 53, 42]
abbrev dktX7_putsBack_0 : List UInt8 := dkwX7_putsBack_0 ++ dktX7_putsBack_1
theorem dksX7_putsBack_0 : cX7_putsBack.data.toList.drop 0 = dktX7_putsBack_0 := by decide +kernel
theorem dksX7_putsBack_1 : cX7_putsBack.data.toList.drop 23 = dktX7_putsBack_1 := dk_seg dksX7_putsBack_0 23 rfl rfl
theorem dksX7_putsBack_2 : cX7_putsBack.data.toList.drop 47 = dktX7_putsBack_2 := dk_seg dksX7_putsBack_1 24 rfl rfl
theorem dksX7_putsBack_3 : cX7_putsBack.data.toList.drop 69 = dktX7_putsBack_3 := dk_seg dksX7_putsBack_2 22 rfl rfl
theorem dX7_putsBack_0 : decode cX7_putsBack 0 = .ok (.bipush 82, 2) := dk_16 82 (dk_at dksX7_putsBack_0 0 rfl rfl)
theorem dX7_putsBack_2 : decode cX7_putsBack 2 = .ok (.bipush 7, 2) := dk_16 7 (dk_at dksX7_putsBack_0 2 rfl rfl)
theorem dX7_putsBack_4 : decode cX7_putsBack 4 = .ok (.iload_n 1, 1) := dk_27 (dk_at dksX7_putsBack_0 4 rfl rfl)
theorem dX7_putsBack_5 : decode cX7_putsBack 5 = .ok (.imul, 1) := dk_104 (dk_at dksX7_putsBack_0 5 rfl rfl)
theorem dX7_putsBack_6 : decode cX7_putsBack 6 = .ok (.iadd, 1) := dk_96 (dk_at dksX7_putsBack_0 6 rfl rfl)
theorem dX7_putsBack_7 : decode cX7_putsBack 7 = .ok (.istore_n 3, 1) := dk_62 (dk_at dksX7_putsBack_0 7 rfl rfl)
theorem dX7_putsBack_8 : decode cX7_putsBack 8 = .ok (.iconst 0, 1) := dk_3 (dk_at dksX7_putsBack_0 8 rfl rfl)
theorem dX7_putsBack_9 : decode cX7_putsBack 9 = .ok (.istore 4, 2) := dk_54 4 (dk_at dksX7_putsBack_0 9 rfl rfl)
theorem dX7_putsBack_11 : decode cX7_putsBack 11 = .ok (.iload 4, 2) := dk_21 4 (dk_at dksX7_putsBack_0 11 rfl rfl)
theorem dX7_putsBack_13 : decode cX7_putsBack 13 = .ok (.aload_n 0, 1) := dk_42 (dk_at dksX7_putsBack_0 13 rfl rfl)
theorem dX7_putsBack_14 : decode cX7_putsBack 14 = .ok (.getfield 7, 3) := dk_180 0 7 (dk_at dksX7_putsBack_0 14 rfl rfl)
theorem dX7_putsBack_17 : decode cX7_putsBack 17 = .ok (.iload_n 3, 1) := dk_29 (dk_at dksX7_putsBack_0 17 rfl rfl)
theorem dX7_putsBack_18 : decode cX7_putsBack 18 = .ok (.iaload, 1) := dk_46 (dk_at dksX7_putsBack_0 18 rfl rfl)
theorem dX7_putsBack_19 : decode cX7_putsBack 19 = .ok (.if_icmp .ge 53, 3) := dk_162 0 53 (dk_at dksX7_putsBack_0 19 rfl rfl)
theorem dX7_putsBack_22 : decode cX7_putsBack 22 = .ok (.aload_n 0, 1) := dk_42 (dk_at dksX7_putsBack_0 22 rfl rfl)
theorem dX7_putsBack_23 : decode cX7_putsBack 23 = .ok (.getfield 41, 3) := dk_180 0 41 (dk_at dksX7_putsBack_1 0 rfl rfl)
theorem dX7_putsBack_26 : decode cX7_putsBack 26 = .ok (.bipush 12, 2) := dk_16 12 (dk_at dksX7_putsBack_1 3 rfl rfl)
theorem dX7_putsBack_28 : decode cX7_putsBack 28 = .ok (.aload_n 0, 1) := dk_42 (dk_at dksX7_putsBack_1 5 rfl rfl)
theorem dX7_putsBack_29 : decode cX7_putsBack 29 = .ok (.getfield 7, 3) := dk_180 0 7 (dk_at dksX7_putsBack_1 6 rfl rfl)
theorem dX7_putsBack_32 : decode cX7_putsBack 32 = .ok (.iload_n 3, 1) := dk_29 (dk_at dksX7_putsBack_1 9 rfl rfl)
theorem dX7_putsBack_33 : decode cX7_putsBack 33 = .ok (.iconst 1, 1) := dk_4 (dk_at dksX7_putsBack_1 10 rfl rfl)
theorem dX7_putsBack_34 : decode cX7_putsBack 34 = .ok (.iadd, 1) := dk_96 (dk_at dksX7_putsBack_1 11 rfl rfl)
theorem dX7_putsBack_35 : decode cX7_putsBack 35 = .ok (.iload 4, 2) := dk_21 4 (dk_at dksX7_putsBack_1 12 rfl rfl)
theorem dX7_putsBack_37 : decode cX7_putsBack 37 = .ok (.iadd, 1) := dk_96 (dk_at dksX7_putsBack_1 14 rfl rfl)
theorem dX7_putsBack_38 : decode cX7_putsBack 38 = .ok (.iaload, 1) := dk_46 (dk_at dksX7_putsBack_1 15 rfl rfl)
theorem dX7_putsBack_39 : decode cX7_putsBack 39 = .ok (.imul, 1) := dk_104 (dk_at dksX7_putsBack_1 16 rfl rfl)
theorem dX7_putsBack_40 : decode cX7_putsBack 40 = .ok (.aload_n 0, 1) := dk_42 (dk_at dksX7_putsBack_1 17 rfl rfl)
theorem dX7_putsBack_41 : decode cX7_putsBack 41 = .ok (.getfield 7, 3) := dk_180 0 7 (dk_at dksX7_putsBack_1 18 rfl rfl)
theorem dX7_putsBack_44 : decode cX7_putsBack 44 = .ok (.iload_n 3, 1) := dk_29 (dk_at dksX7_putsBack_1 21 rfl rfl)
theorem dX7_putsBack_45 : decode cX7_putsBack 45 = .ok (.iconst 1, 1) := dk_4 (dk_at dksX7_putsBack_1 22 rfl rfl)
theorem dX7_putsBack_46 : decode cX7_putsBack 46 = .ok (.iadd, 1) := dk_96 (dk_at dksX7_putsBack_1 23 rfl rfl)
theorem dX7_putsBack_47 : decode cX7_putsBack 47 = .ok (.iload 4, 2) := dk_21 4 (dk_at dksX7_putsBack_2 0 rfl rfl)
theorem dX7_putsBack_49 : decode cX7_putsBack 49 = .ok (.iconst 1, 1) := dk_4 (dk_at dksX7_putsBack_2 2 rfl rfl)
theorem dX7_putsBack_50 : decode cX7_putsBack 50 = .ok (.iadd, 1) := dk_96 (dk_at dksX7_putsBack_2 3 rfl rfl)
theorem dX7_putsBack_51 : decode cX7_putsBack 51 = .ok (.aload_n 0, 1) := dk_42 (dk_at dksX7_putsBack_2 4 rfl rfl)
theorem dX7_putsBack_52 : decode cX7_putsBack 52 = .ok (.getfield 7, 3) := dk_180 0 7 (dk_at dksX7_putsBack_2 5 rfl rfl)
theorem dX7_putsBack_55 : decode cX7_putsBack 55 = .ok (.iload_n 3, 1) := dk_29 (dk_at dksX7_putsBack_2 8 rfl rfl)
theorem dX7_putsBack_56 : decode cX7_putsBack 56 = .ok (.iaload, 1) := dk_46 (dk_at dksX7_putsBack_2 9 rfl rfl)
theorem dX7_putsBack_57 : decode cX7_putsBack 57 = .ok (.irem, 1) := dk_112 (dk_at dksX7_putsBack_2 10 rfl rfl)
theorem dX7_putsBack_58 : decode cX7_putsBack 58 = .ok (.iadd, 1) := dk_96 (dk_at dksX7_putsBack_2 11 rfl rfl)
theorem dX7_putsBack_59 : decode cX7_putsBack 59 = .ok (.iaload, 1) := dk_46 (dk_at dksX7_putsBack_2 12 rfl rfl)
theorem dX7_putsBack_60 : decode cX7_putsBack 60 = .ok (.iadd, 1) := dk_96 (dk_at dksX7_putsBack_2 13 rfl rfl)
theorem dX7_putsBack_61 : decode cX7_putsBack 61 = .ok (.dup2, 1) := dk_92 (dk_at dksX7_putsBack_2 14 rfl rfl)
theorem dX7_putsBack_62 : decode cX7_putsBack 62 = .ok (.iaload, 1) := dk_46 (dk_at dksX7_putsBack_2 15 rfl rfl)
theorem dX7_putsBack_63 : decode cX7_putsBack 63 = .ok (.iload_n 2, 1) := dk_28 (dk_at dksX7_putsBack_2 16 rfl rfl)
theorem dX7_putsBack_64 : decode cX7_putsBack 64 = .ok (.iadd, 1) := dk_96 (dk_at dksX7_putsBack_2 17 rfl rfl)
theorem dX7_putsBack_65 : decode cX7_putsBack 65 = .ok (.iastore, 1) := dk_79 (dk_at dksX7_putsBack_2 18 rfl rfl)
theorem dX7_putsBack_66 : decode cX7_putsBack 66 = .ok (.iinc 4 1, 3) := dk_132 4 1 (dk_at dksX7_putsBack_2 19 rfl rfl)
theorem dX7_putsBack_69 : decode cX7_putsBack 69 = .ok (.goto (-58), 3) := dk_167 255 198 (dk_at dksX7_putsBack_3 0 rfl rfl)
theorem dX7_putsBack_72 : decode cX7_putsBack 72 = .ok (.return_, 1) := dk_177 (dk_at dksX7_putsBack_3 3 rfl rfl)
abbrev cX7_loss : ByteArray := prog_23_method_84_code
def yX7_loss : MethodName := ⟨RX7, "loss", "(II)I"⟩
def dkwX7_loss_1 : List UInt8 := [181, 0, 53, 42, 180, 0, 53, 158, 0, 5, 3, 172, 42, 27, 28, 182, 1, 65, 172]
abbrev dktX7_loss_1 : List UInt8 := dkwX7_loss_1 ++ []
def dkwX7_loss_0 : List UInt8 := [42, 42, 27, 182, 0, 226, 153, 0, 11, 42, 28, 182, 0, 226, 154, 0, 7, 4, 167, 0, 4, 3]
abbrev dktX7_loss_0 : List UInt8 := dkwX7_loss_0 ++ dktX7_loss_1
theorem dksX7_loss_0 : cX7_loss.data.toList.drop 0 = dktX7_loss_0 := by decide +kernel
theorem dksX7_loss_1 : cX7_loss.data.toList.drop 22 = dktX7_loss_1 := dk_seg dksX7_loss_0 22 rfl rfl
theorem dX7_loss_0 : decode cX7_loss 0 = .ok (.aload_n 0, 1) := dk_42 (dk_at dksX7_loss_0 0 rfl rfl)
theorem dX7_loss_1 : decode cX7_loss 1 = .ok (.aload_n 0, 1) := dk_42 (dk_at dksX7_loss_0 1 rfl rfl)
theorem dX7_loss_2 : decode cX7_loss 2 = .ok (.iload_n 1, 1) := dk_27 (dk_at dksX7_loss_0 2 rfl rfl)
theorem dX7_loss_3 : decode cX7_loss 3 = .ok (.invokevirtual 226, 3) := dk_182 0 226 (dk_at dksX7_loss_0 3 rfl rfl)
theorem dX7_loss_6 : decode cX7_loss 6 = .ok (.ifCond .eq 11, 3) := dk_153 0 11 (dk_at dksX7_loss_0 6 rfl rfl)
theorem dX7_loss_9 : decode cX7_loss 9 = .ok (.aload_n 0, 1) := dk_42 (dk_at dksX7_loss_0 9 rfl rfl)
theorem dX7_loss_10 : decode cX7_loss 10 = .ok (.iload_n 2, 1) := dk_28 (dk_at dksX7_loss_0 10 rfl rfl)
theorem dX7_loss_11 : decode cX7_loss 11 = .ok (.invokevirtual 226, 3) := dk_182 0 226 (dk_at dksX7_loss_0 11 rfl rfl)
theorem dX7_loss_14 : decode cX7_loss 14 = .ok (.ifCond .ne 7, 3) := dk_154 0 7 (dk_at dksX7_loss_0 14 rfl rfl)
theorem dX7_loss_17 : decode cX7_loss 17 = .ok (.iconst 1, 1) := dk_4 (dk_at dksX7_loss_0 17 rfl rfl)
theorem dX7_loss_18 : decode cX7_loss 18 = .ok (.goto 4, 3) := dk_167 0 4 (dk_at dksX7_loss_0 18 rfl rfl)
theorem dX7_loss_21 : decode cX7_loss 21 = .ok (.iconst 0, 1) := dk_3 (dk_at dksX7_loss_0 21 rfl rfl)
theorem dX7_loss_22 : decode cX7_loss 22 = .ok (.putfield 53, 3) := dk_181 0 53 (dk_at dksX7_loss_1 0 rfl rfl)
theorem dX7_loss_25 : decode cX7_loss 25 = .ok (.aload_n 0, 1) := dk_42 (dk_at dksX7_loss_1 3 rfl rfl)
theorem dX7_loss_26 : decode cX7_loss 26 = .ok (.getfield 53, 3) := dk_180 0 53 (dk_at dksX7_loss_1 4 rfl rfl)
theorem dX7_loss_29 : decode cX7_loss 29 = .ok (.ifCond .le 5, 3) := dk_158 0 5 (dk_at dksX7_loss_1 7 rfl rfl)
theorem dX7_loss_32 : decode cX7_loss 32 = .ok (.iconst 0, 1) := dk_3 (dk_at dksX7_loss_1 10 rfl rfl)
theorem dX7_loss_33 : decode cX7_loss 33 = .ok (.ireturn, 1) := dk_172 (dk_at dksX7_loss_1 11 rfl rfl)
theorem dX7_loss_34 : decode cX7_loss 34 = .ok (.aload_n 0, 1) := dk_42 (dk_at dksX7_loss_1 12 rfl rfl)
theorem dX7_loss_35 : decode cX7_loss 35 = .ok (.iload_n 1, 1) := dk_27 (dk_at dksX7_loss_1 13 rfl rfl)
theorem dX7_loss_36 : decode cX7_loss 36 = .ok (.iload_n 2, 1) := dk_28 (dk_at dksX7_loss_1 14 rfl rfl)
theorem dX7_loss_37 : decode cX7_loss 37 = .ok (.invokevirtual 321, 3) := dk_182 1 65 (dk_at dksX7_loss_1 15 rfl rfl)
theorem dX7_loss_40 : decode cX7_loss 40 = .ok (.ireturn, 1) := dk_172 (dk_at dksX7_loss_1 18 rfl rfl)
abbrev cX7_lossOf : ByteArray := prog_23_method_83_code
def yX7_lossOf : MethodName := ⟨RX7, "lossOf", "(II)I"⟩
def dkwX7_lossOf_5 : List UInt8 := [167, 255, 142, 29, 172]
abbrev dktX7_lossOf_5 : List UInt8 := dkwX7_lossOf_5 ++ []
def dkwX7_lossOf_4 : List UInt8 := [4, 182, 0, 127, 21, 5, 4, 100, 184, 0, 229, 100, 96, 62, 132, 5, 1, 167, 255, 162, 132, 4, 1]
abbrev dktX7_lossOf_4 : List UInt8 := dkwX7_lossOf_4 ++ dktX7_lossOf_5
def dkwX7_lossOf_3 : List UInt8 := [160, 0, 6, 167, 0, 35, 29, 42, 21, 4, 4, 182, 0, 127, 21, 5, 5, 100, 184, 0, 229, 42, 21, 4]
abbrev dktX7_lossOf_3 : List UInt8 := dkwX7_lossOf_3 ++ dktX7_lossOf_4
def dkwX7_lossOf_2 : List UInt8 := [21, 4, 16, 7, 21, 5, 96, 4, 100, 182, 0, 127, 28, 160, 0, 49, 27, 42, 21, 4, 3, 182, 0, 127]
abbrev dktX7_lossOf_2 : List UInt8 := dkwX7_lossOf_2 ++ dktX7_lossOf_3
def dkwX7_lossOf_1 : List UInt8 := [16, 6, 182, 0, 127, 162, 0, 87, 42, 21, 4, 16, 7, 21, 5, 96, 182, 0, 127, 27, 160, 0, 66, 42]
abbrev dktX7_lossOf_1 : List UInt8 := dkwX7_lossOf_1 ++ dktX7_lossOf_2
def dkwX7_lossOf_0 : List UInt8 := [3, 62, 3, 54, 4, 21, 4, 42, 180, 0, 7, 6, 46, 162, 0, 109, 5, 54, 5, 21, 5, 42, 21, 4]
abbrev dktX7_lossOf_0 : List UInt8 := dkwX7_lossOf_0 ++ dktX7_lossOf_1
theorem dksX7_lossOf_0 : cX7_lossOf.data.toList.drop 0 = dktX7_lossOf_0 := by decide +kernel
theorem dksX7_lossOf_1 : cX7_lossOf.data.toList.drop 24 = dktX7_lossOf_1 := dk_seg dksX7_lossOf_0 24 rfl rfl
theorem dksX7_lossOf_2 : cX7_lossOf.data.toList.drop 48 = dktX7_lossOf_2 := dk_seg dksX7_lossOf_1 24 rfl rfl
theorem dksX7_lossOf_3 : cX7_lossOf.data.toList.drop 72 = dktX7_lossOf_3 := dk_seg dksX7_lossOf_2 24 rfl rfl
theorem dksX7_lossOf_4 : cX7_lossOf.data.toList.drop 96 = dktX7_lossOf_4 := dk_seg dksX7_lossOf_3 24 rfl rfl
theorem dksX7_lossOf_5 : cX7_lossOf.data.toList.drop 119 = dktX7_lossOf_5 := dk_seg dksX7_lossOf_4 23 rfl rfl
theorem dX7_lossOf_0 : decode cX7_lossOf 0 = .ok (.iconst 0, 1) := dk_3 (dk_at dksX7_lossOf_0 0 rfl rfl)
theorem dX7_lossOf_1 : decode cX7_lossOf 1 = .ok (.istore_n 3, 1) := dk_62 (dk_at dksX7_lossOf_0 1 rfl rfl)
theorem dX7_lossOf_2 : decode cX7_lossOf 2 = .ok (.iconst 0, 1) := dk_3 (dk_at dksX7_lossOf_0 2 rfl rfl)
theorem dX7_lossOf_3 : decode cX7_lossOf 3 = .ok (.istore 4, 2) := dk_54 4 (dk_at dksX7_lossOf_0 3 rfl rfl)
theorem dX7_lossOf_5 : decode cX7_lossOf 5 = .ok (.iload 4, 2) := dk_21 4 (dk_at dksX7_lossOf_0 5 rfl rfl)
theorem dX7_lossOf_7 : decode cX7_lossOf 7 = .ok (.aload_n 0, 1) := dk_42 (dk_at dksX7_lossOf_0 7 rfl rfl)
theorem dX7_lossOf_8 : decode cX7_lossOf 8 = .ok (.getfield 7, 3) := dk_180 0 7 (dk_at dksX7_lossOf_0 8 rfl rfl)
theorem dX7_lossOf_11 : decode cX7_lossOf 11 = .ok (.iconst 3, 1) := dk_6 (dk_at dksX7_lossOf_0 11 rfl rfl)
theorem dX7_lossOf_12 : decode cX7_lossOf 12 = .ok (.iaload, 1) := dk_46 (dk_at dksX7_lossOf_0 12 rfl rfl)
theorem dX7_lossOf_13 : decode cX7_lossOf 13 = .ok (.if_icmp .ge 109, 3) := dk_162 0 109 (dk_at dksX7_lossOf_0 13 rfl rfl)
theorem dX7_lossOf_16 : decode cX7_lossOf 16 = .ok (.iconst 2, 1) := dk_5 (dk_at dksX7_lossOf_0 16 rfl rfl)
theorem dX7_lossOf_17 : decode cX7_lossOf 17 = .ok (.istore 5, 2) := dk_54 5 (dk_at dksX7_lossOf_0 17 rfl rfl)
theorem dX7_lossOf_19 : decode cX7_lossOf 19 = .ok (.iload 5, 2) := dk_21 5 (dk_at dksX7_lossOf_0 19 rfl rfl)
theorem dX7_lossOf_21 : decode cX7_lossOf 21 = .ok (.aload_n 0, 1) := dk_42 (dk_at dksX7_lossOf_0 21 rfl rfl)
theorem dX7_lossOf_22 : decode cX7_lossOf 22 = .ok (.iload 4, 2) := dk_21 4 (dk_at dksX7_lossOf_0 22 rfl rfl)
theorem dX7_lossOf_24 : decode cX7_lossOf 24 = .ok (.bipush 6, 2) := dk_16 6 (dk_at dksX7_lossOf_1 0 rfl rfl)
theorem dX7_lossOf_26 : decode cX7_lossOf 26 = .ok (.invokevirtual 127, 3) := dk_182 0 127 (dk_at dksX7_lossOf_1 2 rfl rfl)
theorem dX7_lossOf_29 : decode cX7_lossOf 29 = .ok (.if_icmp .ge 87, 3) := dk_162 0 87 (dk_at dksX7_lossOf_1 5 rfl rfl)
theorem dX7_lossOf_32 : decode cX7_lossOf 32 = .ok (.aload_n 0, 1) := dk_42 (dk_at dksX7_lossOf_1 8 rfl rfl)
theorem dX7_lossOf_33 : decode cX7_lossOf 33 = .ok (.iload 4, 2) := dk_21 4 (dk_at dksX7_lossOf_1 9 rfl rfl)
theorem dX7_lossOf_35 : decode cX7_lossOf 35 = .ok (.bipush 7, 2) := dk_16 7 (dk_at dksX7_lossOf_1 11 rfl rfl)
theorem dX7_lossOf_37 : decode cX7_lossOf 37 = .ok (.iload 5, 2) := dk_21 5 (dk_at dksX7_lossOf_1 13 rfl rfl)
theorem dX7_lossOf_39 : decode cX7_lossOf 39 = .ok (.iadd, 1) := dk_96 (dk_at dksX7_lossOf_1 15 rfl rfl)
theorem dX7_lossOf_40 : decode cX7_lossOf 40 = .ok (.invokevirtual 127, 3) := dk_182 0 127 (dk_at dksX7_lossOf_1 16 rfl rfl)
theorem dX7_lossOf_43 : decode cX7_lossOf 43 = .ok (.iload_n 1, 1) := dk_27 (dk_at dksX7_lossOf_1 19 rfl rfl)
theorem dX7_lossOf_44 : decode cX7_lossOf 44 = .ok (.if_icmp .ne 66, 3) := dk_160 0 66 (dk_at dksX7_lossOf_1 20 rfl rfl)
theorem dX7_lossOf_47 : decode cX7_lossOf 47 = .ok (.aload_n 0, 1) := dk_42 (dk_at dksX7_lossOf_1 23 rfl rfl)
theorem dX7_lossOf_48 : decode cX7_lossOf 48 = .ok (.iload 4, 2) := dk_21 4 (dk_at dksX7_lossOf_2 0 rfl rfl)
theorem dX7_lossOf_50 : decode cX7_lossOf 50 = .ok (.bipush 7, 2) := dk_16 7 (dk_at dksX7_lossOf_2 2 rfl rfl)
theorem dX7_lossOf_52 : decode cX7_lossOf 52 = .ok (.iload 5, 2) := dk_21 5 (dk_at dksX7_lossOf_2 4 rfl rfl)
theorem dX7_lossOf_54 : decode cX7_lossOf 54 = .ok (.iadd, 1) := dk_96 (dk_at dksX7_lossOf_2 6 rfl rfl)
theorem dX7_lossOf_55 : decode cX7_lossOf 55 = .ok (.iconst 1, 1) := dk_4 (dk_at dksX7_lossOf_2 7 rfl rfl)
theorem dX7_lossOf_56 : decode cX7_lossOf 56 = .ok (.isub, 1) := dk_100 (dk_at dksX7_lossOf_2 8 rfl rfl)
theorem dX7_lossOf_57 : decode cX7_lossOf 57 = .ok (.invokevirtual 127, 3) := dk_182 0 127 (dk_at dksX7_lossOf_2 9 rfl rfl)
theorem dX7_lossOf_60 : decode cX7_lossOf 60 = .ok (.iload_n 2, 1) := dk_28 (dk_at dksX7_lossOf_2 12 rfl rfl)
theorem dX7_lossOf_61 : decode cX7_lossOf 61 = .ok (.if_icmp .ne 49, 3) := dk_160 0 49 (dk_at dksX7_lossOf_2 13 rfl rfl)
theorem dX7_lossOf_64 : decode cX7_lossOf 64 = .ok (.iload_n 1, 1) := dk_27 (dk_at dksX7_lossOf_2 16 rfl rfl)
theorem dX7_lossOf_65 : decode cX7_lossOf 65 = .ok (.aload_n 0, 1) := dk_42 (dk_at dksX7_lossOf_2 17 rfl rfl)
theorem dX7_lossOf_66 : decode cX7_lossOf 66 = .ok (.iload 4, 2) := dk_21 4 (dk_at dksX7_lossOf_2 18 rfl rfl)
theorem dX7_lossOf_68 : decode cX7_lossOf 68 = .ok (.iconst 0, 1) := dk_3 (dk_at dksX7_lossOf_2 20 rfl rfl)
theorem dX7_lossOf_69 : decode cX7_lossOf 69 = .ok (.invokevirtual 127, 3) := dk_182 0 127 (dk_at dksX7_lossOf_2 21 rfl rfl)
theorem dX7_lossOf_72 : decode cX7_lossOf 72 = .ok (.if_icmp .ne 6, 3) := dk_160 0 6 (dk_at dksX7_lossOf_3 0 rfl rfl)
theorem dX7_lossOf_75 : decode cX7_lossOf 75 = .ok (.goto 35, 3) := dk_167 0 35 (dk_at dksX7_lossOf_3 3 rfl rfl)
theorem dX7_lossOf_78 : decode cX7_lossOf 78 = .ok (.iload_n 3, 1) := dk_29 (dk_at dksX7_lossOf_3 6 rfl rfl)
theorem dX7_lossOf_79 : decode cX7_lossOf 79 = .ok (.aload_n 0, 1) := dk_42 (dk_at dksX7_lossOf_3 7 rfl rfl)
theorem dX7_lossOf_80 : decode cX7_lossOf 80 = .ok (.iload 4, 2) := dk_21 4 (dk_at dksX7_lossOf_3 8 rfl rfl)
theorem dX7_lossOf_82 : decode cX7_lossOf 82 = .ok (.iconst 1, 1) := dk_4 (dk_at dksX7_lossOf_3 10 rfl rfl)
theorem dX7_lossOf_83 : decode cX7_lossOf 83 = .ok (.invokevirtual 127, 3) := dk_182 0 127 (dk_at dksX7_lossOf_3 11 rfl rfl)
theorem dX7_lossOf_86 : decode cX7_lossOf 86 = .ok (.iload 5, 2) := dk_21 5 (dk_at dksX7_lossOf_3 14 rfl rfl)
theorem dX7_lossOf_88 : decode cX7_lossOf 88 = .ok (.iconst 2, 1) := dk_5 (dk_at dksX7_lossOf_3 16 rfl rfl)
theorem dX7_lossOf_89 : decode cX7_lossOf 89 = .ok (.isub, 1) := dk_100 (dk_at dksX7_lossOf_3 17 rfl rfl)
theorem dX7_lossOf_90 : decode cX7_lossOf 90 = .ok (.invokestatic 229, 3) := dk_184 0 229 (dk_at dksX7_lossOf_3 18 rfl rfl)
theorem dX7_lossOf_93 : decode cX7_lossOf 93 = .ok (.aload_n 0, 1) := dk_42 (dk_at dksX7_lossOf_3 21 rfl rfl)
theorem dX7_lossOf_94 : decode cX7_lossOf 94 = .ok (.iload 4, 2) := dk_21 4 (dk_at dksX7_lossOf_3 22 rfl rfl)
theorem dX7_lossOf_96 : decode cX7_lossOf 96 = .ok (.iconst 1, 1) := dk_4 (dk_at dksX7_lossOf_4 0 rfl rfl)
theorem dX7_lossOf_97 : decode cX7_lossOf 97 = .ok (.invokevirtual 127, 3) := dk_182 0 127 (dk_at dksX7_lossOf_4 1 rfl rfl)
theorem dX7_lossOf_100 : decode cX7_lossOf 100 = .ok (.iload 5, 2) := dk_21 5 (dk_at dksX7_lossOf_4 4 rfl rfl)
theorem dX7_lossOf_102 : decode cX7_lossOf 102 = .ok (.iconst 1, 1) := dk_4 (dk_at dksX7_lossOf_4 6 rfl rfl)
theorem dX7_lossOf_103 : decode cX7_lossOf 103 = .ok (.isub, 1) := dk_100 (dk_at dksX7_lossOf_4 7 rfl rfl)
theorem dX7_lossOf_104 : decode cX7_lossOf 104 = .ok (.invokestatic 229, 3) := dk_184 0 229 (dk_at dksX7_lossOf_4 8 rfl rfl)
theorem dX7_lossOf_107 : decode cX7_lossOf 107 = .ok (.isub, 1) := dk_100 (dk_at dksX7_lossOf_4 11 rfl rfl)
theorem dX7_lossOf_108 : decode cX7_lossOf 108 = .ok (.iadd, 1) := dk_96 (dk_at dksX7_lossOf_4 12 rfl rfl)
theorem dX7_lossOf_109 : decode cX7_lossOf 109 = .ok (.istore_n 3, 1) := dk_62 (dk_at dksX7_lossOf_4 13 rfl rfl)
theorem dX7_lossOf_110 : decode cX7_lossOf 110 = .ok (.iinc 5 1, 3) := dk_132 5 1 (dk_at dksX7_lossOf_4 14 rfl rfl)
theorem dX7_lossOf_113 : decode cX7_lossOf 113 = .ok (.goto (-94), 3) := dk_167 255 162 (dk_at dksX7_lossOf_4 17 rfl rfl)
theorem dX7_lossOf_116 : decode cX7_lossOf 116 = .ok (.iinc 4 1, 3) := dk_132 4 1 (dk_at dksX7_lossOf_4 20 rfl rfl)
theorem dX7_lossOf_119 : decode cX7_lossOf 119 = .ok (.goto (-114), 3) := dk_167 255 142 (dk_at dksX7_lossOf_5 0 rfl rfl)
theorem dX7_lossOf_122 : decode cX7_lossOf 122 = .ok (.iload_n 3, 1) := dk_29 (dk_at dksX7_lossOf_5 3 rfl rfl)
theorem dX7_lossOf_123 : decode cX7_lossOf 123 = .ok (.ireturn, 1) := dk_172 (dk_at dksX7_lossOf_5 4 rfl rfl)
abbrev cX7_ruined : ByteArray := prog_23_method_85_code
def yX7_ruined : MethodName := ⟨RX7, "ruined", "(I)I"⟩
def dkwX7_ruined_3 : List UInt8 := [167, 255, 218, 28, 172]
abbrev dktX7_ruined_3 : List UInt8 := dkwX7_ruined_3 ++ []
def dkwX7_ruined_2 : List UInt8 := [182, 1, 65, 54, 5, 21, 5, 29, 163, 0, 6, 167, 0, 9, 21, 4, 61, 21, 5, 62, 132, 4, 1]
abbrev dktX7_ruined_2 : List UInt8 := dkwX7_ruined_2 ++ dktX7_ruined_3
def dkwX7_ruined_1 : List UInt8 := [3, 172, 2, 61, 3, 62, 3, 54, 4, 21, 4, 42, 180, 0, 7, 4, 46, 162, 0, 33, 42, 27, 21, 4]
abbrev dktX7_ruined_1 : List UInt8 := dkwX7_ruined_1 ++ dktX7_ruined_2
def dkwX7_ruined_0 : List UInt8 := [42, 42, 27, 182, 0, 226, 154, 0, 7, 4, 167, 0, 4, 3, 181, 0, 53, 42, 180, 0, 53, 158, 0, 5]
abbrev dktX7_ruined_0 : List UInt8 := dkwX7_ruined_0 ++ dktX7_ruined_1
theorem dksX7_ruined_0 : cX7_ruined.data.toList.drop 0 = dktX7_ruined_0 := by decide +kernel
theorem dksX7_ruined_1 : cX7_ruined.data.toList.drop 24 = dktX7_ruined_1 := dk_seg dksX7_ruined_0 24 rfl rfl
theorem dksX7_ruined_2 : cX7_ruined.data.toList.drop 48 = dktX7_ruined_2 := dk_seg dksX7_ruined_1 24 rfl rfl
theorem dksX7_ruined_3 : cX7_ruined.data.toList.drop 71 = dktX7_ruined_3 := dk_seg dksX7_ruined_2 23 rfl rfl
theorem dX7_ruined_0 : decode cX7_ruined 0 = .ok (.aload_n 0, 1) := dk_42 (dk_at dksX7_ruined_0 0 rfl rfl)
theorem dX7_ruined_1 : decode cX7_ruined 1 = .ok (.aload_n 0, 1) := dk_42 (dk_at dksX7_ruined_0 1 rfl rfl)
theorem dX7_ruined_2 : decode cX7_ruined 2 = .ok (.iload_n 1, 1) := dk_27 (dk_at dksX7_ruined_0 2 rfl rfl)
theorem dX7_ruined_3 : decode cX7_ruined 3 = .ok (.invokevirtual 226, 3) := dk_182 0 226 (dk_at dksX7_ruined_0 3 rfl rfl)
theorem dX7_ruined_6 : decode cX7_ruined 6 = .ok (.ifCond .ne 7, 3) := dk_154 0 7 (dk_at dksX7_ruined_0 6 rfl rfl)
theorem dX7_ruined_9 : decode cX7_ruined 9 = .ok (.iconst 1, 1) := dk_4 (dk_at dksX7_ruined_0 9 rfl rfl)
theorem dX7_ruined_10 : decode cX7_ruined 10 = .ok (.goto 4, 3) := dk_167 0 4 (dk_at dksX7_ruined_0 10 rfl rfl)
theorem dX7_ruined_13 : decode cX7_ruined 13 = .ok (.iconst 0, 1) := dk_3 (dk_at dksX7_ruined_0 13 rfl rfl)
theorem dX7_ruined_14 : decode cX7_ruined 14 = .ok (.putfield 53, 3) := dk_181 0 53 (dk_at dksX7_ruined_0 14 rfl rfl)
theorem dX7_ruined_17 : decode cX7_ruined 17 = .ok (.aload_n 0, 1) := dk_42 (dk_at dksX7_ruined_0 17 rfl rfl)
theorem dX7_ruined_18 : decode cX7_ruined 18 = .ok (.getfield 53, 3) := dk_180 0 53 (dk_at dksX7_ruined_0 18 rfl rfl)
theorem dX7_ruined_21 : decode cX7_ruined 21 = .ok (.ifCond .le 5, 3) := dk_158 0 5 (dk_at dksX7_ruined_0 21 rfl rfl)
theorem dX7_ruined_24 : decode cX7_ruined 24 = .ok (.iconst 0, 1) := dk_3 (dk_at dksX7_ruined_1 0 rfl rfl)
theorem dX7_ruined_25 : decode cX7_ruined 25 = .ok (.ireturn, 1) := dk_172 (dk_at dksX7_ruined_1 1 rfl rfl)
theorem dX7_ruined_26 : decode cX7_ruined 26 = .ok (.iconst (-1), 1) := dk_2 (dk_at dksX7_ruined_1 2 rfl rfl)
theorem dX7_ruined_27 : decode cX7_ruined 27 = .ok (.istore_n 2, 1) := dk_61 (dk_at dksX7_ruined_1 3 rfl rfl)
theorem dX7_ruined_28 : decode cX7_ruined 28 = .ok (.iconst 0, 1) := dk_3 (dk_at dksX7_ruined_1 4 rfl rfl)
theorem dX7_ruined_29 : decode cX7_ruined 29 = .ok (.istore_n 3, 1) := dk_62 (dk_at dksX7_ruined_1 5 rfl rfl)
theorem dX7_ruined_30 : decode cX7_ruined 30 = .ok (.iconst 0, 1) := dk_3 (dk_at dksX7_ruined_1 6 rfl rfl)
theorem dX7_ruined_31 : decode cX7_ruined 31 = .ok (.istore 4, 2) := dk_54 4 (dk_at dksX7_ruined_1 7 rfl rfl)
theorem dX7_ruined_33 : decode cX7_ruined 33 = .ok (.iload 4, 2) := dk_21 4 (dk_at dksX7_ruined_1 9 rfl rfl)
theorem dX7_ruined_35 : decode cX7_ruined 35 = .ok (.aload_n 0, 1) := dk_42 (dk_at dksX7_ruined_1 11 rfl rfl)
theorem dX7_ruined_36 : decode cX7_ruined 36 = .ok (.getfield 7, 3) := dk_180 0 7 (dk_at dksX7_ruined_1 12 rfl rfl)
theorem dX7_ruined_39 : decode cX7_ruined 39 = .ok (.iconst 1, 1) := dk_4 (dk_at dksX7_ruined_1 15 rfl rfl)
theorem dX7_ruined_40 : decode cX7_ruined 40 = .ok (.iaload, 1) := dk_46 (dk_at dksX7_ruined_1 16 rfl rfl)
theorem dX7_ruined_41 : decode cX7_ruined 41 = .ok (.if_icmp .ge 33, 3) := dk_162 0 33 (dk_at dksX7_ruined_1 17 rfl rfl)
theorem dX7_ruined_44 : decode cX7_ruined 44 = .ok (.aload_n 0, 1) := dk_42 (dk_at dksX7_ruined_1 20 rfl rfl)
theorem dX7_ruined_45 : decode cX7_ruined 45 = .ok (.iload_n 1, 1) := dk_27 (dk_at dksX7_ruined_1 21 rfl rfl)
theorem dX7_ruined_46 : decode cX7_ruined 46 = .ok (.iload 4, 2) := dk_21 4 (dk_at dksX7_ruined_1 22 rfl rfl)
theorem dX7_ruined_48 : decode cX7_ruined 48 = .ok (.invokevirtual 321, 3) := dk_182 1 65 (dk_at dksX7_ruined_2 0 rfl rfl)
theorem dX7_ruined_51 : decode cX7_ruined 51 = .ok (.istore 5, 2) := dk_54 5 (dk_at dksX7_ruined_2 3 rfl rfl)
theorem dX7_ruined_53 : decode cX7_ruined 53 = .ok (.iload 5, 2) := dk_21 5 (dk_at dksX7_ruined_2 5 rfl rfl)
theorem dX7_ruined_55 : decode cX7_ruined 55 = .ok (.iload_n 3, 1) := dk_29 (dk_at dksX7_ruined_2 7 rfl rfl)
theorem dX7_ruined_56 : decode cX7_ruined 56 = .ok (.if_icmp .gt 6, 3) := dk_163 0 6 (dk_at dksX7_ruined_2 8 rfl rfl)
theorem dX7_ruined_59 : decode cX7_ruined 59 = .ok (.goto 9, 3) := dk_167 0 9 (dk_at dksX7_ruined_2 11 rfl rfl)
theorem dX7_ruined_62 : decode cX7_ruined 62 = .ok (.iload 4, 2) := dk_21 4 (dk_at dksX7_ruined_2 14 rfl rfl)
theorem dX7_ruined_64 : decode cX7_ruined 64 = .ok (.istore_n 2, 1) := dk_61 (dk_at dksX7_ruined_2 16 rfl rfl)
theorem dX7_ruined_65 : decode cX7_ruined 65 = .ok (.iload 5, 2) := dk_21 5 (dk_at dksX7_ruined_2 17 rfl rfl)
theorem dX7_ruined_67 : decode cX7_ruined 67 = .ok (.istore_n 3, 1) := dk_62 (dk_at dksX7_ruined_2 19 rfl rfl)
theorem dX7_ruined_68 : decode cX7_ruined 68 = .ok (.iinc 4 1, 3) := dk_132 4 1 (dk_at dksX7_ruined_2 20 rfl rfl)
theorem dX7_ruined_71 : decode cX7_ruined 71 = .ok (.goto (-38), 3) := dk_167 255 218 (dk_at dksX7_ruined_3 0 rfl rfl)
theorem dX7_ruined_74 : decode cX7_ruined 74 = .ok (.iload_n 2, 1) := dk_28 (dk_at dksX7_ruined_3 3 rfl rfl)
theorem dX7_ruined_75 : decode cX7_ruined 75 = .ok (.ireturn, 1) := dk_172 (dk_at dksX7_ruined_3 4 rfl rfl)
abbrev cX7_fits : ByteArray := prog_23_method_86_code
def yX7_fits : MethodName := ⟨RX7, "fits", "(I)I"⟩
def dkwX7_fits_4 : List UInt8 := [160, 0, 7, 2, 167, 0, 4, 29, 172]
abbrev dktX7_fits_4 : List UInt8 := dkwX7_fits_4 ++ []
def dkwX7_fits_3 : List UInt8 := [160, 0, 9, 132, 3, 1, 167, 255, 216, 29, 28, 160, 0, 18, 29, 42, 27, 16, 6, 182, 0, 127]
abbrev dktX7_fits_3 : List UInt8 := dkwX7_fits_3 ++ dktX7_fits_4
def dkwX7_fits_2 : List UInt8 := [182, 0, 127, 162, 0, 30, 42, 180, 0, 19, 29, 46, 16, 97, 100, 42, 27, 16, 7, 29, 96, 182, 0, 127]
abbrev dktX7_fits_2 : List UInt8 := dkwX7_fits_2 ++ dktX7_fits_3
def dkwX7_fits_1 : List UInt8 := [181, 0, 53, 42, 180, 0, 53, 158, 0, 5, 3, 172, 3, 62, 29, 28, 162, 0, 41, 29, 42, 27, 16, 6]
abbrev dktX7_fits_1 : List UInt8 := dkwX7_fits_1 ++ dktX7_fits_2
def dkwX7_fits_0 : List UInt8 := [42, 180, 0, 60, 61, 42, 3, 181, 0, 60, 42, 42, 27, 182, 1, 0, 154, 0, 7, 4, 167, 0, 4, 3]
abbrev dktX7_fits_0 : List UInt8 := dkwX7_fits_0 ++ dktX7_fits_1
theorem dksX7_fits_0 : cX7_fits.data.toList.drop 0 = dktX7_fits_0 := by decide +kernel
theorem dksX7_fits_1 : cX7_fits.data.toList.drop 24 = dktX7_fits_1 := dk_seg dksX7_fits_0 24 rfl rfl
theorem dksX7_fits_2 : cX7_fits.data.toList.drop 48 = dktX7_fits_2 := dk_seg dksX7_fits_1 24 rfl rfl
theorem dksX7_fits_3 : cX7_fits.data.toList.drop 72 = dktX7_fits_3 := dk_seg dksX7_fits_2 24 rfl rfl
theorem dksX7_fits_4 : cX7_fits.data.toList.drop 94 = dktX7_fits_4 := dk_seg dksX7_fits_3 22 rfl rfl
theorem dX7_fits_0 : decode cX7_fits 0 = .ok (.aload_n 0, 1) := dk_42 (dk_at dksX7_fits_0 0 rfl rfl)
theorem dX7_fits_1 : decode cX7_fits 1 = .ok (.getfield 60, 3) := dk_180 0 60 (dk_at dksX7_fits_0 1 rfl rfl)
theorem dX7_fits_4 : decode cX7_fits 4 = .ok (.istore_n 2, 1) := dk_61 (dk_at dksX7_fits_0 4 rfl rfl)
theorem dX7_fits_5 : decode cX7_fits 5 = .ok (.aload_n 0, 1) := dk_42 (dk_at dksX7_fits_0 5 rfl rfl)
theorem dX7_fits_6 : decode cX7_fits 6 = .ok (.iconst 0, 1) := dk_3 (dk_at dksX7_fits_0 6 rfl rfl)
theorem dX7_fits_7 : decode cX7_fits 7 = .ok (.putfield 60, 3) := dk_181 0 60 (dk_at dksX7_fits_0 7 rfl rfl)
theorem dX7_fits_10 : decode cX7_fits 10 = .ok (.aload_n 0, 1) := dk_42 (dk_at dksX7_fits_0 10 rfl rfl)
theorem dX7_fits_11 : decode cX7_fits 11 = .ok (.aload_n 0, 1) := dk_42 (dk_at dksX7_fits_0 11 rfl rfl)
theorem dX7_fits_12 : decode cX7_fits 12 = .ok (.iload_n 1, 1) := dk_27 (dk_at dksX7_fits_0 12 rfl rfl)
theorem dX7_fits_13 : decode cX7_fits 13 = .ok (.invokevirtual 256, 3) := dk_182 1 0 (dk_at dksX7_fits_0 13 rfl rfl)
theorem dX7_fits_16 : decode cX7_fits 16 = .ok (.ifCond .ne 7, 3) := dk_154 0 7 (dk_at dksX7_fits_0 16 rfl rfl)
theorem dX7_fits_19 : decode cX7_fits 19 = .ok (.iconst 1, 1) := dk_4 (dk_at dksX7_fits_0 19 rfl rfl)
theorem dX7_fits_20 : decode cX7_fits 20 = .ok (.goto 4, 3) := dk_167 0 4 (dk_at dksX7_fits_0 20 rfl rfl)
theorem dX7_fits_23 : decode cX7_fits 23 = .ok (.iconst 0, 1) := dk_3 (dk_at dksX7_fits_0 23 rfl rfl)
theorem dX7_fits_24 : decode cX7_fits 24 = .ok (.putfield 53, 3) := dk_181 0 53 (dk_at dksX7_fits_1 0 rfl rfl)
theorem dX7_fits_27 : decode cX7_fits 27 = .ok (.aload_n 0, 1) := dk_42 (dk_at dksX7_fits_1 3 rfl rfl)
theorem dX7_fits_28 : decode cX7_fits 28 = .ok (.getfield 53, 3) := dk_180 0 53 (dk_at dksX7_fits_1 4 rfl rfl)
theorem dX7_fits_31 : decode cX7_fits 31 = .ok (.ifCond .le 5, 3) := dk_158 0 5 (dk_at dksX7_fits_1 7 rfl rfl)
theorem dX7_fits_34 : decode cX7_fits 34 = .ok (.iconst 0, 1) := dk_3 (dk_at dksX7_fits_1 10 rfl rfl)
theorem dX7_fits_35 : decode cX7_fits 35 = .ok (.ireturn, 1) := dk_172 (dk_at dksX7_fits_1 11 rfl rfl)
theorem dX7_fits_36 : decode cX7_fits 36 = .ok (.iconst 0, 1) := dk_3 (dk_at dksX7_fits_1 12 rfl rfl)
theorem dX7_fits_37 : decode cX7_fits 37 = .ok (.istore_n 3, 1) := dk_62 (dk_at dksX7_fits_1 13 rfl rfl)
theorem dX7_fits_38 : decode cX7_fits 38 = .ok (.iload_n 3, 1) := dk_29 (dk_at dksX7_fits_1 14 rfl rfl)
theorem dX7_fits_39 : decode cX7_fits 39 = .ok (.iload_n 2, 1) := dk_28 (dk_at dksX7_fits_1 15 rfl rfl)
theorem dX7_fits_40 : decode cX7_fits 40 = .ok (.if_icmp .ge 41, 3) := dk_162 0 41 (dk_at dksX7_fits_1 16 rfl rfl)
theorem dX7_fits_43 : decode cX7_fits 43 = .ok (.iload_n 3, 1) := dk_29 (dk_at dksX7_fits_1 19 rfl rfl)
theorem dX7_fits_44 : decode cX7_fits 44 = .ok (.aload_n 0, 1) := dk_42 (dk_at dksX7_fits_1 20 rfl rfl)
theorem dX7_fits_45 : decode cX7_fits 45 = .ok (.iload_n 1, 1) := dk_27 (dk_at dksX7_fits_1 21 rfl rfl)
theorem dX7_fits_46 : decode cX7_fits 46 = .ok (.bipush 6, 2) := dk_16 6 (dk_at dksX7_fits_1 22 rfl rfl)
theorem dX7_fits_48 : decode cX7_fits 48 = .ok (.invokevirtual 127, 3) := dk_182 0 127 (dk_at dksX7_fits_2 0 rfl rfl)
theorem dX7_fits_51 : decode cX7_fits 51 = .ok (.if_icmp .ge 30, 3) := dk_162 0 30 (dk_at dksX7_fits_2 3 rfl rfl)
theorem dX7_fits_54 : decode cX7_fits 54 = .ok (.aload_n 0, 1) := dk_42 (dk_at dksX7_fits_2 6 rfl rfl)
theorem dX7_fits_55 : decode cX7_fits 55 = .ok (.getfield 19, 3) := dk_180 0 19 (dk_at dksX7_fits_2 7 rfl rfl)
theorem dX7_fits_58 : decode cX7_fits 58 = .ok (.iload_n 3, 1) := dk_29 (dk_at dksX7_fits_2 10 rfl rfl)
theorem dX7_fits_59 : decode cX7_fits 59 = .ok (.iaload, 1) := dk_46 (dk_at dksX7_fits_2 11 rfl rfl)
theorem dX7_fits_60 : decode cX7_fits 60 = .ok (.bipush 97, 2) := dk_16 97 (dk_at dksX7_fits_2 12 rfl rfl)
theorem dX7_fits_62 : decode cX7_fits 62 = .ok (.isub, 1) := dk_100 (dk_at dksX7_fits_2 14 rfl rfl)
theorem dX7_fits_63 : decode cX7_fits 63 = .ok (.aload_n 0, 1) := dk_42 (dk_at dksX7_fits_2 15 rfl rfl)
theorem dX7_fits_64 : decode cX7_fits 64 = .ok (.iload_n 1, 1) := dk_27 (dk_at dksX7_fits_2 16 rfl rfl)
theorem dX7_fits_65 : decode cX7_fits 65 = .ok (.bipush 7, 2) := dk_16 7 (dk_at dksX7_fits_2 17 rfl rfl)
theorem dX7_fits_67 : decode cX7_fits 67 = .ok (.iload_n 3, 1) := dk_29 (dk_at dksX7_fits_2 19 rfl rfl)
theorem dX7_fits_68 : decode cX7_fits 68 = .ok (.iadd, 1) := dk_96 (dk_at dksX7_fits_2 20 rfl rfl)
theorem dX7_fits_69 : decode cX7_fits 69 = .ok (.invokevirtual 127, 3) := dk_182 0 127 (dk_at dksX7_fits_2 21 rfl rfl)
theorem dX7_fits_72 : decode cX7_fits 72 = .ok (.if_icmp .ne 9, 3) := dk_160 0 9 (dk_at dksX7_fits_3 0 rfl rfl)
theorem dX7_fits_75 : decode cX7_fits 75 = .ok (.iinc 3 1, 3) := dk_132 3 1 (dk_at dksX7_fits_3 3 rfl rfl)
theorem dX7_fits_78 : decode cX7_fits 78 = .ok (.goto (-40), 3) := dk_167 255 216 (dk_at dksX7_fits_3 6 rfl rfl)
theorem dX7_fits_81 : decode cX7_fits 81 = .ok (.iload_n 3, 1) := dk_29 (dk_at dksX7_fits_3 9 rfl rfl)
theorem dX7_fits_82 : decode cX7_fits 82 = .ok (.iload_n 2, 1) := dk_28 (dk_at dksX7_fits_3 10 rfl rfl)
theorem dX7_fits_83 : decode cX7_fits 83 = .ok (.if_icmp .ne 18, 3) := dk_160 0 18 (dk_at dksX7_fits_3 11 rfl rfl)
theorem dX7_fits_86 : decode cX7_fits 86 = .ok (.iload_n 3, 1) := dk_29 (dk_at dksX7_fits_3 14 rfl rfl)
theorem dX7_fits_87 : decode cX7_fits 87 = .ok (.aload_n 0, 1) := dk_42 (dk_at dksX7_fits_3 15 rfl rfl)
theorem dX7_fits_88 : decode cX7_fits 88 = .ok (.iload_n 1, 1) := dk_27 (dk_at dksX7_fits_3 16 rfl rfl)
theorem dX7_fits_89 : decode cX7_fits 89 = .ok (.bipush 6, 2) := dk_16 6 (dk_at dksX7_fits_3 17 rfl rfl)
theorem dX7_fits_91 : decode cX7_fits 91 = .ok (.invokevirtual 127, 3) := dk_182 0 127 (dk_at dksX7_fits_3 19 rfl rfl)
theorem dX7_fits_94 : decode cX7_fits 94 = .ok (.if_icmp .ne 7, 3) := dk_160 0 7 (dk_at dksX7_fits_4 0 rfl rfl)
theorem dX7_fits_97 : decode cX7_fits 97 = .ok (.iconst (-1), 1) := dk_2 (dk_at dksX7_fits_4 3 rfl rfl)
theorem dX7_fits_98 : decode cX7_fits 98 = .ok (.goto 4, 3) := dk_167 0 4 (dk_at dksX7_fits_4 4 rfl rfl)
theorem dX7_fits_101 : decode cX7_fits 101 = .ok (.iload_n 3, 1) := dk_29 (dk_at dksX7_fits_4 7 rfl rfl)
theorem dX7_fits_102 : decode cX7_fits 102 = .ok (.ireturn, 1) := dk_172 (dk_at dksX7_fits_4 8 rfl rfl)
abbrev cX7_play : ByteArray := prog_23_method_88_code
def yX7_play : MethodName := ⟨RX7, "play", "(III)I"⟩
def dkwX7_play_18 : List UInt8 := [7, 160, 0, 8, 21, 8, 167, 0, 5, 21, 9, 172]
abbrev dktX7_play_18 : List UInt8 := dkwX7_play_18 ++ []
def dkwX7_play_17 : List UInt8 := [167, 0, 35, 29, 5, 160, 0, 8, 21, 6, 167, 0, 25, 29, 6, 160, 0, 8, 21, 7, 167, 0, 15, 29]
abbrev dktX7_play_17 : List UInt8 := dkwX7_play_17 ++ dktX7_play_18
def dkwX7_play_16 : List UInt8 := [132, 10, 1, 167, 255, 231, 29, 154, 0, 8, 21, 4, 167, 0, 45, 29, 4, 160, 0, 8, 21, 5]
abbrev dktX7_play_16 : List UInt8 := dkwX7_play_16 ++ dktX7_play_17
def dkwX7_play_15 : List UInt8 := [21, 10, 17, 3, 172, 162, 0, 23, 42, 180, 0, 7, 21, 10, 42, 180, 0, 16, 21, 10, 46, 79]
abbrev dktX7_play_15 : List UInt8 := dkwX7_play_15 ++ dktX7_play_16
def dkwX7_play_14 : List UInt8 := [182, 0, 232, 164, 0, 8, 21, 10, 167, 0, 5, 21, 9, 54, 9, 132, 10, 1, 167, 255, 201, 3, 54, 10]
abbrev dktX7_play_14 : List UInt8 := dkwX7_play_14 ++ dktX7_play_15
def dkwX7_play_13 : List UInt8 := [21, 10, 182, 0, 232, 96, 54, 8, 21, 9, 2, 159, 0, 18, 42, 21, 10, 182, 0, 232, 42, 21, 9]
abbrev dktX7_play_13 : List UInt8 := dkwX7_play_13 ++ dktX7_play_14
def dkwX7_play_12 : List UInt8 := [132, 10, 1, 167, 255, 221, 3, 54, 10, 21, 10, 42, 180, 0, 7, 4, 46, 162, 0, 50, 21, 8, 42]
abbrev dktX7_play_12 : List UInt8 := dkwX7_play_12 ++ dktX7_play_13
def dkwX7_play_11 : List UInt8 := [162, 0, 30, 21, 7, 42, 21, 10, 5, 182, 0, 127, 2, 160, 0, 7, 3, 167, 0, 4, 4, 96, 54, 7]
abbrev dktX7_play_11 : List UInt8 := dkwX7_play_11 ++ dktX7_play_12
def dkwX7_play_10 : List UInt8 := [167, 255, 115, 3, 54, 7, 3, 54, 8, 2, 54, 9, 3, 54, 10, 21, 10, 42, 180, 0, 7, 6, 46]
abbrev dktX7_play_10 : List UInt8 := dkwX7_play_10 ++ dktX7_play_11
def dkwX7_play_9 : List UInt8 := [167, 0, 4, 3, 96, 54, 5, 132, 8, 1, 167, 255, 136, 42, 4, 182, 0, 141, 87, 132, 7, 1]
abbrev dktX7_play_9 : List UInt8 := dkwX7_play_9 ++ dktX7_play_10
def dkwX7_play_8 : List UInt8 := [167, 0, 4, 3, 96, 54, 4, 21, 5, 21, 11, 2, 159, 0, 14, 42, 180, 1, 22, 154, 0, 7, 4]
abbrev dktX7_play_8 : List UInt8 := dkwX7_play_8 ++ dktX7_play_9
def dkwX7_play_7 : List UInt8 := [167, 0, 4, 3, 96, 54, 6, 21, 4, 21, 11, 2, 159, 0, 14, 42, 180, 1, 22, 153, 0, 7, 4]
abbrev dktX7_play_7 : List UInt8 := dkwX7_play_7 ++ dktX7_play_8
def dkwX7_play_6 : List UInt8 := [54, 10, 42, 21, 8, 21, 9, 21, 10, 182, 1, 25, 54, 11, 21, 6, 21, 11, 2, 160, 0, 7, 4]
abbrev dktX7_play_6 : List UInt8 := dkwX7_play_6 ++ dktX7_play_7
def dkwX7_play_5 : List UInt8 := [182, 1, 72, 54, 9, 21, 9, 21, 8, 160, 0, 6, 167, 0, 87, 42, 16, 9, 182, 1, 72, 4, 96]
abbrev dktX7_play_5 : List UInt8 := dkwX7_play_5 ++ dktX7_play_6
def dkwX7_play_4 : List UInt8 := [162, 0, 141, 3, 54, 8, 21, 8, 42, 180, 0, 7, 4, 46, 162, 0, 115, 42, 42, 180, 0, 7, 4, 46]
abbrev dktX7_play_4 : List UInt8 := dkwX7_play_4 ++ dktX7_play_5
def dkwX7_play_3 : List UInt8 := [167, 255, 231, 42, 27, 181, 1, 69, 3, 54, 4, 3, 54, 5, 3, 54, 6, 3, 54, 7, 21, 7, 28]
abbrev dktX7_play_3 : List UInt8 := dkwX7_play_3 ++ dktX7_play_4
def dkwX7_play_2 : List UInt8 := [17, 3, 172, 162, 0, 23, 42, 180, 0, 16, 21, 4, 42, 180, 0, 7, 21, 4, 46, 79, 132, 4, 1]
abbrev dktX7_play_2 : List UInt8 := dkwX7_play_2 ++ dktX7_play_3
def dkwX7_play_1 : List UInt8 := [5, 167, 0, 4, 3, 181, 0, 53, 42, 180, 0, 53, 158, 0, 5, 3, 172, 3, 54, 4, 21, 4]
abbrev dktX7_play_1 : List UInt8 := dkwX7_play_1 ++ dktX7_play_2
def dkwX7_play_0 : List UInt8 := [42, 28, 3, 16, 60, 184, 0, 56, 154, 0, 7, 4, 167, 0, 17, 29, 3, 8, 184, 0, 56, 154, 0, 7]
abbrev dktX7_play_0 : List UInt8 := dkwX7_play_0 ++ dktX7_play_1
theorem dksX7_play_0 : cX7_play.data.toList.drop 0 = dktX7_play_0 := by decide +kernel
theorem dksX7_play_1 : cX7_play.data.toList.drop 24 = dktX7_play_1 := dk_seg dksX7_play_0 24 rfl rfl
theorem dksX7_play_2 : cX7_play.data.toList.drop 46 = dktX7_play_2 := dk_seg dksX7_play_1 22 rfl rfl
theorem dksX7_play_3 : cX7_play.data.toList.drop 69 = dktX7_play_3 := dk_seg dksX7_play_2 23 rfl rfl
theorem dksX7_play_4 : cX7_play.data.toList.drop 92 = dktX7_play_4 := dk_seg dksX7_play_3 23 rfl rfl
theorem dksX7_play_5 : cX7_play.data.toList.drop 116 = dktX7_play_5 := dk_seg dksX7_play_4 24 rfl rfl
theorem dksX7_play_6 : cX7_play.data.toList.drop 139 = dktX7_play_6 := dk_seg dksX7_play_5 23 rfl rfl
theorem dksX7_play_7 : cX7_play.data.toList.drop 162 = dktX7_play_7 := dk_seg dksX7_play_6 23 rfl rfl
theorem dksX7_play_8 : cX7_play.data.toList.drop 185 = dktX7_play_8 := dk_seg dksX7_play_7 23 rfl rfl
theorem dksX7_play_9 : cX7_play.data.toList.drop 208 = dktX7_play_9 := dk_seg dksX7_play_8 23 rfl rfl
theorem dksX7_play_10 : cX7_play.data.toList.drop 230 = dktX7_play_10 := dk_seg dksX7_play_9 22 rfl rfl
theorem dksX7_play_11 : cX7_play.data.toList.drop 253 = dktX7_play_11 := dk_seg dksX7_play_10 23 rfl rfl
theorem dksX7_play_12 : cX7_play.data.toList.drop 277 = dktX7_play_12 := dk_seg dksX7_play_11 24 rfl rfl
theorem dksX7_play_13 : cX7_play.data.toList.drop 300 = dktX7_play_13 := dk_seg dksX7_play_12 23 rfl rfl
theorem dksX7_play_14 : cX7_play.data.toList.drop 323 = dktX7_play_14 := dk_seg dksX7_play_13 23 rfl rfl
theorem dksX7_play_15 : cX7_play.data.toList.drop 347 = dktX7_play_15 := dk_seg dksX7_play_14 24 rfl rfl
theorem dksX7_play_16 : cX7_play.data.toList.drop 369 = dktX7_play_16 := dk_seg dksX7_play_15 22 rfl rfl
theorem dksX7_play_17 : cX7_play.data.toList.drop 391 = dktX7_play_17 := dk_seg dksX7_play_16 22 rfl rfl
theorem dksX7_play_18 : cX7_play.data.toList.drop 415 = dktX7_play_18 := dk_seg dksX7_play_17 24 rfl rfl
theorem dX7_play_0 : decode cX7_play 0 = .ok (.aload_n 0, 1) := dk_42 (dk_at dksX7_play_0 0 rfl rfl)
theorem dX7_play_1 : decode cX7_play 1 = .ok (.iload_n 2, 1) := dk_28 (dk_at dksX7_play_0 1 rfl rfl)
theorem dX7_play_2 : decode cX7_play 2 = .ok (.iconst 0, 1) := dk_3 (dk_at dksX7_play_0 2 rfl rfl)
theorem dX7_play_3 : decode cX7_play 3 = .ok (.bipush 60, 2) := dk_16 60 (dk_at dksX7_play_0 3 rfl rfl)
theorem dX7_play_5 : decode cX7_play 5 = .ok (.invokestatic 56, 3) := dk_184 0 56 (dk_at dksX7_play_0 5 rfl rfl)
theorem dX7_play_8 : decode cX7_play 8 = .ok (.ifCond .ne 7, 3) := dk_154 0 7 (dk_at dksX7_play_0 8 rfl rfl)
theorem dX7_play_11 : decode cX7_play 11 = .ok (.iconst 1, 1) := dk_4 (dk_at dksX7_play_0 11 rfl rfl)
theorem dX7_play_12 : decode cX7_play 12 = .ok (.goto 17, 3) := dk_167 0 17 (dk_at dksX7_play_0 12 rfl rfl)
theorem dX7_play_15 : decode cX7_play 15 = .ok (.iload_n 3, 1) := dk_29 (dk_at dksX7_play_0 15 rfl rfl)
theorem dX7_play_16 : decode cX7_play 16 = .ok (.iconst 0, 1) := dk_3 (dk_at dksX7_play_0 16 rfl rfl)
theorem dX7_play_17 : decode cX7_play 17 = .ok (.iconst 5, 1) := dk_8 (dk_at dksX7_play_0 17 rfl rfl)
theorem dX7_play_18 : decode cX7_play 18 = .ok (.invokestatic 56, 3) := dk_184 0 56 (dk_at dksX7_play_0 18 rfl rfl)
theorem dX7_play_21 : decode cX7_play 21 = .ok (.ifCond .ne 7, 3) := dk_154 0 7 (dk_at dksX7_play_0 21 rfl rfl)
theorem dX7_play_24 : decode cX7_play 24 = .ok (.iconst 2, 1) := dk_5 (dk_at dksX7_play_1 0 rfl rfl)
theorem dX7_play_25 : decode cX7_play 25 = .ok (.goto 4, 3) := dk_167 0 4 (dk_at dksX7_play_1 1 rfl rfl)
theorem dX7_play_28 : decode cX7_play 28 = .ok (.iconst 0, 1) := dk_3 (dk_at dksX7_play_1 4 rfl rfl)
theorem dX7_play_29 : decode cX7_play 29 = .ok (.putfield 53, 3) := dk_181 0 53 (dk_at dksX7_play_1 5 rfl rfl)
theorem dX7_play_32 : decode cX7_play 32 = .ok (.aload_n 0, 1) := dk_42 (dk_at dksX7_play_1 8 rfl rfl)
theorem dX7_play_33 : decode cX7_play 33 = .ok (.getfield 53, 3) := dk_180 0 53 (dk_at dksX7_play_1 9 rfl rfl)
theorem dX7_play_36 : decode cX7_play 36 = .ok (.ifCond .le 5, 3) := dk_158 0 5 (dk_at dksX7_play_1 12 rfl rfl)
theorem dX7_play_39 : decode cX7_play 39 = .ok (.iconst 0, 1) := dk_3 (dk_at dksX7_play_1 15 rfl rfl)
theorem dX7_play_40 : decode cX7_play 40 = .ok (.ireturn, 1) := dk_172 (dk_at dksX7_play_1 16 rfl rfl)
theorem dX7_play_41 : decode cX7_play 41 = .ok (.iconst 0, 1) := dk_3 (dk_at dksX7_play_1 17 rfl rfl)
theorem dX7_play_42 : decode cX7_play 42 = .ok (.istore 4, 2) := dk_54 4 (dk_at dksX7_play_1 18 rfl rfl)
theorem dX7_play_44 : decode cX7_play 44 = .ok (.iload 4, 2) := dk_21 4 (dk_at dksX7_play_1 20 rfl rfl)
theorem dX7_play_46 : decode cX7_play 46 = .ok (.sipush 940, 3) := dk_17 3 172 (dk_at dksX7_play_2 0 rfl rfl)
theorem dX7_play_49 : decode cX7_play 49 = .ok (.if_icmp .ge 23, 3) := dk_162 0 23 (dk_at dksX7_play_2 3 rfl rfl)
theorem dX7_play_52 : decode cX7_play 52 = .ok (.aload_n 0, 1) := dk_42 (dk_at dksX7_play_2 6 rfl rfl)
theorem dX7_play_53 : decode cX7_play 53 = .ok (.getfield 16, 3) := dk_180 0 16 (dk_at dksX7_play_2 7 rfl rfl)
theorem dX7_play_56 : decode cX7_play 56 = .ok (.iload 4, 2) := dk_21 4 (dk_at dksX7_play_2 10 rfl rfl)
theorem dX7_play_58 : decode cX7_play 58 = .ok (.aload_n 0, 1) := dk_42 (dk_at dksX7_play_2 12 rfl rfl)
theorem dX7_play_59 : decode cX7_play 59 = .ok (.getfield 7, 3) := dk_180 0 7 (dk_at dksX7_play_2 13 rfl rfl)
theorem dX7_play_62 : decode cX7_play 62 = .ok (.iload 4, 2) := dk_21 4 (dk_at dksX7_play_2 16 rfl rfl)
theorem dX7_play_64 : decode cX7_play 64 = .ok (.iaload, 1) := dk_46 (dk_at dksX7_play_2 18 rfl rfl)
theorem dX7_play_65 : decode cX7_play 65 = .ok (.iastore, 1) := dk_79 (dk_at dksX7_play_2 19 rfl rfl)
theorem dX7_play_66 : decode cX7_play 66 = .ok (.iinc 4 1, 3) := dk_132 4 1 (dk_at dksX7_play_2 20 rfl rfl)
theorem dX7_play_69 : decode cX7_play 69 = .ok (.goto (-25), 3) := dk_167 255 231 (dk_at dksX7_play_3 0 rfl rfl)
theorem dX7_play_72 : decode cX7_play 72 = .ok (.aload_n 0, 1) := dk_42 (dk_at dksX7_play_3 3 rfl rfl)
theorem dX7_play_73 : decode cX7_play 73 = .ok (.iload_n 1, 1) := dk_27 (dk_at dksX7_play_3 4 rfl rfl)
theorem dX7_play_74 : decode cX7_play 74 = .ok (.putfield 325, 3) := dk_181 1 69 (dk_at dksX7_play_3 5 rfl rfl)
theorem dX7_play_77 : decode cX7_play 77 = .ok (.iconst 0, 1) := dk_3 (dk_at dksX7_play_3 8 rfl rfl)
theorem dX7_play_78 : decode cX7_play 78 = .ok (.istore 4, 2) := dk_54 4 (dk_at dksX7_play_3 9 rfl rfl)
theorem dX7_play_80 : decode cX7_play 80 = .ok (.iconst 0, 1) := dk_3 (dk_at dksX7_play_3 11 rfl rfl)
theorem dX7_play_81 : decode cX7_play 81 = .ok (.istore 5, 2) := dk_54 5 (dk_at dksX7_play_3 12 rfl rfl)
theorem dX7_play_83 : decode cX7_play 83 = .ok (.iconst 0, 1) := dk_3 (dk_at dksX7_play_3 14 rfl rfl)
theorem dX7_play_84 : decode cX7_play 84 = .ok (.istore 6, 2) := dk_54 6 (dk_at dksX7_play_3 15 rfl rfl)
theorem dX7_play_86 : decode cX7_play 86 = .ok (.iconst 0, 1) := dk_3 (dk_at dksX7_play_3 17 rfl rfl)
theorem dX7_play_87 : decode cX7_play 87 = .ok (.istore 7, 2) := dk_54 7 (dk_at dksX7_play_3 18 rfl rfl)
theorem dX7_play_89 : decode cX7_play 89 = .ok (.iload 7, 2) := dk_21 7 (dk_at dksX7_play_3 20 rfl rfl)
theorem dX7_play_91 : decode cX7_play 91 = .ok (.iload_n 2, 1) := dk_28 (dk_at dksX7_play_3 22 rfl rfl)
theorem dX7_play_92 : decode cX7_play 92 = .ok (.if_icmp .ge 141, 3) := dk_162 0 141 (dk_at dksX7_play_4 0 rfl rfl)
theorem dX7_play_95 : decode cX7_play 95 = .ok (.iconst 0, 1) := dk_3 (dk_at dksX7_play_4 3 rfl rfl)
theorem dX7_play_96 : decode cX7_play 96 = .ok (.istore 8, 2) := dk_54 8 (dk_at dksX7_play_4 4 rfl rfl)
theorem dX7_play_98 : decode cX7_play 98 = .ok (.iload 8, 2) := dk_21 8 (dk_at dksX7_play_4 6 rfl rfl)
theorem dX7_play_100 : decode cX7_play 100 = .ok (.aload_n 0, 1) := dk_42 (dk_at dksX7_play_4 8 rfl rfl)
theorem dX7_play_101 : decode cX7_play 101 = .ok (.getfield 7, 3) := dk_180 0 7 (dk_at dksX7_play_4 9 rfl rfl)
theorem dX7_play_104 : decode cX7_play 104 = .ok (.iconst 1, 1) := dk_4 (dk_at dksX7_play_4 12 rfl rfl)
theorem dX7_play_105 : decode cX7_play 105 = .ok (.iaload, 1) := dk_46 (dk_at dksX7_play_4 13 rfl rfl)
theorem dX7_play_106 : decode cX7_play 106 = .ok (.if_icmp .ge 115, 3) := dk_162 0 115 (dk_at dksX7_play_4 14 rfl rfl)
theorem dX7_play_109 : decode cX7_play 109 = .ok (.aload_n 0, 1) := dk_42 (dk_at dksX7_play_4 17 rfl rfl)
theorem dX7_play_110 : decode cX7_play 110 = .ok (.aload_n 0, 1) := dk_42 (dk_at dksX7_play_4 18 rfl rfl)
theorem dX7_play_111 : decode cX7_play 111 = .ok (.getfield 7, 3) := dk_180 0 7 (dk_at dksX7_play_4 19 rfl rfl)
theorem dX7_play_114 : decode cX7_play 114 = .ok (.iconst 1, 1) := dk_4 (dk_at dksX7_play_4 22 rfl rfl)
theorem dX7_play_115 : decode cX7_play 115 = .ok (.iaload, 1) := dk_46 (dk_at dksX7_play_4 23 rfl rfl)
theorem dX7_play_116 : decode cX7_play 116 = .ok (.invokevirtual 328, 3) := dk_182 1 72 (dk_at dksX7_play_5 0 rfl rfl)
theorem dX7_play_119 : decode cX7_play 119 = .ok (.istore 9, 2) := dk_54 9 (dk_at dksX7_play_5 3 rfl rfl)
theorem dX7_play_121 : decode cX7_play 121 = .ok (.iload 9, 2) := dk_21 9 (dk_at dksX7_play_5 5 rfl rfl)
theorem dX7_play_123 : decode cX7_play 123 = .ok (.iload 8, 2) := dk_21 8 (dk_at dksX7_play_5 7 rfl rfl)
theorem dX7_play_125 : decode cX7_play 125 = .ok (.if_icmp .ne 6, 3) := dk_160 0 6 (dk_at dksX7_play_5 9 rfl rfl)
theorem dX7_play_128 : decode cX7_play 128 = .ok (.goto 87, 3) := dk_167 0 87 (dk_at dksX7_play_5 12 rfl rfl)
theorem dX7_play_131 : decode cX7_play 131 = .ok (.aload_n 0, 1) := dk_42 (dk_at dksX7_play_5 15 rfl rfl)
theorem dX7_play_132 : decode cX7_play 132 = .ok (.bipush 9, 2) := dk_16 9 (dk_at dksX7_play_5 16 rfl rfl)
theorem dX7_play_134 : decode cX7_play 134 = .ok (.invokevirtual 328, 3) := dk_182 1 72 (dk_at dksX7_play_5 18 rfl rfl)
theorem dX7_play_137 : decode cX7_play 137 = .ok (.iconst 1, 1) := dk_4 (dk_at dksX7_play_5 21 rfl rfl)
theorem dX7_play_138 : decode cX7_play 138 = .ok (.iadd, 1) := dk_96 (dk_at dksX7_play_5 22 rfl rfl)
theorem dX7_play_139 : decode cX7_play 139 = .ok (.istore 10, 2) := dk_54 10 (dk_at dksX7_play_6 0 rfl rfl)
theorem dX7_play_141 : decode cX7_play 141 = .ok (.aload_n 0, 1) := dk_42 (dk_at dksX7_play_6 2 rfl rfl)
theorem dX7_play_142 : decode cX7_play 142 = .ok (.iload 8, 2) := dk_21 8 (dk_at dksX7_play_6 3 rfl rfl)
theorem dX7_play_144 : decode cX7_play 144 = .ok (.iload 9, 2) := dk_21 9 (dk_at dksX7_play_6 5 rfl rfl)
theorem dX7_play_146 : decode cX7_play 146 = .ok (.iload 10, 2) := dk_21 10 (dk_at dksX7_play_6 7 rfl rfl)
theorem dX7_play_148 : decode cX7_play 148 = .ok (.invokevirtual 281, 3) := dk_182 1 25 (dk_at dksX7_play_6 9 rfl rfl)
theorem dX7_play_151 : decode cX7_play 151 = .ok (.istore 11, 2) := dk_54 11 (dk_at dksX7_play_6 12 rfl rfl)
theorem dX7_play_153 : decode cX7_play 153 = .ok (.iload 6, 2) := dk_21 6 (dk_at dksX7_play_6 14 rfl rfl)
theorem dX7_play_155 : decode cX7_play 155 = .ok (.iload 11, 2) := dk_21 11 (dk_at dksX7_play_6 16 rfl rfl)
theorem dX7_play_157 : decode cX7_play 157 = .ok (.iconst (-1), 1) := dk_2 (dk_at dksX7_play_6 18 rfl rfl)
theorem dX7_play_158 : decode cX7_play 158 = .ok (.if_icmp .ne 7, 3) := dk_160 0 7 (dk_at dksX7_play_6 19 rfl rfl)
theorem dX7_play_161 : decode cX7_play 161 = .ok (.iconst 1, 1) := dk_4 (dk_at dksX7_play_6 22 rfl rfl)
theorem dX7_play_162 : decode cX7_play 162 = .ok (.goto 4, 3) := dk_167 0 4 (dk_at dksX7_play_7 0 rfl rfl)
theorem dX7_play_165 : decode cX7_play 165 = .ok (.iconst 0, 1) := dk_3 (dk_at dksX7_play_7 3 rfl rfl)
theorem dX7_play_166 : decode cX7_play 166 = .ok (.iadd, 1) := dk_96 (dk_at dksX7_play_7 4 rfl rfl)
theorem dX7_play_167 : decode cX7_play 167 = .ok (.istore 6, 2) := dk_54 6 (dk_at dksX7_play_7 5 rfl rfl)
theorem dX7_play_169 : decode cX7_play 169 = .ok (.iload 4, 2) := dk_21 4 (dk_at dksX7_play_7 7 rfl rfl)
theorem dX7_play_171 : decode cX7_play 171 = .ok (.iload 11, 2) := dk_21 11 (dk_at dksX7_play_7 9 rfl rfl)
theorem dX7_play_173 : decode cX7_play 173 = .ok (.iconst (-1), 1) := dk_2 (dk_at dksX7_play_7 11 rfl rfl)
theorem dX7_play_174 : decode cX7_play 174 = .ok (.if_icmp .eq 14, 3) := dk_159 0 14 (dk_at dksX7_play_7 12 rfl rfl)
theorem dX7_play_177 : decode cX7_play 177 = .ok (.aload_n 0, 1) := dk_42 (dk_at dksX7_play_7 15 rfl rfl)
theorem dX7_play_178 : decode cX7_play 178 = .ok (.getfield 278, 3) := dk_180 1 22 (dk_at dksX7_play_7 16 rfl rfl)
theorem dX7_play_181 : decode cX7_play 181 = .ok (.ifCond .eq 7, 3) := dk_153 0 7 (dk_at dksX7_play_7 19 rfl rfl)
theorem dX7_play_184 : decode cX7_play 184 = .ok (.iconst 1, 1) := dk_4 (dk_at dksX7_play_7 22 rfl rfl)
theorem dX7_play_185 : decode cX7_play 185 = .ok (.goto 4, 3) := dk_167 0 4 (dk_at dksX7_play_8 0 rfl rfl)
theorem dX7_play_188 : decode cX7_play 188 = .ok (.iconst 0, 1) := dk_3 (dk_at dksX7_play_8 3 rfl rfl)
theorem dX7_play_189 : decode cX7_play 189 = .ok (.iadd, 1) := dk_96 (dk_at dksX7_play_8 4 rfl rfl)
theorem dX7_play_190 : decode cX7_play 190 = .ok (.istore 4, 2) := dk_54 4 (dk_at dksX7_play_8 5 rfl rfl)
theorem dX7_play_192 : decode cX7_play 192 = .ok (.iload 5, 2) := dk_21 5 (dk_at dksX7_play_8 7 rfl rfl)
theorem dX7_play_194 : decode cX7_play 194 = .ok (.iload 11, 2) := dk_21 11 (dk_at dksX7_play_8 9 rfl rfl)
theorem dX7_play_196 : decode cX7_play 196 = .ok (.iconst (-1), 1) := dk_2 (dk_at dksX7_play_8 11 rfl rfl)
theorem dX7_play_197 : decode cX7_play 197 = .ok (.if_icmp .eq 14, 3) := dk_159 0 14 (dk_at dksX7_play_8 12 rfl rfl)
theorem dX7_play_200 : decode cX7_play 200 = .ok (.aload_n 0, 1) := dk_42 (dk_at dksX7_play_8 15 rfl rfl)
theorem dX7_play_201 : decode cX7_play 201 = .ok (.getfield 278, 3) := dk_180 1 22 (dk_at dksX7_play_8 16 rfl rfl)
theorem dX7_play_204 : decode cX7_play 204 = .ok (.ifCond .ne 7, 3) := dk_154 0 7 (dk_at dksX7_play_8 19 rfl rfl)
theorem dX7_play_207 : decode cX7_play 207 = .ok (.iconst 1, 1) := dk_4 (dk_at dksX7_play_8 22 rfl rfl)
theorem dX7_play_208 : decode cX7_play 208 = .ok (.goto 4, 3) := dk_167 0 4 (dk_at dksX7_play_9 0 rfl rfl)
theorem dX7_play_211 : decode cX7_play 211 = .ok (.iconst 0, 1) := dk_3 (dk_at dksX7_play_9 3 rfl rfl)
theorem dX7_play_212 : decode cX7_play 212 = .ok (.iadd, 1) := dk_96 (dk_at dksX7_play_9 4 rfl rfl)
theorem dX7_play_213 : decode cX7_play 213 = .ok (.istore 5, 2) := dk_54 5 (dk_at dksX7_play_9 5 rfl rfl)
theorem dX7_play_215 : decode cX7_play 215 = .ok (.iinc 8 1, 3) := dk_132 8 1 (dk_at dksX7_play_9 7 rfl rfl)
theorem dX7_play_218 : decode cX7_play 218 = .ok (.goto (-120), 3) := dk_167 255 136 (dk_at dksX7_play_9 10 rfl rfl)
theorem dX7_play_221 : decode cX7_play 221 = .ok (.aload_n 0, 1) := dk_42 (dk_at dksX7_play_9 13 rfl rfl)
theorem dX7_play_222 : decode cX7_play 222 = .ok (.iconst 1, 1) := dk_4 (dk_at dksX7_play_9 14 rfl rfl)
theorem dX7_play_223 : decode cX7_play 223 = .ok (.invokevirtual 141, 3) := dk_182 0 141 (dk_at dksX7_play_9 15 rfl rfl)
theorem dX7_play_226 : decode cX7_play 226 = .ok (.pop, 1) := dk_87 (dk_at dksX7_play_9 18 rfl rfl)
theorem dX7_play_227 : decode cX7_play 227 = .ok (.iinc 7 1, 3) := dk_132 7 1 (dk_at dksX7_play_9 19 rfl rfl)
theorem dX7_play_230 : decode cX7_play 230 = .ok (.goto (-141), 3) := dk_167 255 115 (dk_at dksX7_play_10 0 rfl rfl)
theorem dX7_play_233 : decode cX7_play 233 = .ok (.iconst 0, 1) := dk_3 (dk_at dksX7_play_10 3 rfl rfl)
theorem dX7_play_234 : decode cX7_play 234 = .ok (.istore 7, 2) := dk_54 7 (dk_at dksX7_play_10 4 rfl rfl)
theorem dX7_play_236 : decode cX7_play 236 = .ok (.iconst 0, 1) := dk_3 (dk_at dksX7_play_10 6 rfl rfl)
theorem dX7_play_237 : decode cX7_play 237 = .ok (.istore 8, 2) := dk_54 8 (dk_at dksX7_play_10 7 rfl rfl)
theorem dX7_play_239 : decode cX7_play 239 = .ok (.iconst (-1), 1) := dk_2 (dk_at dksX7_play_10 9 rfl rfl)
theorem dX7_play_240 : decode cX7_play 240 = .ok (.istore 9, 2) := dk_54 9 (dk_at dksX7_play_10 10 rfl rfl)
theorem dX7_play_242 : decode cX7_play 242 = .ok (.iconst 0, 1) := dk_3 (dk_at dksX7_play_10 12 rfl rfl)
theorem dX7_play_243 : decode cX7_play 243 = .ok (.istore 10, 2) := dk_54 10 (dk_at dksX7_play_10 13 rfl rfl)
theorem dX7_play_245 : decode cX7_play 245 = .ok (.iload 10, 2) := dk_21 10 (dk_at dksX7_play_10 15 rfl rfl)
theorem dX7_play_247 : decode cX7_play 247 = .ok (.aload_n 0, 1) := dk_42 (dk_at dksX7_play_10 17 rfl rfl)
theorem dX7_play_248 : decode cX7_play 248 = .ok (.getfield 7, 3) := dk_180 0 7 (dk_at dksX7_play_10 18 rfl rfl)
theorem dX7_play_251 : decode cX7_play 251 = .ok (.iconst 3, 1) := dk_6 (dk_at dksX7_play_10 21 rfl rfl)
theorem dX7_play_252 : decode cX7_play 252 = .ok (.iaload, 1) := dk_46 (dk_at dksX7_play_10 22 rfl rfl)
theorem dX7_play_253 : decode cX7_play 253 = .ok (.if_icmp .ge 30, 3) := dk_162 0 30 (dk_at dksX7_play_11 0 rfl rfl)
theorem dX7_play_256 : decode cX7_play 256 = .ok (.iload 7, 2) := dk_21 7 (dk_at dksX7_play_11 3 rfl rfl)
theorem dX7_play_258 : decode cX7_play 258 = .ok (.aload_n 0, 1) := dk_42 (dk_at dksX7_play_11 5 rfl rfl)
theorem dX7_play_259 : decode cX7_play 259 = .ok (.iload 10, 2) := dk_21 10 (dk_at dksX7_play_11 6 rfl rfl)
theorem dX7_play_261 : decode cX7_play 261 = .ok (.iconst 2, 1) := dk_5 (dk_at dksX7_play_11 8 rfl rfl)
theorem dX7_play_262 : decode cX7_play 262 = .ok (.invokevirtual 127, 3) := dk_182 0 127 (dk_at dksX7_play_11 9 rfl rfl)
theorem dX7_play_265 : decode cX7_play 265 = .ok (.iconst (-1), 1) := dk_2 (dk_at dksX7_play_11 12 rfl rfl)
theorem dX7_play_266 : decode cX7_play 266 = .ok (.if_icmp .ne 7, 3) := dk_160 0 7 (dk_at dksX7_play_11 13 rfl rfl)
theorem dX7_play_269 : decode cX7_play 269 = .ok (.iconst 0, 1) := dk_3 (dk_at dksX7_play_11 16 rfl rfl)
theorem dX7_play_270 : decode cX7_play 270 = .ok (.goto 4, 3) := dk_167 0 4 (dk_at dksX7_play_11 17 rfl rfl)
theorem dX7_play_273 : decode cX7_play 273 = .ok (.iconst 1, 1) := dk_4 (dk_at dksX7_play_11 20 rfl rfl)
theorem dX7_play_274 : decode cX7_play 274 = .ok (.iadd, 1) := dk_96 (dk_at dksX7_play_11 21 rfl rfl)
theorem dX7_play_275 : decode cX7_play 275 = .ok (.istore 7, 2) := dk_54 7 (dk_at dksX7_play_11 22 rfl rfl)
theorem dX7_play_277 : decode cX7_play 277 = .ok (.iinc 10 1, 3) := dk_132 10 1 (dk_at dksX7_play_12 0 rfl rfl)
theorem dX7_play_280 : decode cX7_play 280 = .ok (.goto (-35), 3) := dk_167 255 221 (dk_at dksX7_play_12 3 rfl rfl)
theorem dX7_play_283 : decode cX7_play 283 = .ok (.iconst 0, 1) := dk_3 (dk_at dksX7_play_12 6 rfl rfl)
theorem dX7_play_284 : decode cX7_play 284 = .ok (.istore 10, 2) := dk_54 10 (dk_at dksX7_play_12 7 rfl rfl)
theorem dX7_play_286 : decode cX7_play 286 = .ok (.iload 10, 2) := dk_21 10 (dk_at dksX7_play_12 9 rfl rfl)
theorem dX7_play_288 : decode cX7_play 288 = .ok (.aload_n 0, 1) := dk_42 (dk_at dksX7_play_12 11 rfl rfl)
theorem dX7_play_289 : decode cX7_play 289 = .ok (.getfield 7, 3) := dk_180 0 7 (dk_at dksX7_play_12 12 rfl rfl)
theorem dX7_play_292 : decode cX7_play 292 = .ok (.iconst 1, 1) := dk_4 (dk_at dksX7_play_12 15 rfl rfl)
theorem dX7_play_293 : decode cX7_play 293 = .ok (.iaload, 1) := dk_46 (dk_at dksX7_play_12 16 rfl rfl)
theorem dX7_play_294 : decode cX7_play 294 = .ok (.if_icmp .ge 50, 3) := dk_162 0 50 (dk_at dksX7_play_12 17 rfl rfl)
theorem dX7_play_297 : decode cX7_play 297 = .ok (.iload 8, 2) := dk_21 8 (dk_at dksX7_play_12 20 rfl rfl)
theorem dX7_play_299 : decode cX7_play 299 = .ok (.aload_n 0, 1) := dk_42 (dk_at dksX7_play_12 22 rfl rfl)
theorem dX7_play_300 : decode cX7_play 300 = .ok (.iload 10, 2) := dk_21 10 (dk_at dksX7_play_13 0 rfl rfl)
theorem dX7_play_302 : decode cX7_play 302 = .ok (.invokevirtual 232, 3) := dk_182 0 232 (dk_at dksX7_play_13 2 rfl rfl)
theorem dX7_play_305 : decode cX7_play 305 = .ok (.iadd, 1) := dk_96 (dk_at dksX7_play_13 5 rfl rfl)
theorem dX7_play_306 : decode cX7_play 306 = .ok (.istore 8, 2) := dk_54 8 (dk_at dksX7_play_13 6 rfl rfl)
theorem dX7_play_308 : decode cX7_play 308 = .ok (.iload 9, 2) := dk_21 9 (dk_at dksX7_play_13 8 rfl rfl)
theorem dX7_play_310 : decode cX7_play 310 = .ok (.iconst (-1), 1) := dk_2 (dk_at dksX7_play_13 10 rfl rfl)
theorem dX7_play_311 : decode cX7_play 311 = .ok (.if_icmp .eq 18, 3) := dk_159 0 18 (dk_at dksX7_play_13 11 rfl rfl)
theorem dX7_play_314 : decode cX7_play 314 = .ok (.aload_n 0, 1) := dk_42 (dk_at dksX7_play_13 14 rfl rfl)
theorem dX7_play_315 : decode cX7_play 315 = .ok (.iload 10, 2) := dk_21 10 (dk_at dksX7_play_13 15 rfl rfl)
theorem dX7_play_317 : decode cX7_play 317 = .ok (.invokevirtual 232, 3) := dk_182 0 232 (dk_at dksX7_play_13 17 rfl rfl)
theorem dX7_play_320 : decode cX7_play 320 = .ok (.aload_n 0, 1) := dk_42 (dk_at dksX7_play_13 20 rfl rfl)
theorem dX7_play_321 : decode cX7_play 321 = .ok (.iload 9, 2) := dk_21 9 (dk_at dksX7_play_13 21 rfl rfl)
theorem dX7_play_323 : decode cX7_play 323 = .ok (.invokevirtual 232, 3) := dk_182 0 232 (dk_at dksX7_play_14 0 rfl rfl)
theorem dX7_play_326 : decode cX7_play 326 = .ok (.if_icmp .le 8, 3) := dk_164 0 8 (dk_at dksX7_play_14 3 rfl rfl)
theorem dX7_play_329 : decode cX7_play 329 = .ok (.iload 10, 2) := dk_21 10 (dk_at dksX7_play_14 6 rfl rfl)
theorem dX7_play_331 : decode cX7_play 331 = .ok (.goto 5, 3) := dk_167 0 5 (dk_at dksX7_play_14 8 rfl rfl)
theorem dX7_play_334 : decode cX7_play 334 = .ok (.iload 9, 2) := dk_21 9 (dk_at dksX7_play_14 11 rfl rfl)
theorem dX7_play_336 : decode cX7_play 336 = .ok (.istore 9, 2) := dk_54 9 (dk_at dksX7_play_14 13 rfl rfl)
theorem dX7_play_338 : decode cX7_play 338 = .ok (.iinc 10 1, 3) := dk_132 10 1 (dk_at dksX7_play_14 15 rfl rfl)
theorem dX7_play_341 : decode cX7_play 341 = .ok (.goto (-55), 3) := dk_167 255 201 (dk_at dksX7_play_14 18 rfl rfl)
theorem dX7_play_344 : decode cX7_play 344 = .ok (.iconst 0, 1) := dk_3 (dk_at dksX7_play_14 21 rfl rfl)
theorem dX7_play_345 : decode cX7_play 345 = .ok (.istore 10, 2) := dk_54 10 (dk_at dksX7_play_14 22 rfl rfl)
theorem dX7_play_347 : decode cX7_play 347 = .ok (.iload 10, 2) := dk_21 10 (dk_at dksX7_play_15 0 rfl rfl)
theorem dX7_play_349 : decode cX7_play 349 = .ok (.sipush 940, 3) := dk_17 3 172 (dk_at dksX7_play_15 2 rfl rfl)
theorem dX7_play_352 : decode cX7_play 352 = .ok (.if_icmp .ge 23, 3) := dk_162 0 23 (dk_at dksX7_play_15 5 rfl rfl)
theorem dX7_play_355 : decode cX7_play 355 = .ok (.aload_n 0, 1) := dk_42 (dk_at dksX7_play_15 8 rfl rfl)
theorem dX7_play_356 : decode cX7_play 356 = .ok (.getfield 7, 3) := dk_180 0 7 (dk_at dksX7_play_15 9 rfl rfl)
theorem dX7_play_359 : decode cX7_play 359 = .ok (.iload 10, 2) := dk_21 10 (dk_at dksX7_play_15 12 rfl rfl)
theorem dX7_play_361 : decode cX7_play 361 = .ok (.aload_n 0, 1) := dk_42 (dk_at dksX7_play_15 14 rfl rfl)
theorem dX7_play_362 : decode cX7_play 362 = .ok (.getfield 16, 3) := dk_180 0 16 (dk_at dksX7_play_15 15 rfl rfl)
theorem dX7_play_365 : decode cX7_play 365 = .ok (.iload 10, 2) := dk_21 10 (dk_at dksX7_play_15 18 rfl rfl)
theorem dX7_play_367 : decode cX7_play 367 = .ok (.iaload, 1) := dk_46 (dk_at dksX7_play_15 20 rfl rfl)
theorem dX7_play_368 : decode cX7_play 368 = .ok (.iastore, 1) := dk_79 (dk_at dksX7_play_15 21 rfl rfl)
theorem dX7_play_369 : decode cX7_play 369 = .ok (.iinc 10 1, 3) := dk_132 10 1 (dk_at dksX7_play_16 0 rfl rfl)
theorem dX7_play_372 : decode cX7_play 372 = .ok (.goto (-25), 3) := dk_167 255 231 (dk_at dksX7_play_16 3 rfl rfl)
theorem dX7_play_375 : decode cX7_play 375 = .ok (.iload_n 3, 1) := dk_29 (dk_at dksX7_play_16 6 rfl rfl)
theorem dX7_play_376 : decode cX7_play 376 = .ok (.ifCond .ne 8, 3) := dk_154 0 8 (dk_at dksX7_play_16 7 rfl rfl)
theorem dX7_play_379 : decode cX7_play 379 = .ok (.iload 4, 2) := dk_21 4 (dk_at dksX7_play_16 10 rfl rfl)
theorem dX7_play_381 : decode cX7_play 381 = .ok (.goto 45, 3) := dk_167 0 45 (dk_at dksX7_play_16 12 rfl rfl)
theorem dX7_play_384 : decode cX7_play 384 = .ok (.iload_n 3, 1) := dk_29 (dk_at dksX7_play_16 15 rfl rfl)
theorem dX7_play_385 : decode cX7_play 385 = .ok (.iconst 1, 1) := dk_4 (dk_at dksX7_play_16 16 rfl rfl)
theorem dX7_play_386 : decode cX7_play 386 = .ok (.if_icmp .ne 8, 3) := dk_160 0 8 (dk_at dksX7_play_16 17 rfl rfl)
theorem dX7_play_389 : decode cX7_play 389 = .ok (.iload 5, 2) := dk_21 5 (dk_at dksX7_play_16 20 rfl rfl)
theorem dX7_play_391 : decode cX7_play 391 = .ok (.goto 35, 3) := dk_167 0 35 (dk_at dksX7_play_17 0 rfl rfl)
theorem dX7_play_394 : decode cX7_play 394 = .ok (.iload_n 3, 1) := dk_29 (dk_at dksX7_play_17 3 rfl rfl)
theorem dX7_play_395 : decode cX7_play 395 = .ok (.iconst 2, 1) := dk_5 (dk_at dksX7_play_17 4 rfl rfl)
theorem dX7_play_396 : decode cX7_play 396 = .ok (.if_icmp .ne 8, 3) := dk_160 0 8 (dk_at dksX7_play_17 5 rfl rfl)
theorem dX7_play_399 : decode cX7_play 399 = .ok (.iload 6, 2) := dk_21 6 (dk_at dksX7_play_17 8 rfl rfl)
theorem dX7_play_401 : decode cX7_play 401 = .ok (.goto 25, 3) := dk_167 0 25 (dk_at dksX7_play_17 10 rfl rfl)
theorem dX7_play_404 : decode cX7_play 404 = .ok (.iload_n 3, 1) := dk_29 (dk_at dksX7_play_17 13 rfl rfl)
theorem dX7_play_405 : decode cX7_play 405 = .ok (.iconst 3, 1) := dk_6 (dk_at dksX7_play_17 14 rfl rfl)
theorem dX7_play_406 : decode cX7_play 406 = .ok (.if_icmp .ne 8, 3) := dk_160 0 8 (dk_at dksX7_play_17 15 rfl rfl)
theorem dX7_play_409 : decode cX7_play 409 = .ok (.iload 7, 2) := dk_21 7 (dk_at dksX7_play_17 18 rfl rfl)
theorem dX7_play_411 : decode cX7_play 411 = .ok (.goto 15, 3) := dk_167 0 15 (dk_at dksX7_play_17 20 rfl rfl)
theorem dX7_play_414 : decode cX7_play 414 = .ok (.iload_n 3, 1) := dk_29 (dk_at dksX7_play_17 23 rfl rfl)
theorem dX7_play_415 : decode cX7_play 415 = .ok (.iconst 4, 1) := dk_7 (dk_at dksX7_play_18 0 rfl rfl)
theorem dX7_play_416 : decode cX7_play 416 = .ok (.if_icmp .ne 8, 3) := dk_160 0 8 (dk_at dksX7_play_18 1 rfl rfl)
theorem dX7_play_419 : decode cX7_play 419 = .ok (.iload 8, 2) := dk_21 8 (dk_at dksX7_play_18 4 rfl rfl)
theorem dX7_play_421 : decode cX7_play 421 = .ok (.goto 5, 3) := dk_167 0 5 (dk_at dksX7_play_18 6 rfl rfl)
theorem dX7_play_424 : decode cX7_play 424 = .ok (.iload 9, 2) := dk_21 9 (dk_at dksX7_play_18 9 rfl rfl)
theorem dX7_play_426 : decode cX7_play 426 = .ok (.ireturn, 1) := dk_172 (dk_at dksX7_play_18 11 rfl rfl)
abbrev cX7_draws : ByteArray := prog_23_method_87_code
def yX7_draws : MethodName := ⟨RX7, "draws", "(I)I"⟩
def dkwX7_draws_1 : List UInt8 := [17, 127, 255, 126, 27, 112, 172]
abbrev dktX7_draws_1 : List UInt8 := dkwX7_draws_1 ++ []
def dkwX7_draws_0 : List UInt8 := [42, 19, 1, 68, 42, 180, 1, 69, 104, 17, 48, 57, 96, 181, 1, 69, 42, 180, 1, 69, 16, 16, 124]
abbrev dktX7_draws_0 : List UInt8 := dkwX7_draws_0 ++ dktX7_draws_1
theorem dksX7_draws_0 : cX7_draws.data.toList.drop 0 = dktX7_draws_0 := by decide +kernel
theorem dksX7_draws_1 : cX7_draws.data.toList.drop 23 = dktX7_draws_1 := dk_seg dksX7_draws_0 23 rfl rfl
theorem dX7_draws_0 : decode cX7_draws 0 = .ok (.aload_n 0, 1) := dk_42 (dk_at dksX7_draws_0 0 rfl rfl)
theorem dX7_draws_1 : decode cX7_draws 1 = .ok (.ldc_w 324, 3) := dk_19 1 68 (dk_at dksX7_draws_0 1 rfl rfl)
theorem dX7_draws_4 : decode cX7_draws 4 = .ok (.aload_n 0, 1) := dk_42 (dk_at dksX7_draws_0 4 rfl rfl)
theorem dX7_draws_5 : decode cX7_draws 5 = .ok (.getfield 325, 3) := dk_180 1 69 (dk_at dksX7_draws_0 5 rfl rfl)
theorem dX7_draws_8 : decode cX7_draws 8 = .ok (.imul, 1) := dk_104 (dk_at dksX7_draws_0 8 rfl rfl)
theorem dX7_draws_9 : decode cX7_draws 9 = .ok (.sipush 12345, 3) := dk_17 48 57 (dk_at dksX7_draws_0 9 rfl rfl)
theorem dX7_draws_12 : decode cX7_draws 12 = .ok (.iadd, 1) := dk_96 (dk_at dksX7_draws_0 12 rfl rfl)
theorem dX7_draws_13 : decode cX7_draws 13 = .ok (.putfield 325, 3) := dk_181 1 69 (dk_at dksX7_draws_0 13 rfl rfl)
theorem dX7_draws_16 : decode cX7_draws 16 = .ok (.aload_n 0, 1) := dk_42 (dk_at dksX7_draws_0 16 rfl rfl)
theorem dX7_draws_17 : decode cX7_draws 17 = .ok (.getfield 325, 3) := dk_180 1 69 (dk_at dksX7_draws_0 17 rfl rfl)
theorem dX7_draws_20 : decode cX7_draws 20 = .ok (.bipush 16, 2) := dk_16 16 (dk_at dksX7_draws_0 20 rfl rfl)
theorem dX7_draws_22 : decode cX7_draws 22 = .ok (.iushr, 1) := dk_124 (dk_at dksX7_draws_0 22 rfl rfl)
theorem dX7_draws_23 : decode cX7_draws 23 = .ok (.sipush 32767, 3) := dk_17 127 255 (dk_at dksX7_draws_1 0 rfl rfl)
theorem dX7_draws_26 : decode cX7_draws 26 = .ok (.iand, 1) := dk_126 (dk_at dksX7_draws_1 3 rfl rfl)
theorem dX7_draws_27 : decode cX7_draws 27 = .ok (.iload_n 1, 1) := dk_27 (dk_at dksX7_draws_1 4 rfl rfl)
theorem dX7_draws_28 : decode cX7_draws 28 = .ok (.irem, 1) := dk_112 (dk_at dksX7_draws_1 5 rfl rfl)
theorem dX7_draws_29 : decode cX7_draws 29 = .ok (.ireturn, 1) := dk_172 (dk_at dksX7_draws_1 6 rfl rfl)
abbrev cX7_image : ByteArray := prog_23_method_89_code
def yX7_image : MethodName := ⟨RX7, "image", "()V"⟩
def dkwX7_image_1 : List UInt8 := [46, 79, 132, 1, 1, 167, 255, 234, 42, 4, 181, 1, 75, 177]
abbrev dktX7_image_1 : List UInt8 := dkwX7_image_1 ++ []
def dkwX7_image_0 : List UInt8 := [42, 3, 181, 0, 53, 3, 60, 27, 17, 13, 18, 162, 0, 21, 42, 180, 0, 13, 27, 42, 180, 0, 7, 27]
abbrev dktX7_image_0 : List UInt8 := dkwX7_image_0 ++ dktX7_image_1
theorem dksX7_image_0 : cX7_image.data.toList.drop 0 = dktX7_image_0 := by decide +kernel
theorem dksX7_image_1 : cX7_image.data.toList.drop 24 = dktX7_image_1 := dk_seg dksX7_image_0 24 rfl rfl
theorem dX7_image_0 : decode cX7_image 0 = .ok (.aload_n 0, 1) := dk_42 (dk_at dksX7_image_0 0 rfl rfl)
theorem dX7_image_1 : decode cX7_image 1 = .ok (.iconst 0, 1) := dk_3 (dk_at dksX7_image_0 1 rfl rfl)
theorem dX7_image_2 : decode cX7_image 2 = .ok (.putfield 53, 3) := dk_181 0 53 (dk_at dksX7_image_0 2 rfl rfl)
theorem dX7_image_5 : decode cX7_image 5 = .ok (.iconst 0, 1) := dk_3 (dk_at dksX7_image_0 5 rfl rfl)
theorem dX7_image_6 : decode cX7_image 6 = .ok (.istore_n 1, 1) := dk_60 (dk_at dksX7_image_0 6 rfl rfl)
theorem dX7_image_7 : decode cX7_image 7 = .ok (.iload_n 1, 1) := dk_27 (dk_at dksX7_image_0 7 rfl rfl)
theorem dX7_image_8 : decode cX7_image 8 = .ok (.sipush 3346, 3) := dk_17 13 18 (dk_at dksX7_image_0 8 rfl rfl)
theorem dX7_image_11 : decode cX7_image 11 = .ok (.if_icmp .ge 21, 3) := dk_162 0 21 (dk_at dksX7_image_0 11 rfl rfl)
theorem dX7_image_14 : decode cX7_image 14 = .ok (.aload_n 0, 1) := dk_42 (dk_at dksX7_image_0 14 rfl rfl)
theorem dX7_image_15 : decode cX7_image 15 = .ok (.getfield 13, 3) := dk_180 0 13 (dk_at dksX7_image_0 15 rfl rfl)
theorem dX7_image_18 : decode cX7_image 18 = .ok (.iload_n 1, 1) := dk_27 (dk_at dksX7_image_0 18 rfl rfl)
theorem dX7_image_19 : decode cX7_image 19 = .ok (.aload_n 0, 1) := dk_42 (dk_at dksX7_image_0 19 rfl rfl)
theorem dX7_image_20 : decode cX7_image 20 = .ok (.getfield 7, 3) := dk_180 0 7 (dk_at dksX7_image_0 20 rfl rfl)
theorem dX7_image_23 : decode cX7_image 23 = .ok (.iload_n 1, 1) := dk_27 (dk_at dksX7_image_0 23 rfl rfl)
theorem dX7_image_24 : decode cX7_image 24 = .ok (.iaload, 1) := dk_46 (dk_at dksX7_image_1 0 rfl rfl)
theorem dX7_image_25 : decode cX7_image 25 = .ok (.iastore, 1) := dk_79 (dk_at dksX7_image_1 1 rfl rfl)
theorem dX7_image_26 : decode cX7_image 26 = .ok (.iinc 1 1, 3) := dk_132 1 1 (dk_at dksX7_image_1 2 rfl rfl)
theorem dX7_image_29 : decode cX7_image 29 = .ok (.goto (-22), 3) := dk_167 255 234 (dk_at dksX7_image_1 5 rfl rfl)
theorem dX7_image_32 : decode cX7_image 32 = .ok (.aload_n 0, 1) := dk_42 (dk_at dksX7_image_1 8 rfl rfl)
theorem dX7_image_33 : decode cX7_image 33 = .ok (.iconst 1, 1) := dk_4 (dk_at dksX7_image_1 9 rfl rfl)
theorem dX7_image_34 : decode cX7_image 34 = .ok (.putfield 331, 3) := dk_181 1 75 (dk_at dksX7_image_1 10 rfl rfl)
theorem dX7_image_37 : decode cX7_image 37 = .ok (.return_, 1) := dk_177 (dk_at dksX7_image_1 13 rfl rfl)
abbrev cX7_back : ByteArray := prog_23_method_90_code
def yX7_back : MethodName := ⟨RX7, "back", "()Z"⟩
def dkwX7_back_1 : List UInt8 := [180, 0, 7, 27, 42, 180, 0, 13, 27, 46, 79, 132, 1, 1, 167, 255, 234, 4, 172]
abbrev dktX7_back_1 : List UInt8 := dkwX7_back_1 ++ []
def dkwX7_back_0 : List UInt8 := [42, 3, 181, 0, 53, 42, 180, 1, 75, 154, 0, 5, 3, 172, 3, 60, 27, 17, 13, 18, 162, 0, 21, 42]
abbrev dktX7_back_0 : List UInt8 := dkwX7_back_0 ++ dktX7_back_1
theorem dksX7_back_0 : cX7_back.data.toList.drop 0 = dktX7_back_0 := by decide +kernel
theorem dksX7_back_1 : cX7_back.data.toList.drop 24 = dktX7_back_1 := dk_seg dksX7_back_0 24 rfl rfl
theorem dX7_back_0 : decode cX7_back 0 = .ok (.aload_n 0, 1) := dk_42 (dk_at dksX7_back_0 0 rfl rfl)
theorem dX7_back_1 : decode cX7_back 1 = .ok (.iconst 0, 1) := dk_3 (dk_at dksX7_back_0 1 rfl rfl)
theorem dX7_back_2 : decode cX7_back 2 = .ok (.putfield 53, 3) := dk_181 0 53 (dk_at dksX7_back_0 2 rfl rfl)
theorem dX7_back_5 : decode cX7_back 5 = .ok (.aload_n 0, 1) := dk_42 (dk_at dksX7_back_0 5 rfl rfl)
theorem dX7_back_6 : decode cX7_back 6 = .ok (.getfield 331, 3) := dk_180 1 75 (dk_at dksX7_back_0 6 rfl rfl)
theorem dX7_back_9 : decode cX7_back 9 = .ok (.ifCond .ne 5, 3) := dk_154 0 5 (dk_at dksX7_back_0 9 rfl rfl)
theorem dX7_back_12 : decode cX7_back 12 = .ok (.iconst 0, 1) := dk_3 (dk_at dksX7_back_0 12 rfl rfl)
theorem dX7_back_13 : decode cX7_back 13 = .ok (.ireturn, 1) := dk_172 (dk_at dksX7_back_0 13 rfl rfl)
theorem dX7_back_14 : decode cX7_back 14 = .ok (.iconst 0, 1) := dk_3 (dk_at dksX7_back_0 14 rfl rfl)
theorem dX7_back_15 : decode cX7_back 15 = .ok (.istore_n 1, 1) := dk_60 (dk_at dksX7_back_0 15 rfl rfl)
theorem dX7_back_16 : decode cX7_back 16 = .ok (.iload_n 1, 1) := dk_27 (dk_at dksX7_back_0 16 rfl rfl)
theorem dX7_back_17 : decode cX7_back 17 = .ok (.sipush 3346, 3) := dk_17 13 18 (dk_at dksX7_back_0 17 rfl rfl)
theorem dX7_back_20 : decode cX7_back 20 = .ok (.if_icmp .ge 21, 3) := dk_162 0 21 (dk_at dksX7_back_0 20 rfl rfl)
theorem dX7_back_23 : decode cX7_back 23 = .ok (.aload_n 0, 1) := dk_42 (dk_at dksX7_back_0 23 rfl rfl)
theorem dX7_back_24 : decode cX7_back 24 = .ok (.getfield 7, 3) := dk_180 0 7 (dk_at dksX7_back_1 0 rfl rfl)
theorem dX7_back_27 : decode cX7_back 27 = .ok (.iload_n 1, 1) := dk_27 (dk_at dksX7_back_1 3 rfl rfl)
theorem dX7_back_28 : decode cX7_back 28 = .ok (.aload_n 0, 1) := dk_42 (dk_at dksX7_back_1 4 rfl rfl)
theorem dX7_back_29 : decode cX7_back 29 = .ok (.getfield 13, 3) := dk_180 0 13 (dk_at dksX7_back_1 5 rfl rfl)
theorem dX7_back_32 : decode cX7_back 32 = .ok (.iload_n 1, 1) := dk_27 (dk_at dksX7_back_1 8 rfl rfl)
theorem dX7_back_33 : decode cX7_back 33 = .ok (.iaload, 1) := dk_46 (dk_at dksX7_back_1 9 rfl rfl)
theorem dX7_back_34 : decode cX7_back 34 = .ok (.iastore, 1) := dk_79 (dk_at dksX7_back_1 10 rfl rfl)
theorem dX7_back_35 : decode cX7_back 35 = .ok (.iinc 1 1, 3) := dk_132 1 1 (dk_at dksX7_back_1 11 rfl rfl)
theorem dX7_back_38 : decode cX7_back 38 = .ok (.goto (-22), 3) := dk_167 255 234 (dk_at dksX7_back_1 14 rfl rfl)
theorem dX7_back_41 : decode cX7_back 41 = .ok (.iconst 1, 1) := dk_4 (dk_at dksX7_back_1 17 rfl rfl)
theorem dX7_back_42 : decode cX7_back 42 = .ok (.ireturn, 1) := dk_172 (dk_at dksX7_back_1 18 rfl rfl)
abbrev cX7_count : ByteArray := prog_23_method_91_code
def yX7_count : MethodName := ⟨RX7, "count", "(I)I"⟩
def dkwX7_count_9 : List UInt8 := [16, 9, 160, 0, 9, 29, 5, 108, 167, 0, 4, 2, 172]
abbrev dktX7_count_9 : List UInt8 := dkwX7_count_9 ++ []
def dkwX7_count_8 : List UInt8 := [16, 6, 46, 167, 0, 32, 27, 16, 8, 160, 0, 13, 42, 180, 0, 7, 16, 7, 46, 167, 0, 16, 27]
abbrev dktX7_count_8 : List UInt8 := dkwX7_count_8 ++ dktX7_count_9
def dkwX7_count_7 : List UInt8 := [16, 6, 160, 0, 12, 42, 180, 0, 7, 8, 46, 167, 0, 48, 27, 16, 7, 160, 0, 13, 42, 180, 0, 7]
abbrev dktX7_count_7 : List UInt8 := dkwX7_count_7 ++ dktX7_count_8
def dkwX7_count_6 : List UInt8 := [7, 160, 0, 7, 28, 167, 0, 77, 27, 8, 160, 0, 12, 42, 180, 0, 7, 7, 46, 167, 0, 63, 27]
abbrev dktX7_count_6 : List UInt8 := dkwX7_count_6 ++ dktX7_count_7
def dkwX7_count_5 : List UInt8 := [42, 180, 0, 7, 5, 46, 167, 0, 100, 27, 6, 160, 0, 12, 42, 180, 0, 7, 6, 46, 167, 0, 86, 27]
abbrev dktX7_count_5 : List UInt8 := dkwX7_count_5 ++ dktX7_count_6
def dkwX7_count_4 : List UInt8 := [4, 46, 167, 0, 128, 27, 4, 160, 0, 12, 42, 180, 0, 7, 3, 46, 167, 0, 114, 27, 5, 160, 0, 12]
abbrev dktX7_count_4 : List UInt8 := dkwX7_count_4 ++ dktX7_count_5
def dkwX7_count_3 : List UInt8 := [104, 96, 5, 96, 46, 184, 1, 34, 96, 62, 132, 4, 1, 167, 255, 222, 27, 154, 0, 12, 42, 180, 0, 7]
abbrev dktX7_count_3 : List UInt8 := dkwX7_count_3 ++ dktX7_count_4
def dkwX7_count_2 : List UInt8 := [3, 54, 4, 21, 4, 42, 180, 0, 7, 4, 46, 162, 0, 29, 29, 42, 180, 0, 7, 16, 10, 6, 21, 4]
abbrev dktX7_count_2 : List UInt8 := dkwX7_count_2 ++ dktX7_count_3
def dkwX7_count_1 : List UInt8 := [42, 21, 4, 5, 182, 0, 127, 2, 160, 0, 7, 3, 167, 0, 4, 4, 96, 61, 132, 4, 1, 167, 255, 223]
abbrev dktX7_count_1 : List UInt8 := dkwX7_count_1 ++ dktX7_count_2
def dkwX7_count_0 : List UInt8 := [42, 3, 181, 0, 53, 3, 61, 3, 62, 3, 54, 4, 21, 4, 42, 180, 0, 7, 6, 46, 162, 0, 28, 28]
abbrev dktX7_count_0 : List UInt8 := dkwX7_count_0 ++ dktX7_count_1
theorem dksX7_count_0 : cX7_count.data.toList.drop 0 = dktX7_count_0 := by decide +kernel
theorem dksX7_count_1 : cX7_count.data.toList.drop 24 = dktX7_count_1 := dk_seg dksX7_count_0 24 rfl rfl
theorem dksX7_count_2 : cX7_count.data.toList.drop 48 = dktX7_count_2 := dk_seg dksX7_count_1 24 rfl rfl
theorem dksX7_count_3 : cX7_count.data.toList.drop 72 = dktX7_count_3 := dk_seg dksX7_count_2 24 rfl rfl
theorem dksX7_count_4 : cX7_count.data.toList.drop 96 = dktX7_count_4 := dk_seg dksX7_count_3 24 rfl rfl
theorem dksX7_count_5 : cX7_count.data.toList.drop 120 = dktX7_count_5 := dk_seg dksX7_count_4 24 rfl rfl
theorem dksX7_count_6 : cX7_count.data.toList.drop 144 = dktX7_count_6 := dk_seg dksX7_count_5 24 rfl rfl
theorem dksX7_count_7 : cX7_count.data.toList.drop 167 = dktX7_count_7 := dk_seg dksX7_count_6 23 rfl rfl
theorem dksX7_count_8 : cX7_count.data.toList.drop 191 = dktX7_count_8 := dk_seg dksX7_count_7 24 rfl rfl
theorem dksX7_count_9 : cX7_count.data.toList.drop 214 = dktX7_count_9 := dk_seg dksX7_count_8 23 rfl rfl
theorem dX7_count_0 : decode cX7_count 0 = .ok (.aload_n 0, 1) := dk_42 (dk_at dksX7_count_0 0 rfl rfl)
theorem dX7_count_1 : decode cX7_count 1 = .ok (.iconst 0, 1) := dk_3 (dk_at dksX7_count_0 1 rfl rfl)
theorem dX7_count_2 : decode cX7_count 2 = .ok (.putfield 53, 3) := dk_181 0 53 (dk_at dksX7_count_0 2 rfl rfl)
theorem dX7_count_5 : decode cX7_count 5 = .ok (.iconst 0, 1) := dk_3 (dk_at dksX7_count_0 5 rfl rfl)
theorem dX7_count_6 : decode cX7_count 6 = .ok (.istore_n 2, 1) := dk_61 (dk_at dksX7_count_0 6 rfl rfl)
theorem dX7_count_7 : decode cX7_count 7 = .ok (.iconst 0, 1) := dk_3 (dk_at dksX7_count_0 7 rfl rfl)
theorem dX7_count_8 : decode cX7_count 8 = .ok (.istore_n 3, 1) := dk_62 (dk_at dksX7_count_0 8 rfl rfl)
theorem dX7_count_9 : decode cX7_count 9 = .ok (.iconst 0, 1) := dk_3 (dk_at dksX7_count_0 9 rfl rfl)
theorem dX7_count_10 : decode cX7_count 10 = .ok (.istore 4, 2) := dk_54 4 (dk_at dksX7_count_0 10 rfl rfl)
theorem dX7_count_12 : decode cX7_count 12 = .ok (.iload 4, 2) := dk_21 4 (dk_at dksX7_count_0 12 rfl rfl)
theorem dX7_count_14 : decode cX7_count 14 = .ok (.aload_n 0, 1) := dk_42 (dk_at dksX7_count_0 14 rfl rfl)
theorem dX7_count_15 : decode cX7_count 15 = .ok (.getfield 7, 3) := dk_180 0 7 (dk_at dksX7_count_0 15 rfl rfl)
theorem dX7_count_18 : decode cX7_count 18 = .ok (.iconst 3, 1) := dk_6 (dk_at dksX7_count_0 18 rfl rfl)
theorem dX7_count_19 : decode cX7_count 19 = .ok (.iaload, 1) := dk_46 (dk_at dksX7_count_0 19 rfl rfl)
theorem dX7_count_20 : decode cX7_count 20 = .ok (.if_icmp .ge 28, 3) := dk_162 0 28 (dk_at dksX7_count_0 20 rfl rfl)
theorem dX7_count_23 : decode cX7_count 23 = .ok (.iload_n 2, 1) := dk_28 (dk_at dksX7_count_0 23 rfl rfl)
theorem dX7_count_24 : decode cX7_count 24 = .ok (.aload_n 0, 1) := dk_42 (dk_at dksX7_count_1 0 rfl rfl)
theorem dX7_count_25 : decode cX7_count 25 = .ok (.iload 4, 2) := dk_21 4 (dk_at dksX7_count_1 1 rfl rfl)
theorem dX7_count_27 : decode cX7_count 27 = .ok (.iconst 2, 1) := dk_5 (dk_at dksX7_count_1 3 rfl rfl)
theorem dX7_count_28 : decode cX7_count 28 = .ok (.invokevirtual 127, 3) := dk_182 0 127 (dk_at dksX7_count_1 4 rfl rfl)
theorem dX7_count_31 : decode cX7_count 31 = .ok (.iconst (-1), 1) := dk_2 (dk_at dksX7_count_1 7 rfl rfl)
theorem dX7_count_32 : decode cX7_count 32 = .ok (.if_icmp .ne 7, 3) := dk_160 0 7 (dk_at dksX7_count_1 8 rfl rfl)
theorem dX7_count_35 : decode cX7_count 35 = .ok (.iconst 0, 1) := dk_3 (dk_at dksX7_count_1 11 rfl rfl)
theorem dX7_count_36 : decode cX7_count 36 = .ok (.goto 4, 3) := dk_167 0 4 (dk_at dksX7_count_1 12 rfl rfl)
theorem dX7_count_39 : decode cX7_count 39 = .ok (.iconst 1, 1) := dk_4 (dk_at dksX7_count_1 15 rfl rfl)
theorem dX7_count_40 : decode cX7_count 40 = .ok (.iadd, 1) := dk_96 (dk_at dksX7_count_1 16 rfl rfl)
theorem dX7_count_41 : decode cX7_count 41 = .ok (.istore_n 2, 1) := dk_61 (dk_at dksX7_count_1 17 rfl rfl)
theorem dX7_count_42 : decode cX7_count 42 = .ok (.iinc 4 1, 3) := dk_132 4 1 (dk_at dksX7_count_1 18 rfl rfl)
theorem dX7_count_45 : decode cX7_count 45 = .ok (.goto (-33), 3) := dk_167 255 223 (dk_at dksX7_count_1 21 rfl rfl)
theorem dX7_count_48 : decode cX7_count 48 = .ok (.iconst 0, 1) := dk_3 (dk_at dksX7_count_2 0 rfl rfl)
theorem dX7_count_49 : decode cX7_count 49 = .ok (.istore 4, 2) := dk_54 4 (dk_at dksX7_count_2 1 rfl rfl)
theorem dX7_count_51 : decode cX7_count 51 = .ok (.iload 4, 2) := dk_21 4 (dk_at dksX7_count_2 3 rfl rfl)
theorem dX7_count_53 : decode cX7_count 53 = .ok (.aload_n 0, 1) := dk_42 (dk_at dksX7_count_2 5 rfl rfl)
theorem dX7_count_54 : decode cX7_count 54 = .ok (.getfield 7, 3) := dk_180 0 7 (dk_at dksX7_count_2 6 rfl rfl)
theorem dX7_count_57 : decode cX7_count 57 = .ok (.iconst 1, 1) := dk_4 (dk_at dksX7_count_2 9 rfl rfl)
theorem dX7_count_58 : decode cX7_count 58 = .ok (.iaload, 1) := dk_46 (dk_at dksX7_count_2 10 rfl rfl)
theorem dX7_count_59 : decode cX7_count 59 = .ok (.if_icmp .ge 29, 3) := dk_162 0 29 (dk_at dksX7_count_2 11 rfl rfl)
theorem dX7_count_62 : decode cX7_count 62 = .ok (.iload_n 3, 1) := dk_29 (dk_at dksX7_count_2 14 rfl rfl)
theorem dX7_count_63 : decode cX7_count 63 = .ok (.aload_n 0, 1) := dk_42 (dk_at dksX7_count_2 15 rfl rfl)
theorem dX7_count_64 : decode cX7_count 64 = .ok (.getfield 7, 3) := dk_180 0 7 (dk_at dksX7_count_2 16 rfl rfl)
theorem dX7_count_67 : decode cX7_count 67 = .ok (.bipush 10, 2) := dk_16 10 (dk_at dksX7_count_2 19 rfl rfl)
theorem dX7_count_69 : decode cX7_count 69 = .ok (.iconst 3, 1) := dk_6 (dk_at dksX7_count_2 21 rfl rfl)
theorem dX7_count_70 : decode cX7_count 70 = .ok (.iload 4, 2) := dk_21 4 (dk_at dksX7_count_2 22 rfl rfl)
theorem dX7_count_72 : decode cX7_count 72 = .ok (.imul, 1) := dk_104 (dk_at dksX7_count_3 0 rfl rfl)
theorem dX7_count_73 : decode cX7_count 73 = .ok (.iadd, 1) := dk_96 (dk_at dksX7_count_3 1 rfl rfl)
theorem dX7_count_74 : decode cX7_count 74 = .ok (.iconst 2, 1) := dk_5 (dk_at dksX7_count_3 2 rfl rfl)
theorem dX7_count_75 : decode cX7_count 75 = .ok (.iadd, 1) := dk_96 (dk_at dksX7_count_3 3 rfl rfl)
theorem dX7_count_76 : decode cX7_count 76 = .ok (.iaload, 1) := dk_46 (dk_at dksX7_count_3 4 rfl rfl)
theorem dX7_count_77 : decode cX7_count 77 = .ok (.invokestatic 290, 3) := dk_184 1 34 (dk_at dksX7_count_3 5 rfl rfl)
theorem dX7_count_80 : decode cX7_count 80 = .ok (.iadd, 1) := dk_96 (dk_at dksX7_count_3 8 rfl rfl)
theorem dX7_count_81 : decode cX7_count 81 = .ok (.istore_n 3, 1) := dk_62 (dk_at dksX7_count_3 9 rfl rfl)
theorem dX7_count_82 : decode cX7_count 82 = .ok (.iinc 4 1, 3) := dk_132 4 1 (dk_at dksX7_count_3 10 rfl rfl)
theorem dX7_count_85 : decode cX7_count 85 = .ok (.goto (-34), 3) := dk_167 255 222 (dk_at dksX7_count_3 13 rfl rfl)
theorem dX7_count_88 : decode cX7_count 88 = .ok (.iload_n 1, 1) := dk_27 (dk_at dksX7_count_3 16 rfl rfl)
theorem dX7_count_89 : decode cX7_count 89 = .ok (.ifCond .ne 12, 3) := dk_154 0 12 (dk_at dksX7_count_3 17 rfl rfl)
theorem dX7_count_92 : decode cX7_count 92 = .ok (.aload_n 0, 1) := dk_42 (dk_at dksX7_count_3 20 rfl rfl)
theorem dX7_count_93 : decode cX7_count 93 = .ok (.getfield 7, 3) := dk_180 0 7 (dk_at dksX7_count_3 21 rfl rfl)
theorem dX7_count_96 : decode cX7_count 96 = .ok (.iconst 1, 1) := dk_4 (dk_at dksX7_count_4 0 rfl rfl)
theorem dX7_count_97 : decode cX7_count 97 = .ok (.iaload, 1) := dk_46 (dk_at dksX7_count_4 1 rfl rfl)
theorem dX7_count_98 : decode cX7_count 98 = .ok (.goto 128, 3) := dk_167 0 128 (dk_at dksX7_count_4 2 rfl rfl)
theorem dX7_count_101 : decode cX7_count 101 = .ok (.iload_n 1, 1) := dk_27 (dk_at dksX7_count_4 5 rfl rfl)
theorem dX7_count_102 : decode cX7_count 102 = .ok (.iconst 1, 1) := dk_4 (dk_at dksX7_count_4 6 rfl rfl)
theorem dX7_count_103 : decode cX7_count 103 = .ok (.if_icmp .ne 12, 3) := dk_160 0 12 (dk_at dksX7_count_4 7 rfl rfl)
theorem dX7_count_106 : decode cX7_count 106 = .ok (.aload_n 0, 1) := dk_42 (dk_at dksX7_count_4 10 rfl rfl)
theorem dX7_count_107 : decode cX7_count 107 = .ok (.getfield 7, 3) := dk_180 0 7 (dk_at dksX7_count_4 11 rfl rfl)
theorem dX7_count_110 : decode cX7_count 110 = .ok (.iconst 0, 1) := dk_3 (dk_at dksX7_count_4 14 rfl rfl)
theorem dX7_count_111 : decode cX7_count 111 = .ok (.iaload, 1) := dk_46 (dk_at dksX7_count_4 15 rfl rfl)
theorem dX7_count_112 : decode cX7_count 112 = .ok (.goto 114, 3) := dk_167 0 114 (dk_at dksX7_count_4 16 rfl rfl)
theorem dX7_count_115 : decode cX7_count 115 = .ok (.iload_n 1, 1) := dk_27 (dk_at dksX7_count_4 19 rfl rfl)
theorem dX7_count_116 : decode cX7_count 116 = .ok (.iconst 2, 1) := dk_5 (dk_at dksX7_count_4 20 rfl rfl)
theorem dX7_count_117 : decode cX7_count 117 = .ok (.if_icmp .ne 12, 3) := dk_160 0 12 (dk_at dksX7_count_4 21 rfl rfl)
theorem dX7_count_120 : decode cX7_count 120 = .ok (.aload_n 0, 1) := dk_42 (dk_at dksX7_count_5 0 rfl rfl)
theorem dX7_count_121 : decode cX7_count 121 = .ok (.getfield 7, 3) := dk_180 0 7 (dk_at dksX7_count_5 1 rfl rfl)
theorem dX7_count_124 : decode cX7_count 124 = .ok (.iconst 2, 1) := dk_5 (dk_at dksX7_count_5 4 rfl rfl)
theorem dX7_count_125 : decode cX7_count 125 = .ok (.iaload, 1) := dk_46 (dk_at dksX7_count_5 5 rfl rfl)
theorem dX7_count_126 : decode cX7_count 126 = .ok (.goto 100, 3) := dk_167 0 100 (dk_at dksX7_count_5 6 rfl rfl)
theorem dX7_count_129 : decode cX7_count 129 = .ok (.iload_n 1, 1) := dk_27 (dk_at dksX7_count_5 9 rfl rfl)
theorem dX7_count_130 : decode cX7_count 130 = .ok (.iconst 3, 1) := dk_6 (dk_at dksX7_count_5 10 rfl rfl)
theorem dX7_count_131 : decode cX7_count 131 = .ok (.if_icmp .ne 12, 3) := dk_160 0 12 (dk_at dksX7_count_5 11 rfl rfl)
theorem dX7_count_134 : decode cX7_count 134 = .ok (.aload_n 0, 1) := dk_42 (dk_at dksX7_count_5 14 rfl rfl)
theorem dX7_count_135 : decode cX7_count 135 = .ok (.getfield 7, 3) := dk_180 0 7 (dk_at dksX7_count_5 15 rfl rfl)
theorem dX7_count_138 : decode cX7_count 138 = .ok (.iconst 3, 1) := dk_6 (dk_at dksX7_count_5 18 rfl rfl)
theorem dX7_count_139 : decode cX7_count 139 = .ok (.iaload, 1) := dk_46 (dk_at dksX7_count_5 19 rfl rfl)
theorem dX7_count_140 : decode cX7_count 140 = .ok (.goto 86, 3) := dk_167 0 86 (dk_at dksX7_count_5 20 rfl rfl)
theorem dX7_count_143 : decode cX7_count 143 = .ok (.iload_n 1, 1) := dk_27 (dk_at dksX7_count_5 23 rfl rfl)
theorem dX7_count_144 : decode cX7_count 144 = .ok (.iconst 4, 1) := dk_7 (dk_at dksX7_count_6 0 rfl rfl)
theorem dX7_count_145 : decode cX7_count 145 = .ok (.if_icmp .ne 7, 3) := dk_160 0 7 (dk_at dksX7_count_6 1 rfl rfl)
theorem dX7_count_148 : decode cX7_count 148 = .ok (.iload_n 2, 1) := dk_28 (dk_at dksX7_count_6 4 rfl rfl)
theorem dX7_count_149 : decode cX7_count 149 = .ok (.goto 77, 3) := dk_167 0 77 (dk_at dksX7_count_6 5 rfl rfl)
theorem dX7_count_152 : decode cX7_count 152 = .ok (.iload_n 1, 1) := dk_27 (dk_at dksX7_count_6 8 rfl rfl)
theorem dX7_count_153 : decode cX7_count 153 = .ok (.iconst 5, 1) := dk_8 (dk_at dksX7_count_6 9 rfl rfl)
theorem dX7_count_154 : decode cX7_count 154 = .ok (.if_icmp .ne 12, 3) := dk_160 0 12 (dk_at dksX7_count_6 10 rfl rfl)
theorem dX7_count_157 : decode cX7_count 157 = .ok (.aload_n 0, 1) := dk_42 (dk_at dksX7_count_6 13 rfl rfl)
theorem dX7_count_158 : decode cX7_count 158 = .ok (.getfield 7, 3) := dk_180 0 7 (dk_at dksX7_count_6 14 rfl rfl)
theorem dX7_count_161 : decode cX7_count 161 = .ok (.iconst 4, 1) := dk_7 (dk_at dksX7_count_6 17 rfl rfl)
theorem dX7_count_162 : decode cX7_count 162 = .ok (.iaload, 1) := dk_46 (dk_at dksX7_count_6 18 rfl rfl)
theorem dX7_count_163 : decode cX7_count 163 = .ok (.goto 63, 3) := dk_167 0 63 (dk_at dksX7_count_6 19 rfl rfl)
theorem dX7_count_166 : decode cX7_count 166 = .ok (.iload_n 1, 1) := dk_27 (dk_at dksX7_count_6 22 rfl rfl)
theorem dX7_count_167 : decode cX7_count 167 = .ok (.bipush 6, 2) := dk_16 6 (dk_at dksX7_count_7 0 rfl rfl)
theorem dX7_count_169 : decode cX7_count 169 = .ok (.if_icmp .ne 12, 3) := dk_160 0 12 (dk_at dksX7_count_7 2 rfl rfl)
theorem dX7_count_172 : decode cX7_count 172 = .ok (.aload_n 0, 1) := dk_42 (dk_at dksX7_count_7 5 rfl rfl)
theorem dX7_count_173 : decode cX7_count 173 = .ok (.getfield 7, 3) := dk_180 0 7 (dk_at dksX7_count_7 6 rfl rfl)
theorem dX7_count_176 : decode cX7_count 176 = .ok (.iconst 5, 1) := dk_8 (dk_at dksX7_count_7 9 rfl rfl)
theorem dX7_count_177 : decode cX7_count 177 = .ok (.iaload, 1) := dk_46 (dk_at dksX7_count_7 10 rfl rfl)
theorem dX7_count_178 : decode cX7_count 178 = .ok (.goto 48, 3) := dk_167 0 48 (dk_at dksX7_count_7 11 rfl rfl)
theorem dX7_count_181 : decode cX7_count 181 = .ok (.iload_n 1, 1) := dk_27 (dk_at dksX7_count_7 14 rfl rfl)
theorem dX7_count_182 : decode cX7_count 182 = .ok (.bipush 7, 2) := dk_16 7 (dk_at dksX7_count_7 15 rfl rfl)
theorem dX7_count_184 : decode cX7_count 184 = .ok (.if_icmp .ne 13, 3) := dk_160 0 13 (dk_at dksX7_count_7 17 rfl rfl)
theorem dX7_count_187 : decode cX7_count 187 = .ok (.aload_n 0, 1) := dk_42 (dk_at dksX7_count_7 20 rfl rfl)
theorem dX7_count_188 : decode cX7_count 188 = .ok (.getfield 7, 3) := dk_180 0 7 (dk_at dksX7_count_7 21 rfl rfl)
theorem dX7_count_191 : decode cX7_count 191 = .ok (.bipush 6, 2) := dk_16 6 (dk_at dksX7_count_8 0 rfl rfl)
theorem dX7_count_193 : decode cX7_count 193 = .ok (.iaload, 1) := dk_46 (dk_at dksX7_count_8 2 rfl rfl)
theorem dX7_count_194 : decode cX7_count 194 = .ok (.goto 32, 3) := dk_167 0 32 (dk_at dksX7_count_8 3 rfl rfl)
theorem dX7_count_197 : decode cX7_count 197 = .ok (.iload_n 1, 1) := dk_27 (dk_at dksX7_count_8 6 rfl rfl)
theorem dX7_count_198 : decode cX7_count 198 = .ok (.bipush 8, 2) := dk_16 8 (dk_at dksX7_count_8 7 rfl rfl)
theorem dX7_count_200 : decode cX7_count 200 = .ok (.if_icmp .ne 13, 3) := dk_160 0 13 (dk_at dksX7_count_8 9 rfl rfl)
theorem dX7_count_203 : decode cX7_count 203 = .ok (.aload_n 0, 1) := dk_42 (dk_at dksX7_count_8 12 rfl rfl)
theorem dX7_count_204 : decode cX7_count 204 = .ok (.getfield 7, 3) := dk_180 0 7 (dk_at dksX7_count_8 13 rfl rfl)
theorem dX7_count_207 : decode cX7_count 207 = .ok (.bipush 7, 2) := dk_16 7 (dk_at dksX7_count_8 16 rfl rfl)
theorem dX7_count_209 : decode cX7_count 209 = .ok (.iaload, 1) := dk_46 (dk_at dksX7_count_8 18 rfl rfl)
theorem dX7_count_210 : decode cX7_count 210 = .ok (.goto 16, 3) := dk_167 0 16 (dk_at dksX7_count_8 19 rfl rfl)
theorem dX7_count_213 : decode cX7_count 213 = .ok (.iload_n 1, 1) := dk_27 (dk_at dksX7_count_8 22 rfl rfl)
theorem dX7_count_214 : decode cX7_count 214 = .ok (.bipush 9, 2) := dk_16 9 (dk_at dksX7_count_9 0 rfl rfl)
theorem dX7_count_216 : decode cX7_count 216 = .ok (.if_icmp .ne 9, 3) := dk_160 0 9 (dk_at dksX7_count_9 2 rfl rfl)
theorem dX7_count_219 : decode cX7_count 219 = .ok (.iload_n 3, 1) := dk_29 (dk_at dksX7_count_9 5 rfl rfl)
theorem dX7_count_220 : decode cX7_count 220 = .ok (.iconst 2, 1) := dk_5 (dk_at dksX7_count_9 6 rfl rfl)
theorem dX7_count_221 : decode cX7_count 221 = .ok (.idiv, 1) := dk_108 (dk_at dksX7_count_9 7 rfl rfl)
theorem dX7_count_222 : decode cX7_count 222 = .ok (.goto 4, 3) := dk_167 0 4 (dk_at dksX7_count_9 8 rfl rfl)
theorem dX7_count_225 : decode cX7_count 225 = .ok (.iconst (-1), 1) := dk_2 (dk_at dksX7_count_9 11 rfl rfl)
theorem dX7_count_226 : decode cX7_count 226 = .ok (.ireturn, 1) := dk_172 (dk_at dksX7_count_9 12 rfl rfl)
theorem q92 : (Jvm.Cond.initialized "FavourTownModel") ∈ lw_all := lw_g (lw_at lw_m1 10 rfl) rfl
theorem q710 : (Jvm.Cond.selects "FavourTownModel" ({ cls := "java/lang/Object", name := "getClass", desc := "()Ljava/lang/Class;" } : Jvm.MethodName) ({ cls := "java/lang/Object", name := "getClass", desc := "()Ljava/lang/Class;" } : Jvm.MethodName)) ∈ lw_all := lw_g (lw_at lw_m3 148 rfl) rfl
theorem q1834 : (Jvm.Cond.instantiable "FavourTownModel" (29 : Nat)) ∈ lw_all := lw_g (lw_at lw_m8 72 rfl) rfl
theorem q1836 : (Jvm.Cond.instanceMethod ({ cls := "FavourTownModel", name := "<init>", desc := "()V" } : Jvm.MethodName)) ∈ lw_all := lw_g (lw_at lw_m8 74 rfl) rfl
theorem q1837 : (Jvm.Cond.code ({ cls := "FavourTownModel", name := "<init>", desc := "()V" } : Jvm.MethodName) prog_23_method_1_code (1 : Nat) (Option.none : Option Jvm.ClassFile.FieldType)) ∈ lw_all := lw_g (lw_at lw_m8 75 rfl) rfl
theorem q1838 : (Jvm.Cond.methodLink "FavourTownModel" (1 : Nat) ({ cls := "java/lang/Object", name := "<init>", desc := "()V" } : Jvm.MethodName)) ∈ lw_all := lw_g (lw_at lw_m8 76 rfl) rfl
theorem q1839 : (Jvm.Cond.fieldLink "FavourTownModel" (53 : Nat) "FavourTownModel" "thrown" "I") ∈ lw_all := lw_g (lw_at lw_m8 77 rfl) rfl
theorem q1840 : (Jvm.Cond.fieldLink "FavourTownModel" (7 : Nat) "FavourTownModel" "m" "[I") ∈ lw_all := lw_g (lw_at lw_m8 78 rfl) rfl
theorem q1841 : (Jvm.Cond.fieldLink "FavourTownModel" (13 : Nat) "FavourTownModel" "kept" "[I") ∈ lw_all := lw_g (lw_at lw_m8 79 rfl) rfl
theorem q1842 : (Jvm.Cond.fieldLink "FavourTownModel" (331 : Nat) "FavourTownModel" "hasImage" "Z") ∈ lw_all := lw_g (lw_at lw_m8 80 rfl) rfl
theorem q1843 : (Jvm.Cond.fieldLink "FavourTownModel" (16 : Nat) "FavourTownModel" "before" "[I") ∈ lw_all := lw_g (lw_at lw_m8 81 rfl) rfl
theorem q1844 : (Jvm.Cond.fieldLink "FavourTownModel" (19 : Nat) "FavourTownModel" "tape" "[I") ∈ lw_all := lw_g (lw_at lw_m8 82 rfl) rfl
theorem q1845 : (Jvm.Cond.fieldLink "FavourTownModel" (60 : Nat) "FavourTownModel" "taped" "I") ∈ lw_all := lw_g (lw_at lw_m8 83 rfl) rfl
theorem q1846 : (Jvm.Cond.fieldLink "FavourTownModel" (63 : Nat) "FavourTownModel" "base" "I") ∈ lw_all := lw_g (lw_at lw_m8 84 rfl) rfl
theorem q1847 : (Jvm.Cond.fieldLink "FavourTownModel" (69 : Nat) "FavourTownModel" "end" "I") ∈ lw_all := lw_g (lw_at lw_m8 85 rfl) rfl
theorem q1848 : (Jvm.Cond.fieldLink "FavourTownModel" (66 : Nat) "FavourTownModel" "at" "I") ∈ lw_all := lw_g (lw_at lw_m8 86 rfl) rfl
theorem q1849 : (Jvm.Cond.fieldLink "FavourTownModel" (22 : Nat) "FavourTownModel" "fault" "I") ∈ lw_all := lw_g (lw_at lw_m8 87 rfl) rfl
theorem q1850 : (Jvm.Cond.fieldLink "FavourTownModel" (147 : Nat) "FavourTownModel" "deep" "I") ∈ lw_all := lw_g (lw_at lw_m8 88 rfl) rfl
theorem q1851 : (Jvm.Cond.fieldLink "FavourTownModel" (150 : Nat) "FavourTownModel" "lines" "I") ∈ lw_all := lw_g (lw_at lw_m8 89 rfl) rfl
theorem q1852 : (Jvm.Cond.fieldLink "FavourTownModel" (26 : Nat) "FavourTownModel" "fact" "[I") ∈ lw_all := lw_g (lw_at lw_m8 90 rfl) rfl
theorem q1853 : (Jvm.Cond.fieldLink "FavourTownModel" (181 : Nat) "FavourTownModel" "isNear" "Z") ∈ lw_all := lw_g (lw_at lw_m8 91 rfl) rfl
theorem q1854 : (Jvm.Cond.fieldLink "FavourTownModel" (187 : Nat) "FavourTownModel" "isTimed" "Z") ∈ lw_all := lw_g (lw_at lw_m8 92 rfl) rfl
theorem q1855 : (Jvm.Cond.fieldLink "FavourTownModel" (192 : Nat) "FavourTownModel" "isAgain" "Z") ∈ lw_all := lw_g (lw_at lw_m8 93 rfl) rfl
theorem q1856 : (Jvm.Cond.fieldLink "FavourTownModel" (223 : Nat) "FavourTownModel" "says" "I") ∈ lw_all := lw_g (lw_at lw_m8 94 rfl) rfl
theorem q1857 : (Jvm.Cond.fieldLink "FavourTownModel" (29 : Nat) "FavourTownModel" "ports" "[I") ∈ lw_all := lw_g (lw_at lw_m8 95 rfl) rfl
theorem q1858 : (Jvm.Cond.fieldLink "FavourTownModel" (32 : Nat) "FavourTownModel" "from" "[I") ∈ lw_all := lw_g (lw_at lw_m8 96 rfl) rfl
theorem q1859 : (Jvm.Cond.fieldLink "FavourTownModel" (35 : Nat) "FavourTownModel" "queue" "[I") ∈ lw_all := lw_g (lw_at lw_m8 97 rfl) rfl
theorem q1860 : (Jvm.Cond.fieldLink "FavourTownModel" (38 : Nat) "FavourTownModel" "far" "[I") ∈ lw_all := lw_g (lw_at lw_m8 98 rfl) rfl
theorem q1861 : (Jvm.Cond.fieldLink "FavourTownModel" (41 : Nat) "FavourTownModel" "owed" "[I") ∈ lw_all := lw_g (lw_at lw_m8 99 rfl) rfl
theorem q1862 : (Jvm.Cond.fieldLink "FavourTownModel" (44 : Nat) "FavourTownModel" "order" "[I") ∈ lw_all := lw_g (lw_at lw_m8 100 rfl) rfl
theorem q1863 : (Jvm.Cond.fieldLink "FavourTownModel" (47 : Nat) "FavourTownModel" "bestOrder" "[I") ∈ lw_all := lw_g (lw_at lw_m8 101 rfl) rfl
theorem q1864 : (Jvm.Cond.fieldLink "FavourTownModel" (312 : Nat) "FavourTownModel" "most" "I") ∈ lw_all := lw_g (lw_at lw_m8 102 rfl) rfl
theorem q1865 : (Jvm.Cond.fieldLink "FavourTownModel" (278 : Nat) "FavourTownModel" "byPassing" "Z") ∈ lw_all := lw_g (lw_at lw_m8 103 rfl) rfl
theorem q1866 : (Jvm.Cond.fieldLink "FavourTownModel" (50 : Nat) "FavourTownModel" "shelf" "[I") ∈ lw_all := lw_g (lw_at lw_m8 104 rfl) rfl
theorem q1867 : (Jvm.Cond.fieldLink "FavourTownModel" (325 : Nat) "FavourTownModel" "seed" "I") ∈ lw_all := lw_g (lw_at lw_m8 105 rfl) rfl
theorem q1868 : (Jvm.Cond.lays "FavourTownModel" "FavourTownModel" "thrown" "I") ∈ lw_all := lw_g (lw_at lw_m8 106 rfl) rfl
theorem q1869 : (Jvm.Cond.soleField "FavourTownModel" "thrown") ∈ lw_all := lw_g (lw_at lw_m8 107 rfl) rfl
theorem q1870 : (Jvm.Cond.laysFinal "FavourTownModel" "FavourTownModel" "m" "[I") ∈ lw_all := lw_g (lw_at lw_m8 108 rfl) rfl
theorem q1871 : (Jvm.Cond.soleField "FavourTownModel" "m") ∈ lw_all := lw_g (lw_at lw_m8 109 rfl) rfl
theorem q1872 : (Jvm.Cond.laysFinal "FavourTownModel" "FavourTownModel" "kept" "[I") ∈ lw_all := lw_g (lw_at lw_m8 110 rfl) rfl
theorem q1873 : (Jvm.Cond.soleField "FavourTownModel" "kept") ∈ lw_all := lw_g (lw_at lw_m8 111 rfl) rfl
theorem q1874 : (Jvm.Cond.lays "FavourTownModel" "FavourTownModel" "hasImage" "Z") ∈ lw_all := lw_g (lw_at lw_m8 112 rfl) rfl
theorem q1875 : (Jvm.Cond.soleField "FavourTownModel" "hasImage") ∈ lw_all := lw_g (lw_at lw_m8 113 rfl) rfl
theorem q1876 : (Jvm.Cond.laysFinal "FavourTownModel" "FavourTownModel" "before" "[I") ∈ lw_all := lw_g (lw_at lw_m8 114 rfl) rfl
theorem q1877 : (Jvm.Cond.soleField "FavourTownModel" "before") ∈ lw_all := lw_g (lw_at lw_m8 115 rfl) rfl
theorem q1878 : (Jvm.Cond.laysFinal "FavourTownModel" "FavourTownModel" "tape" "[I") ∈ lw_all := lw_g (lw_at lw_m8 116 rfl) rfl
theorem q1879 : (Jvm.Cond.soleField "FavourTownModel" "tape") ∈ lw_all := lw_g (lw_at lw_m8 117 rfl) rfl
theorem q1880 : (Jvm.Cond.lays "FavourTownModel" "FavourTownModel" "taped" "I") ∈ lw_all := lw_g (lw_at lw_m8 118 rfl) rfl
theorem q1881 : (Jvm.Cond.soleField "FavourTownModel" "taped") ∈ lw_all := lw_g (lw_at lw_m8 119 rfl) rfl
theorem q1882 : (Jvm.Cond.lays "FavourTownModel" "FavourTownModel" "base" "I") ∈ lw_all := lw_g (lw_at lw_m8 120 rfl) rfl
theorem q1883 : (Jvm.Cond.soleField "FavourTownModel" "base") ∈ lw_all := lw_g (lw_at lw_m8 121 rfl) rfl
theorem q1884 : (Jvm.Cond.lays "FavourTownModel" "FavourTownModel" "end" "I") ∈ lw_all := lw_g (lw_at lw_m8 122 rfl) rfl
theorem q1885 : (Jvm.Cond.soleField "FavourTownModel" "end") ∈ lw_all := lw_g (lw_at lw_m8 123 rfl) rfl
theorem q1886 : (Jvm.Cond.lays "FavourTownModel" "FavourTownModel" "at" "I") ∈ lw_all := lw_g (lw_at lw_m8 124 rfl) rfl
theorem q1887 : (Jvm.Cond.soleField "FavourTownModel" "at") ∈ lw_all := lw_g (lw_at lw_m8 125 rfl) rfl
theorem q1888 : (Jvm.Cond.lays "FavourTownModel" "FavourTownModel" "fault" "I") ∈ lw_all := lw_g (lw_at lw_m8 126 rfl) rfl
theorem q1889 : (Jvm.Cond.soleField "FavourTownModel" "fault") ∈ lw_all := lw_g (lw_at lw_m8 127 rfl) rfl
theorem q1890 : (Jvm.Cond.lays "FavourTownModel" "FavourTownModel" "deep" "I") ∈ lw_all := lw_g (lw_at lw_m8 128 rfl) rfl
theorem q1891 : (Jvm.Cond.soleField "FavourTownModel" "deep") ∈ lw_all := lw_g (lw_at lw_m8 129 rfl) rfl
theorem q1892 : (Jvm.Cond.lays "FavourTownModel" "FavourTownModel" "lines" "I") ∈ lw_all := lw_g (lw_at lw_m8 130 rfl) rfl
theorem q1893 : (Jvm.Cond.soleField "FavourTownModel" "lines") ∈ lw_all := lw_g (lw_at lw_m8 131 rfl) rfl
theorem q1894 : (Jvm.Cond.laysFinal "FavourTownModel" "FavourTownModel" "fact" "[I") ∈ lw_all := lw_g (lw_at lw_m8 132 rfl) rfl
theorem q1895 : (Jvm.Cond.soleField "FavourTownModel" "fact") ∈ lw_all := lw_g (lw_at lw_m8 133 rfl) rfl
theorem q1896 : (Jvm.Cond.lays "FavourTownModel" "FavourTownModel" "isNear" "Z") ∈ lw_all := lw_g (lw_at lw_m8 134 rfl) rfl
theorem q1897 : (Jvm.Cond.soleField "FavourTownModel" "isNear") ∈ lw_all := lw_g (lw_at lw_m8 135 rfl) rfl
theorem q1898 : (Jvm.Cond.lays "FavourTownModel" "FavourTownModel" "isTimed" "Z") ∈ lw_all := lw_g (lw_at lw_m8 136 rfl) rfl
theorem q1899 : (Jvm.Cond.soleField "FavourTownModel" "isTimed") ∈ lw_all := lw_g (lw_at lw_m8 137 rfl) rfl
theorem q1900 : (Jvm.Cond.lays "FavourTownModel" "FavourTownModel" "isAgain" "Z") ∈ lw_all := lw_g (lw_at lw_m8 138 rfl) rfl
theorem q1901 : (Jvm.Cond.soleField "FavourTownModel" "isAgain") ∈ lw_all := lw_g (lw_at lw_m8 139 rfl) rfl
theorem q1902 : (Jvm.Cond.lays "FavourTownModel" "FavourTownModel" "says" "I") ∈ lw_all := lw_g (lw_at lw_m8 140 rfl) rfl
theorem q1903 : (Jvm.Cond.soleField "FavourTownModel" "says") ∈ lw_all := lw_g (lw_at lw_m8 141 rfl) rfl
theorem q1904 : (Jvm.Cond.laysFinal "FavourTownModel" "FavourTownModel" "ports" "[I") ∈ lw_all := lw_g (lw_at lw_m8 142 rfl) rfl
theorem q1905 : (Jvm.Cond.soleField "FavourTownModel" "ports") ∈ lw_all := lw_g (lw_at lw_m8 143 rfl) rfl
theorem q1906 : (Jvm.Cond.laysFinal "FavourTownModel" "FavourTownModel" "from" "[I") ∈ lw_all := lw_g (lw_at lw_m8 144 rfl) rfl
theorem q1907 : (Jvm.Cond.soleField "FavourTownModel" "from") ∈ lw_all := lw_g (lw_at lw_m8 145 rfl) rfl
theorem q1908 : (Jvm.Cond.laysFinal "FavourTownModel" "FavourTownModel" "queue" "[I") ∈ lw_all := lw_g (lw_at lw_m8 146 rfl) rfl
theorem q1909 : (Jvm.Cond.soleField "FavourTownModel" "queue") ∈ lw_all := lw_g (lw_at lw_m8 147 rfl) rfl
theorem q1910 : (Jvm.Cond.laysFinal "FavourTownModel" "FavourTownModel" "far" "[I") ∈ lw_all := lw_g (lw_at lw_m8 148 rfl) rfl
theorem q1911 : (Jvm.Cond.soleField "FavourTownModel" "far") ∈ lw_all := lw_g (lw_at lw_m8 149 rfl) rfl
theorem q1912 : (Jvm.Cond.laysFinal "FavourTownModel" "FavourTownModel" "owed" "[I") ∈ lw_all := lw_g (lw_at lw_m8 150 rfl) rfl
theorem q1913 : (Jvm.Cond.soleField "FavourTownModel" "owed") ∈ lw_all := lw_g (lw_at lw_m8 151 rfl) rfl
theorem q1914 : (Jvm.Cond.laysFinal "FavourTownModel" "FavourTownModel" "order" "[I") ∈ lw_all := lw_g (lw_at lw_m8 152 rfl) rfl
theorem q1915 : (Jvm.Cond.soleField "FavourTownModel" "order") ∈ lw_all := lw_g (lw_at lw_m8 153 rfl) rfl
theorem q1916 : (Jvm.Cond.laysFinal "FavourTownModel" "FavourTownModel" "bestOrder" "[I") ∈ lw_all := lw_g (lw_at lw_m8 154 rfl) rfl
theorem q1917 : (Jvm.Cond.soleField "FavourTownModel" "bestOrder") ∈ lw_all := lw_g (lw_at lw_m8 155 rfl) rfl
theorem q1918 : (Jvm.Cond.lays "FavourTownModel" "FavourTownModel" "most" "I") ∈ lw_all := lw_g (lw_at lw_m8 156 rfl) rfl
theorem q1919 : (Jvm.Cond.soleField "FavourTownModel" "most") ∈ lw_all := lw_g (lw_at lw_m8 157 rfl) rfl
theorem q1920 : (Jvm.Cond.lays "FavourTownModel" "FavourTownModel" "byPassing" "Z") ∈ lw_all := lw_g (lw_at lw_m8 158 rfl) rfl
theorem q1921 : (Jvm.Cond.soleField "FavourTownModel" "byPassing") ∈ lw_all := lw_g (lw_at lw_m8 159 rfl) rfl
theorem q1922 : (Jvm.Cond.laysFinal "FavourTownModel" "FavourTownModel" "shelf" "[I") ∈ lw_all := lw_g (lw_at lw_m8 160 rfl) rfl
theorem q1923 : (Jvm.Cond.soleField "FavourTownModel" "shelf") ∈ lw_all := lw_g (lw_at lw_m8 161 rfl) rfl
theorem q1924 : (Jvm.Cond.lays "FavourTownModel" "FavourTownModel" "seed" "I") ∈ lw_all := lw_g (lw_at lw_m8 162 rfl) rfl
theorem q1925 : (Jvm.Cond.soleField "FavourTownModel" "seed") ∈ lw_all := lw_g (lw_at lw_m8 163 rfl) rfl
theorem q1926 : (Jvm.Cond.superclass "FavourTownModel" "java/lang/Object") ∈ lw_all := lw_g (lw_at lw_m8 164 rfl) rfl
theorem q1928 : (Jvm.Cond.instanceMethod ({ cls := "FavourTownModel", name := "thrown", desc := "()I" } : Jvm.MethodName)) ∈ lw_all := lw_g (lw_at lw_m8 166 rfl) rfl
theorem q1929 : (Jvm.Cond.selects "FavourTownModel" ({ cls := "FavourTownModel", name := "thrown", desc := "()I" } : Jvm.MethodName) ({ cls := "FavourTownModel", name := "thrown", desc := "()I" } : Jvm.MethodName)) ∈ lw_all := lw_g (lw_at lw_m8 167 rfl) rfl
theorem q1930 : (Jvm.Cond.code ({ cls := "FavourTownModel", name := "thrown", desc := "()I" } : Jvm.MethodName) prog_23_method_2_code (1 : Nat) (Option.some Jvm.ClassFile.FieldType.int)) ∈ lw_all := lw_g (lw_at lw_m8 168 rfl) rfl
theorem q1932 : (Jvm.Cond.instanceMethod ({ cls := "FavourTownModel", name := "feed", desc := "(IIIII)I" } : Jvm.MethodName)) ∈ lw_all := lw_g (lw_at lw_m8 170 rfl) rfl
theorem q1933 : (Jvm.Cond.selects "FavourTownModel" ({ cls := "FavourTownModel", name := "feed", desc := "(IIIII)I" } : Jvm.MethodName) ({ cls := "FavourTownModel", name := "feed", desc := "(IIIII)I" } : Jvm.MethodName)) ∈ lw_all := lw_g (lw_at lw_m8 171 rfl) rfl
theorem q1934 : (Jvm.Cond.code ({ cls := "FavourTownModel", name := "feed", desc := "(IIIII)I" } : Jvm.MethodName) prog_23_method_9_code (8 : Nat) (Option.some Jvm.ClassFile.FieldType.int)) ∈ lw_all := lw_g (lw_at lw_m8 172 rfl) rfl
theorem q1936 : (Jvm.Cond.instanceMethod ({ cls := "FavourTownModel", name := "end", desc := "(I)Z" } : Jvm.MethodName)) ∈ lw_all := lw_g (lw_at lw_m8 174 rfl) rfl
theorem q1937 : (Jvm.Cond.selects "FavourTownModel" ({ cls := "FavourTownModel", name := "end", desc := "(I)Z" } : Jvm.MethodName) ({ cls := "FavourTownModel", name := "end", desc := "(I)Z" } : Jvm.MethodName)) ∈ lw_all := lw_g (lw_at lw_m8 175 rfl) rfl
theorem q1938 : (Jvm.Cond.code ({ cls := "FavourTownModel", name := "end", desc := "(I)Z" } : Jvm.MethodName) prog_23_method_10_code (2 : Nat) (Option.some Jvm.ClassFile.FieldType.boolean)) ∈ lw_all := lw_g (lw_at lw_m8 176 rfl) rfl
theorem q1939 : (Jvm.Cond.methodLink "FavourTownModel" (56 : Nat) ({ cls := "FavourTownModel", name := "isIn", desc := "(III)Z" } : Jvm.MethodName)) ∈ lw_all := lw_g (lw_at lw_m8 177 rfl) rfl
theorem q1940 : (Jvm.Cond.static ({ cls := "FavourTownModel", name := "isIn", desc := "(III)Z" } : Jvm.MethodName)) ∈ lw_all := lw_g (lw_at lw_m8 178 rfl) rfl
theorem q1941 : (Jvm.Cond.code ({ cls := "FavourTownModel", name := "isIn", desc := "(III)Z" } : Jvm.MethodName) prog_23_method_3_code (3 : Nat) (Option.some Jvm.ClassFile.FieldType.boolean)) ∈ lw_all := lw_g (lw_at lw_m8 179 rfl) rfl
theorem q1943 : (Jvm.Cond.instanceMethod ({ cls := "FavourTownModel", name := "town", desc := "()I" } : Jvm.MethodName)) ∈ lw_all := lw_g (lw_at lw_m8 181 rfl) rfl
theorem q1944 : (Jvm.Cond.selects "FavourTownModel" ({ cls := "FavourTownModel", name := "town", desc := "()I" } : Jvm.MethodName) ({ cls := "FavourTownModel", name := "town", desc := "()I" } : Jvm.MethodName)) ∈ lw_all := lw_g (lw_at lw_m8 182 rfl) rfl
theorem q1945 : (Jvm.Cond.code ({ cls := "FavourTownModel", name := "town", desc := "()I" } : Jvm.MethodName) prog_23_method_21_code (2 : Nat) (Option.some Jvm.ClassFile.FieldType.int)) ∈ lw_all := lw_g (lw_at lw_m8 183 rfl) rfl
theorem q1946 : (Jvm.Cond.methodLink "FavourTownModel" (163 : Nat) ({ cls := "FavourTownModel", name := "read", desc := "(Z)V" } : Jvm.MethodName)) ∈ lw_all := lw_g (lw_at lw_m8 184 rfl) rfl
theorem q1947 : (Jvm.Cond.privateMethod ({ cls := "FavourTownModel", name := "read", desc := "(Z)V" } : Jvm.MethodName)) ∈ lw_tbl := lw_at lw_m8 185 rfl
theorem q1948 : (Jvm.Cond.instanceMethod ({ cls := "FavourTownModel", name := "read", desc := "(Z)V" } : Jvm.MethodName)) ∈ lw_all := lw_g (lw_at lw_m8 186 rfl) rfl
theorem q1949 : (Jvm.Cond.code ({ cls := "FavourTownModel", name := "read", desc := "(Z)V" } : Jvm.MethodName) prog_23_method_20_code (3 : Nat) (Option.none : Option Jvm.ClassFile.FieldType)) ∈ lw_all := lw_g (lw_at lw_m8 187 rfl) rfl
theorem q1950 : (Jvm.Cond.methodLink "FavourTownModel" (76 : Nat) ({ cls := "FavourTownModel", name := "skip", desc := "()V" } : Jvm.MethodName)) ∈ lw_all := lw_g (lw_at lw_m8 188 rfl) rfl
theorem q1951 : (Jvm.Cond.privateMethod ({ cls := "FavourTownModel", name := "skip", desc := "()V" } : Jvm.MethodName)) ∈ lw_tbl := lw_at lw_m8 189 rfl
theorem q1952 : (Jvm.Cond.instanceMethod ({ cls := "FavourTownModel", name := "skip", desc := "()V" } : Jvm.MethodName)) ∈ lw_all := lw_g (lw_at lw_m8 190 rfl) rfl
theorem q1953 : (Jvm.Cond.code ({ cls := "FavourTownModel", name := "skip", desc := "()V" } : Jvm.MethodName) prog_23_method_12_code (1 : Nat) (Option.none : Option Jvm.ClassFile.FieldType)) ∈ lw_all := lw_g (lw_at lw_m8 191 rfl) rfl
theorem q1954 : (Jvm.Cond.methodLink "FavourTownModel" (72 : Nat) ({ cls := "FavourTownModel", name := "letter", desc := "(I)I" } : Jvm.MethodName)) ∈ lw_all := lw_g (lw_at lw_m8 192 rfl) rfl
theorem q1955 : (Jvm.Cond.privateMethod ({ cls := "FavourTownModel", name := "letter", desc := "(I)I" } : Jvm.MethodName)) ∈ lw_tbl := lw_at lw_m8 193 rfl
theorem q1956 : (Jvm.Cond.instanceMethod ({ cls := "FavourTownModel", name := "letter", desc := "(I)I" } : Jvm.MethodName)) ∈ lw_all := lw_g (lw_at lw_m8 194 rfl) rfl
theorem q1957 : (Jvm.Cond.code ({ cls := "FavourTownModel", name := "letter", desc := "(I)I" } : Jvm.MethodName) prog_23_method_11_code (2 : Nat) (Option.some Jvm.ClassFile.FieldType.int)) ∈ lw_all := lw_g (lw_at lw_m8 195 rfl) rfl
theorem q1958 : (Jvm.Cond.methodLink "FavourTownModel" (93 : Nat) ({ cls := "FavourTownModel", name := "wrong", desc := "(I)V" } : Jvm.MethodName)) ∈ lw_all := lw_g (lw_at lw_m8 196 rfl) rfl
theorem q1959 : (Jvm.Cond.privateMethod ({ cls := "FavourTownModel", name := "wrong", desc := "(I)V" } : Jvm.MethodName)) ∈ lw_tbl := lw_at lw_m8 197 rfl
theorem q1960 : (Jvm.Cond.instanceMethod ({ cls := "FavourTownModel", name := "wrong", desc := "(I)V" } : Jvm.MethodName)) ∈ lw_all := lw_g (lw_at lw_m8 198 rfl) rfl
theorem q1961 : (Jvm.Cond.code ({ cls := "FavourTownModel", name := "wrong", desc := "(I)V" } : Jvm.MethodName) prog_23_method_15_code (2 : Nat) (Option.none : Option Jvm.ClassFile.FieldType)) ∈ lw_all := lw_g (lw_at lw_m8 199 rfl) rfl
theorem q1962 : (Jvm.Cond.methodLink "FavourTownModel" (153 : Nat) ({ cls := "FavourTownModel", name := "temperLine", desc := "()V" } : Jvm.MethodName)) ∈ lw_all := lw_g (lw_at lw_m8 200 rfl) rfl
theorem q1963 : (Jvm.Cond.privateMethod ({ cls := "FavourTownModel", name := "temperLine", desc := "()V" } : Jvm.MethodName)) ∈ lw_tbl := lw_at lw_m8 201 rfl
theorem q1964 : (Jvm.Cond.instanceMethod ({ cls := "FavourTownModel", name := "temperLine", desc := "()V" } : Jvm.MethodName)) ∈ lw_all := lw_g (lw_at lw_m8 202 rfl) rfl
theorem q1965 : (Jvm.Cond.code ({ cls := "FavourTownModel", name := "temperLine", desc := "()V" } : Jvm.MethodName) prog_23_method_28_code (3 : Nat) (Option.none : Option Jvm.ClassFile.FieldType)) ∈ lw_all := lw_g (lw_at lw_m8 203 rfl) rfl
theorem q1966 : (Jvm.Cond.stringRef "FavourTownModel" (217 : Nat) "take") ∈ lw_tbl := lw_at lw_m8 204 rfl
theorem q1967 : (Jvm.Cond.methodLink "FavourTownModel" (89 : Nat) ({ cls := "FavourTownModel", name := "has0", desc := "(Ljava/lang/String;)Z" } : Jvm.MethodName)) ∈ lw_all := lw_g (lw_at lw_m8 205 rfl) rfl
theorem q1968 : (Jvm.Cond.privateMethod ({ cls := "FavourTownModel", name := "has0", desc := "(Ljava/lang/String;)Z" } : Jvm.MethodName)) ∈ lw_tbl := lw_at lw_m8 206 rfl
theorem q1969 : (Jvm.Cond.instanceMethod ({ cls := "FavourTownModel", name := "has0", desc := "(Ljava/lang/String;)Z" } : Jvm.MethodName)) ∈ lw_all := lw_g (lw_at lw_m8 207 rfl) rfl
theorem q1970 : (Jvm.Cond.code ({ cls := "FavourTownModel", name := "has0", desc := "(Ljava/lang/String;)Z" } : Jvm.MethodName) prog_23_method_14_code (4 : Nat) (Option.some Jvm.ClassFile.FieldType.boolean)) ∈ lw_all := lw_g (lw_at lw_m8 208 rfl) rfl
theorem q1971 : (Jvm.Cond.methodLink "FavourTownModel" (79 : Nat) ({ cls := "java/lang/String", name := "length", desc := "()I" } : Jvm.MethodName)) ∈ lw_all := lw_g (lw_at lw_m8 209 rfl) rfl
theorem q1972 : (Jvm.Cond.methodLink "FavourTownModel" (85 : Nat) ({ cls := "java/lang/String", name := "charAt", desc := "(I)C" } : Jvm.MethodName)) ∈ lw_all := lw_g (lw_at lw_m8 210 rfl) rfl
theorem q1983 : (Jvm.Cond.stringRef "FavourTownModel" (219 : Nat) "refuse") ∈ lw_tbl := lw_at lw_m8 221 rfl
theorem q1984 : (Jvm.Cond.stringRef "FavourTownModel" (221 : Nat) "if") ∈ lw_tbl := lw_at lw_m8 222 rfl
theorem q1985 : (Jvm.Cond.methodLink "FavourTownModel" (207 : Nat) ({ cls := "FavourTownModel", name := "some", desc := "()Z" } : Jvm.MethodName)) ∈ lw_all := lw_g (lw_at lw_m8 223 rfl) rfl
theorem q1986 : (Jvm.Cond.privateMethod ({ cls := "FavourTownModel", name := "some", desc := "()Z" } : Jvm.MethodName)) ∈ lw_tbl := lw_at lw_m8 224 rfl
theorem q1987 : (Jvm.Cond.instanceMethod ({ cls := "FavourTownModel", name := "some", desc := "()Z" } : Jvm.MethodName)) ∈ lw_all := lw_g (lw_at lw_m8 225 rfl) rfl
theorem q1988 : (Jvm.Cond.code ({ cls := "FavourTownModel", name := "some", desc := "()Z" } : Jvm.MethodName) prog_23_method_27_code (3 : Nat) (Option.some Jvm.ClassFile.FieldType.boolean)) ∈ lw_all := lw_g (lw_at lw_m8 226 rfl) rfl
theorem q1989 : (Jvm.Cond.methodLink "FavourTownModel" (212 : Nat) ({ cls := "FavourTownModel", name := "every", desc := "()Z" } : Jvm.MethodName)) ∈ lw_all := lw_g (lw_at lw_m8 227 rfl) rfl
theorem q1990 : (Jvm.Cond.privateMethod ({ cls := "FavourTownModel", name := "every", desc := "()Z" } : Jvm.MethodName)) ∈ lw_tbl := lw_at lw_m8 228 rfl
theorem q1991 : (Jvm.Cond.instanceMethod ({ cls := "FavourTownModel", name := "every", desc := "()Z" } : Jvm.MethodName)) ∈ lw_all := lw_g (lw_at lw_m8 229 rfl) rfl
theorem q1992 : (Jvm.Cond.code ({ cls := "FavourTownModel", name := "every", desc := "()Z" } : Jvm.MethodName) prog_23_method_26_code (3 : Nat) (Option.some Jvm.ClassFile.FieldType.boolean)) ∈ lw_all := lw_g (lw_at lw_m8 230 rfl) rfl
theorem q1993 : (Jvm.Cond.methodLink "FavourTownModel" (204 : Nat) ({ cls := "FavourTownModel", name := "atom", desc := "()Z" } : Jvm.MethodName)) ∈ lw_all := lw_g (lw_at lw_m8 231 rfl) rfl
theorem q1994 : (Jvm.Cond.privateMethod ({ cls := "FavourTownModel", name := "atom", desc := "()Z" } : Jvm.MethodName)) ∈ lw_tbl := lw_at lw_m8 232 rfl
theorem q1995 : (Jvm.Cond.instanceMethod ({ cls := "FavourTownModel", name := "atom", desc := "()Z" } : Jvm.MethodName)) ∈ lw_all := lw_g (lw_at lw_m8 233 rfl) rfl
theorem q1996 : (Jvm.Cond.code ({ cls := "FavourTownModel", name := "atom", desc := "()Z" } : Jvm.MethodName) prog_23_method_25_code (4 : Nat) (Option.some Jvm.ClassFile.FieldType.boolean)) ∈ lw_all := lw_g (lw_at lw_m8 234 rfl) rfl
theorem q1997 : (Jvm.Cond.stringRef "FavourTownModel" (198 : Nat) "not") ∈ lw_tbl := lw_at lw_m8 235 rfl
theorem q1998 : (Jvm.Cond.methodLink "FavourTownModel" (159 : Nat) ({ cls := "FavourTownModel", name := "isSign", desc := "(I)Z" } : Jvm.MethodName)) ∈ lw_all := lw_g (lw_at lw_m8 236 rfl) rfl
theorem q1999 : (Jvm.Cond.privateMethod ({ cls := "FavourTownModel", name := "isSign", desc := "(I)Z" } : Jvm.MethodName)) ∈ lw_tbl := lw_at lw_m8 237 rfl
theorem q2000 : (Jvm.Cond.instanceMethod ({ cls := "FavourTownModel", name := "isSign", desc := "(I)Z" } : Jvm.MethodName)) ∈ lw_all := lw_g (lw_at lw_m8 238 rfl) rfl
theorem q2001 : (Jvm.Cond.code ({ cls := "FavourTownModel", name := "isSign", desc := "(I)Z" } : Jvm.MethodName) prog_23_method_13_code (2 : Nat) (Option.some Jvm.ClassFile.FieldType.boolean)) ∈ lw_all := lw_g (lw_at lw_m8 239 rfl) rfl
theorem q2002 : (Jvm.Cond.methodLink "FavourTownModel" (200 : Nat) ({ cls := "FavourTownModel", name := "plain", desc := "()Z" } : Jvm.MethodName)) ∈ lw_all := lw_g (lw_at lw_m9 0 rfl) rfl
theorem q2003 : (Jvm.Cond.privateMethod ({ cls := "FavourTownModel", name := "plain", desc := "()Z" } : Jvm.MethodName)) ∈ lw_tbl := lw_at lw_m9 1 rfl
theorem q2004 : (Jvm.Cond.instanceMethod ({ cls := "FavourTownModel", name := "plain", desc := "()Z" } : Jvm.MethodName)) ∈ lw_all := lw_g (lw_at lw_m9 2 rfl) rfl
theorem q2005 : (Jvm.Cond.code ({ cls := "FavourTownModel", name := "plain", desc := "()Z" } : Jvm.MethodName) prog_23_method_24_code (4 : Nat) (Option.some Jvm.ClassFile.FieldType.boolean)) ∈ lw_all := lw_g (lw_at lw_m9 3 rfl) rfl
theorem q2006 : (Jvm.Cond.stringRef "FavourTownModel" (103 : Nat) "near") ∈ lw_tbl := lw_at lw_m9 4 rfl
theorem q2007 : (Jvm.Cond.stringRef "FavourTownModel" (185 : Nat) "timed") ∈ lw_tbl := lw_at lw_m9 5 rfl
theorem q2008 : (Jvm.Cond.stringRef "FavourTownModel" (190 : Nat) "again") ∈ lw_tbl := lw_at lw_m9 6 rfl
theorem q2009 : (Jvm.Cond.methodLink "FavourTownModel" (195 : Nat) ({ cls := "FavourTownModel", name := "sum", desc := "()I" } : Jvm.MethodName)) ∈ lw_all := lw_g (lw_at lw_m9 7 rfl) rfl
theorem q2010 : (Jvm.Cond.privateMethod ({ cls := "FavourTownModel", name := "sum", desc := "()I" } : Jvm.MethodName)) ∈ lw_tbl := lw_at lw_m9 8 rfl
theorem q2011 : (Jvm.Cond.instanceMethod ({ cls := "FavourTownModel", name := "sum", desc := "()I" } : Jvm.MethodName)) ∈ lw_all := lw_g (lw_at lw_m9 9 rfl) rfl
theorem q2012 : (Jvm.Cond.code ({ cls := "FavourTownModel", name := "sum", desc := "()I" } : Jvm.MethodName) prog_23_method_23_code (2 : Nat) (Option.some Jvm.ClassFile.FieldType.int)) ∈ lw_all := lw_g (lw_at lw_m9 10 rfl) rfl
theorem q2013 : (Jvm.Cond.methodLink "FavourTownModel" (178 : Nat) ({ cls := "FavourTownModel", name := "part", desc := "()I" } : Jvm.MethodName)) ∈ lw_all := lw_g (lw_at lw_m9 11 rfl) rfl
theorem q2014 : (Jvm.Cond.privateMethod ({ cls := "FavourTownModel", name := "part", desc := "()I" } : Jvm.MethodName)) ∈ lw_tbl := lw_at lw_m9 12 rfl
theorem q2015 : (Jvm.Cond.instanceMethod ({ cls := "FavourTownModel", name := "part", desc := "()I" } : Jvm.MethodName)) ∈ lw_all := lw_g (lw_at lw_m9 13 rfl) rfl
theorem q2016 : (Jvm.Cond.code ({ cls := "FavourTownModel", name := "part", desc := "()I" } : Jvm.MethodName) prog_23_method_22_code (2 : Nat) (Option.some Jvm.ClassFile.FieldType.int)) ∈ lw_all := lw_g (lw_at lw_m9 14 rfl) rfl
theorem q2017 : (Jvm.Cond.methodLink "FavourTownModel" (97 : Nat) ({ cls := "FavourTownModel", name := "figures", desc := "(II)I" } : Jvm.MethodName)) ∈ lw_all := lw_g (lw_at lw_m9 15 rfl) rfl
theorem q2018 : (Jvm.Cond.privateMethod ({ cls := "FavourTownModel", name := "figures", desc := "(II)I" } : Jvm.MethodName)) ∈ lw_tbl := lw_at lw_m9 16 rfl
theorem q2019 : (Jvm.Cond.instanceMethod ({ cls := "FavourTownModel", name := "figures", desc := "(II)I" } : Jvm.MethodName)) ∈ lw_all := lw_g (lw_at lw_m9 17 rfl) rfl
theorem q2020 : (Jvm.Cond.code ({ cls := "FavourTownModel", name := "figures", desc := "(II)I" } : Jvm.MethodName) prog_23_method_17_code (5 : Nat) (Option.some Jvm.ClassFile.FieldType.int)) ∈ lw_all := lw_g (lw_at lw_m9 18 rfl) rfl
theorem q2021 : (Jvm.Cond.stringRef "FavourTownModel" (167 : Nat) "worth") ∈ lw_tbl := lw_at lw_m9 19 rfl
theorem q2022 : (Jvm.Cond.stringRef "FavourTownModel" (169 : Nat) "amount") ∈ lw_tbl := lw_at lw_m9 20 rfl
theorem q2023 : (Jvm.Cond.stringRef "FavourTownModel" (171 : Nat) "hands") ∈ lw_tbl := lw_at lw_m9 21 rfl
theorem q2024 : (Jvm.Cond.stringRef "FavourTownModel" (173 : Nat) "left") ∈ lw_tbl := lw_at lw_m9 22 rfl
theorem q2025 : (Jvm.Cond.stringRef "FavourTownModel" (175 : Nat) "owed") ∈ lw_tbl := lw_at lw_m9 23 rfl
theorem q2026 : (Jvm.Cond.stringRef "FavourTownModel" (176 : Nat) "debt") ∈ lw_tbl := lw_at lw_m9 24 rfl
theorem q2027 : (Jvm.Cond.stringRef "FavourTownModel" (210 : Nat) "and") ∈ lw_tbl := lw_at lw_m9 25 rfl
theorem q2028 : (Jvm.Cond.stringRef "FavourTownModel" (215 : Nat) "or") ∈ lw_tbl := lw_at lw_m9 26 rfl
theorem q2029 : (Jvm.Cond.methodLink "FavourTownModel" (156 : Nat) ({ cls := "FavourTownModel", name := "townLine", desc := "()V" } : Jvm.MethodName)) ∈ lw_all := lw_g (lw_at lw_m9 27 rfl) rfl
theorem q2030 : (Jvm.Cond.privateMethod ({ cls := "FavourTownModel", name := "townLine", desc := "()V" } : Jvm.MethodName)) ∈ lw_tbl := lw_at lw_m9 28 rfl
theorem q2031 : (Jvm.Cond.instanceMethod ({ cls := "FavourTownModel", name := "townLine", desc := "()V" } : Jvm.MethodName)) ∈ lw_all := lw_g (lw_at lw_m9 29 rfl) rfl
theorem q2032 : (Jvm.Cond.code ({ cls := "FavourTownModel", name := "townLine", desc := "()V" } : Jvm.MethodName) prog_23_method_19_code (7 : Nat) (Option.none : Option Jvm.ClassFile.FieldType)) ∈ lw_all := lw_g (lw_at lw_m9 30 rfl) rfl
theorem q2033 : (Jvm.Cond.stringRef "FavourTownModel" (101 : Nat) "person") ∈ lw_tbl := lw_at lw_m9 31 rfl
theorem q2034 : (Jvm.Cond.methodLink "FavourTownModel" (105 : Nat) ({ cls := "FavourTownModel", name := "person", desc := "(I)I" } : Jvm.MethodName)) ∈ lw_all := lw_g (lw_at lw_m9 32 rfl) rfl
theorem q2035 : (Jvm.Cond.privateMethod ({ cls := "FavourTownModel", name := "person", desc := "(I)I" } : Jvm.MethodName)) ∈ lw_tbl := lw_at lw_m9 33 rfl
theorem q2036 : (Jvm.Cond.instanceMethod ({ cls := "FavourTownModel", name := "person", desc := "(I)I" } : Jvm.MethodName)) ∈ lw_all := lw_g (lw_at lw_m9 34 rfl) rfl
theorem q2037 : (Jvm.Cond.code ({ cls := "FavourTownModel", name := "person", desc := "(I)I" } : Jvm.MethodName) prog_23_method_18_code (4 : Nat) (Option.some Jvm.ClassFile.FieldType.int)) ∈ lw_all := lw_g (lw_at lw_m9 35 rfl) rfl
theorem q2038 : (Jvm.Cond.stringRef "FavourTownModel" (107 : Nat) "law") ∈ lw_tbl := lw_at lw_m9 36 rfl
theorem q2039 : (Jvm.Cond.stringRef "FavourTownModel" (109 : Nat) "give") ∈ lw_tbl := lw_at lw_m9 37 rfl
theorem q2040 : (Jvm.Cond.stringRef "FavourTownModel" (111 : Nat) "to") ∈ lw_tbl := lw_at lw_m9 38 rfl
theorem q2041 : (Jvm.Cond.methodLink "FavourTownModel" (113 : Nat) ({ cls := "FavourTownModel", name := "must", desc := "(Ljava/lang/String;)V" } : Jvm.MethodName)) ∈ lw_all := lw_g (lw_at lw_m9 39 rfl) rfl
theorem q2042 : (Jvm.Cond.privateMethod ({ cls := "FavourTownModel", name := "must", desc := "(Ljava/lang/String;)V" } : Jvm.MethodName)) ∈ lw_tbl := lw_at lw_m9 40 rfl
theorem q2043 : (Jvm.Cond.instanceMethod ({ cls := "FavourTownModel", name := "must", desc := "(Ljava/lang/String;)V" } : Jvm.MethodName)) ∈ lw_all := lw_g (lw_at lw_m9 41 rfl) rfl
theorem q2044 : (Jvm.Cond.code ({ cls := "FavourTownModel", name := "must", desc := "(Ljava/lang/String;)V" } : Jvm.MethodName) prog_23_method_16_code (2 : Nat) (Option.none : Option Jvm.ClassFile.FieldType)) ∈ lw_all := lw_g (lw_at lw_m9 42 rfl) rfl
theorem q2045 : (Jvm.Cond.stringRef "FavourTownModel" (117 : Nat) "for") ∈ lw_tbl := lw_at lw_m9 43 rfl
theorem q2046 : (Jvm.Cond.stringRef "FavourTownModel" (119 : Nat) "forced") ∈ lw_tbl := lw_at lw_m9 44 rfl
theorem q2047 : (Jvm.Cond.methodLink "FavourTownModel" (121 : Nat) ({ cls := "FavourTownModel", name := "gives", desc := "(IIIIZ)I" } : Jvm.MethodName)) ∈ lw_all := lw_g (lw_at lw_m9 45 rfl) rfl
theorem q2048 : (Jvm.Cond.privateMethod ({ cls := "FavourTownModel", name := "gives", desc := "(IIIIZ)I" } : Jvm.MethodName)) ∈ lw_tbl := lw_at lw_m9 46 rfl
theorem q2049 : (Jvm.Cond.instanceMethod ({ cls := "FavourTownModel", name := "gives", desc := "(IIIIZ)I" } : Jvm.MethodName)) ∈ lw_all := lw_g (lw_at lw_m9 47 rfl) rfl
theorem q2050 : (Jvm.Cond.code ({ cls := "FavourTownModel", name := "gives", desc := "(IIIIZ)I" } : Jvm.MethodName) prog_23_method_38_code (9 : Nat) (Option.some Jvm.ClassFile.FieldType.int)) ∈ lw_all := lw_g (lw_at lw_m9 48 rfl) rfl
theorem q2051 : (Jvm.Cond.methodLink "FavourTownModel" (246 : Nat) ({ cls := "FavourTownModel", name := "canGive", desc := "(IIIIZ)Z" } : Jvm.MethodName)) ∈ lw_all := lw_g (lw_at lw_m9 49 rfl) rfl
theorem q2052 : (Jvm.Cond.privateMethod ({ cls := "FavourTownModel", name := "canGive", desc := "(IIIIZ)Z" } : Jvm.MethodName)) ∈ lw_tbl := lw_at lw_m9 50 rfl
theorem q2053 : (Jvm.Cond.instanceMethod ({ cls := "FavourTownModel", name := "canGive", desc := "(IIIIZ)Z" } : Jvm.MethodName)) ∈ lw_all := lw_g (lw_at lw_m9 51 rfl) rfl
theorem q2054 : (Jvm.Cond.code ({ cls := "FavourTownModel", name := "canGive", desc := "(IIIIZ)Z" } : Jvm.MethodName) prog_23_method_37_code (6 : Nat) (Option.some Jvm.ClassFile.FieldType.boolean)) ∈ lw_all := lw_g (lw_at lw_m9 52 rfl) rfl
theorem q2055 : (Jvm.Cond.methodLink "FavourTownModel" (235 : Nat) ({ cls := "FavourTownModel", name := "debtOf", desc := "(I)I" } : Jvm.MethodName)) ∈ lw_all := lw_g (lw_at lw_m9 53 rfl) rfl
theorem q2056 : (Jvm.Cond.privateMethod ({ cls := "FavourTownModel", name := "debtOf", desc := "(I)I" } : Jvm.MethodName)) ∈ lw_tbl := lw_at lw_m9 54 rfl
theorem q2057 : (Jvm.Cond.instanceMethod ({ cls := "FavourTownModel", name := "debtOf", desc := "(I)I" } : Jvm.MethodName)) ∈ lw_all := lw_g (lw_at lw_m9 55 rfl) rfl
theorem q2058 : (Jvm.Cond.code ({ cls := "FavourTownModel", name := "debtOf", desc := "(I)I" } : Jvm.MethodName) prog_23_method_34_code (4 : Nat) (Option.some Jvm.ClassFile.FieldType.int)) ∈ lw_all := lw_g (lw_at lw_m9 56 rfl) rfl
theorem q2059 : (Jvm.Cond.methodLink "FavourTownModel" (127 : Nat) ({ cls := "FavourTownModel", name := "of", desc := "(II)I" } : Jvm.MethodName)) ∈ lw_all := lw_g (lw_at lw_m9 57 rfl) rfl
theorem q2060 : (Jvm.Cond.privateMethod ({ cls := "FavourTownModel", name := "of", desc := "(II)I" } : Jvm.MethodName)) ∈ lw_tbl := lw_at lw_m9 58 rfl
theorem q2061 : (Jvm.Cond.instanceMethod ({ cls := "FavourTownModel", name := "of", desc := "(II)I" } : Jvm.MethodName)) ∈ lw_all := lw_g (lw_at lw_m9 59 rfl) rfl
theorem q2062 : (Jvm.Cond.code ({ cls := "FavourTownModel", name := "of", desc := "(II)I" } : Jvm.MethodName) prog_23_method_6_code (3 : Nat) (Option.some Jvm.ClassFile.FieldType.int)) ∈ lw_all := lw_g (lw_at lw_m9 60 rfl) rfl
theorem q2063 : (Jvm.Cond.methodLink "FavourTownModel" (242 : Nat) ({ cls := "FavourTownModel", name := "wouldTake", desc := "(IIIIIZZ)Z" } : Jvm.MethodName)) ∈ lw_all := lw_g (lw_at lw_m9 61 rfl) rfl
theorem q2064 : (Jvm.Cond.privateMethod ({ cls := "FavourTownModel", name := "wouldTake", desc := "(IIIIIZZ)Z" } : Jvm.MethodName)) ∈ lw_tbl := lw_at lw_m9 62 rfl
theorem q2065 : (Jvm.Cond.instanceMethod ({ cls := "FavourTownModel", name := "wouldTake", desc := "(IIIIIZZ)Z" } : Jvm.MethodName)) ∈ lw_all := lw_g (lw_at lw_m9 63 rfl) rfl
theorem q2066 : (Jvm.Cond.code ({ cls := "FavourTownModel", name := "wouldTake", desc := "(IIIIIZZ)Z" } : Jvm.MethodName) prog_23_method_35_code (14 : Nat) (Option.some Jvm.ClassFile.FieldType.boolean)) ∈ lw_all := lw_g (lw_at lw_m9 64 rfl) rfl
theorem q2067 : (Jvm.Cond.methodLink "FavourTownModel" (229 : Nat) ({ cls := "FavourTownModel", name := "worthOf", desc := "(II)I" } : Jvm.MethodName)) ∈ lw_all := lw_g (lw_at lw_m9 65 rfl) rfl
theorem q2068 : (Jvm.Cond.static ({ cls := "FavourTownModel", name := "worthOf", desc := "(II)I" } : Jvm.MethodName)) ∈ lw_all := lw_g (lw_at lw_m9 66 rfl) rfl
theorem q2069 : (Jvm.Cond.code ({ cls := "FavourTownModel", name := "worthOf", desc := "(II)I" } : Jvm.MethodName) prog_23_method_32_code (2 : Nat) (Option.some Jvm.ClassFile.FieldType.int)) ∈ lw_all := lw_g (lw_at lw_m9 67 rfl) rfl
theorem q2070 : (Jvm.Cond.methodLink "FavourTownModel" (232 : Nat) ({ cls := "FavourTownModel", name := "richOf", desc := "(I)I" } : Jvm.MethodName)) ∈ lw_all := lw_g (lw_at lw_m9 68 rfl) rfl
theorem q2071 : (Jvm.Cond.privateMethod ({ cls := "FavourTownModel", name := "richOf", desc := "(I)I" } : Jvm.MethodName)) ∈ lw_tbl := lw_at lw_m9 69 rfl
theorem q2072 : (Jvm.Cond.instanceMethod ({ cls := "FavourTownModel", name := "richOf", desc := "(I)I" } : Jvm.MethodName)) ∈ lw_all := lw_g (lw_at lw_m9 70 rfl) rfl
theorem q2073 : (Jvm.Cond.code ({ cls := "FavourTownModel", name := "richOf", desc := "(I)I" } : Jvm.MethodName) prog_23_method_33_code (4 : Nat) (Option.some Jvm.ClassFile.FieldType.int)) ∈ lw_all := lw_g (lw_at lw_m9 71 rfl) rfl
theorem q2074 : (Jvm.Cond.methodLink "FavourTownModel" (238 : Nat) ({ cls := "FavourTownModel", name := "isNearTo", desc := "(II)Z" } : Jvm.MethodName)) ∈ lw_all := lw_g (lw_at lw_m9 72 rfl) rfl
theorem q2075 : (Jvm.Cond.privateMethod ({ cls := "FavourTownModel", name := "isNearTo", desc := "(II)Z" } : Jvm.MethodName)) ∈ lw_tbl := lw_at lw_m9 73 rfl
theorem q2076 : (Jvm.Cond.instanceMethod ({ cls := "FavourTownModel", name := "isNearTo", desc := "(II)Z" } : Jvm.MethodName)) ∈ lw_all := lw_g (lw_at lw_m9 74 rfl) rfl
theorem q2077 : (Jvm.Cond.code ({ cls := "FavourTownModel", name := "isNearTo", desc := "(II)Z" } : Jvm.MethodName) prog_23_method_8_code (3 : Nat) (Option.some Jvm.ClassFile.FieldType.boolean)) ∈ lw_all := lw_g (lw_at lw_m9 75 rfl) rfl
theorem q2078 : (Jvm.Cond.methodLink "FavourTownModel" (135 : Nat) ({ cls := "FavourTownModel", name := "sets", desc := "(III)V" } : Jvm.MethodName)) ∈ lw_all := lw_g (lw_at lw_m9 76 rfl) rfl
theorem q2079 : (Jvm.Cond.privateMethod ({ cls := "FavourTownModel", name := "sets", desc := "(III)V" } : Jvm.MethodName)) ∈ lw_tbl := lw_at lw_m9 77 rfl
theorem q2080 : (Jvm.Cond.instanceMethod ({ cls := "FavourTownModel", name := "sets", desc := "(III)V" } : Jvm.MethodName)) ∈ lw_all := lw_g (lw_at lw_m9 78 rfl) rfl
theorem q2081 : (Jvm.Cond.code ({ cls := "FavourTownModel", name := "sets", desc := "(III)V" } : Jvm.MethodName) prog_23_method_7_code (4 : Nat) (Option.none : Option Jvm.ClassFile.FieldType)) ∈ lw_all := lw_g (lw_at lw_m9 79 rfl) rfl
theorem q2082 : (Jvm.Cond.stringRef "FavourTownModel" (125 : Nat) "pass") ∈ lw_tbl := lw_at lw_m9 80 rfl
theorem q2083 : (Jvm.Cond.methodLink "FavourTownModel" (130 : Nat) ({ cls := "FavourTownModel", name := "passes", desc := "(II)I" } : Jvm.MethodName)) ∈ lw_all := lw_g (lw_at lw_m9 81 rfl) rfl
theorem q2084 : (Jvm.Cond.privateMethod ({ cls := "FavourTownModel", name := "passes", desc := "(II)I" } : Jvm.MethodName)) ∈ lw_tbl := lw_at lw_m9 82 rfl
theorem q2085 : (Jvm.Cond.instanceMethod ({ cls := "FavourTownModel", name := "passes", desc := "(II)I" } : Jvm.MethodName)) ∈ lw_all := lw_g (lw_at lw_m9 83 rfl) rfl
theorem q2086 : (Jvm.Cond.code ({ cls := "FavourTownModel", name := "passes", desc := "(II)I" } : Jvm.MethodName) prog_23_method_40_code (4 : Nat) (Option.some Jvm.ClassFile.FieldType.int)) ∈ lw_all := lw_g (lw_at lw_m9 84 rfl) rfl
theorem q2087 : (Jvm.Cond.methodLink "FavourTownModel" (253 : Nat) ({ cls := "FavourTownModel", name := "canPass", desc := "(II)Z" } : Jvm.MethodName)) ∈ lw_all := lw_g (lw_at lw_m9 85 rfl) rfl
theorem q2088 : (Jvm.Cond.privateMethod ({ cls := "FavourTownModel", name := "canPass", desc := "(II)Z" } : Jvm.MethodName)) ∈ lw_tbl := lw_at lw_m9 86 rfl
theorem q2089 : (Jvm.Cond.instanceMethod ({ cls := "FavourTownModel", name := "canPass", desc := "(II)Z" } : Jvm.MethodName)) ∈ lw_all := lw_g (lw_at lw_m9 87 rfl) rfl
theorem q2090 : (Jvm.Cond.code ({ cls := "FavourTownModel", name := "canPass", desc := "(II)Z" } : Jvm.MethodName) prog_23_method_39_code (3 : Nat) (Option.some Jvm.ClassFile.FieldType.boolean)) ∈ lw_all := lw_g (lw_at lw_m9 88 rfl) rfl
theorem q2091 : (Jvm.Cond.methodLink "FavourTownModel" (250 : Nat) ({ cls := "FavourTownModel", name := "wouldPass", desc := "(II)Z" } : Jvm.MethodName)) ∈ lw_all := lw_g (lw_at lw_m9 89 rfl) rfl
theorem q2092 : (Jvm.Cond.privateMethod ({ cls := "FavourTownModel", name := "wouldPass", desc := "(II)Z" } : Jvm.MethodName)) ∈ lw_tbl := lw_at lw_m9 90 rfl
theorem q2093 : (Jvm.Cond.instanceMethod ({ cls := "FavourTownModel", name := "wouldPass", desc := "(II)Z" } : Jvm.MethodName)) ∈ lw_all := lw_g (lw_at lw_m9 91 rfl) rfl
theorem q2094 : (Jvm.Cond.code ({ cls := "FavourTownModel", name := "wouldPass", desc := "(II)Z" } : Jvm.MethodName) prog_23_method_36_code (5 : Nat) (Option.some Jvm.ClassFile.FieldType.boolean)) ∈ lw_all := lw_g (lw_at lw_m9 92 rfl) rfl
theorem q2095 : (Jvm.Cond.stringRef "FavourTownModel" (133 : Nat) "call") ∈ lw_tbl := lw_at lw_m9 93 rfl
theorem q2096 : (Jvm.Cond.stringRef "FavourTownModel" (139 : Nat) "days") ∈ lw_tbl := lw_at lw_m9 94 rfl
theorem q2097 : (Jvm.Cond.methodLink "FavourTownModel" (141 : Nat) ({ cls := "FavourTownModel", name := "goOn", desc := "(I)I" } : Jvm.MethodName)) ∈ lw_all := lw_g (lw_at lw_m9 95 rfl) rfl
theorem q2098 : (Jvm.Cond.privateMethod ({ cls := "FavourTownModel", name := "goOn", desc := "(I)I" } : Jvm.MethodName)) ∈ lw_tbl := lw_at lw_m9 96 rfl
theorem q2099 : (Jvm.Cond.instanceMethod ({ cls := "FavourTownModel", name := "goOn", desc := "(I)I" } : Jvm.MethodName)) ∈ lw_all := lw_g (lw_at lw_m9 97 rfl) rfl
theorem q2100 : (Jvm.Cond.code ({ cls := "FavourTownModel", name := "goOn", desc := "(I)I" } : Jvm.MethodName) prog_23_method_41_code (4 : Nat) (Option.some Jvm.ClassFile.FieldType.int)) ∈ lw_all := lw_g (lw_at lw_m9 98 rfl) rfl
theorem q2101 : (Jvm.Cond.stringRef "FavourTownModel" (144 : Nat) "need") ∈ lw_tbl := lw_at lw_m9 99 rfl
theorem q2102 : (Jvm.Cond.stringRef "FavourTownModel" (146 : Nat) "of") ∈ lw_tbl := lw_at lw_m9 100 rfl
theorem q2104 : (Jvm.Cond.instanceMethod ({ cls := "FavourTownModel", name := "temper", desc := "()I" } : Jvm.MethodName)) ∈ lw_all := lw_g (lw_at lw_m9 102 rfl) rfl
theorem q2105 : (Jvm.Cond.selects "FavourTownModel" ({ cls := "FavourTownModel", name := "temper", desc := "()I" } : Jvm.MethodName) ({ cls := "FavourTownModel", name := "temper", desc := "()I" } : Jvm.MethodName)) ∈ lw_all := lw_g (lw_at lw_m9 103 rfl) rfl
theorem q2106 : (Jvm.Cond.code ({ cls := "FavourTownModel", name := "temper", desc := "()I" } : Jvm.MethodName) prog_23_method_29_code (4 : Nat) (Option.some Jvm.ClassFile.FieldType.int)) ∈ lw_all := lw_g (lw_at lw_m9 104 rfl) rfl
theorem q2108 : (Jvm.Cond.instanceMethod ({ cls := "FavourTownModel", name := "fault", desc := "()I" } : Jvm.MethodName)) ∈ lw_all := lw_g (lw_at lw_m9 106 rfl) rfl
theorem q2109 : (Jvm.Cond.selects "FavourTownModel" ({ cls := "FavourTownModel", name := "fault", desc := "()I" } : Jvm.MethodName) ({ cls := "FavourTownModel", name := "fault", desc := "()I" } : Jvm.MethodName)) ∈ lw_all := lw_g (lw_at lw_m9 107 rfl) rfl
theorem q2110 : (Jvm.Cond.code ({ cls := "FavourTownModel", name := "fault", desc := "()I" } : Jvm.MethodName) prog_23_method_30_code (1 : Nat) (Option.some Jvm.ClassFile.FieldType.int)) ∈ lw_all := lw_g (lw_at lw_m9 108 rfl) rfl
theorem q2112 : (Jvm.Cond.instanceMethod ({ cls := "FavourTownModel", name := "has", desc := "(II)I" } : Jvm.MethodName)) ∈ lw_all := lw_g (lw_at lw_m9 110 rfl) rfl
theorem q2113 : (Jvm.Cond.selects "FavourTownModel" ({ cls := "FavourTownModel", name := "has", desc := "(II)I" } : Jvm.MethodName) ({ cls := "FavourTownModel", name := "has", desc := "(II)I" } : Jvm.MethodName)) ∈ lw_all := lw_g (lw_at lw_m9 111 rfl) rfl
theorem q2114 : (Jvm.Cond.code ({ cls := "FavourTownModel", name := "has", desc := "(II)I" } : Jvm.MethodName) prog_23_method_31_code (4 : Nat) (Option.some Jvm.ClassFile.FieldType.int)) ∈ lw_all := lw_g (lw_at lw_m9 112 rfl) rfl
theorem q2115 : (Jvm.Cond.methodLink "FavourTownModel" (226 : Nat) ({ cls := "FavourTownModel", name := "isPerson", desc := "(I)Z" } : Jvm.MethodName)) ∈ lw_all := lw_g (lw_at lw_m9 113 rfl) rfl
theorem q2116 : (Jvm.Cond.privateMethod ({ cls := "FavourTownModel", name := "isPerson", desc := "(I)Z" } : Jvm.MethodName)) ∈ lw_tbl := lw_at lw_m9 114 rfl
theorem q2117 : (Jvm.Cond.instanceMethod ({ cls := "FavourTownModel", name := "isPerson", desc := "(I)Z" } : Jvm.MethodName)) ∈ lw_all := lw_g (lw_at lw_m9 115 rfl) rfl
theorem q2118 : (Jvm.Cond.code ({ cls := "FavourTownModel", name := "isPerson", desc := "(I)Z" } : Jvm.MethodName) prog_23_method_4_code (2 : Nat) (Option.some Jvm.ClassFile.FieldType.boolean)) ∈ lw_all := lw_g (lw_at lw_m9 116 rfl) rfl
theorem q2120 : (Jvm.Cond.instanceMethod ({ cls := "FavourTownModel", name := "give", desc := "(IIIIZ)I" } : Jvm.MethodName)) ∈ lw_all := lw_g (lw_at lw_m9 118 rfl) rfl
theorem q2121 : (Jvm.Cond.selects "FavourTownModel" ({ cls := "FavourTownModel", name := "give", desc := "(IIIIZ)I" } : Jvm.MethodName) ({ cls := "FavourTownModel", name := "give", desc := "(IIIIZ)I" } : Jvm.MethodName)) ∈ lw_all := lw_g (lw_at lw_m9 119 rfl) rfl
theorem q2122 : (Jvm.Cond.code ({ cls := "FavourTownModel", name := "give", desc := "(IIIIZ)I" } : Jvm.MethodName) prog_23_method_42_code (6 : Nat) (Option.some Jvm.ClassFile.FieldType.int)) ∈ lw_all := lw_g (lw_at lw_m9 120 rfl) rfl
theorem q2124 : (Jvm.Cond.instanceMethod ({ cls := "FavourTownModel", name := "pass", desc := "(II)I" } : Jvm.MethodName)) ∈ lw_all := lw_g (lw_at lw_m9 122 rfl) rfl
theorem q2125 : (Jvm.Cond.selects "FavourTownModel" ({ cls := "FavourTownModel", name := "pass", desc := "(II)I" } : Jvm.MethodName) ({ cls := "FavourTownModel", name := "pass", desc := "(II)I" } : Jvm.MethodName)) ∈ lw_all := lw_g (lw_at lw_m9 123 rfl) rfl
theorem q2126 : (Jvm.Cond.code ({ cls := "FavourTownModel", name := "pass", desc := "(II)I" } : Jvm.MethodName) prog_23_method_43_code (3 : Nat) (Option.some Jvm.ClassFile.FieldType.int)) ∈ lw_all := lw_g (lw_at lw_m9 124 rfl) rfl
theorem q2127 : (Jvm.Cond.methodLink "FavourTownModel" (256 : Nat) ({ cls := "FavourTownModel", name := "isFavour", desc := "(I)Z" } : Jvm.MethodName)) ∈ lw_all := lw_g (lw_at lw_m9 125 rfl) rfl
theorem q2128 : (Jvm.Cond.privateMethod ({ cls := "FavourTownModel", name := "isFavour", desc := "(I)Z" } : Jvm.MethodName)) ∈ lw_tbl := lw_at lw_m9 126 rfl
theorem q2129 : (Jvm.Cond.instanceMethod ({ cls := "FavourTownModel", name := "isFavour", desc := "(I)Z" } : Jvm.MethodName)) ∈ lw_all := lw_g (lw_at lw_m9 127 rfl) rfl
theorem q2130 : (Jvm.Cond.code ({ cls := "FavourTownModel", name := "isFavour", desc := "(I)Z" } : Jvm.MethodName) prog_23_method_5_code (2 : Nat) (Option.some Jvm.ClassFile.FieldType.boolean)) ∈ lw_all := lw_g (lw_at lw_m9 128 rfl) rfl
theorem q2132 : (Jvm.Cond.instanceMethod ({ cls := "FavourTownModel", name := "call", desc := "(I)I" } : Jvm.MethodName)) ∈ lw_all := lw_g (lw_at lw_m9 130 rfl) rfl
theorem q2133 : (Jvm.Cond.selects "FavourTownModel" ({ cls := "FavourTownModel", name := "call", desc := "(I)I" } : Jvm.MethodName) ({ cls := "FavourTownModel", name := "call", desc := "(I)I" } : Jvm.MethodName)) ∈ lw_all := lw_g (lw_at lw_m9 131 rfl) rfl
theorem q2134 : (Jvm.Cond.code ({ cls := "FavourTownModel", name := "call", desc := "(I)I" } : Jvm.MethodName) prog_23_method_44_code (2 : Nat) (Option.some Jvm.ClassFile.FieldType.int)) ∈ lw_all := lw_g (lw_at lw_m9 132 rfl) rfl
theorem q2136 : (Jvm.Cond.instanceMethod ({ cls := "FavourTownModel", name := "days", desc := "(I)I" } : Jvm.MethodName)) ∈ lw_all := lw_g (lw_at lw_m9 134 rfl) rfl
theorem q2137 : (Jvm.Cond.selects "FavourTownModel" ({ cls := "FavourTownModel", name := "days", desc := "(I)I" } : Jvm.MethodName) ({ cls := "FavourTownModel", name := "days", desc := "(I)I" } : Jvm.MethodName)) ∈ lw_all := lw_g (lw_at lw_m9 135 rfl) rfl
theorem q2138 : (Jvm.Cond.code ({ cls := "FavourTownModel", name := "days", desc := "(I)I" } : Jvm.MethodName) prog_23_method_45_code (2 : Nat) (Option.some Jvm.ClassFile.FieldType.int)) ∈ lw_all := lw_g (lw_at lw_m9 136 rfl) rfl
theorem q2140 : (Jvm.Cond.instanceMethod ({ cls := "FavourTownModel", name := "look", desc := "(II)I" } : Jvm.MethodName)) ∈ lw_all := lw_g (lw_at lw_m9 138 rfl) rfl
theorem q2141 : (Jvm.Cond.selects "FavourTownModel" ({ cls := "FavourTownModel", name := "look", desc := "(II)I" } : Jvm.MethodName) ({ cls := "FavourTownModel", name := "look", desc := "(II)I" } : Jvm.MethodName)) ∈ lw_all := lw_g (lw_at lw_m9 139 rfl) rfl
theorem q2142 : (Jvm.Cond.code ({ cls := "FavourTownModel", name := "look", desc := "(II)I" } : Jvm.MethodName) prog_23_method_46_code (3 : Nat) (Option.some Jvm.ClassFile.FieldType.int)) ∈ lw_all := lw_g (lw_at lw_m9 140 rfl) rfl
theorem q2144 : (Jvm.Cond.instanceMethod ({ cls := "FavourTownModel", name := "hand", desc := "(II)I" } : Jvm.MethodName)) ∈ lw_all := lw_g (lw_at lw_m9 142 rfl) rfl
theorem q2145 : (Jvm.Cond.selects "FavourTownModel" ({ cls := "FavourTownModel", name := "hand", desc := "(II)I" } : Jvm.MethodName) ({ cls := "FavourTownModel", name := "hand", desc := "(II)I" } : Jvm.MethodName)) ∈ lw_all := lw_g (lw_at lw_m9 143 rfl) rfl
theorem q2146 : (Jvm.Cond.code ({ cls := "FavourTownModel", name := "hand", desc := "(II)I" } : Jvm.MethodName) prog_23_method_47_code (3 : Nat) (Option.some Jvm.ClassFile.FieldType.int)) ∈ lw_all := lw_g (lw_at lw_m9 144 rfl) rfl
theorem q2148 : (Jvm.Cond.instanceMethod ({ cls := "FavourTownModel", name := "takes", desc := "(II)Z" } : Jvm.MethodName)) ∈ lw_all := lw_g (lw_at lw_m9 146 rfl) rfl
theorem q2149 : (Jvm.Cond.selects "FavourTownModel" ({ cls := "FavourTownModel", name := "takes", desc := "(II)Z" } : Jvm.MethodName) ({ cls := "FavourTownModel", name := "takes", desc := "(II)Z" } : Jvm.MethodName)) ∈ lw_all := lw_g (lw_at lw_m9 147 rfl) rfl
theorem q2150 : (Jvm.Cond.code ({ cls := "FavourTownModel", name := "takes", desc := "(II)Z" } : Jvm.MethodName) prog_23_method_48_code (3 : Nat) (Option.some Jvm.ClassFile.FieldType.boolean)) ∈ lw_all := lw_g (lw_at lw_m9 148 rfl) rfl
theorem q2152 : (Jvm.Cond.instanceMethod ({ cls := "FavourTownModel", name := "rich", desc := "(I)I" } : Jvm.MethodName)) ∈ lw_all := lw_g (lw_at lw_m9 150 rfl) rfl
theorem q2153 : (Jvm.Cond.selects "FavourTownModel" ({ cls := "FavourTownModel", name := "rich", desc := "(I)I" } : Jvm.MethodName) ({ cls := "FavourTownModel", name := "rich", desc := "(I)I" } : Jvm.MethodName)) ∈ lw_all := lw_g (lw_at lw_m9 151 rfl) rfl
theorem q2154 : (Jvm.Cond.code ({ cls := "FavourTownModel", name := "rich", desc := "(I)I" } : Jvm.MethodName) prog_23_method_49_code (2 : Nat) (Option.some Jvm.ClassFile.FieldType.int)) ∈ lw_all := lw_g (lw_at lw_m9 152 rfl) rfl
theorem q2156 : (Jvm.Cond.instanceMethod ({ cls := "FavourTownModel", name := "debt", desc := "(I)I" } : Jvm.MethodName)) ∈ lw_all := lw_g (lw_at lw_m9 154 rfl) rfl
theorem q2157 : (Jvm.Cond.selects "FavourTownModel" ({ cls := "FavourTownModel", name := "debt", desc := "(I)I" } : Jvm.MethodName) ({ cls := "FavourTownModel", name := "debt", desc := "(I)I" } : Jvm.MethodName)) ∈ lw_all := lw_g (lw_at lw_m9 155 rfl) rfl
theorem q2158 : (Jvm.Cond.code ({ cls := "FavourTownModel", name := "debt", desc := "(I)I" } : Jvm.MethodName) prog_23_method_50_code (2 : Nat) (Option.some Jvm.ClassFile.FieldType.int)) ∈ lw_all := lw_g (lw_at lw_m9 156 rfl) rfl
theorem q2160 : (Jvm.Cond.instanceMethod ({ cls := "FavourTownModel", name := "owes", desc := "(II)I" } : Jvm.MethodName)) ∈ lw_all := lw_g (lw_at lw_m9 158 rfl) rfl
theorem q2161 : (Jvm.Cond.selects "FavourTownModel" ({ cls := "FavourTownModel", name := "owes", desc := "(II)I" } : Jvm.MethodName) ({ cls := "FavourTownModel", name := "owes", desc := "(II)I" } : Jvm.MethodName)) ∈ lw_all := lw_g (lw_at lw_m9 159 rfl) rfl
theorem q2162 : (Jvm.Cond.code ({ cls := "FavourTownModel", name := "owes", desc := "(II)I" } : Jvm.MethodName) prog_23_method_52_code (3 : Nat) (Option.some Jvm.ClassFile.FieldType.int)) ∈ lw_all := lw_g (lw_at lw_m9 160 rfl) rfl
theorem q2163 : (Jvm.Cond.methodLink "FavourTownModel" (259 : Nat) ({ cls := "FavourTownModel", name := "owesOf", desc := "(II)I" } : Jvm.MethodName)) ∈ lw_all := lw_g (lw_at lw_m9 161 rfl) rfl
theorem q2164 : (Jvm.Cond.privateMethod ({ cls := "FavourTownModel", name := "owesOf", desc := "(II)I" } : Jvm.MethodName)) ∈ lw_tbl := lw_at lw_m9 162 rfl
theorem q2165 : (Jvm.Cond.instanceMethod ({ cls := "FavourTownModel", name := "owesOf", desc := "(II)I" } : Jvm.MethodName)) ∈ lw_all := lw_g (lw_at lw_m9 163 rfl) rfl
theorem q2166 : (Jvm.Cond.code ({ cls := "FavourTownModel", name := "owesOf", desc := "(II)I" } : Jvm.MethodName) prog_23_method_51_code (5 : Nat) (Option.some Jvm.ClassFile.FieldType.int)) ∈ lw_all := lw_g (lw_at lw_m9 164 rfl) rfl
theorem q2168 : (Jvm.Cond.instanceMethod ({ cls := "FavourTownModel", name := "pays", desc := "(III)I" } : Jvm.MethodName)) ∈ lw_all := lw_g (lw_at lw_m9 166 rfl) rfl
theorem q2169 : (Jvm.Cond.selects "FavourTownModel" ({ cls := "FavourTownModel", name := "pays", desc := "(III)I" } : Jvm.MethodName) ({ cls := "FavourTownModel", name := "pays", desc := "(III)I" } : Jvm.MethodName)) ∈ lw_all := lw_g (lw_at lw_m9 167 rfl) rfl
theorem q2170 : (Jvm.Cond.code ({ cls := "FavourTownModel", name := "pays", desc := "(III)I" } : Jvm.MethodName) prog_23_method_55_code (4 : Nat) (Option.some Jvm.ClassFile.FieldType.int)) ∈ lw_all := lw_g (lw_at lw_m9 168 rfl) rfl
theorem q2171 : (Jvm.Cond.methodLink "FavourTownModel" (265 : Nat) ({ cls := "FavourTownModel", name := "paysBy", desc := "(III)I" } : Jvm.MethodName)) ∈ lw_all := lw_g (lw_at lw_m9 169 rfl) rfl
theorem q2172 : (Jvm.Cond.privateMethod ({ cls := "FavourTownModel", name := "paysBy", desc := "(III)I" } : Jvm.MethodName)) ∈ lw_tbl := lw_at lw_m9 170 rfl
theorem q2173 : (Jvm.Cond.instanceMethod ({ cls := "FavourTownModel", name := "paysBy", desc := "(III)I" } : Jvm.MethodName)) ∈ lw_all := lw_g (lw_at lw_m9 171 rfl) rfl
theorem q2174 : (Jvm.Cond.code ({ cls := "FavourTownModel", name := "paysBy", desc := "(III)I" } : Jvm.MethodName) prog_23_method_54_code (8 : Nat) (Option.some Jvm.ClassFile.FieldType.int)) ∈ lw_all := lw_g (lw_at lw_m9 172 rfl) rfl
theorem q2175 : (Jvm.Cond.methodLink "FavourTownModel" (262 : Nat) ({ cls := "FavourTownModel", name := "goes", desc := "(III)Z" } : Jvm.MethodName)) ∈ lw_all := lw_g (lw_at lw_m9 173 rfl) rfl
theorem q2176 : (Jvm.Cond.privateMethod ({ cls := "FavourTownModel", name := "goes", desc := "(III)Z" } : Jvm.MethodName)) ∈ lw_tbl := lw_at lw_m9 174 rfl
theorem q2177 : (Jvm.Cond.instanceMethod ({ cls := "FavourTownModel", name := "goes", desc := "(III)Z" } : Jvm.MethodName)) ∈ lw_all := lw_g (lw_at lw_m9 175 rfl) rfl
theorem q2178 : (Jvm.Cond.code ({ cls := "FavourTownModel", name := "goes", desc := "(III)Z" } : Jvm.MethodName) prog_23_method_53_code (4 : Nat) (Option.some Jvm.ClassFile.FieldType.boolean)) ∈ lw_all := lw_g (lw_at lw_m9 176 rfl) rfl
theorem q2180 : (Jvm.Cond.instanceMethod ({ cls := "FavourTownModel", name := "can", desc := "(I)Z" } : Jvm.MethodName)) ∈ lw_all := lw_g (lw_at lw_m9 178 rfl) rfl
theorem q2181 : (Jvm.Cond.selects "FavourTownModel" ({ cls := "FavourTownModel", name := "can", desc := "(I)Z" } : Jvm.MethodName) ({ cls := "FavourTownModel", name := "can", desc := "(I)Z" } : Jvm.MethodName)) ∈ lw_all := lw_g (lw_at lw_m9 179 rfl) rfl
theorem q2182 : (Jvm.Cond.code ({ cls := "FavourTownModel", name := "can", desc := "(I)Z" } : Jvm.MethodName) prog_23_method_59_code (2 : Nat) (Option.some Jvm.ClassFile.FieldType.boolean)) ∈ lw_all := lw_g (lw_at lw_m9 180 rfl) rfl
theorem q2183 : (Jvm.Cond.methodLink "FavourTownModel" (272 : Nat) ({ cls := "FavourTownModel", name := "isNeed", desc := "(I)Z" } : Jvm.MethodName)) ∈ lw_all := lw_g (lw_at lw_m9 181 rfl) rfl
theorem q2184 : (Jvm.Cond.privateMethod ({ cls := "FavourTownModel", name := "isNeed", desc := "(I)Z" } : Jvm.MethodName)) ∈ lw_tbl := lw_at lw_m9 182 rfl
theorem q2185 : (Jvm.Cond.instanceMethod ({ cls := "FavourTownModel", name := "isNeed", desc := "(I)Z" } : Jvm.MethodName)) ∈ lw_all := lw_g (lw_at lw_m9 183 rfl) rfl
theorem q2186 : (Jvm.Cond.code ({ cls := "FavourTownModel", name := "isNeed", desc := "(I)Z" } : Jvm.MethodName) prog_23_method_56_code (2 : Nat) (Option.some Jvm.ClassFile.FieldType.boolean)) ∈ lw_all := lw_g (lw_at lw_m9 184 rfl) rfl
theorem q2187 : (Jvm.Cond.methodLink "FavourTownModel" (275 : Nat) ({ cls := "FavourTownModel", name := "canNeed", desc := "(I)Z" } : Jvm.MethodName)) ∈ lw_all := lw_g (lw_at lw_m9 185 rfl) rfl
theorem q2188 : (Jvm.Cond.privateMethod ({ cls := "FavourTownModel", name := "canNeed", desc := "(I)Z" } : Jvm.MethodName)) ∈ lw_tbl := lw_at lw_m9 186 rfl
theorem q2189 : (Jvm.Cond.instanceMethod ({ cls := "FavourTownModel", name := "canNeed", desc := "(I)Z" } : Jvm.MethodName)) ∈ lw_all := lw_g (lw_at lw_m9 187 rfl) rfl
theorem q2190 : (Jvm.Cond.code ({ cls := "FavourTownModel", name := "canNeed", desc := "(I)Z" } : Jvm.MethodName) prog_23_method_58_code (2 : Nat) (Option.some Jvm.ClassFile.FieldType.boolean)) ∈ lw_all := lw_g (lw_at lw_m9 188 rfl) rfl
theorem q2191 : (Jvm.Cond.methodLink "FavourTownModel" (269 : Nat) ({ cls := "FavourTownModel", name := "canMeet", desc := "(III)Z" } : Jvm.MethodName)) ∈ lw_all := lw_g (lw_at lw_m9 189 rfl) rfl
theorem q2192 : (Jvm.Cond.privateMethod ({ cls := "FavourTownModel", name := "canMeet", desc := "(III)Z" } : Jvm.MethodName)) ∈ lw_tbl := lw_at lw_m9 190 rfl
theorem q2193 : (Jvm.Cond.instanceMethod ({ cls := "FavourTownModel", name := "canMeet", desc := "(III)Z" } : Jvm.MethodName)) ∈ lw_all := lw_g (lw_at lw_m9 191 rfl) rfl
theorem q2194 : (Jvm.Cond.code ({ cls := "FavourTownModel", name := "canMeet", desc := "(III)Z" } : Jvm.MethodName) prog_23_method_57_code (4 : Nat) (Option.some Jvm.ClassFile.FieldType.boolean)) ∈ lw_all := lw_g (lw_at lw_m9 192 rfl) rfl
theorem q2196 : (Jvm.Cond.instanceMethod ({ cls := "FavourTownModel", name := "meet", desc := "(I)I" } : Jvm.MethodName)) ∈ lw_all := lw_g (lw_at lw_m9 194 rfl) rfl
theorem q2197 : (Jvm.Cond.selects "FavourTownModel" ({ cls := "FavourTownModel", name := "meet", desc := "(I)I" } : Jvm.MethodName) ({ cls := "FavourTownModel", name := "meet", desc := "(I)I" } : Jvm.MethodName)) ∈ lw_all := lw_g (lw_at lw_m9 195 rfl) rfl
theorem q2198 : (Jvm.Cond.code ({ cls := "FavourTownModel", name := "meet", desc := "(I)I" } : Jvm.MethodName) prog_23_method_61_code (2 : Nat) (Option.some Jvm.ClassFile.FieldType.int)) ∈ lw_all := lw_g (lw_at lw_m9 196 rfl) rfl
theorem q2199 : (Jvm.Cond.methodLink "FavourTownModel" (281 : Nat) ({ cls := "FavourTownModel", name := "meets", desc := "(III)I" } : Jvm.MethodName)) ∈ lw_all := lw_g (lw_at lw_m9 197 rfl) rfl
theorem q2200 : (Jvm.Cond.privateMethod ({ cls := "FavourTownModel", name := "meets", desc := "(III)I" } : Jvm.MethodName)) ∈ lw_tbl := lw_at lw_m9 198 rfl
theorem q2201 : (Jvm.Cond.instanceMethod ({ cls := "FavourTownModel", name := "meets", desc := "(III)I" } : Jvm.MethodName)) ∈ lw_all := lw_g (lw_at lw_m9 199 rfl) rfl
theorem q2202 : (Jvm.Cond.code ({ cls := "FavourTownModel", name := "meets", desc := "(III)I" } : Jvm.MethodName) prog_23_method_60_code (5 : Nat) (Option.some Jvm.ClassFile.FieldType.int)) ∈ lw_all := lw_g (lw_at lw_m9 200 rfl) rfl
theorem q2204 : (Jvm.Cond.instanceMethod ({ cls := "FavourTownModel", name := "enough", desc := "(I)Z" } : Jvm.MethodName)) ∈ lw_all := lw_g (lw_at lw_m9 202 rfl) rfl
theorem q2205 : (Jvm.Cond.selects "FavourTownModel" ({ cls := "FavourTownModel", name := "enough", desc := "(I)Z" } : Jvm.MethodName) ({ cls := "FavourTownModel", name := "enough", desc := "(I)Z" } : Jvm.MethodName)) ∈ lw_all := lw_g (lw_at lw_m9 203 rfl) rfl
theorem q2206 : (Jvm.Cond.code ({ cls := "FavourTownModel", name := "enough", desc := "(I)Z" } : Jvm.MethodName) prog_23_method_64_code (2 : Nat) (Option.some Jvm.ClassFile.FieldType.boolean)) ∈ lw_all := lw_g (lw_at lw_m9 204 rfl) rfl
theorem q2207 : (Jvm.Cond.methodLink "FavourTownModel" (287 : Nat) ({ cls := "FavourTownModel", name := "witnessOf", desc := "(I)I" } : Jvm.MethodName)) ∈ lw_all := lw_g (lw_at lw_m9 205 rfl) rfl
theorem q2208 : (Jvm.Cond.privateMethod ({ cls := "FavourTownModel", name := "witnessOf", desc := "(I)I" } : Jvm.MethodName)) ∈ lw_tbl := lw_at lw_m9 206 rfl
theorem q2209 : (Jvm.Cond.instanceMethod ({ cls := "FavourTownModel", name := "witnessOf", desc := "(I)I" } : Jvm.MethodName)) ∈ lw_all := lw_g (lw_at lw_m9 207 rfl) rfl
theorem q2210 : (Jvm.Cond.code ({ cls := "FavourTownModel", name := "witnessOf", desc := "(I)I" } : Jvm.MethodName) prog_23_method_63_code (4 : Nat) (Option.some Jvm.ClassFile.FieldType.int)) ∈ lw_all := lw_g (lw_at lw_m9 208 rfl) rfl
theorem q2211 : (Jvm.Cond.methodLink "FavourTownModel" (284 : Nat) ({ cls := "FavourTownModel", name := "lets", desc := "(I)I" } : Jvm.MethodName)) ∈ lw_all := lw_g (lw_at lw_m9 209 rfl) rfl
theorem q2212 : (Jvm.Cond.privateMethod ({ cls := "FavourTownModel", name := "lets", desc := "(I)I" } : Jvm.MethodName)) ∈ lw_tbl := lw_at lw_m9 210 rfl
theorem q2213 : (Jvm.Cond.instanceMethod ({ cls := "FavourTownModel", name := "lets", desc := "(I)I" } : Jvm.MethodName)) ∈ lw_all := lw_g (lw_at lw_m9 211 rfl) rfl
theorem q2214 : (Jvm.Cond.code ({ cls := "FavourTownModel", name := "lets", desc := "(I)I" } : Jvm.MethodName) prog_23_method_62_code (5 : Nat) (Option.some Jvm.ClassFile.FieldType.int)) ∈ lw_all := lw_g (lw_at lw_m9 212 rfl) rfl
theorem q2216 : (Jvm.Cond.instanceMethod ({ cls := "FavourTownModel", name := "witness", desc := "(I)I" } : Jvm.MethodName)) ∈ lw_all := lw_g (lw_at lw_m9 214 rfl) rfl
theorem q2217 : (Jvm.Cond.selects "FavourTownModel" ({ cls := "FavourTownModel", name := "witness", desc := "(I)I" } : Jvm.MethodName) ({ cls := "FavourTownModel", name := "witness", desc := "(I)I" } : Jvm.MethodName)) ∈ lw_all := lw_g (lw_at lw_m9 215 rfl) rfl
theorem q2218 : (Jvm.Cond.code ({ cls := "FavourTownModel", name := "witness", desc := "(I)I" } : Jvm.MethodName) prog_23_method_65_code (2 : Nat) (Option.some Jvm.ClassFile.FieldType.int)) ∈ lw_all := lw_g (lw_at lw_m9 216 rfl) rfl
theorem q2220 : (Jvm.Cond.instanceMethod ({ cls := "FavourTownModel", name := "fewest", desc := "()I" } : Jvm.MethodName)) ∈ lw_all := lw_g (lw_at lw_m9 218 rfl) rfl
theorem q2221 : (Jvm.Cond.selects "FavourTownModel" ({ cls := "FavourTownModel", name := "fewest", desc := "()I" } : Jvm.MethodName) ({ cls := "FavourTownModel", name := "fewest", desc := "()I" } : Jvm.MethodName)) ∈ lw_all := lw_g (lw_at lw_m9 219 rfl) rfl
theorem q2222 : (Jvm.Cond.code ({ cls := "FavourTownModel", name := "fewest", desc := "()I" } : Jvm.MethodName) prog_23_method_67_code (3 : Nat) (Option.some Jvm.ClassFile.FieldType.int)) ∈ lw_all := lw_g (lw_at lw_m9 220 rfl) rfl
theorem q2223 : (Jvm.Cond.methodLink "FavourTownModel" (290 : Nat) ({ cls := "FavourTownModel", name := "bits", desc := "(I)I" } : Jvm.MethodName)) ∈ lw_all := lw_g (lw_at lw_m9 221 rfl) rfl
theorem q2224 : (Jvm.Cond.static ({ cls := "FavourTownModel", name := "bits", desc := "(I)I" } : Jvm.MethodName)) ∈ lw_all := lw_g (lw_at lw_m9 222 rfl) rfl
theorem q2225 : (Jvm.Cond.code ({ cls := "FavourTownModel", name := "bits", desc := "(I)I" } : Jvm.MethodName) prog_23_method_66_code (3 : Nat) (Option.some Jvm.ClassFile.FieldType.int)) ∈ lw_all := lw_g (lw_at lw_m9 223 rfl) rfl
theorem q2227 : (Jvm.Cond.instanceMethod ({ cls := "FavourTownModel", name := "forgive", desc := "(I)I" } : Jvm.MethodName)) ∈ lw_all := lw_g (lw_at lw_m9 225 rfl) rfl
theorem q2228 : (Jvm.Cond.selects "FavourTownModel" ({ cls := "FavourTownModel", name := "forgive", desc := "(I)I" } : Jvm.MethodName) ({ cls := "FavourTownModel", name := "forgive", desc := "(I)I" } : Jvm.MethodName)) ∈ lw_all := lw_g (lw_at lw_m9 226 rfl) rfl
theorem q2229 : (Jvm.Cond.code ({ cls := "FavourTownModel", name := "forgive", desc := "(I)I" } : Jvm.MethodName) prog_23_method_68_code (2 : Nat) (Option.some Jvm.ClassFile.FieldType.int)) ∈ lw_all := lw_g (lw_at lw_m9 227 rfl) rfl
theorem q2231 : (Jvm.Cond.instanceMethod ({ cls := "FavourTownModel", name := "port", desc := "(II)I" } : Jvm.MethodName)) ∈ lw_all := lw_g (lw_at lw_m9 229 rfl) rfl
theorem q2232 : (Jvm.Cond.selects "FavourTownModel" ({ cls := "FavourTownModel", name := "port", desc := "(II)I" } : Jvm.MethodName) ({ cls := "FavourTownModel", name := "port", desc := "(II)I" } : Jvm.MethodName)) ∈ lw_all := lw_g (lw_at lw_m9 230 rfl) rfl
theorem q2233 : (Jvm.Cond.code ({ cls := "FavourTownModel", name := "port", desc := "(II)I" } : Jvm.MethodName) prog_23_method_71_code (3 : Nat) (Option.some Jvm.ClassFile.FieldType.int)) ∈ lw_all := lw_g (lw_at lw_m9 231 rfl) rfl
theorem q2234 : (Jvm.Cond.methodLink "FavourTownModel" (293 : Nat) ({ cls := "FavourTownModel", name := "twoOf", desc := "(II)I" } : Jvm.MethodName)) ∈ lw_all := lw_g (lw_at lw_m9 232 rfl) rfl
theorem q2235 : (Jvm.Cond.privateMethod ({ cls := "FavourTownModel", name := "twoOf", desc := "(II)I" } : Jvm.MethodName)) ∈ lw_tbl := lw_at lw_m9 233 rfl
theorem q2236 : (Jvm.Cond.instanceMethod ({ cls := "FavourTownModel", name := "twoOf", desc := "(II)I" } : Jvm.MethodName)) ∈ lw_all := lw_g (lw_at lw_m9 234 rfl) rfl
theorem q2237 : (Jvm.Cond.code ({ cls := "FavourTownModel", name := "twoOf", desc := "(II)I" } : Jvm.MethodName) prog_23_method_70_code (3 : Nat) (Option.some Jvm.ClassFile.FieldType.int)) ∈ lw_all := lw_g (lw_at lw_m9 235 rfl) rfl
theorem q2238 : (Jvm.Cond.methodLink "FavourTownModel" (296 : Nat) ({ cls := "FavourTownModel", name := "portOf", desc := "(II)I" } : Jvm.MethodName)) ∈ lw_all := lw_g (lw_at lw_m9 236 rfl) rfl
theorem q2239 : (Jvm.Cond.privateMethod ({ cls := "FavourTownModel", name := "portOf", desc := "(II)I" } : Jvm.MethodName)) ∈ lw_tbl := lw_at lw_m9 237 rfl
theorem q2240 : (Jvm.Cond.instanceMethod ({ cls := "FavourTownModel", name := "portOf", desc := "(II)I" } : Jvm.MethodName)) ∈ lw_all := lw_g (lw_at lw_m9 238 rfl) rfl
theorem q2241 : (Jvm.Cond.code ({ cls := "FavourTownModel", name := "portOf", desc := "(II)I" } : Jvm.MethodName) prog_23_method_69_code (5 : Nat) (Option.some Jvm.ClassFile.FieldType.int)) ∈ lw_all := lw_g (lw_at lw_m9 239 rfl) rfl
theorem q2243 : (Jvm.Cond.instanceMethod ({ cls := "FavourTownModel", name := "most", desc := "(II)I" } : Jvm.MethodName)) ∈ lw_all := lw_g (lw_at lw_m10 1 rfl) rfl
theorem q2244 : (Jvm.Cond.selects "FavourTownModel" ({ cls := "FavourTownModel", name := "most", desc := "(II)I" } : Jvm.MethodName) ({ cls := "FavourTownModel", name := "most", desc := "(II)I" } : Jvm.MethodName)) ∈ lw_all := lw_g (lw_at lw_m10 2 rfl) rfl
theorem q2245 : (Jvm.Cond.code ({ cls := "FavourTownModel", name := "most", desc := "(II)I" } : Jvm.MethodName) prog_23_method_75_code (3 : Nat) (Option.some Jvm.ClassFile.FieldType.int)) ∈ lw_all := lw_g (lw_at lw_m10 3 rfl) rfl
theorem q2246 : (Jvm.Cond.methodLink "FavourTownModel" (305 : Nat) ({ cls := "FavourTownModel", name := "flows", desc := "(II)I" } : Jvm.MethodName)) ∈ lw_all := lw_g (lw_at lw_m10 4 rfl) rfl
theorem q2247 : (Jvm.Cond.privateMethod ({ cls := "FavourTownModel", name := "flows", desc := "(II)I" } : Jvm.MethodName)) ∈ lw_tbl := lw_at lw_m10 5 rfl
theorem q2248 : (Jvm.Cond.instanceMethod ({ cls := "FavourTownModel", name := "flows", desc := "(II)I" } : Jvm.MethodName)) ∈ lw_all := lw_g (lw_at lw_m10 6 rfl) rfl
theorem q2249 : (Jvm.Cond.code ({ cls := "FavourTownModel", name := "flows", desc := "(II)I" } : Jvm.MethodName) prog_23_method_74_code (6 : Nat) (Option.some Jvm.ClassFile.FieldType.int)) ∈ lw_all := lw_g (lw_at lw_m10 7 rfl) rfl
theorem q2250 : (Jvm.Cond.methodLink "FavourTownModel" (299 : Nat) ({ cls := "FavourTownModel", name := "allPorts", desc := "()V" } : Jvm.MethodName)) ∈ lw_all := lw_g (lw_at lw_m10 8 rfl) rfl
theorem q2251 : (Jvm.Cond.privateMethod ({ cls := "FavourTownModel", name := "allPorts", desc := "()V" } : Jvm.MethodName)) ∈ lw_tbl := lw_at lw_m10 9 rfl
theorem q2252 : (Jvm.Cond.instanceMethod ({ cls := "FavourTownModel", name := "allPorts", desc := "()V" } : Jvm.MethodName)) ∈ lw_all := lw_g (lw_at lw_m10 10 rfl) rfl
theorem q2253 : (Jvm.Cond.code ({ cls := "FavourTownModel", name := "allPorts", desc := "()V" } : Jvm.MethodName) prog_23_method_72_code (3 : Nat) (Option.none : Option Jvm.ClassFile.FieldType)) ∈ lw_all := lw_g (lw_at lw_m10 11 rfl) rfl
theorem q2254 : (Jvm.Cond.methodLink "FavourTownModel" (302 : Nat) ({ cls := "FavourTownModel", name := "reaches", desc := "(I)I" } : Jvm.MethodName)) ∈ lw_all := lw_g (lw_at lw_m10 12 rfl) rfl
theorem q2255 : (Jvm.Cond.privateMethod ({ cls := "FavourTownModel", name := "reaches", desc := "(I)I" } : Jvm.MethodName)) ∈ lw_tbl := lw_at lw_m10 13 rfl
theorem q2256 : (Jvm.Cond.instanceMethod ({ cls := "FavourTownModel", name := "reaches", desc := "(I)I" } : Jvm.MethodName)) ∈ lw_all := lw_g (lw_at lw_m10 14 rfl) rfl
theorem q2257 : (Jvm.Cond.code ({ cls := "FavourTownModel", name := "reaches", desc := "(I)I" } : Jvm.MethodName) prog_23_method_73_code (7 : Nat) (Option.some Jvm.ClassFile.FieldType.int)) ∈ lw_all := lw_g (lw_at lw_m10 15 rfl) rfl
theorem q2259 : (Jvm.Cond.instanceMethod ({ cls := "FavourTownModel", name := "cut", desc := "(II)I" } : Jvm.MethodName)) ∈ lw_all := lw_g (lw_at lw_m10 17 rfl) rfl
theorem q2260 : (Jvm.Cond.selects "FavourTownModel" ({ cls := "FavourTownModel", name := "cut", desc := "(II)I" } : Jvm.MethodName) ({ cls := "FavourTownModel", name := "cut", desc := "(II)I" } : Jvm.MethodName)) ∈ lw_all := lw_g (lw_at lw_m10 18 rfl) rfl
theorem q2261 : (Jvm.Cond.code ({ cls := "FavourTownModel", name := "cut", desc := "(II)I" } : Jvm.MethodName) prog_23_method_76_code (3 : Nat) (Option.some Jvm.ClassFile.FieldType.int)) ∈ lw_all := lw_g (lw_at lw_m10 19 rfl) rfl
theorem q2263 : (Jvm.Cond.instanceMethod ({ cls := "FavourTownModel", name := "chain", desc := "(IIII)I" } : Jvm.MethodName)) ∈ lw_all := lw_g (lw_at lw_m10 21 rfl) rfl
theorem q2264 : (Jvm.Cond.selects "FavourTownModel" ({ cls := "FavourTownModel", name := "chain", desc := "(IIII)I" } : Jvm.MethodName) ({ cls := "FavourTownModel", name := "chain", desc := "(IIII)I" } : Jvm.MethodName)) ∈ lw_all := lw_g (lw_at lw_m10 22 rfl) rfl
theorem q2265 : (Jvm.Cond.code ({ cls := "FavourTownModel", name := "chain", desc := "(IIII)I" } : Jvm.MethodName) prog_23_method_77_code (8 : Nat) (Option.some Jvm.ClassFile.FieldType.int)) ∈ lw_all := lw_g (lw_at lw_m10 23 rfl) rfl
theorem q2267 : (Jvm.Cond.instanceMethod ({ cls := "FavourTownModel", name := "ring", desc := "()I" } : Jvm.MethodName)) ∈ lw_all := lw_g (lw_at lw_m10 25 rfl) rfl
theorem q2268 : (Jvm.Cond.selects "FavourTownModel" ({ cls := "FavourTownModel", name := "ring", desc := "()I" } : Jvm.MethodName) ({ cls := "FavourTownModel", name := "ring", desc := "()I" } : Jvm.MethodName)) ∈ lw_all := lw_g (lw_at lw_m10 26 rfl) rfl
theorem q2269 : (Jvm.Cond.code ({ cls := "FavourTownModel", name := "ring", desc := "()I" } : Jvm.MethodName) prog_23_method_78_code (5 : Nat) (Option.some Jvm.ClassFile.FieldType.int)) ∈ lw_all := lw_g (lw_at lw_m10 27 rfl) rfl
theorem q2271 : (Jvm.Cond.instanceMethod ({ cls := "FavourTownModel", name := "clear", desc := "(I)I" } : Jvm.MethodName)) ∈ lw_all := lw_g (lw_at lw_m10 29 rfl) rfl
theorem q2272 : (Jvm.Cond.selects "FavourTownModel" ({ cls := "FavourTownModel", name := "clear", desc := "(I)I" } : Jvm.MethodName) ({ cls := "FavourTownModel", name := "clear", desc := "(I)I" } : Jvm.MethodName)) ∈ lw_all := lw_g (lw_at lw_m10 30 rfl) rfl
theorem q2273 : (Jvm.Cond.code ({ cls := "FavourTownModel", name := "clear", desc := "(I)I" } : Jvm.MethodName) prog_23_method_82_code (4 : Nat) (Option.some Jvm.ClassFile.FieldType.int)) ∈ lw_all := lw_g (lw_at lw_m10 31 rfl) rfl
theorem q2274 : (Jvm.Cond.methodLink "FavourTownModel" (318 : Nat) ({ cls := "FavourTownModel", name := "orders", desc := "(III)V" } : Jvm.MethodName)) ∈ lw_all := lw_g (lw_at lw_m10 32 rfl) rfl
theorem q2275 : (Jvm.Cond.privateMethod ({ cls := "FavourTownModel", name := "orders", desc := "(III)V" } : Jvm.MethodName)) ∈ lw_tbl := lw_at lw_m10 33 rfl
theorem q2276 : (Jvm.Cond.instanceMethod ({ cls := "FavourTownModel", name := "orders", desc := "(III)V" } : Jvm.MethodName)) ∈ lw_all := lw_g (lw_at lw_m10 34 rfl) rfl
theorem q2277 : (Jvm.Cond.code ({ cls := "FavourTownModel", name := "orders", desc := "(III)V" } : Jvm.MethodName) prog_23_method_81_code (6 : Nat) (Option.none : Option Jvm.ClassFile.FieldType)) ∈ lw_all := lw_g (lw_at lw_m10 35 rfl) rfl
theorem q2278 : (Jvm.Cond.methodLink "FavourTownModel" (315 : Nat) ({ cls := "FavourTownModel", name := "ringOf", desc := "(I)I" } : Jvm.MethodName)) ∈ lw_all := lw_g (lw_at lw_m10 36 rfl) rfl
theorem q2279 : (Jvm.Cond.privateMethod ({ cls := "FavourTownModel", name := "ringOf", desc := "(I)I" } : Jvm.MethodName)) ∈ lw_tbl := lw_at lw_m10 37 rfl
theorem q2280 : (Jvm.Cond.instanceMethod ({ cls := "FavourTownModel", name := "ringOf", desc := "(I)I" } : Jvm.MethodName)) ∈ lw_all := lw_g (lw_at lw_m10 38 rfl) rfl
theorem q2281 : (Jvm.Cond.code ({ cls := "FavourTownModel", name := "ringOf", desc := "(I)I" } : Jvm.MethodName) prog_23_method_80_code (7 : Nat) (Option.some Jvm.ClassFile.FieldType.int)) ∈ lw_all := lw_g (lw_at lw_m10 39 rfl) rfl
theorem q2282 : (Jvm.Cond.methodLink "FavourTownModel" (308 : Nat) ({ cls := "FavourTownModel", name := "putsBack", desc := "(II)V" } : Jvm.MethodName)) ∈ lw_all := lw_g (lw_at lw_m10 40 rfl) rfl
theorem q2283 : (Jvm.Cond.privateMethod ({ cls := "FavourTownModel", name := "putsBack", desc := "(II)V" } : Jvm.MethodName)) ∈ lw_tbl := lw_at lw_m10 41 rfl
theorem q2284 : (Jvm.Cond.instanceMethod ({ cls := "FavourTownModel", name := "putsBack", desc := "(II)V" } : Jvm.MethodName)) ∈ lw_all := lw_g (lw_at lw_m10 42 rfl) rfl
theorem q2285 : (Jvm.Cond.code ({ cls := "FavourTownModel", name := "putsBack", desc := "(II)V" } : Jvm.MethodName) prog_23_method_79_code (5 : Nat) (Option.none : Option Jvm.ClassFile.FieldType)) ∈ lw_all := lw_g (lw_at lw_m10 43 rfl) rfl
theorem q2287 : (Jvm.Cond.instanceMethod ({ cls := "FavourTownModel", name := "loss", desc := "(II)I" } : Jvm.MethodName)) ∈ lw_all := lw_g (lw_at lw_m10 45 rfl) rfl
theorem q2288 : (Jvm.Cond.selects "FavourTownModel" ({ cls := "FavourTownModel", name := "loss", desc := "(II)I" } : Jvm.MethodName) ({ cls := "FavourTownModel", name := "loss", desc := "(II)I" } : Jvm.MethodName)) ∈ lw_all := lw_g (lw_at lw_m10 46 rfl) rfl
theorem q2289 : (Jvm.Cond.code ({ cls := "FavourTownModel", name := "loss", desc := "(II)I" } : Jvm.MethodName) prog_23_method_84_code (3 : Nat) (Option.some Jvm.ClassFile.FieldType.int)) ∈ lw_all := lw_g (lw_at lw_m10 47 rfl) rfl
theorem q2290 : (Jvm.Cond.methodLink "FavourTownModel" (321 : Nat) ({ cls := "FavourTownModel", name := "lossOf", desc := "(II)I" } : Jvm.MethodName)) ∈ lw_all := lw_g (lw_at lw_m10 48 rfl) rfl
theorem q2291 : (Jvm.Cond.privateMethod ({ cls := "FavourTownModel", name := "lossOf", desc := "(II)I" } : Jvm.MethodName)) ∈ lw_tbl := lw_at lw_m10 49 rfl
theorem q2292 : (Jvm.Cond.instanceMethod ({ cls := "FavourTownModel", name := "lossOf", desc := "(II)I" } : Jvm.MethodName)) ∈ lw_all := lw_g (lw_at lw_m10 50 rfl) rfl
theorem q2293 : (Jvm.Cond.code ({ cls := "FavourTownModel", name := "lossOf", desc := "(II)I" } : Jvm.MethodName) prog_23_method_83_code (6 : Nat) (Option.some Jvm.ClassFile.FieldType.int)) ∈ lw_all := lw_g (lw_at lw_m10 51 rfl) rfl
theorem q2295 : (Jvm.Cond.instanceMethod ({ cls := "FavourTownModel", name := "ruined", desc := "(I)I" } : Jvm.MethodName)) ∈ lw_all := lw_g (lw_at lw_m10 53 rfl) rfl
theorem q2296 : (Jvm.Cond.selects "FavourTownModel" ({ cls := "FavourTownModel", name := "ruined", desc := "(I)I" } : Jvm.MethodName) ({ cls := "FavourTownModel", name := "ruined", desc := "(I)I" } : Jvm.MethodName)) ∈ lw_all := lw_g (lw_at lw_m10 54 rfl) rfl
theorem q2297 : (Jvm.Cond.code ({ cls := "FavourTownModel", name := "ruined", desc := "(I)I" } : Jvm.MethodName) prog_23_method_85_code (6 : Nat) (Option.some Jvm.ClassFile.FieldType.int)) ∈ lw_all := lw_g (lw_at lw_m10 55 rfl) rfl
theorem q2299 : (Jvm.Cond.instanceMethod ({ cls := "FavourTownModel", name := "fits", desc := "(I)I" } : Jvm.MethodName)) ∈ lw_all := lw_g (lw_at lw_m10 57 rfl) rfl
theorem q2300 : (Jvm.Cond.selects "FavourTownModel" ({ cls := "FavourTownModel", name := "fits", desc := "(I)I" } : Jvm.MethodName) ({ cls := "FavourTownModel", name := "fits", desc := "(I)I" } : Jvm.MethodName)) ∈ lw_all := lw_g (lw_at lw_m10 58 rfl) rfl
theorem q2301 : (Jvm.Cond.code ({ cls := "FavourTownModel", name := "fits", desc := "(I)I" } : Jvm.MethodName) prog_23_method_86_code (4 : Nat) (Option.some Jvm.ClassFile.FieldType.int)) ∈ lw_all := lw_g (lw_at lw_m10 59 rfl) rfl
theorem q2303 : (Jvm.Cond.instanceMethod ({ cls := "FavourTownModel", name := "play", desc := "(III)I" } : Jvm.MethodName)) ∈ lw_all := lw_g (lw_at lw_m10 61 rfl) rfl
theorem q2304 : (Jvm.Cond.selects "FavourTownModel" ({ cls := "FavourTownModel", name := "play", desc := "(III)I" } : Jvm.MethodName) ({ cls := "FavourTownModel", name := "play", desc := "(III)I" } : Jvm.MethodName)) ∈ lw_all := lw_g (lw_at lw_m10 62 rfl) rfl
theorem q2305 : (Jvm.Cond.code ({ cls := "FavourTownModel", name := "play", desc := "(III)I" } : Jvm.MethodName) prog_23_method_88_code (12 : Nat) (Option.some Jvm.ClassFile.FieldType.int)) ∈ lw_all := lw_g (lw_at lw_m10 63 rfl) rfl
theorem q2306 : (Jvm.Cond.methodLink "FavourTownModel" (328 : Nat) ({ cls := "FavourTownModel", name := "draws", desc := "(I)I" } : Jvm.MethodName)) ∈ lw_all := lw_g (lw_at lw_m10 64 rfl) rfl
theorem q2307 : (Jvm.Cond.privateMethod ({ cls := "FavourTownModel", name := "draws", desc := "(I)I" } : Jvm.MethodName)) ∈ lw_tbl := lw_at lw_m10 65 rfl
theorem q2308 : (Jvm.Cond.instanceMethod ({ cls := "FavourTownModel", name := "draws", desc := "(I)I" } : Jvm.MethodName)) ∈ lw_all := lw_g (lw_at lw_m10 66 rfl) rfl
theorem q2309 : (Jvm.Cond.code ({ cls := "FavourTownModel", name := "draws", desc := "(I)I" } : Jvm.MethodName) prog_23_method_87_code (2 : Nat) (Option.some Jvm.ClassFile.FieldType.int)) ∈ lw_all := lw_g (lw_at lw_m10 67 rfl) rfl
theorem q2310 : (Jvm.Cond.constant "FavourTownModel" (324 : Nat) (1103515245 : Int32)) ∈ lw_all := lw_g (lw_at lw_m10 68 rfl) rfl
theorem q2312 : (Jvm.Cond.instanceMethod ({ cls := "FavourTownModel", name := "image", desc := "()V" } : Jvm.MethodName)) ∈ lw_all := lw_g (lw_at lw_m10 70 rfl) rfl
theorem q2313 : (Jvm.Cond.selects "FavourTownModel" ({ cls := "FavourTownModel", name := "image", desc := "()V" } : Jvm.MethodName) ({ cls := "FavourTownModel", name := "image", desc := "()V" } : Jvm.MethodName)) ∈ lw_all := lw_g (lw_at lw_m10 71 rfl) rfl
theorem q2314 : (Jvm.Cond.code ({ cls := "FavourTownModel", name := "image", desc := "()V" } : Jvm.MethodName) prog_23_method_89_code (2 : Nat) (Option.none : Option Jvm.ClassFile.FieldType)) ∈ lw_all := lw_g (lw_at lw_m10 72 rfl) rfl
theorem q2316 : (Jvm.Cond.instanceMethod ({ cls := "FavourTownModel", name := "back", desc := "()Z" } : Jvm.MethodName)) ∈ lw_all := lw_g (lw_at lw_m10 74 rfl) rfl
theorem q2317 : (Jvm.Cond.selects "FavourTownModel" ({ cls := "FavourTownModel", name := "back", desc := "()Z" } : Jvm.MethodName) ({ cls := "FavourTownModel", name := "back", desc := "()Z" } : Jvm.MethodName)) ∈ lw_all := lw_g (lw_at lw_m10 75 rfl) rfl
theorem q2318 : (Jvm.Cond.code ({ cls := "FavourTownModel", name := "back", desc := "()Z" } : Jvm.MethodName) prog_23_method_90_code (2 : Nat) (Option.some Jvm.ClassFile.FieldType.boolean)) ∈ lw_all := lw_g (lw_at lw_m10 76 rfl) rfl
theorem q2320 : (Jvm.Cond.instanceMethod ({ cls := "FavourTownModel", name := "count", desc := "(I)I" } : Jvm.MethodName)) ∈ lw_all := lw_g (lw_at lw_m10 78 rfl) rfl
theorem q2321 : (Jvm.Cond.selects "FavourTownModel" ({ cls := "FavourTownModel", name := "count", desc := "(I)I" } : Jvm.MethodName) ({ cls := "FavourTownModel", name := "count", desc := "(I)I" } : Jvm.MethodName)) ∈ lw_all := lw_g (lw_at lw_m10 79 rfl) rfl
theorem q2322 : (Jvm.Cond.code ({ cls := "FavourTownModel", name := "count", desc := "(I)I" } : Jvm.MethodName) prog_23_method_91_code (5 : Nat) (Option.some Jvm.ClassFile.FieldType.int)) ∈ lw_all := lw_g (lw_at lw_m10 80 rfl) rfl
theorem q2348 : (Jvm.Cond.castable "FavourTownModel" "java/lang/Object") ∈ lw_tbl := lw_at lw_m10 106 rfl
theorem in_X7 : ∀ w ∈ wsX70, w ∈ lw_all := lw_in wsX70 [1868, 1870, 1872, 1874, 1876, 1878, 1880, 1882, 1884, 1886, 1888, 1890, 1892, 1894, 1896, 1898, 1900, 1902, 1904, 1906, 1908, 1910, 1912, 1914, 1916, 1918, 1920, 1922, 1924] (by decide +kernel) (by decide +kernel)
