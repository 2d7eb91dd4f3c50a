/-! FavourTown$World -/
set_option maxRecDepth 100000
def RX2 : String := "FavourTown$World"
def TX2 : u_T := fun k => match k with
  | 0 => ("FavourTown$World", "texts", "I", false)
  | 1 => ("FavourTown$World", "day", "I", false)
  | 2 => ("FavourTown$World", "law", "I", false)
  | 3 => ("FavourTown$World", "people", "I", false)
  | 4 => ("FavourTown$World", "forgiving", "I", false)
  | 5 => ("FavourTown$World", "limit", "[I", true)
  | 6 => ("FavourTown$World", "near", "[I", true)
  | 7 => ("FavourTown$World", "temperOf", "[I", true)
  | 8 => ("FavourTown$World", "loss", "[[I", true)
  | 9 => ("FavourTown$World", "favours", "Ljava/util/ArrayList;", true)
  | 10 => ("FavourTown$World", "needs", "Ljava/util/ArrayList;", true)
  | 11 => ("FavourTown$World", "tempers", "Ljava/util/ArrayList;", true)
  | 12 => ("FavourTown$World", "rings", "Ljava/util/ArrayList;", true)
  | _ => ("FavourTown$World", "scene", "LFavourTown$Scene;", true)
def tyX2 : Nat → FieldType := fun k => match k with
  | 0 => .int
  | 1 => .int
  | 2 => .int
  | 3 => .int
  | 4 => .int
  | 5 => .array .int
  | 6 => .array .int
  | 7 => .array .int
  | 8 => .array (.array .int)
  | 9 => .object "java/util/ArrayList"
  | 10 => .object "java/util/ArrayList"
  | 11 => .object "java/util/ArrayList"
  | 12 => .object "java/util/ArrayList"
  | _ => .object "FavourTown$Scene"
abbrev wsX20 : List Cond := u_ws RX2 TX2 14
set_option maxRecDepth 100000 in
theorem nmX2 : ∀ a, a < 14 → ∀ b, b < 14 → a ≠ b → (TX2 a).2.1 ≠ (TX2 b).2.1 := by decide +kernel
set_option maxRecDepth 100000 in
theorem tyX2_ok : ∀ k, k < 14 → parseFieldDescriptor (TX2 k).2.2.1 = some (tyX2 k) := by decide +kernel
abbrev cX2_init : ByteArray := prog_20_method_1_code
def yX2_init : MethodName := ⟨RX2, "<init>", "()V"⟩
def dkwX2_init_4 : List UInt8 := [187, 0, 46, 89, 183, 0, 48, 181, 0, 49, 177]
abbrev dktX2_init_4 : List UInt8 := dkwX2_init_4 ++ []
def dkwX2_init_3 : List UInt8 := [187, 0, 30, 89, 183, 0, 32, 181, 0, 40, 42, 187, 0, 30, 89, 183, 0, 32, 181, 0, 43, 42]
abbrev dktX2_init_3 : List UInt8 := dkwX2_init_3 ++ dktX2_init_4
def dkwX2_init_2 : List UInt8 := [187, 0, 30, 89, 183, 0, 32, 181, 0, 33, 42, 187, 0, 30, 89, 183, 0, 32, 181, 0, 37, 42]
abbrev dktX2_init_2 : List UInt8 := dkwX2_init_2 ++ dktX2_init_3
def dkwX2_init_1 : List UInt8 := [181, 0, 19, 42, 16, 12, 188, 10, 181, 0, 22, 42, 16, 12, 16, 12, 197, 0, 25, 2, 181, 0, 27, 42]
abbrev dktX2_init_1 : List UInt8 := dkwX2_init_1 ++ dktX2_init_2
def dkwX2_init_0 : List UInt8 := [42, 183, 0, 3, 42, 16, 10, 181, 0, 9, 42, 16, 12, 188, 10, 181, 0, 15, 42, 16, 12, 188, 10]
abbrev dktX2_init_0 : List UInt8 := dkwX2_init_0 ++ dktX2_init_1
theorem dksX2_init_0 : cX2_init.data.toList.drop 0 = dktX2_init_0 := by decide +kernel
theorem dksX2_init_1 : cX2_init.data.toList.drop 23 = dktX2_init_1 := dk_seg dksX2_init_0 23 rfl rfl
theorem dksX2_init_2 : cX2_init.data.toList.drop 47 = dktX2_init_2 := dk_seg dksX2_init_1 24 rfl rfl
theorem dksX2_init_3 : cX2_init.data.toList.drop 69 = dktX2_init_3 := dk_seg dksX2_init_2 22 rfl rfl
theorem dksX2_init_4 : cX2_init.data.toList.drop 91 = dktX2_init_4 := dk_seg dksX2_init_3 22 rfl rfl
theorem dX2_init_0 : decode cX2_init 0 = .ok (.aload_n 0, 1) := dk_42 (dk_at dksX2_init_0 0 rfl rfl)
theorem dX2_init_1 : decode cX2_init 1 = .ok (.invokespecial 3, 3) := dk_183 0 3 (dk_at dksX2_init_0 1 rfl rfl)
theorem dX2_init_4 : decode cX2_init 4 = .ok (.aload_n 0, 1) := dk_42 (dk_at dksX2_init_0 4 rfl rfl)
theorem dX2_init_5 : decode cX2_init 5 = .ok (.bipush 10, 2) := dk_16 10 (dk_at dksX2_init_0 5 rfl rfl)
theorem dX2_init_7 : decode cX2_init 7 = .ok (.putfield 9, 3) := dk_181 0 9 (dk_at dksX2_init_0 7 rfl rfl)
theorem dX2_init_10 : decode cX2_init 10 = .ok (.aload_n 0, 1) := dk_42 (dk_at dksX2_init_0 10 rfl rfl)
theorem dX2_init_11 : decode cX2_init 11 = .ok (.bipush 12, 2) := dk_16 12 (dk_at dksX2_init_0 11 rfl rfl)
theorem dX2_init_13 : decode cX2_init 13 = .ok (.newarray .int, 2) := dk_188_10 (dk_at dksX2_init_0 13 rfl rfl)
theorem dX2_init_15 : decode cX2_init 15 = .ok (.putfield 15, 3) := dk_181 0 15 (dk_at dksX2_init_0 15 rfl rfl)
theorem dX2_init_18 : decode cX2_init 18 = .ok (.aload_n 0, 1) := dk_42 (dk_at dksX2_init_0 18 rfl rfl)
theorem dX2_init_19 : decode cX2_init 19 = .ok (.bipush 12, 2) := dk_16 12 (dk_at dksX2_init_0 19 rfl rfl)
theorem dX2_init_21 : decode cX2_init 21 = .ok (.newarray .int, 2) := dk_188_10 (dk_at dksX2_init_0 21 rfl rfl)
theorem dX2_init_23 : decode cX2_init 23 = .ok (.putfield 19, 3) := dk_181 0 19 (dk_at dksX2_init_1 0 rfl rfl)
theorem dX2_init_26 : decode cX2_init 26 = .ok (.aload_n 0, 1) := dk_42 (dk_at dksX2_init_1 3 rfl rfl)
theorem dX2_init_27 : decode cX2_init 27 = .ok (.bipush 12, 2) := dk_16 12 (dk_at dksX2_init_1 4 rfl rfl)
theorem dX2_init_29 : decode cX2_init 29 = .ok (.newarray .int, 2) := dk_188_10 (dk_at dksX2_init_1 6 rfl rfl)
theorem dX2_init_31 : decode cX2_init 31 = .ok (.putfield 22, 3) := dk_181 0 22 (dk_at dksX2_init_1 8 rfl rfl)
theorem dX2_init_34 : decode cX2_init 34 = .ok (.aload_n 0, 1) := dk_42 (dk_at dksX2_init_1 11 rfl rfl)
theorem dX2_init_35 : decode cX2_init 35 = .ok (.bipush 12, 2) := dk_16 12 (dk_at dksX2_init_1 12 rfl rfl)
theorem dX2_init_37 : decode cX2_init 37 = .ok (.bipush 12, 2) := dk_16 12 (dk_at dksX2_init_1 14 rfl rfl)
theorem dX2_init_39 : decode cX2_init 39 = .ok (.multianewarray 25 2, 4) := by decide +kernel
theorem dX2_init_43 : decode cX2_init 43 = .ok (.putfield 27, 3) := dk_181 0 27 (dk_at dksX2_init_1 20 rfl rfl)
theorem dX2_init_46 : decode cX2_init 46 = .ok (.aload_n 0, 1) := dk_42 (dk_at dksX2_init_1 23 rfl rfl)
theorem dX2_init_47 : decode cX2_init 47 = .ok (.new 30, 3) := dk_187 0 30 (dk_at dksX2_init_2 0 rfl rfl)
theorem dX2_init_50 : decode cX2_init 50 = .ok (.dup, 1) := dk_89 (dk_at dksX2_init_2 3 rfl rfl)
theorem dX2_init_51 : decode cX2_init 51 = .ok (.invokespecial 32, 3) := dk_183 0 32 (dk_at dksX2_init_2 4 rfl rfl)
theorem dX2_init_54 : decode cX2_init 54 = .ok (.putfield 33, 3) := dk_181 0 33 (dk_at dksX2_init_2 7 rfl rfl)
theorem dX2_init_57 : decode cX2_init 57 = .ok (.aload_n 0, 1) := dk_42 (dk_at dksX2_init_2 10 rfl rfl)
theorem dX2_init_58 : decode cX2_init 58 = .ok (.new 30, 3) := dk_187 0 30 (dk_at dksX2_init_2 11 rfl rfl)
theorem dX2_init_61 : decode cX2_init 61 = .ok (.dup, 1) := dk_89 (dk_at dksX2_init_2 14 rfl rfl)
theorem dX2_init_62 : decode cX2_init 62 = .ok (.invokespecial 32, 3) := dk_183 0 32 (dk_at dksX2_init_2 15 rfl rfl)
theorem dX2_init_65 : decode cX2_init 65 = .ok (.putfield 37, 3) := dk_181 0 37 (dk_at dksX2_init_2 18 rfl rfl)
theorem dX2_init_68 : decode cX2_init 68 = .ok (.aload_n 0, 1) := dk_42 (dk_at dksX2_init_2 21 rfl rfl)
theorem dX2_init_69 : decode cX2_init 69 = .ok (.new 30, 3) := dk_187 0 30 (dk_at dksX2_init_3 0 rfl rfl)
theorem dX2_init_72 : decode cX2_init 72 = .ok (.dup, 1) := dk_89 (dk_at dksX2_init_3 3 rfl rfl)
theorem dX2_init_73 : decode cX2_init 73 = .ok (.invokespecial 32, 3) := dk_183 0 32 (dk_at dksX2_init_3 4 rfl rfl)
theorem dX2_init_76 : decode cX2_init 76 = .ok (.putfield 40, 3) := dk_181 0 40 (dk_at dksX2_init_3 7 rfl rfl)
theorem dX2_init_79 : decode cX2_init 79 = .ok (.aload_n 0, 1) := dk_42 (dk_at dksX2_init_3 10 rfl rfl)
theorem dX2_init_80 : decode cX2_init 80 = .ok (.new 30, 3) := dk_187 0 30 (dk_at dksX2_init_3 11 rfl rfl)
theorem dX2_init_83 : decode cX2_init 83 = .ok (.dup, 1) := dk_89 (dk_at dksX2_init_3 14 rfl rfl)
theorem dX2_init_84 : decode cX2_init 84 = .ok (.invokespecial 32, 3) := dk_183 0 32 (dk_at dksX2_init_3 15 rfl rfl)
theorem dX2_init_87 : decode cX2_init 87 = .ok (.putfield 43, 3) := dk_181 0 43 (dk_at dksX2_init_3 18 rfl rfl)
theorem dX2_init_90 : decode cX2_init 90 = .ok (.aload_n 0, 1) := dk_42 (dk_at dksX2_init_3 21 rfl rfl)
theorem dX2_init_91 : decode cX2_init 91 = .ok (.new 46, 3) := dk_187 0 46 (dk_at dksX2_init_4 0 rfl rfl)
theorem dX2_init_94 : decode cX2_init 94 = .ok (.dup, 1) := dk_89 (dk_at dksX2_init_4 3 rfl rfl)
theorem dX2_init_95 : decode cX2_init 95 = .ok (.invokespecial 48, 3) := dk_183 0 48 (dk_at dksX2_init_4 4 rfl rfl)
theorem dX2_init_98 : decode cX2_init 98 = .ok (.putfield 49, 3) := dk_181 0 49 (dk_at dksX2_init_4 7 rfl rfl)
theorem dX2_init_101 : decode cX2_init 101 = .ok (.return_, 1) := dk_177 (dk_at dksX2_init_4 10 rfl rfl)
abbrev cX2_unmet : ByteArray := prog_20_method_18_code
def yX2_unmet : MethodName := ⟨RX2, "unmet", "(I)I"⟩
def dkwX2_unmet_3 : List UInt8 := [61, 132, 3, 255, 167, 255, 198, 42, 3, 181, 0, 94, 28, 172]
abbrev dktX2_unmet_3 : List UInt8 := dkwX2_unmet_3 ++ []
def dkwX2_unmet_2 : List UInt8 := [180, 0, 205, 42, 180, 0, 37, 29, 182, 0, 73, 192, 0, 200, 180, 0, 208, 182, 0, 211, 154, 0, 5, 29]
abbrev dktX2_unmet_2 : List UInt8 := dkwX2_unmet_2 ++ dktX2_unmet_3
def dkwX2_unmet_1 : List UInt8 := [180, 0, 37, 29, 182, 0, 73, 192, 0, 200, 180, 0, 202, 42, 180, 0, 37, 29, 182, 0, 73, 192, 0, 200]
abbrev dktX2_unmet_1 : List UInt8 := dkwX2_unmet_1 ++ dktX2_unmet_2
def dkwX2_unmet_0 : List UInt8 := [42, 27, 181, 0, 94, 2, 61, 42, 180, 0, 37, 182, 0, 69, 4, 100, 62, 29, 155, 0, 60, 42, 42]
abbrev dktX2_unmet_0 : List UInt8 := dkwX2_unmet_0 ++ dktX2_unmet_1
theorem dksX2_unmet_0 : cX2_unmet.data.toList.drop 0 = dktX2_unmet_0 := by decide +kernel
theorem dksX2_unmet_1 : cX2_unmet.data.toList.drop 23 = dktX2_unmet_1 := dk_seg dksX2_unmet_0 23 rfl rfl
theorem dksX2_unmet_2 : cX2_unmet.data.toList.drop 47 = dktX2_unmet_2 := dk_seg dksX2_unmet_1 24 rfl rfl
theorem dksX2_unmet_3 : cX2_unmet.data.toList.drop 71 = dktX2_unmet_3 := dk_seg dksX2_unmet_2 24 rfl rfl
theorem dX2_unmet_0 : decode cX2_unmet 0 = .ok (.aload_n 0, 1) := dk_42 (dk_at dksX2_unmet_0 0 rfl rfl)
theorem dX2_unmet_1 : decode cX2_unmet 1 = .ok (.iload_n 1, 1) := dk_27 (dk_at dksX2_unmet_0 1 rfl rfl)
theorem dX2_unmet_2 : decode cX2_unmet 2 = .ok (.putfield 94, 3) := dk_181 0 94 (dk_at dksX2_unmet_0 2 rfl rfl)
theorem dX2_unmet_5 : decode cX2_unmet 5 = .ok (.iconst (-1), 1) := dk_2 (dk_at dksX2_unmet_0 5 rfl rfl)
theorem dX2_unmet_6 : decode cX2_unmet 6 = .ok (.istore_n 2, 1) := dk_61 (dk_at dksX2_unmet_0 6 rfl rfl)
theorem dX2_unmet_7 : decode cX2_unmet 7 = .ok (.aload_n 0, 1) := dk_42 (dk_at dksX2_unmet_0 7 rfl rfl)
theorem dX2_unmet_8 : decode cX2_unmet 8 = .ok (.getfield 37, 3) := dk_180 0 37 (dk_at dksX2_unmet_0 8 rfl rfl)
theorem dX2_unmet_11 : decode cX2_unmet 11 = .ok (.invokevirtual 69, 3) := dk_182 0 69 (dk_at dksX2_unmet_0 11 rfl rfl)
theorem dX2_unmet_14 : decode cX2_unmet 14 = .ok (.iconst 1, 1) := dk_4 (dk_at dksX2_unmet_0 14 rfl rfl)
theorem dX2_unmet_15 : decode cX2_unmet 15 = .ok (.isub, 1) := dk_100 (dk_at dksX2_unmet_0 15 rfl rfl)
theorem dX2_unmet_16 : decode cX2_unmet 16 = .ok (.istore_n 3, 1) := dk_62 (dk_at dksX2_unmet_0 16 rfl rfl)
theorem dX2_unmet_17 : decode cX2_unmet 17 = .ok (.iload_n 3, 1) := dk_29 (dk_at dksX2_unmet_0 17 rfl rfl)
theorem dX2_unmet_18 : decode cX2_unmet 18 = .ok (.ifCond .lt 60, 3) := dk_155 0 60 (dk_at dksX2_unmet_0 18 rfl rfl)
theorem dX2_unmet_21 : decode cX2_unmet 21 = .ok (.aload_n 0, 1) := dk_42 (dk_at dksX2_unmet_0 21 rfl rfl)
theorem dX2_unmet_22 : decode cX2_unmet 22 = .ok (.aload_n 0, 1) := dk_42 (dk_at dksX2_unmet_0 22 rfl rfl)
theorem dX2_unmet_23 : decode cX2_unmet 23 = .ok (.getfield 37, 3) := dk_180 0 37 (dk_at dksX2_unmet_1 0 rfl rfl)
theorem dX2_unmet_26 : decode cX2_unmet 26 = .ok (.iload_n 3, 1) := dk_29 (dk_at dksX2_unmet_1 3 rfl rfl)
theorem dX2_unmet_27 : decode cX2_unmet 27 = .ok (.invokevirtual 73, 3) := dk_182 0 73 (dk_at dksX2_unmet_1 4 rfl rfl)
theorem dX2_unmet_30 : decode cX2_unmet 30 = .ok (.checkcast 200, 3) := dk_192 0 200 (dk_at dksX2_unmet_1 7 rfl rfl)
theorem dX2_unmet_33 : decode cX2_unmet 33 = .ok (.getfield 202, 3) := dk_180 0 202 (dk_at dksX2_unmet_1 10 rfl rfl)
theorem dX2_unmet_36 : decode cX2_unmet 36 = .ok (.aload_n 0, 1) := dk_42 (dk_at dksX2_unmet_1 13 rfl rfl)
theorem dX2_unmet_37 : decode cX2_unmet 37 = .ok (.getfield 37, 3) := dk_180 0 37 (dk_at dksX2_unmet_1 14 rfl rfl)
theorem dX2_unmet_40 : decode cX2_unmet 40 = .ok (.iload_n 3, 1) := dk_29 (dk_at dksX2_unmet_1 17 rfl rfl)
theorem dX2_unmet_41 : decode cX2_unmet 41 = .ok (.invokevirtual 73, 3) := dk_182 0 73 (dk_at dksX2_unmet_1 18 rfl rfl)
theorem dX2_unmet_44 : decode cX2_unmet 44 = .ok (.checkcast 200, 3) := dk_192 0 200 (dk_at dksX2_unmet_1 21 rfl rfl)
theorem dX2_unmet_47 : decode cX2_unmet 47 = .ok (.getfield 205, 3) := dk_180 0 205 (dk_at dksX2_unmet_2 0 rfl rfl)
theorem dX2_unmet_50 : decode cX2_unmet 50 = .ok (.aload_n 0, 1) := dk_42 (dk_at dksX2_unmet_2 3 rfl rfl)
theorem dX2_unmet_51 : decode cX2_unmet 51 = .ok (.getfield 37, 3) := dk_180 0 37 (dk_at dksX2_unmet_2 4 rfl rfl)
theorem dX2_unmet_54 : decode cX2_unmet 54 = .ok (.iload_n 3, 1) := dk_29 (dk_at dksX2_unmet_2 7 rfl rfl)
theorem dX2_unmet_55 : decode cX2_unmet 55 = .ok (.invokevirtual 73, 3) := dk_182 0 73 (dk_at dksX2_unmet_2 8 rfl rfl)
theorem dX2_unmet_58 : decode cX2_unmet 58 = .ok (.checkcast 200, 3) := dk_192 0 200 (dk_at dksX2_unmet_2 11 rfl rfl)
theorem dX2_unmet_61 : decode cX2_unmet 61 = .ok (.getfield 208, 3) := dk_180 0 208 (dk_at dksX2_unmet_2 14 rfl rfl)
theorem dX2_unmet_64 : decode cX2_unmet 64 = .ok (.invokevirtual 211, 3) := dk_182 0 211 (dk_at dksX2_unmet_2 17 rfl rfl)
theorem dX2_unmet_67 : decode cX2_unmet 67 = .ok (.ifCond .ne 5, 3) := dk_154 0 5 (dk_at dksX2_unmet_2 20 rfl rfl)
theorem dX2_unmet_70 : decode cX2_unmet 70 = .ok (.iload_n 3, 1) := dk_29 (dk_at dksX2_unmet_2 23 rfl rfl)
theorem dX2_unmet_71 : decode cX2_unmet 71 = .ok (.istore_n 2, 1) := dk_61 (dk_at dksX2_unmet_3 0 rfl rfl)
theorem dX2_unmet_72 : decode cX2_unmet 72 = .ok (.iinc 3 (-1), 3) := dk_132 3 255 (dk_at dksX2_unmet_3 1 rfl rfl)
theorem dX2_unmet_75 : decode cX2_unmet 75 = .ok (.goto (-58), 3) := dk_167 255 198 (dk_at dksX2_unmet_3 4 rfl rfl)
theorem dX2_unmet_78 : decode cX2_unmet 78 = .ok (.aload_n 0, 1) := dk_42 (dk_at dksX2_unmet_3 7 rfl rfl)
theorem dX2_unmet_79 : decode cX2_unmet 79 = .ok (.iconst 0, 1) := dk_3 (dk_at dksX2_unmet_3 8 rfl rfl)
theorem dX2_unmet_80 : decode cX2_unmet 80 = .ok (.putfield 94, 3) := dk_181 0 94 (dk_at dksX2_unmet_3 9 rfl rfl)
theorem dX2_unmet_83 : decode cX2_unmet 83 = .ok (.iload_n 2, 1) := dk_28 (dk_at dksX2_unmet_3 12 rfl rfl)
theorem dX2_unmet_84 : decode cX2_unmet 84 = .ok (.ireturn, 1) := dk_172 (dk_at dksX2_unmet_3 13 rfl rfl)
abbrev cX2_isMet : ByteArray := prog_20_method_16_code
def yX2_isMet : MethodName := ⟨RX2, "isMet", "(III)Z"⟩
def dkwX2_isMet_1 : List UInt8 := [167, 0, 4, 3, 172]
abbrev dktX2_isMet_1 : List UInt8 := dkwX2_isMet_1 ++ []
def dkwX2_isMet_0 : List UInt8 := [42, 27, 28, 29, 182, 0, 188, 2, 160, 0, 15, 42, 27, 28, 29, 2, 3, 182, 0, 165, 153, 0, 7, 4]
abbrev dktX2_isMet_0 : List UInt8 := dkwX2_isMet_0 ++ dktX2_isMet_1
theorem dksX2_isMet_0 : cX2_isMet.data.toList.drop 0 = dktX2_isMet_0 := by decide +kernel
theorem dksX2_isMet_1 : cX2_isMet.data.toList.drop 24 = dktX2_isMet_1 := dk_seg dksX2_isMet_0 24 rfl rfl
theorem dX2_isMet_0 : decode cX2_isMet 0 = .ok (.aload_n 0, 1) := dk_42 (dk_at dksX2_isMet_0 0 rfl rfl)
theorem dX2_isMet_1 : decode cX2_isMet 1 = .ok (.iload_n 1, 1) := dk_27 (dk_at dksX2_isMet_0 1 rfl rfl)
theorem dX2_isMet_2 : decode cX2_isMet 2 = .ok (.iload_n 2, 1) := dk_28 (dk_at dksX2_isMet_0 2 rfl rfl)
theorem dX2_isMet_3 : decode cX2_isMet 3 = .ok (.iload_n 3, 1) := dk_29 (dk_at dksX2_isMet_0 3 rfl rfl)
theorem dX2_isMet_4 : decode cX2_isMet 4 = .ok (.invokevirtual 188, 3) := dk_182 0 188 (dk_at dksX2_isMet_0 4 rfl rfl)
theorem dX2_isMet_7 : decode cX2_isMet 7 = .ok (.iconst (-1), 1) := dk_2 (dk_at dksX2_isMet_0 7 rfl rfl)
theorem dX2_isMet_8 : decode cX2_isMet 8 = .ok (.if_icmp .ne 15, 3) := dk_160 0 15 (dk_at dksX2_isMet_0 8 rfl rfl)
theorem dX2_isMet_11 : decode cX2_isMet 11 = .ok (.aload_n 0, 1) := dk_42 (dk_at dksX2_isMet_0 11 rfl rfl)
theorem dX2_isMet_12 : decode cX2_isMet 12 = .ok (.iload_n 1, 1) := dk_27 (dk_at dksX2_isMet_0 12 rfl rfl)
theorem dX2_isMet_13 : decode cX2_isMet 13 = .ok (.iload_n 2, 1) := dk_28 (dk_at dksX2_isMet_0 13 rfl rfl)
theorem dX2_isMet_14 : decode cX2_isMet 14 = .ok (.iload_n 3, 1) := dk_29 (dk_at dksX2_isMet_0 14 rfl rfl)
theorem dX2_isMet_15 : decode cX2_isMet 15 = .ok (.iconst (-1), 1) := dk_2 (dk_at dksX2_isMet_0 15 rfl rfl)
theorem dX2_isMet_16 : decode cX2_isMet 16 = .ok (.iconst 0, 1) := dk_3 (dk_at dksX2_isMet_0 16 rfl rfl)
theorem dX2_isMet_17 : decode cX2_isMet 17 = .ok (.invokevirtual 165, 3) := dk_182 0 165 (dk_at dksX2_isMet_0 17 rfl rfl)
theorem dX2_isMet_20 : decode cX2_isMet 20 = .ok (.ifCond .eq 7, 3) := dk_153 0 7 (dk_at dksX2_isMet_0 20 rfl rfl)
theorem dX2_isMet_23 : decode cX2_isMet 23 = .ok (.iconst 1, 1) := dk_4 (dk_at dksX2_isMet_0 23 rfl rfl)
theorem dX2_isMet_24 : decode cX2_isMet 24 = .ok (.goto 4, 3) := dk_167 0 4 (dk_at dksX2_isMet_1 0 rfl rfl)
theorem dX2_isMet_27 : decode cX2_isMet 27 = .ok (.iconst 0, 1) := dk_3 (dk_at dksX2_isMet_1 3 rfl rfl)
theorem dX2_isMet_28 : decode cX2_isMet 28 = .ok (.ireturn, 1) := dk_172 (dk_at dksX2_isMet_1 4 rfl rfl)
abbrev cX2_pays : ByteArray := prog_20_method_14_code
def yX2_pays : MethodName := ⟨RX2, "pays", "(III)I"⟩
def dkwX2_pays_5 : List UInt8 := [172]
abbrev dktX2_pays_5 : List UInt8 := dkwX2_pays_5 ++ []
def dkwX2_pays_4 : List UInt8 := [42, 21, 4, 182, 0, 185, 161, 0, 6, 167, 0, 7, 21, 5, 54, 4, 132, 5, 1, 167, 255, 148, 21, 4]
abbrev dktX2_pays_4 : List UInt8 := dkwX2_pays_4 ++ dktX2_pays_5
def dkwX2_pays_3 : List UInt8 := [96, 182, 0, 110, 54, 7, 21, 7, 29, 17, 4, 0, 104, 161, 0, 27, 21, 4, 2, 159, 0, 17, 21, 7]
abbrev dktX2_pays_3 : List UInt8 := dkwX2_pays_3 ++ dktX2_pays_4
def dkwX2_pays_2 : List UInt8 := [159, 0, 64, 42, 25, 6, 28, 182, 0, 177, 154, 0, 6, 167, 0, 51, 25, 6, 25, 6, 180, 0, 107, 4]
abbrev dktX2_pays_2 : List UInt8 := dkwX2_pays_2 ++ dktX2_pays_3
def dkwX2_pays_1 : List UInt8 := [182, 0, 73, 192, 0, 77, 58, 6, 25, 6, 180, 0, 91, 27, 160, 0, 73, 25, 6, 180, 0, 97, 28]
abbrev dktX2_pays_1 : List UInt8 := dkwX2_pays_1 ++ dktX2_pays_2
def dkwX2_pays_0 : List UInt8 := [2, 54, 4, 3, 54, 5, 21, 5, 42, 180, 0, 33, 182, 0, 69, 162, 0, 102, 42, 180, 0, 33, 21, 5]
abbrev dktX2_pays_0 : List UInt8 := dkwX2_pays_0 ++ dktX2_pays_1
theorem dksX2_pays_0 : cX2_pays.data.toList.drop 0 = dktX2_pays_0 := by decide +kernel
theorem dksX2_pays_1 : cX2_pays.data.toList.drop 24 = dktX2_pays_1 := dk_seg dksX2_pays_0 24 rfl rfl
theorem dksX2_pays_2 : cX2_pays.data.toList.drop 47 = dktX2_pays_2 := dk_seg dksX2_pays_1 23 rfl rfl
theorem dksX2_pays_3 : cX2_pays.data.toList.drop 71 = dktX2_pays_3 := dk_seg dksX2_pays_2 24 rfl rfl
theorem dksX2_pays_4 : cX2_pays.data.toList.drop 95 = dktX2_pays_4 := dk_seg dksX2_pays_3 24 rfl rfl
theorem dksX2_pays_5 : cX2_pays.data.toList.drop 119 = dktX2_pays_5 := dk_seg dksX2_pays_4 24 rfl rfl
theorem dX2_pays_0 : decode cX2_pays 0 = .ok (.iconst (-1), 1) := dk_2 (dk_at dksX2_pays_0 0 rfl rfl)
theorem dX2_pays_1 : decode cX2_pays 1 = .ok (.istore 4, 2) := dk_54 4 (dk_at dksX2_pays_0 1 rfl rfl)
theorem dX2_pays_3 : decode cX2_pays 3 = .ok (.iconst 0, 1) := dk_3 (dk_at dksX2_pays_0 3 rfl rfl)
theorem dX2_pays_4 : decode cX2_pays 4 = .ok (.istore 5, 2) := dk_54 5 (dk_at dksX2_pays_0 4 rfl rfl)
theorem dX2_pays_6 : decode cX2_pays 6 = .ok (.iload 5, 2) := dk_21 5 (dk_at dksX2_pays_0 6 rfl rfl)
theorem dX2_pays_8 : decode cX2_pays 8 = .ok (.aload_n 0, 1) := dk_42 (dk_at dksX2_pays_0 8 rfl rfl)
theorem dX2_pays_9 : decode cX2_pays 9 = .ok (.getfield 33, 3) := dk_180 0 33 (dk_at dksX2_pays_0 9 rfl rfl)
theorem dX2_pays_12 : decode cX2_pays 12 = .ok (.invokevirtual 69, 3) := dk_182 0 69 (dk_at dksX2_pays_0 12 rfl rfl)
theorem dX2_pays_15 : decode cX2_pays 15 = .ok (.if_icmp .ge 102, 3) := dk_162 0 102 (dk_at dksX2_pays_0 15 rfl rfl)
theorem dX2_pays_18 : decode cX2_pays 18 = .ok (.aload_n 0, 1) := dk_42 (dk_at dksX2_pays_0 18 rfl rfl)
theorem dX2_pays_19 : decode cX2_pays 19 = .ok (.getfield 33, 3) := dk_180 0 33 (dk_at dksX2_pays_0 19 rfl rfl)
theorem dX2_pays_22 : decode cX2_pays 22 = .ok (.iload 5, 2) := dk_21 5 (dk_at dksX2_pays_0 22 rfl rfl)
theorem dX2_pays_24 : decode cX2_pays 24 = .ok (.invokevirtual 73, 3) := dk_182 0 73 (dk_at dksX2_pays_1 0 rfl rfl)
theorem dX2_pays_27 : decode cX2_pays 27 = .ok (.checkcast 77, 3) := dk_192 0 77 (dk_at dksX2_pays_1 3 rfl rfl)
theorem dX2_pays_30 : decode cX2_pays 30 = .ok (.astore 6, 2) := dk_58 6 (dk_at dksX2_pays_1 6 rfl rfl)
theorem dX2_pays_32 : decode cX2_pays 32 = .ok (.aload 6, 2) := dk_25 6 (dk_at dksX2_pays_1 8 rfl rfl)
theorem dX2_pays_34 : decode cX2_pays 34 = .ok (.getfield 91, 3) := dk_180 0 91 (dk_at dksX2_pays_1 10 rfl rfl)
theorem dX2_pays_37 : decode cX2_pays 37 = .ok (.iload_n 1, 1) := dk_27 (dk_at dksX2_pays_1 13 rfl rfl)
theorem dX2_pays_38 : decode cX2_pays 38 = .ok (.if_icmp .ne 73, 3) := dk_160 0 73 (dk_at dksX2_pays_1 14 rfl rfl)
theorem dX2_pays_41 : decode cX2_pays 41 = .ok (.aload 6, 2) := dk_25 6 (dk_at dksX2_pays_1 17 rfl rfl)
theorem dX2_pays_43 : decode cX2_pays 43 = .ok (.getfield 97, 3) := dk_180 0 97 (dk_at dksX2_pays_1 19 rfl rfl)
theorem dX2_pays_46 : decode cX2_pays 46 = .ok (.iload_n 2, 1) := dk_28 (dk_at dksX2_pays_1 22 rfl rfl)
theorem dX2_pays_47 : decode cX2_pays 47 = .ok (.if_icmp .eq 64, 3) := dk_159 0 64 (dk_at dksX2_pays_2 0 rfl rfl)
theorem dX2_pays_50 : decode cX2_pays 50 = .ok (.aload_n 0, 1) := dk_42 (dk_at dksX2_pays_2 3 rfl rfl)
theorem dX2_pays_51 : decode cX2_pays 51 = .ok (.aload 6, 2) := dk_25 6 (dk_at dksX2_pays_2 4 rfl rfl)
theorem dX2_pays_53 : decode cX2_pays 53 = .ok (.iload_n 2, 1) := dk_28 (dk_at dksX2_pays_2 6 rfl rfl)
theorem dX2_pays_54 : decode cX2_pays 54 = .ok (.invokevirtual 177, 3) := dk_182 0 177 (dk_at dksX2_pays_2 7 rfl rfl)
theorem dX2_pays_57 : decode cX2_pays 57 = .ok (.ifCond .ne 6, 3) := dk_154 0 6 (dk_at dksX2_pays_2 10 rfl rfl)
theorem dX2_pays_60 : decode cX2_pays 60 = .ok (.goto 51, 3) := dk_167 0 51 (dk_at dksX2_pays_2 13 rfl rfl)
theorem dX2_pays_63 : decode cX2_pays 63 = .ok (.aload 6, 2) := dk_25 6 (dk_at dksX2_pays_2 16 rfl rfl)
theorem dX2_pays_65 : decode cX2_pays 65 = .ok (.aload 6, 2) := dk_25 6 (dk_at dksX2_pays_2 18 rfl rfl)
theorem dX2_pays_67 : decode cX2_pays 67 = .ok (.getfield 107, 3) := dk_180 0 107 (dk_at dksX2_pays_2 20 rfl rfl)
theorem dX2_pays_70 : decode cX2_pays 70 = .ok (.iconst 1, 1) := dk_4 (dk_at dksX2_pays_2 23 rfl rfl)
theorem dX2_pays_71 : decode cX2_pays 71 = .ok (.iadd, 1) := dk_96 (dk_at dksX2_pays_3 0 rfl rfl)
theorem dX2_pays_72 : decode cX2_pays 72 = .ok (.invokevirtual 110, 3) := dk_182 0 110 (dk_at dksX2_pays_3 1 rfl rfl)
theorem dX2_pays_75 : decode cX2_pays 75 = .ok (.istore 7, 2) := dk_54 7 (dk_at dksX2_pays_3 4 rfl rfl)
theorem dX2_pays_77 : decode cX2_pays 77 = .ok (.iload 7, 2) := dk_21 7 (dk_at dksX2_pays_3 6 rfl rfl)
theorem dX2_pays_79 : decode cX2_pays 79 = .ok (.iload_n 3, 1) := dk_29 (dk_at dksX2_pays_3 8 rfl rfl)
theorem dX2_pays_80 : decode cX2_pays 80 = .ok (.sipush 1024, 3) := dk_17 4 0 (dk_at dksX2_pays_3 9 rfl rfl)
theorem dX2_pays_83 : decode cX2_pays 83 = .ok (.imul, 1) := dk_104 (dk_at dksX2_pays_3 12 rfl rfl)
theorem dX2_pays_84 : decode cX2_pays 84 = .ok (.if_icmp .lt 27, 3) := dk_161 0 27 (dk_at dksX2_pays_3 13 rfl rfl)
theorem dX2_pays_87 : decode cX2_pays 87 = .ok (.iload 4, 2) := dk_21 4 (dk_at dksX2_pays_3 16 rfl rfl)
theorem dX2_pays_89 : decode cX2_pays 89 = .ok (.iconst (-1), 1) := dk_2 (dk_at dksX2_pays_3 18 rfl rfl)
theorem dX2_pays_90 : decode cX2_pays 90 = .ok (.if_icmp .eq 17, 3) := dk_159 0 17 (dk_at dksX2_pays_3 19 rfl rfl)
theorem dX2_pays_93 : decode cX2_pays 93 = .ok (.iload 7, 2) := dk_21 7 (dk_at dksX2_pays_3 22 rfl rfl)
theorem dX2_pays_95 : decode cX2_pays 95 = .ok (.aload_n 0, 1) := dk_42 (dk_at dksX2_pays_4 0 rfl rfl)
theorem dX2_pays_96 : decode cX2_pays 96 = .ok (.iload 4, 2) := dk_21 4 (dk_at dksX2_pays_4 1 rfl rfl)
theorem dX2_pays_98 : decode cX2_pays 98 = .ok (.invokevirtual 185, 3) := dk_182 0 185 (dk_at dksX2_pays_4 3 rfl rfl)
theorem dX2_pays_101 : decode cX2_pays 101 = .ok (.if_icmp .lt 6, 3) := dk_161 0 6 (dk_at dksX2_pays_4 6 rfl rfl)
theorem dX2_pays_104 : decode cX2_pays 104 = .ok (.goto 7, 3) := dk_167 0 7 (dk_at dksX2_pays_4 9 rfl rfl)
theorem dX2_pays_107 : decode cX2_pays 107 = .ok (.iload 5, 2) := dk_21 5 (dk_at dksX2_pays_4 12 rfl rfl)
theorem dX2_pays_109 : decode cX2_pays 109 = .ok (.istore 4, 2) := dk_54 4 (dk_at dksX2_pays_4 14 rfl rfl)
theorem dX2_pays_111 : decode cX2_pays 111 = .ok (.iinc 5 1, 3) := dk_132 5 1 (dk_at dksX2_pays_4 16 rfl rfl)
theorem dX2_pays_114 : decode cX2_pays 114 = .ok (.goto (-108), 3) := dk_167 255 148 (dk_at dksX2_pays_4 19 rfl rfl)
theorem dX2_pays_117 : decode cX2_pays 117 = .ok (.iload 4, 2) := dk_21 4 (dk_at dksX2_pays_4 22 rfl rfl)
theorem dX2_pays_119 : decode cX2_pays 119 = .ok (.ireturn, 1) := dk_172 (dk_at dksX2_pays_5 0 rfl rfl)
abbrev cX2_canPass : ByteArray := prog_20_method_9_code
def yX2_canPass : MethodName := ⟨RX2, "canPass", "(LFavourTown$Favour;I)Z"⟩
def dkwX2_canPass_2 : List UInt8 := [3, 172]
abbrev dktX2_canPass_2 : List UInt8 := dkwX2_canPass_2 ++ []
def dkwX2_canPass_1 : List UInt8 := [159, 0, 24, 28, 43, 180, 0, 97, 159, 0, 12, 42, 28, 43, 182, 0, 162, 153, 0, 7, 4, 167, 0, 4]
abbrev dktX2_canPass_1 : List UInt8 := dkwX2_canPass_1 ++ dktX2_canPass_2
def dkwX2_canPass_0 : List UInt8 := [42, 43, 182, 0, 100, 154, 0, 43, 43, 180, 0, 107, 42, 180, 0, 9, 162, 0, 32, 43, 180, 0, 91, 28]
abbrev dktX2_canPass_0 : List UInt8 := dkwX2_canPass_0 ++ dktX2_canPass_1
theorem dksX2_canPass_0 : cX2_canPass.data.toList.drop 0 = dktX2_canPass_0 := by decide +kernel
theorem dksX2_canPass_1 : cX2_canPass.data.toList.drop 24 = dktX2_canPass_1 := dk_seg dksX2_canPass_0 24 rfl rfl
theorem dksX2_canPass_2 : cX2_canPass.data.toList.drop 48 = dktX2_canPass_2 := dk_seg dksX2_canPass_1 24 rfl rfl
theorem dX2_canPass_0 : decode cX2_canPass 0 = .ok (.aload_n 0, 1) := dk_42 (dk_at dksX2_canPass_0 0 rfl rfl)
theorem dX2_canPass_1 : decode cX2_canPass 1 = .ok (.aload_n 1, 1) := dk_43 (dk_at dksX2_canPass_0 1 rfl rfl)
theorem dX2_canPass_2 : decode cX2_canPass 2 = .ok (.invokevirtual 100, 3) := dk_182 0 100 (dk_at dksX2_canPass_0 2 rfl rfl)
theorem dX2_canPass_5 : decode cX2_canPass 5 = .ok (.ifCond .ne 43, 3) := dk_154 0 43 (dk_at dksX2_canPass_0 5 rfl rfl)
theorem dX2_canPass_8 : decode cX2_canPass 8 = .ok (.aload_n 1, 1) := dk_43 (dk_at dksX2_canPass_0 8 rfl rfl)
theorem dX2_canPass_9 : decode cX2_canPass 9 = .ok (.getfield 107, 3) := dk_180 0 107 (dk_at dksX2_canPass_0 9 rfl rfl)
theorem dX2_canPass_12 : decode cX2_canPass 12 = .ok (.aload_n 0, 1) := dk_42 (dk_at dksX2_canPass_0 12 rfl rfl)
theorem dX2_canPass_13 : decode cX2_canPass 13 = .ok (.getfield 9, 3) := dk_180 0 9 (dk_at dksX2_canPass_0 13 rfl rfl)
theorem dX2_canPass_16 : decode cX2_canPass 16 = .ok (.if_icmp .ge 32, 3) := dk_162 0 32 (dk_at dksX2_canPass_0 16 rfl rfl)
theorem dX2_canPass_19 : decode cX2_canPass 19 = .ok (.aload_n 1, 1) := dk_43 (dk_at dksX2_canPass_0 19 rfl rfl)
theorem dX2_canPass_20 : decode cX2_canPass 20 = .ok (.getfield 91, 3) := dk_180 0 91 (dk_at dksX2_canPass_0 20 rfl rfl)
theorem dX2_canPass_23 : decode cX2_canPass 23 = .ok (.iload_n 2, 1) := dk_28 (dk_at dksX2_canPass_0 23 rfl rfl)
theorem dX2_canPass_24 : decode cX2_canPass 24 = .ok (.if_icmp .eq 24, 3) := dk_159 0 24 (dk_at dksX2_canPass_1 0 rfl rfl)
theorem dX2_canPass_27 : decode cX2_canPass 27 = .ok (.iload_n 2, 1) := dk_28 (dk_at dksX2_canPass_1 3 rfl rfl)
theorem dX2_canPass_28 : decode cX2_canPass 28 = .ok (.aload_n 1, 1) := dk_43 (dk_at dksX2_canPass_1 4 rfl rfl)
theorem dX2_canPass_29 : decode cX2_canPass 29 = .ok (.getfield 97, 3) := dk_180 0 97 (dk_at dksX2_canPass_1 5 rfl rfl)
theorem dX2_canPass_32 : decode cX2_canPass 32 = .ok (.if_icmp .eq 12, 3) := dk_159 0 12 (dk_at dksX2_canPass_1 8 rfl rfl)
theorem dX2_canPass_35 : decode cX2_canPass 35 = .ok (.aload_n 0, 1) := dk_42 (dk_at dksX2_canPass_1 11 rfl rfl)
theorem dX2_canPass_36 : decode cX2_canPass 36 = .ok (.iload_n 2, 1) := dk_28 (dk_at dksX2_canPass_1 12 rfl rfl)
theorem dX2_canPass_37 : decode cX2_canPass 37 = .ok (.aload_n 1, 1) := dk_43 (dk_at dksX2_canPass_1 13 rfl rfl)
theorem dX2_canPass_38 : decode cX2_canPass 38 = .ok (.invokevirtual 162, 3) := dk_182 0 162 (dk_at dksX2_canPass_1 14 rfl rfl)
theorem dX2_canPass_41 : decode cX2_canPass 41 = .ok (.ifCond .eq 7, 3) := dk_153 0 7 (dk_at dksX2_canPass_1 17 rfl rfl)
theorem dX2_canPass_44 : decode cX2_canPass 44 = .ok (.iconst 1, 1) := dk_4 (dk_at dksX2_canPass_1 20 rfl rfl)
theorem dX2_canPass_45 : decode cX2_canPass 45 = .ok (.goto 4, 3) := dk_167 0 4 (dk_at dksX2_canPass_1 21 rfl rfl)
theorem dX2_canPass_48 : decode cX2_canPass 48 = .ok (.iconst 0, 1) := dk_3 (dk_at dksX2_canPass_2 0 rfl rfl)
theorem dX2_canPass_49 : decode cX2_canPass 49 = .ok (.ireturn, 1) := dk_172 (dk_at dksX2_canPass_2 1 rfl rfl)
abbrev cX2_isGone : ByteArray := prog_20_method_3_code
def yX2_isGone : MethodName := ⟨RX2, "isGone", "(LFavourTown$Favour;)Z"⟩
def dkwX2_isGone_1 : List UInt8 := [167, 0, 4, 3, 172]
abbrev dktX2_isGone_1 : List UInt8 := dkwX2_isGone_1 ++ []
def dkwX2_isGone_0 : List UInt8 := [43, 180, 0, 91, 2, 159, 0, 18, 42, 180, 0, 94, 43, 180, 0, 91, 122, 4, 126, 4, 160, 0, 7, 4]
abbrev dktX2_isGone_0 : List UInt8 := dkwX2_isGone_0 ++ dktX2_isGone_1
theorem dksX2_isGone_0 : cX2_isGone.data.toList.drop 0 = dktX2_isGone_0 := by decide +kernel
theorem dksX2_isGone_1 : cX2_isGone.data.toList.drop 24 = dktX2_isGone_1 := dk_seg dksX2_isGone_0 24 rfl rfl
theorem dX2_isGone_0 : decode cX2_isGone 0 = .ok (.aload_n 1, 1) := dk_43 (dk_at dksX2_isGone_0 0 rfl rfl)
theorem dX2_isGone_1 : decode cX2_isGone 1 = .ok (.getfield 91, 3) := dk_180 0 91 (dk_at dksX2_isGone_0 1 rfl rfl)
theorem dX2_isGone_4 : decode cX2_isGone 4 = .ok (.iconst (-1), 1) := dk_2 (dk_at dksX2_isGone_0 4 rfl rfl)
theorem dX2_isGone_5 : decode cX2_isGone 5 = .ok (.if_icmp .eq 18, 3) := dk_159 0 18 (dk_at dksX2_isGone_0 5 rfl rfl)
theorem dX2_isGone_8 : decode cX2_isGone 8 = .ok (.aload_n 0, 1) := dk_42 (dk_at dksX2_isGone_0 8 rfl rfl)
theorem dX2_isGone_9 : decode cX2_isGone 9 = .ok (.getfield 94, 3) := dk_180 0 94 (dk_at dksX2_isGone_0 9 rfl rfl)
theorem dX2_isGone_12 : decode cX2_isGone 12 = .ok (.aload_n 1, 1) := dk_43 (dk_at dksX2_isGone_0 12 rfl rfl)
theorem dX2_isGone_13 : decode cX2_isGone 13 = .ok (.getfield 91, 3) := dk_180 0 91 (dk_at dksX2_isGone_0 13 rfl rfl)
theorem dX2_isGone_16 : decode cX2_isGone 16 = .ok (.ishr, 1) := dk_122 (dk_at dksX2_isGone_0 16 rfl rfl)
theorem dX2_isGone_17 : decode cX2_isGone 17 = .ok (.iconst 1, 1) := dk_4 (dk_at dksX2_isGone_0 17 rfl rfl)
theorem dX2_isGone_18 : decode cX2_isGone 18 = .ok (.iand, 1) := dk_126 (dk_at dksX2_isGone_0 18 rfl rfl)
theorem dX2_isGone_19 : decode cX2_isGone 19 = .ok (.iconst 1, 1) := dk_4 (dk_at dksX2_isGone_0 19 rfl rfl)
theorem dX2_isGone_20 : decode cX2_isGone 20 = .ok (.if_icmp .ne 7, 3) := dk_160 0 7 (dk_at dksX2_isGone_0 20 rfl rfl)
theorem dX2_isGone_23 : decode cX2_isGone 23 = .ok (.iconst 1, 1) := dk_4 (dk_at dksX2_isGone_0 23 rfl rfl)
theorem dX2_isGone_24 : decode cX2_isGone 24 = .ok (.goto 4, 3) := dk_167 0 4 (dk_at dksX2_isGone_1 0 rfl rfl)
theorem dX2_isGone_27 : decode cX2_isGone 27 = .ok (.iconst 0, 1) := dk_3 (dk_at dksX2_isGone_1 3 rfl rfl)
theorem dX2_isGone_28 : decode cX2_isGone 28 = .ok (.ireturn, 1) := dk_172 (dk_at dksX2_isGone_1 4 rfl rfl)
abbrev cX2_takes : ByteArray := prog_20_method_7_code
def yX2_takes : MethodName := ⟨RX2, "takes", "(ILFavourTown$Favour;)Z"⟩
def dkwX2_takes_4 : List UInt8 := [182, 0, 73, 192, 0, 136, 42, 180, 0, 49, 182, 0, 138, 172]
abbrev dktX2_takes_4 : List UInt8 := dkwX2_takes_4 ++ []
def dkwX2_takes_3 : List UInt8 := [42, 180, 0, 49, 44, 27, 182, 0, 129, 181, 0, 133, 42, 180, 0, 40, 42, 180, 0, 22, 27, 46]
abbrev dktX2_takes_3 : List UInt8 := dkwX2_takes_3 ++ dktX2_takes_4
def dkwX2_takes_2 : List UInt8 := [181, 0, 125, 42, 180, 0, 49, 44, 44, 180, 0, 107, 4, 96, 182, 0, 110, 17, 4, 0, 108, 181, 0, 126]
abbrev dktX2_takes_2 : List UInt8 := dkwX2_takes_2 ++ dktX2_takes_3
def dkwX2_takes_1 : List UInt8 := [180, 0, 97, 44, 180, 0, 104, 44, 182, 0, 118, 182, 0, 121, 42, 180, 0, 49, 44, 180, 0, 107, 4, 96]
abbrev dktX2_takes_1 : List UInt8 := dkwX2_takes_1 ++ dktX2_takes_2
def dkwX2_takes_0 : List UInt8 := [44, 180, 0, 114, 154, 0, 13, 42, 180, 0, 22, 27, 46, 2, 160, 0, 5, 4, 172, 42, 27, 44]
abbrev dktX2_takes_0 : List UInt8 := dkwX2_takes_0 ++ dktX2_takes_1
theorem dksX2_takes_0 : cX2_takes.data.toList.drop 0 = dktX2_takes_0 := by decide +kernel
theorem dksX2_takes_1 : cX2_takes.data.toList.drop 22 = dktX2_takes_1 := dk_seg dksX2_takes_0 22 rfl rfl
theorem dksX2_takes_2 : cX2_takes.data.toList.drop 46 = dktX2_takes_2 := dk_seg dksX2_takes_1 24 rfl rfl
theorem dksX2_takes_3 : cX2_takes.data.toList.drop 70 = dktX2_takes_3 := dk_seg dksX2_takes_2 24 rfl rfl
theorem dksX2_takes_4 : cX2_takes.data.toList.drop 92 = dktX2_takes_4 := dk_seg dksX2_takes_3 22 rfl rfl
theorem dX2_takes_0 : decode cX2_takes 0 = .ok (.aload_n 2, 1) := dk_44 (dk_at dksX2_takes_0 0 rfl rfl)
theorem dX2_takes_1 : decode cX2_takes 1 = .ok (.getfield 114, 3) := dk_180 0 114 (dk_at dksX2_takes_0 1 rfl rfl)
theorem dX2_takes_4 : decode cX2_takes 4 = .ok (.ifCond .ne 13, 3) := dk_154 0 13 (dk_at dksX2_takes_0 4 rfl rfl)
theorem dX2_takes_7 : decode cX2_takes 7 = .ok (.aload_n 0, 1) := dk_42 (dk_at dksX2_takes_0 7 rfl rfl)
theorem dX2_takes_8 : decode cX2_takes 8 = .ok (.getfield 22, 3) := dk_180 0 22 (dk_at dksX2_takes_0 8 rfl rfl)
theorem dX2_takes_11 : decode cX2_takes 11 = .ok (.iload_n 1, 1) := dk_27 (dk_at dksX2_takes_0 11 rfl rfl)
theorem dX2_takes_12 : decode cX2_takes 12 = .ok (.iaload, 1) := dk_46 (dk_at dksX2_takes_0 12 rfl rfl)
theorem dX2_takes_13 : decode cX2_takes 13 = .ok (.iconst (-1), 1) := dk_2 (dk_at dksX2_takes_0 13 rfl rfl)
theorem dX2_takes_14 : decode cX2_takes 14 = .ok (.if_icmp .ne 5, 3) := dk_160 0 5 (dk_at dksX2_takes_0 14 rfl rfl)
theorem dX2_takes_17 : decode cX2_takes 17 = .ok (.iconst 1, 1) := dk_4 (dk_at dksX2_takes_0 17 rfl rfl)
theorem dX2_takes_18 : decode cX2_takes 18 = .ok (.ireturn, 1) := dk_172 (dk_at dksX2_takes_0 18 rfl rfl)
theorem dX2_takes_19 : decode cX2_takes 19 = .ok (.aload_n 0, 1) := dk_42 (dk_at dksX2_takes_0 19 rfl rfl)
theorem dX2_takes_20 : decode cX2_takes 20 = .ok (.iload_n 1, 1) := dk_27 (dk_at dksX2_takes_0 20 rfl rfl)
theorem dX2_takes_21 : decode cX2_takes 21 = .ok (.aload_n 2, 1) := dk_44 (dk_at dksX2_takes_0 21 rfl rfl)
theorem dX2_takes_22 : decode cX2_takes 22 = .ok (.getfield 97, 3) := dk_180 0 97 (dk_at dksX2_takes_1 0 rfl rfl)
theorem dX2_takes_25 : decode cX2_takes 25 = .ok (.aload_n 2, 1) := dk_44 (dk_at dksX2_takes_1 3 rfl rfl)
theorem dX2_takes_26 : decode cX2_takes 26 = .ok (.getfield 104, 3) := dk_180 0 104 (dk_at dksX2_takes_1 4 rfl rfl)
theorem dX2_takes_29 : decode cX2_takes 29 = .ok (.aload_n 2, 1) := dk_44 (dk_at dksX2_takes_1 7 rfl rfl)
theorem dX2_takes_30 : decode cX2_takes 30 = .ok (.invokevirtual 118, 3) := dk_182 0 118 (dk_at dksX2_takes_1 8 rfl rfl)
theorem dX2_takes_33 : decode cX2_takes 33 = .ok (.invokevirtual 121, 3) := dk_182 0 121 (dk_at dksX2_takes_1 11 rfl rfl)
theorem dX2_takes_36 : decode cX2_takes 36 = .ok (.aload_n 0, 1) := dk_42 (dk_at dksX2_takes_1 14 rfl rfl)
theorem dX2_takes_37 : decode cX2_takes 37 = .ok (.getfield 49, 3) := dk_180 0 49 (dk_at dksX2_takes_1 15 rfl rfl)
theorem dX2_takes_40 : decode cX2_takes 40 = .ok (.aload_n 2, 1) := dk_44 (dk_at dksX2_takes_1 18 rfl rfl)
theorem dX2_takes_41 : decode cX2_takes 41 = .ok (.getfield 107, 3) := dk_180 0 107 (dk_at dksX2_takes_1 19 rfl rfl)
theorem dX2_takes_44 : decode cX2_takes 44 = .ok (.iconst 1, 1) := dk_4 (dk_at dksX2_takes_1 22 rfl rfl)
theorem dX2_takes_45 : decode cX2_takes 45 = .ok (.iadd, 1) := dk_96 (dk_at dksX2_takes_1 23 rfl rfl)
theorem dX2_takes_46 : decode cX2_takes 46 = .ok (.putfield 125, 3) := dk_181 0 125 (dk_at dksX2_takes_2 0 rfl rfl)
theorem dX2_takes_49 : decode cX2_takes 49 = .ok (.aload_n 0, 1) := dk_42 (dk_at dksX2_takes_2 3 rfl rfl)
theorem dX2_takes_50 : decode cX2_takes 50 = .ok (.getfield 49, 3) := dk_180 0 49 (dk_at dksX2_takes_2 4 rfl rfl)
theorem dX2_takes_53 : decode cX2_takes 53 = .ok (.aload_n 2, 1) := dk_44 (dk_at dksX2_takes_2 7 rfl rfl)
theorem dX2_takes_54 : decode cX2_takes 54 = .ok (.aload_n 2, 1) := dk_44 (dk_at dksX2_takes_2 8 rfl rfl)
theorem dX2_takes_55 : decode cX2_takes 55 = .ok (.getfield 107, 3) := dk_180 0 107 (dk_at dksX2_takes_2 9 rfl rfl)
theorem dX2_takes_58 : decode cX2_takes 58 = .ok (.iconst 1, 1) := dk_4 (dk_at dksX2_takes_2 12 rfl rfl)
theorem dX2_takes_59 : decode cX2_takes 59 = .ok (.iadd, 1) := dk_96 (dk_at dksX2_takes_2 13 rfl rfl)
theorem dX2_takes_60 : decode cX2_takes 60 = .ok (.invokevirtual 110, 3) := dk_182 0 110 (dk_at dksX2_takes_2 14 rfl rfl)
theorem dX2_takes_63 : decode cX2_takes 63 = .ok (.sipush 1024, 3) := dk_17 4 0 (dk_at dksX2_takes_2 17 rfl rfl)
theorem dX2_takes_66 : decode cX2_takes 66 = .ok (.idiv, 1) := dk_108 (dk_at dksX2_takes_2 20 rfl rfl)
theorem dX2_takes_67 : decode cX2_takes 67 = .ok (.putfield 126, 3) := dk_181 0 126 (dk_at dksX2_takes_2 21 rfl rfl)
theorem dX2_takes_70 : decode cX2_takes 70 = .ok (.aload_n 0, 1) := dk_42 (dk_at dksX2_takes_3 0 rfl rfl)
theorem dX2_takes_71 : decode cX2_takes 71 = .ok (.getfield 49, 3) := dk_180 0 49 (dk_at dksX2_takes_3 1 rfl rfl)
theorem dX2_takes_74 : decode cX2_takes 74 = .ok (.aload_n 2, 1) := dk_44 (dk_at dksX2_takes_3 4 rfl rfl)
theorem dX2_takes_75 : decode cX2_takes 75 = .ok (.iload_n 1, 1) := dk_27 (dk_at dksX2_takes_3 5 rfl rfl)
theorem dX2_takes_76 : decode cX2_takes 76 = .ok (.invokevirtual 129, 3) := dk_182 0 129 (dk_at dksX2_takes_3 6 rfl rfl)
theorem dX2_takes_79 : decode cX2_takes 79 = .ok (.putfield 133, 3) := dk_181 0 133 (dk_at dksX2_takes_3 9 rfl rfl)
theorem dX2_takes_82 : decode cX2_takes 82 = .ok (.aload_n 0, 1) := dk_42 (dk_at dksX2_takes_3 12 rfl rfl)
theorem dX2_takes_83 : decode cX2_takes 83 = .ok (.getfield 40, 3) := dk_180 0 40 (dk_at dksX2_takes_3 13 rfl rfl)
theorem dX2_takes_86 : decode cX2_takes 86 = .ok (.aload_n 0, 1) := dk_42 (dk_at dksX2_takes_3 16 rfl rfl)
theorem dX2_takes_87 : decode cX2_takes 87 = .ok (.getfield 22, 3) := dk_180 0 22 (dk_at dksX2_takes_3 17 rfl rfl)
theorem dX2_takes_90 : decode cX2_takes 90 = .ok (.iload_n 1, 1) := dk_27 (dk_at dksX2_takes_3 20 rfl rfl)
theorem dX2_takes_91 : decode cX2_takes 91 = .ok (.iaload, 1) := dk_46 (dk_at dksX2_takes_3 21 rfl rfl)
theorem dX2_takes_92 : decode cX2_takes 92 = .ok (.invokevirtual 73, 3) := dk_182 0 73 (dk_at dksX2_takes_4 0 rfl rfl)
theorem dX2_takes_95 : decode cX2_takes 95 = .ok (.checkcast 136, 3) := dk_192 0 136 (dk_at dksX2_takes_4 3 rfl rfl)
theorem dX2_takes_98 : decode cX2_takes 98 = .ok (.aload_n 0, 1) := dk_42 (dk_at dksX2_takes_4 6 rfl rfl)
theorem dX2_takes_99 : decode cX2_takes 99 = .ok (.getfield 49, 3) := dk_180 0 49 (dk_at dksX2_takes_4 7 rfl rfl)
theorem dX2_takes_102 : decode cX2_takes 102 = .ok (.invokevirtual 138, 3) := dk_182 0 138 (dk_at dksX2_takes_4 10 rfl rfl)
theorem dX2_takes_105 : decode cX2_takes 105 = .ok (.ireturn, 1) := dk_172 (dk_at dksX2_takes_4 13 rfl rfl)
abbrev cX2_sees : ByteArray := prog_20_method_8_code
def yX2_sees : MethodName := ⟨RX2, "sees", "(IIII)V"⟩
def dkwX2_sees_5 : List UInt8 := [160, 0, 7, 4, 167, 0, 4, 3, 181, 0, 160, 42, 180, 0, 49, 3, 181, 0, 133, 177]
abbrev dktX2_sees_5 : List UInt8 := dkwX2_sees_5 ++ []
def dkwX2_sees_4 : List UInt8 := [28, 182, 0, 155, 181, 0, 158, 42, 180, 0, 49, 42, 180, 0, 19, 27, 46, 28, 122, 4, 126, 4]
abbrev dktX2_sees_4 : List UInt8 := dkwX2_sees_4 ++ dktX2_sees_5
def dkwX2_sees_3 : List UInt8 := [181, 0, 146, 42, 180, 0, 49, 42, 27, 182, 0, 149, 17, 4, 0, 108, 181, 0, 152, 42, 180, 0, 49, 42]
abbrev dktX2_sees_3 : List UInt8 := dkwX2_sees_3 ++ dktX2_sees_4
def dkwX2_sees_2 : List UInt8 := [180, 0, 49, 180, 0, 143, 153, 0, 13, 21, 4, 42, 180, 0, 57, 100, 167, 0, 6, 17, 3, 231]
abbrev dktX2_sees_2 : List UInt8 := dkwX2_sees_2 ++ dktX2_sees_3
def dkwX2_sees_1 : List UInt8 := [42, 180, 0, 49, 21, 4, 2, 159, 0, 7, 4, 167, 0, 4, 3, 181, 0, 143, 42, 180, 0, 49, 42]
abbrev dktX2_sees_1 : List UInt8 := dkwX2_sees_1 ++ dktX2_sees_2
def dkwX2_sees_0 : List UInt8 := [42, 180, 0, 49, 29, 181, 0, 126, 42, 180, 0, 49, 29, 181, 0, 142, 42, 180, 0, 49, 3, 181, 0, 125]
abbrev dktX2_sees_0 : List UInt8 := dkwX2_sees_0 ++ dktX2_sees_1
theorem dksX2_sees_0 : cX2_sees.data.toList.drop 0 = dktX2_sees_0 := by decide +kernel
theorem dksX2_sees_1 : cX2_sees.data.toList.drop 24 = dktX2_sees_1 := dk_seg dksX2_sees_0 24 rfl rfl
theorem dksX2_sees_2 : cX2_sees.data.toList.drop 47 = dktX2_sees_2 := dk_seg dksX2_sees_1 23 rfl rfl
theorem dksX2_sees_3 : cX2_sees.data.toList.drop 69 = dktX2_sees_3 := dk_seg dksX2_sees_2 22 rfl rfl
theorem dksX2_sees_4 : cX2_sees.data.toList.drop 93 = dktX2_sees_4 := dk_seg dksX2_sees_3 24 rfl rfl
theorem dksX2_sees_5 : cX2_sees.data.toList.drop 115 = dktX2_sees_5 := dk_seg dksX2_sees_4 22 rfl rfl
theorem dX2_sees_0 : decode cX2_sees 0 = .ok (.aload_n 0, 1) := dk_42 (dk_at dksX2_sees_0 0 rfl rfl)
theorem dX2_sees_1 : decode cX2_sees 1 = .ok (.getfield 49, 3) := dk_180 0 49 (dk_at dksX2_sees_0 1 rfl rfl)
theorem dX2_sees_4 : decode cX2_sees 4 = .ok (.iload_n 3, 1) := dk_29 (dk_at dksX2_sees_0 4 rfl rfl)
theorem dX2_sees_5 : decode cX2_sees 5 = .ok (.putfield 126, 3) := dk_181 0 126 (dk_at dksX2_sees_0 5 rfl rfl)
theorem dX2_sees_8 : decode cX2_sees 8 = .ok (.aload_n 0, 1) := dk_42 (dk_at dksX2_sees_0 8 rfl rfl)
theorem dX2_sees_9 : decode cX2_sees 9 = .ok (.getfield 49, 3) := dk_180 0 49 (dk_at dksX2_sees_0 9 rfl rfl)
theorem dX2_sees_12 : decode cX2_sees 12 = .ok (.iload_n 3, 1) := dk_29 (dk_at dksX2_sees_0 12 rfl rfl)
theorem dX2_sees_13 : decode cX2_sees 13 = .ok (.putfield 142, 3) := dk_181 0 142 (dk_at dksX2_sees_0 13 rfl rfl)
theorem dX2_sees_16 : decode cX2_sees 16 = .ok (.aload_n 0, 1) := dk_42 (dk_at dksX2_sees_0 16 rfl rfl)
theorem dX2_sees_17 : decode cX2_sees 17 = .ok (.getfield 49, 3) := dk_180 0 49 (dk_at dksX2_sees_0 17 rfl rfl)
theorem dX2_sees_20 : decode cX2_sees 20 = .ok (.iconst 0, 1) := dk_3 (dk_at dksX2_sees_0 20 rfl rfl)
theorem dX2_sees_21 : decode cX2_sees 21 = .ok (.putfield 125, 3) := dk_181 0 125 (dk_at dksX2_sees_0 21 rfl rfl)
theorem dX2_sees_24 : decode cX2_sees 24 = .ok (.aload_n 0, 1) := dk_42 (dk_at dksX2_sees_1 0 rfl rfl)
theorem dX2_sees_25 : decode cX2_sees 25 = .ok (.getfield 49, 3) := dk_180 0 49 (dk_at dksX2_sees_1 1 rfl rfl)
theorem dX2_sees_28 : decode cX2_sees 28 = .ok (.iload 4, 2) := dk_21 4 (dk_at dksX2_sees_1 4 rfl rfl)
theorem dX2_sees_30 : decode cX2_sees 30 = .ok (.iconst (-1), 1) := dk_2 (dk_at dksX2_sees_1 6 rfl rfl)
theorem dX2_sees_31 : decode cX2_sees 31 = .ok (.if_icmp .eq 7, 3) := dk_159 0 7 (dk_at dksX2_sees_1 7 rfl rfl)
theorem dX2_sees_34 : decode cX2_sees 34 = .ok (.iconst 1, 1) := dk_4 (dk_at dksX2_sees_1 10 rfl rfl)
theorem dX2_sees_35 : decode cX2_sees 35 = .ok (.goto 4, 3) := dk_167 0 4 (dk_at dksX2_sees_1 11 rfl rfl)
theorem dX2_sees_38 : decode cX2_sees 38 = .ok (.iconst 0, 1) := dk_3 (dk_at dksX2_sees_1 14 rfl rfl)
theorem dX2_sees_39 : decode cX2_sees 39 = .ok (.putfield 143, 3) := dk_181 0 143 (dk_at dksX2_sees_1 15 rfl rfl)
theorem dX2_sees_42 : decode cX2_sees 42 = .ok (.aload_n 0, 1) := dk_42 (dk_at dksX2_sees_1 18 rfl rfl)
theorem dX2_sees_43 : decode cX2_sees 43 = .ok (.getfield 49, 3) := dk_180 0 49 (dk_at dksX2_sees_1 19 rfl rfl)
theorem dX2_sees_46 : decode cX2_sees 46 = .ok (.aload_n 0, 1) := dk_42 (dk_at dksX2_sees_1 22 rfl rfl)
theorem dX2_sees_47 : decode cX2_sees 47 = .ok (.getfield 49, 3) := dk_180 0 49 (dk_at dksX2_sees_2 0 rfl rfl)
theorem dX2_sees_50 : decode cX2_sees 50 = .ok (.getfield 143, 3) := dk_180 0 143 (dk_at dksX2_sees_2 3 rfl rfl)
theorem dX2_sees_53 : decode cX2_sees 53 = .ok (.ifCond .eq 13, 3) := dk_153 0 13 (dk_at dksX2_sees_2 6 rfl rfl)
theorem dX2_sees_56 : decode cX2_sees 56 = .ok (.iload 4, 2) := dk_21 4 (dk_at dksX2_sees_2 9 rfl rfl)
theorem dX2_sees_58 : decode cX2_sees 58 = .ok (.aload_n 0, 1) := dk_42 (dk_at dksX2_sees_2 11 rfl rfl)
theorem dX2_sees_59 : decode cX2_sees 59 = .ok (.getfield 57, 3) := dk_180 0 57 (dk_at dksX2_sees_2 12 rfl rfl)
theorem dX2_sees_62 : decode cX2_sees 62 = .ok (.isub, 1) := dk_100 (dk_at dksX2_sees_2 15 rfl rfl)
theorem dX2_sees_63 : decode cX2_sees 63 = .ok (.goto 6, 3) := dk_167 0 6 (dk_at dksX2_sees_2 16 rfl rfl)
theorem dX2_sees_66 : decode cX2_sees 66 = .ok (.sipush 999, 3) := dk_17 3 231 (dk_at dksX2_sees_2 19 rfl rfl)
theorem dX2_sees_69 : decode cX2_sees 69 = .ok (.putfield 146, 3) := dk_181 0 146 (dk_at dksX2_sees_3 0 rfl rfl)
theorem dX2_sees_72 : decode cX2_sees 72 = .ok (.aload_n 0, 1) := dk_42 (dk_at dksX2_sees_3 3 rfl rfl)
theorem dX2_sees_73 : decode cX2_sees 73 = .ok (.getfield 49, 3) := dk_180 0 49 (dk_at dksX2_sees_3 4 rfl rfl)
theorem dX2_sees_76 : decode cX2_sees 76 = .ok (.aload_n 0, 1) := dk_42 (dk_at dksX2_sees_3 7 rfl rfl)
theorem dX2_sees_77 : decode cX2_sees 77 = .ok (.iload_n 1, 1) := dk_27 (dk_at dksX2_sees_3 8 rfl rfl)
theorem dX2_sees_78 : decode cX2_sees 78 = .ok (.invokevirtual 149, 3) := dk_182 0 149 (dk_at dksX2_sees_3 9 rfl rfl)
theorem dX2_sees_81 : decode cX2_sees 81 = .ok (.sipush 1024, 3) := dk_17 4 0 (dk_at dksX2_sees_3 12 rfl rfl)
theorem dX2_sees_84 : decode cX2_sees 84 = .ok (.idiv, 1) := dk_108 (dk_at dksX2_sees_3 15 rfl rfl)
theorem dX2_sees_85 : decode cX2_sees 85 = .ok (.putfield 152, 3) := dk_181 0 152 (dk_at dksX2_sees_3 16 rfl rfl)
theorem dX2_sees_88 : decode cX2_sees 88 = .ok (.aload_n 0, 1) := dk_42 (dk_at dksX2_sees_3 19 rfl rfl)
theorem dX2_sees_89 : decode cX2_sees 89 = .ok (.getfield 49, 3) := dk_180 0 49 (dk_at dksX2_sees_3 20 rfl rfl)
theorem dX2_sees_92 : decode cX2_sees 92 = .ok (.aload_n 0, 1) := dk_42 (dk_at dksX2_sees_3 23 rfl rfl)
theorem dX2_sees_93 : decode cX2_sees 93 = .ok (.iload_n 2, 1) := dk_28 (dk_at dksX2_sees_4 0 rfl rfl)
theorem dX2_sees_94 : decode cX2_sees 94 = .ok (.invokevirtual 155, 3) := dk_182 0 155 (dk_at dksX2_sees_4 1 rfl rfl)
theorem dX2_sees_97 : decode cX2_sees 97 = .ok (.putfield 158, 3) := dk_181 0 158 (dk_at dksX2_sees_4 4 rfl rfl)
theorem dX2_sees_100 : decode cX2_sees 100 = .ok (.aload_n 0, 1) := dk_42 (dk_at dksX2_sees_4 7 rfl rfl)
theorem dX2_sees_101 : decode cX2_sees 101 = .ok (.getfield 49, 3) := dk_180 0 49 (dk_at dksX2_sees_4 8 rfl rfl)
theorem dX2_sees_104 : decode cX2_sees 104 = .ok (.aload_n 0, 1) := dk_42 (dk_at dksX2_sees_4 11 rfl rfl)
theorem dX2_sees_105 : decode cX2_sees 105 = .ok (.getfield 19, 3) := dk_180 0 19 (dk_at dksX2_sees_4 12 rfl rfl)
theorem dX2_sees_108 : decode cX2_sees 108 = .ok (.iload_n 1, 1) := dk_27 (dk_at dksX2_sees_4 15 rfl rfl)
theorem dX2_sees_109 : decode cX2_sees 109 = .ok (.iaload, 1) := dk_46 (dk_at dksX2_sees_4 16 rfl rfl)
theorem dX2_sees_110 : decode cX2_sees 110 = .ok (.iload_n 2, 1) := dk_28 (dk_at dksX2_sees_4 17 rfl rfl)
theorem dX2_sees_111 : decode cX2_sees 111 = .ok (.ishr, 1) := dk_122 (dk_at dksX2_sees_4 18 rfl rfl)
theorem dX2_sees_112 : decode cX2_sees 112 = .ok (.iconst 1, 1) := dk_4 (dk_at dksX2_sees_4 19 rfl rfl)
theorem dX2_sees_113 : decode cX2_sees 113 = .ok (.iand, 1) := dk_126 (dk_at dksX2_sees_4 20 rfl rfl)
theorem dX2_sees_114 : decode cX2_sees 114 = .ok (.iconst 1, 1) := dk_4 (dk_at dksX2_sees_4 21 rfl rfl)
theorem dX2_sees_115 : decode cX2_sees 115 = .ok (.if_icmp .ne 7, 3) := dk_160 0 7 (dk_at dksX2_sees_5 0 rfl rfl)
theorem dX2_sees_118 : decode cX2_sees 118 = .ok (.iconst 1, 1) := dk_4 (dk_at dksX2_sees_5 3 rfl rfl)
theorem dX2_sees_119 : decode cX2_sees 119 = .ok (.goto 4, 3) := dk_167 0 4 (dk_at dksX2_sees_5 4 rfl rfl)
theorem dX2_sees_122 : decode cX2_sees 122 = .ok (.iconst 0, 1) := dk_3 (dk_at dksX2_sees_5 7 rfl rfl)
theorem dX2_sees_123 : decode cX2_sees 123 = .ok (.putfield 160, 3) := dk_181 0 160 (dk_at dksX2_sees_5 8 rfl rfl)
theorem dX2_sees_126 : decode cX2_sees 126 = .ok (.aload_n 0, 1) := dk_42 (dk_at dksX2_sees_5 11 rfl rfl)
theorem dX2_sees_127 : decode cX2_sees 127 = .ok (.getfield 49, 3) := dk_180 0 49 (dk_at dksX2_sees_5 12 rfl rfl)
theorem dX2_sees_130 : decode cX2_sees 130 = .ok (.iconst 0, 1) := dk_3 (dk_at dksX2_sees_5 15 rfl rfl)
theorem dX2_sees_131 : decode cX2_sees 131 = .ok (.putfield 133, 3) := dk_181 0 133 (dk_at dksX2_sees_5 16 rfl rfl)
theorem dX2_sees_134 : decode cX2_sees 134 = .ok (.return_, 1) := dk_177 (dk_at dksX2_sees_5 19 rfl rfl)
abbrev cX2_rich : ByteArray := prog_20_method_5_code
def yX2_rich : MethodName := ⟨RX2, "rich", "(I)I"⟩
def dkwX2_rich_2 : List UInt8 := [25, 4, 25, 4, 180, 0, 107, 182, 0, 110, 96, 61, 132, 3, 1, 167, 255, 198, 28, 172]
abbrev dktX2_rich_2 : List UInt8 := dkwX2_rich_2 ++ []
def dkwX2_rich_1 : List UInt8 := [192, 0, 77, 58, 4, 25, 4, 180, 0, 91, 27, 160, 0, 25, 42, 25, 4, 182, 0, 100, 154, 0, 16, 28]
abbrev dktX2_rich_1 : List UInt8 := dkwX2_rich_1 ++ dktX2_rich_2
def dkwX2_rich_0 : List UInt8 := [3, 61, 3, 62, 29, 42, 180, 0, 33, 182, 0, 69, 162, 0, 53, 42, 180, 0, 33, 29, 182, 0, 73]
abbrev dktX2_rich_0 : List UInt8 := dkwX2_rich_0 ++ dktX2_rich_1
theorem dksX2_rich_0 : cX2_rich.data.toList.drop 0 = dktX2_rich_0 := by decide +kernel
theorem dksX2_rich_1 : cX2_rich.data.toList.drop 23 = dktX2_rich_1 := dk_seg dksX2_rich_0 23 rfl rfl
theorem dksX2_rich_2 : cX2_rich.data.toList.drop 47 = dktX2_rich_2 := dk_seg dksX2_rich_1 24 rfl rfl
theorem dX2_rich_0 : decode cX2_rich 0 = .ok (.iconst 0, 1) := dk_3 (dk_at dksX2_rich_0 0 rfl rfl)
theorem dX2_rich_1 : decode cX2_rich 1 = .ok (.istore_n 2, 1) := dk_61 (dk_at dksX2_rich_0 1 rfl rfl)
theorem dX2_rich_2 : decode cX2_rich 2 = .ok (.iconst 0, 1) := dk_3 (dk_at dksX2_rich_0 2 rfl rfl)
theorem dX2_rich_3 : decode cX2_rich 3 = .ok (.istore_n 3, 1) := dk_62 (dk_at dksX2_rich_0 3 rfl rfl)
theorem dX2_rich_4 : decode cX2_rich 4 = .ok (.iload_n 3, 1) := dk_29 (dk_at dksX2_rich_0 4 rfl rfl)
theorem dX2_rich_5 : decode cX2_rich 5 = .ok (.aload_n 0, 1) := dk_42 (dk_at dksX2_rich_0 5 rfl rfl)
theorem dX2_rich_6 : decode cX2_rich 6 = .ok (.getfield 33, 3) := dk_180 0 33 (dk_at dksX2_rich_0 6 rfl rfl)
theorem dX2_rich_9 : decode cX2_rich 9 = .ok (.invokevirtual 69, 3) := dk_182 0 69 (dk_at dksX2_rich_0 9 rfl rfl)
theorem dX2_rich_12 : decode cX2_rich 12 = .ok (.if_icmp .ge 53, 3) := dk_162 0 53 (dk_at dksX2_rich_0 12 rfl rfl)
theorem dX2_rich_15 : decode cX2_rich 15 = .ok (.aload_n 0, 1) := dk_42 (dk_at dksX2_rich_0 15 rfl rfl)
theorem dX2_rich_16 : decode cX2_rich 16 = .ok (.getfield 33, 3) := dk_180 0 33 (dk_at dksX2_rich_0 16 rfl rfl)
theorem dX2_rich_19 : decode cX2_rich 19 = .ok (.iload_n 3, 1) := dk_29 (dk_at dksX2_rich_0 19 rfl rfl)
theorem dX2_rich_20 : decode cX2_rich 20 = .ok (.invokevirtual 73, 3) := dk_182 0 73 (dk_at dksX2_rich_0 20 rfl rfl)
theorem dX2_rich_23 : decode cX2_rich 23 = .ok (.checkcast 77, 3) := dk_192 0 77 (dk_at dksX2_rich_1 0 rfl rfl)
theorem dX2_rich_26 : decode cX2_rich 26 = .ok (.astore 4, 2) := dk_58 4 (dk_at dksX2_rich_1 3 rfl rfl)
theorem dX2_rich_28 : decode cX2_rich 28 = .ok (.aload 4, 2) := dk_25 4 (dk_at dksX2_rich_1 5 rfl rfl)
theorem dX2_rich_30 : decode cX2_rich 30 = .ok (.getfield 91, 3) := dk_180 0 91 (dk_at dksX2_rich_1 7 rfl rfl)
theorem dX2_rich_33 : decode cX2_rich 33 = .ok (.iload_n 1, 1) := dk_27 (dk_at dksX2_rich_1 10 rfl rfl)
theorem dX2_rich_34 : decode cX2_rich 34 = .ok (.if_icmp .ne 25, 3) := dk_160 0 25 (dk_at dksX2_rich_1 11 rfl rfl)
theorem dX2_rich_37 : decode cX2_rich 37 = .ok (.aload_n 0, 1) := dk_42 (dk_at dksX2_rich_1 14 rfl rfl)
theorem dX2_rich_38 : decode cX2_rich 38 = .ok (.aload 4, 2) := dk_25 4 (dk_at dksX2_rich_1 15 rfl rfl)
theorem dX2_rich_40 : decode cX2_rich 40 = .ok (.invokevirtual 100, 3) := dk_182 0 100 (dk_at dksX2_rich_1 17 rfl rfl)
theorem dX2_rich_43 : decode cX2_rich 43 = .ok (.ifCond .ne 16, 3) := dk_154 0 16 (dk_at dksX2_rich_1 20 rfl rfl)
theorem dX2_rich_46 : decode cX2_rich 46 = .ok (.iload_n 2, 1) := dk_28 (dk_at dksX2_rich_1 23 rfl rfl)
theorem dX2_rich_47 : decode cX2_rich 47 = .ok (.aload 4, 2) := dk_25 4 (dk_at dksX2_rich_2 0 rfl rfl)
theorem dX2_rich_49 : decode cX2_rich 49 = .ok (.aload 4, 2) := dk_25 4 (dk_at dksX2_rich_2 2 rfl rfl)
theorem dX2_rich_51 : decode cX2_rich 51 = .ok (.getfield 107, 3) := dk_180 0 107 (dk_at dksX2_rich_2 4 rfl rfl)
theorem dX2_rich_54 : decode cX2_rich 54 = .ok (.invokevirtual 110, 3) := dk_182 0 110 (dk_at dksX2_rich_2 7 rfl rfl)
theorem dX2_rich_57 : decode cX2_rich 57 = .ok (.iadd, 1) := dk_96 (dk_at dksX2_rich_2 10 rfl rfl)
theorem dX2_rich_58 : decode cX2_rich 58 = .ok (.istore_n 2, 1) := dk_61 (dk_at dksX2_rich_2 11 rfl rfl)
theorem dX2_rich_59 : decode cX2_rich 59 = .ok (.iinc 3 1, 3) := dk_132 3 1 (dk_at dksX2_rich_2 12 rfl rfl)
theorem dX2_rich_62 : decode cX2_rich 62 = .ok (.goto (-58), 3) := dk_167 255 198 (dk_at dksX2_rich_2 15 rfl rfl)
theorem dX2_rich_65 : decode cX2_rich 65 = .ok (.iload_n 2, 1) := dk_28 (dk_at dksX2_rich_2 18 rfl rfl)
theorem dX2_rich_66 : decode cX2_rich 66 = .ok (.ireturn, 1) := dk_172 (dk_at dksX2_rich_2 19 rfl rfl)
abbrev cX2_debt : ByteArray := prog_20_method_4_code
def yX2_debt : MethodName := ⟨RX2, "debt", "(I)I"⟩
def dkwX2_debt_2 : List UInt8 := [25, 4, 180, 0, 104, 96, 61, 132, 3, 1, 167, 255, 203, 28, 172]
abbrev dktX2_debt_2 : List UInt8 := dkwX2_debt_2 ++ []
def dkwX2_debt_1 : List UInt8 := [192, 0, 77, 58, 4, 25, 4, 180, 0, 97, 27, 160, 0, 20, 42, 25, 4, 182, 0, 100, 154, 0, 11, 28]
abbrev dktX2_debt_1 : List UInt8 := dkwX2_debt_1 ++ dktX2_debt_2
def dkwX2_debt_0 : List UInt8 := [3, 61, 3, 62, 29, 42, 180, 0, 33, 182, 0, 69, 162, 0, 48, 42, 180, 0, 33, 29, 182, 0, 73]
abbrev dktX2_debt_0 : List UInt8 := dkwX2_debt_0 ++ dktX2_debt_1
theorem dksX2_debt_0 : cX2_debt.data.toList.drop 0 = dktX2_debt_0 := by decide +kernel
theorem dksX2_debt_1 : cX2_debt.data.toList.drop 23 = dktX2_debt_1 := dk_seg dksX2_debt_0 23 rfl rfl
theorem dksX2_debt_2 : cX2_debt.data.toList.drop 47 = dktX2_debt_2 := dk_seg dksX2_debt_1 24 rfl rfl
theorem dX2_debt_0 : decode cX2_debt 0 = .ok (.iconst 0, 1) := dk_3 (dk_at dksX2_debt_0 0 rfl rfl)
theorem dX2_debt_1 : decode cX2_debt 1 = .ok (.istore_n 2, 1) := dk_61 (dk_at dksX2_debt_0 1 rfl rfl)
theorem dX2_debt_2 : decode cX2_debt 2 = .ok (.iconst 0, 1) := dk_3 (dk_at dksX2_debt_0 2 rfl rfl)
theorem dX2_debt_3 : decode cX2_debt 3 = .ok (.istore_n 3, 1) := dk_62 (dk_at dksX2_debt_0 3 rfl rfl)
theorem dX2_debt_4 : decode cX2_debt 4 = .ok (.iload_n 3, 1) := dk_29 (dk_at dksX2_debt_0 4 rfl rfl)
theorem dX2_debt_5 : decode cX2_debt 5 = .ok (.aload_n 0, 1) := dk_42 (dk_at dksX2_debt_0 5 rfl rfl)
theorem dX2_debt_6 : decode cX2_debt 6 = .ok (.getfield 33, 3) := dk_180 0 33 (dk_at dksX2_debt_0 6 rfl rfl)
theorem dX2_debt_9 : decode cX2_debt 9 = .ok (.invokevirtual 69, 3) := dk_182 0 69 (dk_at dksX2_debt_0 9 rfl rfl)
theorem dX2_debt_12 : decode cX2_debt 12 = .ok (.if_icmp .ge 48, 3) := dk_162 0 48 (dk_at dksX2_debt_0 12 rfl rfl)
theorem dX2_debt_15 : decode cX2_debt 15 = .ok (.aload_n 0, 1) := dk_42 (dk_at dksX2_debt_0 15 rfl rfl)
theorem dX2_debt_16 : decode cX2_debt 16 = .ok (.getfield 33, 3) := dk_180 0 33 (dk_at dksX2_debt_0 16 rfl rfl)
theorem dX2_debt_19 : decode cX2_debt 19 = .ok (.iload_n 3, 1) := dk_29 (dk_at dksX2_debt_0 19 rfl rfl)
theorem dX2_debt_20 : decode cX2_debt 20 = .ok (.invokevirtual 73, 3) := dk_182 0 73 (dk_at dksX2_debt_0 20 rfl rfl)
theorem dX2_debt_23 : decode cX2_debt 23 = .ok (.checkcast 77, 3) := dk_192 0 77 (dk_at dksX2_debt_1 0 rfl rfl)
theorem dX2_debt_26 : decode cX2_debt 26 = .ok (.astore 4, 2) := dk_58 4 (dk_at dksX2_debt_1 3 rfl rfl)
theorem dX2_debt_28 : decode cX2_debt 28 = .ok (.aload 4, 2) := dk_25 4 (dk_at dksX2_debt_1 5 rfl rfl)
theorem dX2_debt_30 : decode cX2_debt 30 = .ok (.getfield 97, 3) := dk_180 0 97 (dk_at dksX2_debt_1 7 rfl rfl)
theorem dX2_debt_33 : decode cX2_debt 33 = .ok (.iload_n 1, 1) := dk_27 (dk_at dksX2_debt_1 10 rfl rfl)
theorem dX2_debt_34 : decode cX2_debt 34 = .ok (.if_icmp .ne 20, 3) := dk_160 0 20 (dk_at dksX2_debt_1 11 rfl rfl)
theorem dX2_debt_37 : decode cX2_debt 37 = .ok (.aload_n 0, 1) := dk_42 (dk_at dksX2_debt_1 14 rfl rfl)
theorem dX2_debt_38 : decode cX2_debt 38 = .ok (.aload 4, 2) := dk_25 4 (dk_at dksX2_debt_1 15 rfl rfl)
theorem dX2_debt_40 : decode cX2_debt 40 = .ok (.invokevirtual 100, 3) := dk_182 0 100 (dk_at dksX2_debt_1 17 rfl rfl)
theorem dX2_debt_43 : decode cX2_debt 43 = .ok (.ifCond .ne 11, 3) := dk_154 0 11 (dk_at dksX2_debt_1 20 rfl rfl)
theorem dX2_debt_46 : decode cX2_debt 46 = .ok (.iload_n 2, 1) := dk_28 (dk_at dksX2_debt_1 23 rfl rfl)
theorem dX2_debt_47 : decode cX2_debt 47 = .ok (.aload 4, 2) := dk_25 4 (dk_at dksX2_debt_2 0 rfl rfl)
theorem dX2_debt_49 : decode cX2_debt 49 = .ok (.getfield 104, 3) := dk_180 0 104 (dk_at dksX2_debt_2 2 rfl rfl)
theorem dX2_debt_52 : decode cX2_debt 52 = .ok (.iadd, 1) := dk_96 (dk_at dksX2_debt_2 5 rfl rfl)
theorem dX2_debt_53 : decode cX2_debt 53 = .ok (.istore_n 2, 1) := dk_61 (dk_at dksX2_debt_2 6 rfl rfl)
theorem dX2_debt_54 : decode cX2_debt 54 = .ok (.iinc 3 1, 3) := dk_132 3 1 (dk_at dksX2_debt_2 7 rfl rfl)
theorem dX2_debt_57 : decode cX2_debt 57 = .ok (.goto (-53), 3) := dk_167 255 203 (dk_at dksX2_debt_2 10 rfl rfl)
theorem dX2_debt_60 : decode cX2_debt 60 = .ok (.iload_n 2, 1) := dk_28 (dk_at dksX2_debt_2 13 rfl rfl)
theorem dX2_debt_61 : decode cX2_debt 61 = .ok (.ireturn, 1) := dk_172 (dk_at dksX2_debt_2 14 rfl rfl)
abbrev cX2_worthThen : ByteArray := prog_20_method_15_code
def yX2_worthThen : MethodName := ⟨RX2, "worthThen", "(I)I"⟩
def dkwX2_worthThen_1 : List UInt8 := [180, 0, 107, 4, 96, 182, 0, 110, 172]
abbrev dktX2_worthThen_1 : List UInt8 := dkwX2_worthThen_1 ++ []
def dkwX2_worthThen_0 : List UInt8 := [42, 180, 0, 33, 27, 182, 0, 73, 192, 0, 77, 42, 180, 0, 33, 27, 182, 0, 73, 192, 0, 77]
abbrev dktX2_worthThen_0 : List UInt8 := dkwX2_worthThen_0 ++ dktX2_worthThen_1
theorem dksX2_worthThen_0 : cX2_worthThen.data.toList.drop 0 = dktX2_worthThen_0 := by decide +kernel
theorem dksX2_worthThen_1 : cX2_worthThen.data.toList.drop 22 = dktX2_worthThen_1 := dk_seg dksX2_worthThen_0 22 rfl rfl
theorem dX2_worthThen_0 : decode cX2_worthThen 0 = .ok (.aload_n 0, 1) := dk_42 (dk_at dksX2_worthThen_0 0 rfl rfl)
theorem dX2_worthThen_1 : decode cX2_worthThen 1 = .ok (.getfield 33, 3) := dk_180 0 33 (dk_at dksX2_worthThen_0 1 rfl rfl)
theorem dX2_worthThen_4 : decode cX2_worthThen 4 = .ok (.iload_n 1, 1) := dk_27 (dk_at dksX2_worthThen_0 4 rfl rfl)
theorem dX2_worthThen_5 : decode cX2_worthThen 5 = .ok (.invokevirtual 73, 3) := dk_182 0 73 (dk_at dksX2_worthThen_0 5 rfl rfl)
theorem dX2_worthThen_8 : decode cX2_worthThen 8 = .ok (.checkcast 77, 3) := dk_192 0 77 (dk_at dksX2_worthThen_0 8 rfl rfl)
theorem dX2_worthThen_11 : decode cX2_worthThen 11 = .ok (.aload_n 0, 1) := dk_42 (dk_at dksX2_worthThen_0 11 rfl rfl)
theorem dX2_worthThen_12 : decode cX2_worthThen 12 = .ok (.getfield 33, 3) := dk_180 0 33 (dk_at dksX2_worthThen_0 12 rfl rfl)
theorem dX2_worthThen_15 : decode cX2_worthThen 15 = .ok (.iload_n 1, 1) := dk_27 (dk_at dksX2_worthThen_0 15 rfl rfl)
theorem dX2_worthThen_16 : decode cX2_worthThen 16 = .ok (.invokevirtual 73, 3) := dk_182 0 73 (dk_at dksX2_worthThen_0 16 rfl rfl)
theorem dX2_worthThen_19 : decode cX2_worthThen 19 = .ok (.checkcast 77, 3) := dk_192 0 77 (dk_at dksX2_worthThen_0 19 rfl rfl)
theorem dX2_worthThen_22 : decode cX2_worthThen 22 = .ok (.getfield 107, 3) := dk_180 0 107 (dk_at dksX2_worthThen_1 0 rfl rfl)
theorem dX2_worthThen_25 : decode cX2_worthThen 25 = .ok (.iconst 1, 1) := dk_4 (dk_at dksX2_worthThen_1 3 rfl rfl)
theorem dX2_worthThen_26 : decode cX2_worthThen 26 = .ok (.iadd, 1) := dk_96 (dk_at dksX2_worthThen_1 4 rfl rfl)
theorem dX2_worthThen_27 : decode cX2_worthThen 27 = .ok (.invokevirtual 110, 3) := dk_182 0 110 (dk_at dksX2_worthThen_1 5 rfl rfl)
theorem dX2_worthThen_30 : decode cX2_worthThen 30 = .ok (.ireturn, 1) := dk_172 (dk_at dksX2_worthThen_1 8 rfl rfl)
abbrev cX2_canGive : ByteArray := prog_20_method_10_code
def yX2_canGive : MethodName := ⟨RX2, "canGive", "(IIIIZ)Z"⟩
def dkwX2_canGive_3 : List UInt8 := [42, 180, 0, 49, 182, 0, 138, 172]
abbrev dktX2_canGive_3 : List UInt8 := dkwX2_canGive_3 ++ []
def dkwX2_canGive_2 : List UInt8 := [28, 27, 29, 21, 4, 182, 0, 121, 42, 180, 0, 40, 42, 180, 0, 22, 28, 46, 182, 0, 73, 192, 0, 136]
abbrev dktX2_canGive_2 : List UInt8 := dkwX2_canGive_2 ++ dktX2_canGive_3
def dkwX2_canGive_1 : List UInt8 := [46, 164, 0, 5, 3, 172, 21, 5, 154, 0, 13, 42, 180, 0, 22, 28, 46, 2, 160, 0, 5, 4, 172, 42]
abbrev dktX2_canGive_1 : List UInt8 := dkwX2_canGive_1 ++ dktX2_canGive_2
def dkwX2_canGive_0 : List UInt8 := [42, 180, 0, 33, 182, 0, 69, 16, 40, 159, 0, 19, 42, 27, 182, 0, 155, 29, 96, 42, 180, 0, 15, 27]
abbrev dktX2_canGive_0 : List UInt8 := dkwX2_canGive_0 ++ dktX2_canGive_1
theorem dksX2_canGive_0 : cX2_canGive.data.toList.drop 0 = dktX2_canGive_0 := by decide +kernel
theorem dksX2_canGive_1 : cX2_canGive.data.toList.drop 24 = dktX2_canGive_1 := dk_seg dksX2_canGive_0 24 rfl rfl
theorem dksX2_canGive_2 : cX2_canGive.data.toList.drop 48 = dktX2_canGive_2 := dk_seg dksX2_canGive_1 24 rfl rfl
theorem dksX2_canGive_3 : cX2_canGive.data.toList.drop 72 = dktX2_canGive_3 := dk_seg dksX2_canGive_2 24 rfl rfl
theorem dX2_canGive_0 : decode cX2_canGive 0 = .ok (.aload_n 0, 1) := dk_42 (dk_at dksX2_canGive_0 0 rfl rfl)
theorem dX2_canGive_1 : decode cX2_canGive 1 = .ok (.getfield 33, 3) := dk_180 0 33 (dk_at dksX2_canGive_0 1 rfl rfl)
theorem dX2_canGive_4 : decode cX2_canGive 4 = .ok (.invokevirtual 69, 3) := dk_182 0 69 (dk_at dksX2_canGive_0 4 rfl rfl)
theorem dX2_canGive_7 : decode cX2_canGive 7 = .ok (.bipush 40, 2) := dk_16 40 (dk_at dksX2_canGive_0 7 rfl rfl)
theorem dX2_canGive_9 : decode cX2_canGive 9 = .ok (.if_icmp .eq 19, 3) := dk_159 0 19 (dk_at dksX2_canGive_0 9 rfl rfl)
theorem dX2_canGive_12 : decode cX2_canGive 12 = .ok (.aload_n 0, 1) := dk_42 (dk_at dksX2_canGive_0 12 rfl rfl)
theorem dX2_canGive_13 : decode cX2_canGive 13 = .ok (.iload_n 1, 1) := dk_27 (dk_at dksX2_canGive_0 13 rfl rfl)
theorem dX2_canGive_14 : decode cX2_canGive 14 = .ok (.invokevirtual 155, 3) := dk_182 0 155 (dk_at dksX2_canGive_0 14 rfl rfl)
theorem dX2_canGive_17 : decode cX2_canGive 17 = .ok (.iload_n 3, 1) := dk_29 (dk_at dksX2_canGive_0 17 rfl rfl)
theorem dX2_canGive_18 : decode cX2_canGive 18 = .ok (.iadd, 1) := dk_96 (dk_at dksX2_canGive_0 18 rfl rfl)
theorem dX2_canGive_19 : decode cX2_canGive 19 = .ok (.aload_n 0, 1) := dk_42 (dk_at dksX2_canGive_0 19 rfl rfl)
theorem dX2_canGive_20 : decode cX2_canGive 20 = .ok (.getfield 15, 3) := dk_180 0 15 (dk_at dksX2_canGive_0 20 rfl rfl)
theorem dX2_canGive_23 : decode cX2_canGive 23 = .ok (.iload_n 1, 1) := dk_27 (dk_at dksX2_canGive_0 23 rfl rfl)
theorem dX2_canGive_24 : decode cX2_canGive 24 = .ok (.iaload, 1) := dk_46 (dk_at dksX2_canGive_1 0 rfl rfl)
theorem dX2_canGive_25 : decode cX2_canGive 25 = .ok (.if_icmp .le 5, 3) := dk_164 0 5 (dk_at dksX2_canGive_1 1 rfl rfl)
theorem dX2_canGive_28 : decode cX2_canGive 28 = .ok (.iconst 0, 1) := dk_3 (dk_at dksX2_canGive_1 4 rfl rfl)
theorem dX2_canGive_29 : decode cX2_canGive 29 = .ok (.ireturn, 1) := dk_172 (dk_at dksX2_canGive_1 5 rfl rfl)
theorem dX2_canGive_30 : decode cX2_canGive 30 = .ok (.iload 5, 2) := dk_21 5 (dk_at dksX2_canGive_1 6 rfl rfl)
theorem dX2_canGive_32 : decode cX2_canGive 32 = .ok (.ifCond .ne 13, 3) := dk_154 0 13 (dk_at dksX2_canGive_1 8 rfl rfl)
theorem dX2_canGive_35 : decode cX2_canGive 35 = .ok (.aload_n 0, 1) := dk_42 (dk_at dksX2_canGive_1 11 rfl rfl)
theorem dX2_canGive_36 : decode cX2_canGive 36 = .ok (.getfield 22, 3) := dk_180 0 22 (dk_at dksX2_canGive_1 12 rfl rfl)
theorem dX2_canGive_39 : decode cX2_canGive 39 = .ok (.iload_n 2, 1) := dk_28 (dk_at dksX2_canGive_1 15 rfl rfl)
theorem dX2_canGive_40 : decode cX2_canGive 40 = .ok (.iaload, 1) := dk_46 (dk_at dksX2_canGive_1 16 rfl rfl)
theorem dX2_canGive_41 : decode cX2_canGive 41 = .ok (.iconst (-1), 1) := dk_2 (dk_at dksX2_canGive_1 17 rfl rfl)
theorem dX2_canGive_42 : decode cX2_canGive 42 = .ok (.if_icmp .ne 5, 3) := dk_160 0 5 (dk_at dksX2_canGive_1 18 rfl rfl)
theorem dX2_canGive_45 : decode cX2_canGive 45 = .ok (.iconst 1, 1) := dk_4 (dk_at dksX2_canGive_1 21 rfl rfl)
theorem dX2_canGive_46 : decode cX2_canGive 46 = .ok (.ireturn, 1) := dk_172 (dk_at dksX2_canGive_1 22 rfl rfl)
theorem dX2_canGive_47 : decode cX2_canGive 47 = .ok (.aload_n 0, 1) := dk_42 (dk_at dksX2_canGive_1 23 rfl rfl)
theorem dX2_canGive_48 : decode cX2_canGive 48 = .ok (.iload_n 2, 1) := dk_28 (dk_at dksX2_canGive_2 0 rfl rfl)
theorem dX2_canGive_49 : decode cX2_canGive 49 = .ok (.iload_n 1, 1) := dk_27 (dk_at dksX2_canGive_2 1 rfl rfl)
theorem dX2_canGive_50 : decode cX2_canGive 50 = .ok (.iload_n 3, 1) := dk_29 (dk_at dksX2_canGive_2 2 rfl rfl)
theorem dX2_canGive_51 : decode cX2_canGive 51 = .ok (.iload 4, 2) := dk_21 4 (dk_at dksX2_canGive_2 3 rfl rfl)
theorem dX2_canGive_53 : decode cX2_canGive 53 = .ok (.invokevirtual 121, 3) := dk_182 0 121 (dk_at dksX2_canGive_2 5 rfl rfl)
theorem dX2_canGive_56 : decode cX2_canGive 56 = .ok (.aload_n 0, 1) := dk_42 (dk_at dksX2_canGive_2 8 rfl rfl)
theorem dX2_canGive_57 : decode cX2_canGive 57 = .ok (.getfield 40, 3) := dk_180 0 40 (dk_at dksX2_canGive_2 9 rfl rfl)
theorem dX2_canGive_60 : decode cX2_canGive 60 = .ok (.aload_n 0, 1) := dk_42 (dk_at dksX2_canGive_2 12 rfl rfl)
theorem dX2_canGive_61 : decode cX2_canGive 61 = .ok (.getfield 22, 3) := dk_180 0 22 (dk_at dksX2_canGive_2 13 rfl rfl)
theorem dX2_canGive_64 : decode cX2_canGive 64 = .ok (.iload_n 2, 1) := dk_28 (dk_at dksX2_canGive_2 16 rfl rfl)
theorem dX2_canGive_65 : decode cX2_canGive 65 = .ok (.iaload, 1) := dk_46 (dk_at dksX2_canGive_2 17 rfl rfl)
theorem dX2_canGive_66 : decode cX2_canGive 66 = .ok (.invokevirtual 73, 3) := dk_182 0 73 (dk_at dksX2_canGive_2 18 rfl rfl)
theorem dX2_canGive_69 : decode cX2_canGive 69 = .ok (.checkcast 136, 3) := dk_192 0 136 (dk_at dksX2_canGive_2 21 rfl rfl)
theorem dX2_canGive_72 : decode cX2_canGive 72 = .ok (.aload_n 0, 1) := dk_42 (dk_at dksX2_canGive_3 0 rfl rfl)
theorem dX2_canGive_73 : decode cX2_canGive 73 = .ok (.getfield 49, 3) := dk_180 0 49 (dk_at dksX2_canGive_3 1 rfl rfl)
theorem dX2_canGive_76 : decode cX2_canGive 76 = .ok (.invokevirtual 138, 3) := dk_182 0 138 (dk_at dksX2_canGive_3 4 rfl rfl)
theorem dX2_canGive_79 : decode cX2_canGive 79 = .ok (.ireturn, 1) := dk_172 (dk_at dksX2_canGive_3 7 rfl rfl)
abbrev cX2_copy : ByteArray := prog_20_method_2_code
def yX2_copy : MethodName := ⟨RX2, "copy", "()LFavourTown$World;"⟩
def dkwX2_copy_8 : List UInt8 := [180, 0, 43, 182, 0, 87, 87, 43, 176]
abbrev dktX2_copy_8 : List UInt8 := dkwX2_copy_8 ++ []
def dkwX2_copy_7 : List UInt8 := [180, 0, 37, 182, 0, 87, 87, 43, 180, 0, 40, 42, 180, 0, 40, 182, 0, 87, 87, 43, 180, 0, 43, 42]
abbrev dktX2_copy_7 : List UInt8 := dkwX2_copy_7 ++ dktX2_copy_8
def dkwX2_copy_6 : List UInt8 := [182, 0, 73, 192, 0, 77, 182, 0, 79, 182, 0, 83, 87, 132, 2, 1, 167, 255, 220, 43, 180, 0, 37, 42]
abbrev dktX2_copy_6 : List UInt8 := dkwX2_copy_6 ++ dktX2_copy_7
def dkwX2_copy_5 : List UInt8 := [3, 61, 28, 42, 180, 0, 33, 182, 0, 69, 162, 0, 31, 43, 180, 0, 33, 42, 180, 0, 33, 28]
abbrev dktX2_copy_5 : List UInt8 := dkwX2_copy_5 ++ dktX2_copy_6
def dkwX2_copy_4 : List UInt8 := [180, 0, 27, 28, 50, 3, 43, 180, 0, 27, 28, 50, 3, 16, 12, 184, 0, 63, 132, 2, 1, 167, 255, 228]
abbrev dktX2_copy_4 : List UInt8 := dkwX2_copy_4 ++ dktX2_copy_5
def dkwX2_copy_3 : List UInt8 := [42, 180, 0, 22, 3, 43, 180, 0, 22, 3, 16, 12, 184, 0, 63, 3, 61, 28, 16, 12, 162, 0, 28, 42]
abbrev dktX2_copy_3 : List UInt8 := dkwX2_copy_3 ++ dktX2_copy_4
def dkwX2_copy_2 : List UInt8 := [180, 0, 15, 3, 16, 12, 184, 0, 63, 42, 180, 0, 19, 3, 43, 180, 0, 19, 3, 16, 12, 184, 0, 63]
abbrev dktX2_copy_2 : List UInt8 := dkwX2_copy_2 ++ dktX2_copy_3
def dkwX2_copy_1 : List UInt8 := [43, 42, 180, 0, 9, 181, 0, 9, 43, 42, 180, 0, 60, 181, 0, 60, 42, 180, 0, 15, 3, 43]
abbrev dktX2_copy_1 : List UInt8 := dkwX2_copy_1 ++ dktX2_copy_2
def dkwX2_copy_0 : List UInt8 := [187, 0, 10, 89, 183, 0, 53, 76, 43, 42, 180, 0, 54, 181, 0, 54, 43, 42, 180, 0, 57, 181, 0, 57]
abbrev dktX2_copy_0 : List UInt8 := dkwX2_copy_0 ++ dktX2_copy_1
theorem dksX2_copy_0 : cX2_copy.data.toList.drop 0 = dktX2_copy_0 := by decide +kernel
theorem dksX2_copy_1 : cX2_copy.data.toList.drop 24 = dktX2_copy_1 := dk_seg dksX2_copy_0 24 rfl rfl
theorem dksX2_copy_2 : cX2_copy.data.toList.drop 46 = dktX2_copy_2 := dk_seg dksX2_copy_1 22 rfl rfl
theorem dksX2_copy_3 : cX2_copy.data.toList.drop 70 = dktX2_copy_3 := dk_seg dksX2_copy_2 24 rfl rfl
theorem dksX2_copy_4 : cX2_copy.data.toList.drop 94 = dktX2_copy_4 := dk_seg dksX2_copy_3 24 rfl rfl
theorem dksX2_copy_5 : cX2_copy.data.toList.drop 118 = dktX2_copy_5 := dk_seg dksX2_copy_4 24 rfl rfl
theorem dksX2_copy_6 : cX2_copy.data.toList.drop 140 = dktX2_copy_6 := dk_seg dksX2_copy_5 22 rfl rfl
theorem dksX2_copy_7 : cX2_copy.data.toList.drop 164 = dktX2_copy_7 := dk_seg dksX2_copy_6 24 rfl rfl
theorem dksX2_copy_8 : cX2_copy.data.toList.drop 188 = dktX2_copy_8 := dk_seg dksX2_copy_7 24 rfl rfl
theorem dX2_copy_0 : decode cX2_copy 0 = .ok (.new 10, 3) := dk_187 0 10 (dk_at dksX2_copy_0 0 rfl rfl)
theorem dX2_copy_3 : decode cX2_copy 3 = .ok (.dup, 1) := dk_89 (dk_at dksX2_copy_0 3 rfl rfl)
theorem dX2_copy_4 : decode cX2_copy 4 = .ok (.invokespecial 53, 3) := dk_183 0 53 (dk_at dksX2_copy_0 4 rfl rfl)
theorem dX2_copy_7 : decode cX2_copy 7 = .ok (.astore_n 1, 1) := dk_76 (dk_at dksX2_copy_0 7 rfl rfl)
theorem dX2_copy_8 : decode cX2_copy 8 = .ok (.aload_n 1, 1) := dk_43 (dk_at dksX2_copy_0 8 rfl rfl)
theorem dX2_copy_9 : decode cX2_copy 9 = .ok (.aload_n 0, 1) := dk_42 (dk_at dksX2_copy_0 9 rfl rfl)
theorem dX2_copy_10 : decode cX2_copy 10 = .ok (.getfield 54, 3) := dk_180 0 54 (dk_at dksX2_copy_0 10 rfl rfl)
theorem dX2_copy_13 : decode cX2_copy 13 = .ok (.putfield 54, 3) := dk_181 0 54 (dk_at dksX2_copy_0 13 rfl rfl)
theorem dX2_copy_16 : decode cX2_copy 16 = .ok (.aload_n 1, 1) := dk_43 (dk_at dksX2_copy_0 16 rfl rfl)
theorem dX2_copy_17 : decode cX2_copy 17 = .ok (.aload_n 0, 1) := dk_42 (dk_at dksX2_copy_0 17 rfl rfl)
theorem dX2_copy_18 : decode cX2_copy 18 = .ok (.getfield 57, 3) := dk_180 0 57 (dk_at dksX2_copy_0 18 rfl rfl)
theorem dX2_copy_21 : decode cX2_copy 21 = .ok (.putfield 57, 3) := dk_181 0 57 (dk_at dksX2_copy_0 21 rfl rfl)
theorem dX2_copy_24 : decode cX2_copy 24 = .ok (.aload_n 1, 1) := dk_43 (dk_at dksX2_copy_1 0 rfl rfl)
theorem dX2_copy_25 : decode cX2_copy 25 = .ok (.aload_n 0, 1) := dk_42 (dk_at dksX2_copy_1 1 rfl rfl)
theorem dX2_copy_26 : decode cX2_copy 26 = .ok (.getfield 9, 3) := dk_180 0 9 (dk_at dksX2_copy_1 2 rfl rfl)
theorem dX2_copy_29 : decode cX2_copy 29 = .ok (.putfield 9, 3) := dk_181 0 9 (dk_at dksX2_copy_1 5 rfl rfl)
theorem dX2_copy_32 : decode cX2_copy 32 = .ok (.aload_n 1, 1) := dk_43 (dk_at dksX2_copy_1 8 rfl rfl)
theorem dX2_copy_33 : decode cX2_copy 33 = .ok (.aload_n 0, 1) := dk_42 (dk_at dksX2_copy_1 9 rfl rfl)
theorem dX2_copy_34 : decode cX2_copy 34 = .ok (.getfield 60, 3) := dk_180 0 60 (dk_at dksX2_copy_1 10 rfl rfl)
theorem dX2_copy_37 : decode cX2_copy 37 = .ok (.putfield 60, 3) := dk_181 0 60 (dk_at dksX2_copy_1 13 rfl rfl)
theorem dX2_copy_40 : decode cX2_copy 40 = .ok (.aload_n 0, 1) := dk_42 (dk_at dksX2_copy_1 16 rfl rfl)
theorem dX2_copy_41 : decode cX2_copy 41 = .ok (.getfield 15, 3) := dk_180 0 15 (dk_at dksX2_copy_1 17 rfl rfl)
theorem dX2_copy_44 : decode cX2_copy 44 = .ok (.iconst 0, 1) := dk_3 (dk_at dksX2_copy_1 20 rfl rfl)
theorem dX2_copy_45 : decode cX2_copy 45 = .ok (.aload_n 1, 1) := dk_43 (dk_at dksX2_copy_1 21 rfl rfl)
theorem dX2_copy_46 : decode cX2_copy 46 = .ok (.getfield 15, 3) := dk_180 0 15 (dk_at dksX2_copy_2 0 rfl rfl)
theorem dX2_copy_49 : decode cX2_copy 49 = .ok (.iconst 0, 1) := dk_3 (dk_at dksX2_copy_2 3 rfl rfl)
theorem dX2_copy_50 : decode cX2_copy 50 = .ok (.bipush 12, 2) := dk_16 12 (dk_at dksX2_copy_2 4 rfl rfl)
theorem dX2_copy_52 : decode cX2_copy 52 = .ok (.invokestatic 63, 3) := dk_184 0 63 (dk_at dksX2_copy_2 6 rfl rfl)
theorem dX2_copy_55 : decode cX2_copy 55 = .ok (.aload_n 0, 1) := dk_42 (dk_at dksX2_copy_2 9 rfl rfl)
theorem dX2_copy_56 : decode cX2_copy 56 = .ok (.getfield 19, 3) := dk_180 0 19 (dk_at dksX2_copy_2 10 rfl rfl)
theorem dX2_copy_59 : decode cX2_copy 59 = .ok (.iconst 0, 1) := dk_3 (dk_at dksX2_copy_2 13 rfl rfl)
theorem dX2_copy_60 : decode cX2_copy 60 = .ok (.aload_n 1, 1) := dk_43 (dk_at dksX2_copy_2 14 rfl rfl)
theorem dX2_copy_61 : decode cX2_copy 61 = .ok (.getfield 19, 3) := dk_180 0 19 (dk_at dksX2_copy_2 15 rfl rfl)
theorem dX2_copy_64 : decode cX2_copy 64 = .ok (.iconst 0, 1) := dk_3 (dk_at dksX2_copy_2 18 rfl rfl)
theorem dX2_copy_65 : decode cX2_copy 65 = .ok (.bipush 12, 2) := dk_16 12 (dk_at dksX2_copy_2 19 rfl rfl)
theorem dX2_copy_67 : decode cX2_copy 67 = .ok (.invokestatic 63, 3) := dk_184 0 63 (dk_at dksX2_copy_2 21 rfl rfl)
theorem dX2_copy_70 : decode cX2_copy 70 = .ok (.aload_n 0, 1) := dk_42 (dk_at dksX2_copy_3 0 rfl rfl)
theorem dX2_copy_71 : decode cX2_copy 71 = .ok (.getfield 22, 3) := dk_180 0 22 (dk_at dksX2_copy_3 1 rfl rfl)
theorem dX2_copy_74 : decode cX2_copy 74 = .ok (.iconst 0, 1) := dk_3 (dk_at dksX2_copy_3 4 rfl rfl)
theorem dX2_copy_75 : decode cX2_copy 75 = .ok (.aload_n 1, 1) := dk_43 (dk_at dksX2_copy_3 5 rfl rfl)
theorem dX2_copy_76 : decode cX2_copy 76 = .ok (.getfield 22, 3) := dk_180 0 22 (dk_at dksX2_copy_3 6 rfl rfl)
theorem dX2_copy_79 : decode cX2_copy 79 = .ok (.iconst 0, 1) := dk_3 (dk_at dksX2_copy_3 9 rfl rfl)
theorem dX2_copy_80 : decode cX2_copy 80 = .ok (.bipush 12, 2) := dk_16 12 (dk_at dksX2_copy_3 10 rfl rfl)
theorem dX2_copy_82 : decode cX2_copy 82 = .ok (.invokestatic 63, 3) := dk_184 0 63 (dk_at dksX2_copy_3 12 rfl rfl)
theorem dX2_copy_85 : decode cX2_copy 85 = .ok (.iconst 0, 1) := dk_3 (dk_at dksX2_copy_3 15 rfl rfl)
theorem dX2_copy_86 : decode cX2_copy 86 = .ok (.istore_n 2, 1) := dk_61 (dk_at dksX2_copy_3 16 rfl rfl)
theorem dX2_copy_87 : decode cX2_copy 87 = .ok (.iload_n 2, 1) := dk_28 (dk_at dksX2_copy_3 17 rfl rfl)
theorem dX2_copy_88 : decode cX2_copy 88 = .ok (.bipush 12, 2) := dk_16 12 (dk_at dksX2_copy_3 18 rfl rfl)
theorem dX2_copy_90 : decode cX2_copy 90 = .ok (.if_icmp .ge 28, 3) := dk_162 0 28 (dk_at dksX2_copy_3 20 rfl rfl)
theorem dX2_copy_93 : decode cX2_copy 93 = .ok (.aload_n 0, 1) := dk_42 (dk_at dksX2_copy_3 23 rfl rfl)
theorem dX2_copy_94 : decode cX2_copy 94 = .ok (.getfield 27, 3) := dk_180 0 27 (dk_at dksX2_copy_4 0 rfl rfl)
theorem dX2_copy_97 : decode cX2_copy 97 = .ok (.iload_n 2, 1) := dk_28 (dk_at dksX2_copy_4 3 rfl rfl)
theorem dX2_copy_98 : decode cX2_copy 98 = .ok (.aaload, 1) := dk_50 (dk_at dksX2_copy_4 4 rfl rfl)
theorem dX2_copy_99 : decode cX2_copy 99 = .ok (.iconst 0, 1) := dk_3 (dk_at dksX2_copy_4 5 rfl rfl)
theorem dX2_copy_100 : decode cX2_copy 100 = .ok (.aload_n 1, 1) := dk_43 (dk_at dksX2_copy_4 6 rfl rfl)
theorem dX2_copy_101 : decode cX2_copy 101 = .ok (.getfield 27, 3) := dk_180 0 27 (dk_at dksX2_copy_4 7 rfl rfl)
theorem dX2_copy_104 : decode cX2_copy 104 = .ok (.iload_n 2, 1) := dk_28 (dk_at dksX2_copy_4 10 rfl rfl)
theorem dX2_copy_105 : decode cX2_copy 105 = .ok (.aaload, 1) := dk_50 (dk_at dksX2_copy_4 11 rfl rfl)
theorem dX2_copy_106 : decode cX2_copy 106 = .ok (.iconst 0, 1) := dk_3 (dk_at dksX2_copy_4 12 rfl rfl)
theorem dX2_copy_107 : decode cX2_copy 107 = .ok (.bipush 12, 2) := dk_16 12 (dk_at dksX2_copy_4 13 rfl rfl)
theorem dX2_copy_109 : decode cX2_copy 109 = .ok (.invokestatic 63, 3) := dk_184 0 63 (dk_at dksX2_copy_4 15 rfl rfl)
theorem dX2_copy_112 : decode cX2_copy 112 = .ok (.iinc 2 1, 3) := dk_132 2 1 (dk_at dksX2_copy_4 18 rfl rfl)
theorem dX2_copy_115 : decode cX2_copy 115 = .ok (.goto (-28), 3) := dk_167 255 228 (dk_at dksX2_copy_4 21 rfl rfl)
theorem dX2_copy_118 : decode cX2_copy 118 = .ok (.iconst 0, 1) := dk_3 (dk_at dksX2_copy_5 0 rfl rfl)
theorem dX2_copy_119 : decode cX2_copy 119 = .ok (.istore_n 2, 1) := dk_61 (dk_at dksX2_copy_5 1 rfl rfl)
theorem dX2_copy_120 : decode cX2_copy 120 = .ok (.iload_n 2, 1) := dk_28 (dk_at dksX2_copy_5 2 rfl rfl)
theorem dX2_copy_121 : decode cX2_copy 121 = .ok (.aload_n 0, 1) := dk_42 (dk_at dksX2_copy_5 3 rfl rfl)
theorem dX2_copy_122 : decode cX2_copy 122 = .ok (.getfield 33, 3) := dk_180 0 33 (dk_at dksX2_copy_5 4 rfl rfl)
theorem dX2_copy_125 : decode cX2_copy 125 = .ok (.invokevirtual 69, 3) := dk_182 0 69 (dk_at dksX2_copy_5 7 rfl rfl)
theorem dX2_copy_128 : decode cX2_copy 128 = .ok (.if_icmp .ge 31, 3) := dk_162 0 31 (dk_at dksX2_copy_5 10 rfl rfl)
theorem dX2_copy_131 : decode cX2_copy 131 = .ok (.aload_n 1, 1) := dk_43 (dk_at dksX2_copy_5 13 rfl rfl)
theorem dX2_copy_132 : decode cX2_copy 132 = .ok (.getfield 33, 3) := dk_180 0 33 (dk_at dksX2_copy_5 14 rfl rfl)
theorem dX2_copy_135 : decode cX2_copy 135 = .ok (.aload_n 0, 1) := dk_42 (dk_at dksX2_copy_5 17 rfl rfl)
theorem dX2_copy_136 : decode cX2_copy 136 = .ok (.getfield 33, 3) := dk_180 0 33 (dk_at dksX2_copy_5 18 rfl rfl)
theorem dX2_copy_139 : decode cX2_copy 139 = .ok (.iload_n 2, 1) := dk_28 (dk_at dksX2_copy_5 21 rfl rfl)
theorem dX2_copy_140 : decode cX2_copy 140 = .ok (.invokevirtual 73, 3) := dk_182 0 73 (dk_at dksX2_copy_6 0 rfl rfl)
theorem dX2_copy_143 : decode cX2_copy 143 = .ok (.checkcast 77, 3) := dk_192 0 77 (dk_at dksX2_copy_6 3 rfl rfl)
theorem dX2_copy_146 : decode cX2_copy 146 = .ok (.invokevirtual 79, 3) := dk_182 0 79 (dk_at dksX2_copy_6 6 rfl rfl)
theorem dX2_copy_149 : decode cX2_copy 149 = .ok (.invokevirtual 83, 3) := dk_182 0 83 (dk_at dksX2_copy_6 9 rfl rfl)
theorem dX2_copy_152 : decode cX2_copy 152 = .ok (.pop, 1) := dk_87 (dk_at dksX2_copy_6 12 rfl rfl)
theorem dX2_copy_153 : decode cX2_copy 153 = .ok (.iinc 2 1, 3) := dk_132 2 1 (dk_at dksX2_copy_6 13 rfl rfl)
theorem dX2_copy_156 : decode cX2_copy 156 = .ok (.goto (-36), 3) := dk_167 255 220 (dk_at dksX2_copy_6 16 rfl rfl)
theorem dX2_copy_159 : decode cX2_copy 159 = .ok (.aload_n 1, 1) := dk_43 (dk_at dksX2_copy_6 19 rfl rfl)
theorem dX2_copy_160 : decode cX2_copy 160 = .ok (.getfield 37, 3) := dk_180 0 37 (dk_at dksX2_copy_6 20 rfl rfl)
theorem dX2_copy_163 : decode cX2_copy 163 = .ok (.aload_n 0, 1) := dk_42 (dk_at dksX2_copy_6 23 rfl rfl)
theorem dX2_copy_164 : decode cX2_copy 164 = .ok (.getfield 37, 3) := dk_180 0 37 (dk_at dksX2_copy_7 0 rfl rfl)
theorem dX2_copy_167 : decode cX2_copy 167 = .ok (.invokevirtual 87, 3) := dk_182 0 87 (dk_at dksX2_copy_7 3 rfl rfl)
theorem dX2_copy_170 : decode cX2_copy 170 = .ok (.pop, 1) := dk_87 (dk_at dksX2_copy_7 6 rfl rfl)
theorem dX2_copy_171 : decode cX2_copy 171 = .ok (.aload_n 1, 1) := dk_43 (dk_at dksX2_copy_7 7 rfl rfl)
theorem dX2_copy_172 : decode cX2_copy 172 = .ok (.getfield 40, 3) := dk_180 0 40 (dk_at dksX2_copy_7 8 rfl rfl)
theorem dX2_copy_175 : decode cX2_copy 175 = .ok (.aload_n 0, 1) := dk_42 (dk_at dksX2_copy_7 11 rfl rfl)
theorem dX2_copy_176 : decode cX2_copy 176 = .ok (.getfield 40, 3) := dk_180 0 40 (dk_at dksX2_copy_7 12 rfl rfl)
theorem dX2_copy_179 : decode cX2_copy 179 = .ok (.invokevirtual 87, 3) := dk_182 0 87 (dk_at dksX2_copy_7 15 rfl rfl)
theorem dX2_copy_182 : decode cX2_copy 182 = .ok (.pop, 1) := dk_87 (dk_at dksX2_copy_7 18 rfl rfl)
theorem dX2_copy_183 : decode cX2_copy 183 = .ok (.aload_n 1, 1) := dk_43 (dk_at dksX2_copy_7 19 rfl rfl)
theorem dX2_copy_184 : decode cX2_copy 184 = .ok (.getfield 43, 3) := dk_180 0 43 (dk_at dksX2_copy_7 20 rfl rfl)
theorem dX2_copy_187 : decode cX2_copy 187 = .ok (.aload_n 0, 1) := dk_42 (dk_at dksX2_copy_7 23 rfl rfl)
theorem dX2_copy_188 : decode cX2_copy 188 = .ok (.getfield 43, 3) := dk_180 0 43 (dk_at dksX2_copy_8 0 rfl rfl)
theorem dX2_copy_191 : decode cX2_copy 191 = .ok (.invokevirtual 87, 3) := dk_182 0 87 (dk_at dksX2_copy_8 3 rfl rfl)
theorem dX2_copy_194 : decode cX2_copy 194 = .ok (.pop, 1) := dk_87 (dk_at dksX2_copy_8 6 rfl rfl)
theorem dX2_copy_195 : decode cX2_copy 195 = .ok (.aload_n 1, 1) := dk_43 (dk_at dksX2_copy_8 7 rfl rfl)
theorem dX2_copy_196 : decode cX2_copy 196 = .ok (.areturn, 1) := dk_176 (dk_at dksX2_copy_8 8 rfl rfl)
abbrev cX2_alive : ByteArray := prog_20_method_20_code
def yX2_alive : MethodName := ⟨RX2, "alive", "()I"⟩
def dkwX2_alive_2 : List UInt8 := [172]
abbrev dktX2_alive_2 : List UInt8 := dkwX2_alive_2 ++ []
def dkwX2_alive_1 : List UInt8 := [192, 0, 77, 180, 0, 91, 2, 160, 0, 7, 3, 167, 0, 4, 4, 96, 60, 132, 2, 1, 167, 255, 216, 27]
abbrev dktX2_alive_1 : List UInt8 := dkwX2_alive_1 ++ dktX2_alive_2
def dkwX2_alive_0 : List UInt8 := [3, 60, 3, 61, 28, 42, 180, 0, 33, 182, 0, 69, 162, 0, 35, 27, 42, 180, 0, 33, 28, 182, 0, 73]
abbrev dktX2_alive_0 : List UInt8 := dkwX2_alive_0 ++ dktX2_alive_1
theorem dksX2_alive_0 : cX2_alive.data.toList.drop 0 = dktX2_alive_0 := by decide +kernel
theorem dksX2_alive_1 : cX2_alive.data.toList.drop 24 = dktX2_alive_1 := dk_seg dksX2_alive_0 24 rfl rfl
theorem dksX2_alive_2 : cX2_alive.data.toList.drop 48 = dktX2_alive_2 := dk_seg dksX2_alive_1 24 rfl rfl
theorem dX2_alive_0 : decode cX2_alive 0 = .ok (.iconst 0, 1) := dk_3 (dk_at dksX2_alive_0 0 rfl rfl)
theorem dX2_alive_1 : decode cX2_alive 1 = .ok (.istore_n 1, 1) := dk_60 (dk_at dksX2_alive_0 1 rfl rfl)
theorem dX2_alive_2 : decode cX2_alive 2 = .ok (.iconst 0, 1) := dk_3 (dk_at dksX2_alive_0 2 rfl rfl)
theorem dX2_alive_3 : decode cX2_alive 3 = .ok (.istore_n 2, 1) := dk_61 (dk_at dksX2_alive_0 3 rfl rfl)
theorem dX2_alive_4 : decode cX2_alive 4 = .ok (.iload_n 2, 1) := dk_28 (dk_at dksX2_alive_0 4 rfl rfl)
theorem dX2_alive_5 : decode cX2_alive 5 = .ok (.aload_n 0, 1) := dk_42 (dk_at dksX2_alive_0 5 rfl rfl)
theorem dX2_alive_6 : decode cX2_alive 6 = .ok (.getfield 33, 3) := dk_180 0 33 (dk_at dksX2_alive_0 6 rfl rfl)
theorem dX2_alive_9 : decode cX2_alive 9 = .ok (.invokevirtual 69, 3) := dk_182 0 69 (dk_at dksX2_alive_0 9 rfl rfl)
theorem dX2_alive_12 : decode cX2_alive 12 = .ok (.if_icmp .ge 35, 3) := dk_162 0 35 (dk_at dksX2_alive_0 12 rfl rfl)
theorem dX2_alive_15 : decode cX2_alive 15 = .ok (.iload_n 1, 1) := dk_27 (dk_at dksX2_alive_0 15 rfl rfl)
theorem dX2_alive_16 : decode cX2_alive 16 = .ok (.aload_n 0, 1) := dk_42 (dk_at dksX2_alive_0 16 rfl rfl)
theorem dX2_alive_17 : decode cX2_alive 17 = .ok (.getfield 33, 3) := dk_180 0 33 (dk_at dksX2_alive_0 17 rfl rfl)
theorem dX2_alive_20 : decode cX2_alive 20 = .ok (.iload_n 2, 1) := dk_28 (dk_at dksX2_alive_0 20 rfl rfl)
theorem dX2_alive_21 : decode cX2_alive 21 = .ok (.invokevirtual 73, 3) := dk_182 0 73 (dk_at dksX2_alive_0 21 rfl rfl)
theorem dX2_alive_24 : decode cX2_alive 24 = .ok (.checkcast 77, 3) := dk_192 0 77 (dk_at dksX2_alive_1 0 rfl rfl)
theorem dX2_alive_27 : decode cX2_alive 27 = .ok (.getfield 91, 3) := dk_180 0 91 (dk_at dksX2_alive_1 3 rfl rfl)
theorem dX2_alive_30 : decode cX2_alive 30 = .ok (.iconst (-1), 1) := dk_2 (dk_at dksX2_alive_1 6 rfl rfl)
theorem dX2_alive_31 : decode cX2_alive 31 = .ok (.if_icmp .ne 7, 3) := dk_160 0 7 (dk_at dksX2_alive_1 7 rfl rfl)
theorem dX2_alive_34 : decode cX2_alive 34 = .ok (.iconst 0, 1) := dk_3 (dk_at dksX2_alive_1 10 rfl rfl)
theorem dX2_alive_35 : decode cX2_alive 35 = .ok (.goto 4, 3) := dk_167 0 4 (dk_at dksX2_alive_1 11 rfl rfl)
theorem dX2_alive_38 : decode cX2_alive 38 = .ok (.iconst 1, 1) := dk_4 (dk_at dksX2_alive_1 14 rfl rfl)
theorem dX2_alive_39 : decode cX2_alive 39 = .ok (.iadd, 1) := dk_96 (dk_at dksX2_alive_1 15 rfl rfl)
theorem dX2_alive_40 : decode cX2_alive 40 = .ok (.istore_n 1, 1) := dk_60 (dk_at dksX2_alive_1 16 rfl rfl)
theorem dX2_alive_41 : decode cX2_alive 41 = .ok (.iinc 2 1, 3) := dk_132 2 1 (dk_at dksX2_alive_1 17 rfl rfl)
theorem dX2_alive_44 : decode cX2_alive 44 = .ok (.goto (-40), 3) := dk_167 255 216 (dk_at dksX2_alive_1 20 rfl rfl)
theorem dX2_alive_47 : decode cX2_alive 47 = .ok (.iload_n 1, 1) := dk_27 (dk_at dksX2_alive_1 23 rfl rfl)
theorem dX2_alive_48 : decode cX2_alive 48 = .ok (.ireturn, 1) := dk_172 (dk_at dksX2_alive_2 0 rfl rfl)
abbrev cX2_pairs : ByteArray := prog_20_method_21_code
def yX2_pairs : MethodName := ⟨RX2, "pairs", "()I"⟩
def dkwX2_pairs_1 : List UInt8 := [54, 5, 27, 21, 5, 184, 0, 215, 96, 60, 132, 4, 1, 167, 255, 233, 27, 5, 108, 172]
abbrev dktX2_pairs_1 : List UInt8 := dkwX2_pairs_1 ++ []
def dkwX2_pairs_0 : List UInt8 := [3, 60, 42, 180, 0, 19, 77, 44, 190, 62, 3, 54, 4, 21, 4, 29, 162, 0, 23, 44, 21, 4, 46]
abbrev dktX2_pairs_0 : List UInt8 := dkwX2_pairs_0 ++ dktX2_pairs_1
theorem dksX2_pairs_0 : cX2_pairs.data.toList.drop 0 = dktX2_pairs_0 := by decide +kernel
theorem dksX2_pairs_1 : cX2_pairs.data.toList.drop 23 = dktX2_pairs_1 := dk_seg dksX2_pairs_0 23 rfl rfl
theorem dX2_pairs_0 : decode cX2_pairs 0 = .ok (.iconst 0, 1) := dk_3 (dk_at dksX2_pairs_0 0 rfl rfl)
theorem dX2_pairs_1 : decode cX2_pairs 1 = .ok (.istore_n 1, 1) := dk_60 (dk_at dksX2_pairs_0 1 rfl rfl)
theorem dX2_pairs_2 : decode cX2_pairs 2 = .ok (.aload_n 0, 1) := dk_42 (dk_at dksX2_pairs_0 2 rfl rfl)
theorem dX2_pairs_3 : decode cX2_pairs 3 = .ok (.getfield 19, 3) := dk_180 0 19 (dk_at dksX2_pairs_0 3 rfl rfl)
theorem dX2_pairs_6 : decode cX2_pairs 6 = .ok (.astore_n 2, 1) := dk_77 (dk_at dksX2_pairs_0 6 rfl rfl)
theorem dX2_pairs_7 : decode cX2_pairs 7 = .ok (.aload_n 2, 1) := dk_44 (dk_at dksX2_pairs_0 7 rfl rfl)
theorem dX2_pairs_8 : decode cX2_pairs 8 = .ok (.arraylength, 1) := dk_190 (dk_at dksX2_pairs_0 8 rfl rfl)
theorem dX2_pairs_9 : decode cX2_pairs 9 = .ok (.istore_n 3, 1) := dk_62 (dk_at dksX2_pairs_0 9 rfl rfl)
theorem dX2_pairs_10 : decode cX2_pairs 10 = .ok (.iconst 0, 1) := dk_3 (dk_at dksX2_pairs_0 10 rfl rfl)
theorem dX2_pairs_11 : decode cX2_pairs 11 = .ok (.istore 4, 2) := dk_54 4 (dk_at dksX2_pairs_0 11 rfl rfl)
theorem dX2_pairs_13 : decode cX2_pairs 13 = .ok (.iload 4, 2) := dk_21 4 (dk_at dksX2_pairs_0 13 rfl rfl)
theorem dX2_pairs_15 : decode cX2_pairs 15 = .ok (.iload_n 3, 1) := dk_29 (dk_at dksX2_pairs_0 15 rfl rfl)
theorem dX2_pairs_16 : decode cX2_pairs 16 = .ok (.if_icmp .ge 23, 3) := dk_162 0 23 (dk_at dksX2_pairs_0 16 rfl rfl)
theorem dX2_pairs_19 : decode cX2_pairs 19 = .ok (.aload_n 2, 1) := dk_44 (dk_at dksX2_pairs_0 19 rfl rfl)
theorem dX2_pairs_20 : decode cX2_pairs 20 = .ok (.iload 4, 2) := dk_21 4 (dk_at dksX2_pairs_0 20 rfl rfl)
theorem dX2_pairs_22 : decode cX2_pairs 22 = .ok (.iaload, 1) := dk_46 (dk_at dksX2_pairs_0 22 rfl rfl)
theorem dX2_pairs_23 : decode cX2_pairs 23 = .ok (.istore 5, 2) := dk_54 5 (dk_at dksX2_pairs_1 0 rfl rfl)
theorem dX2_pairs_25 : decode cX2_pairs 25 = .ok (.iload_n 1, 1) := dk_27 (dk_at dksX2_pairs_1 2 rfl rfl)
theorem dX2_pairs_26 : decode cX2_pairs 26 = .ok (.iload 5, 2) := dk_21 5 (dk_at dksX2_pairs_1 3 rfl rfl)
theorem dX2_pairs_28 : decode cX2_pairs 28 = .ok (.invokestatic 215, 3) := dk_184 0 215 (dk_at dksX2_pairs_1 5 rfl rfl)
theorem dX2_pairs_31 : decode cX2_pairs 31 = .ok (.iadd, 1) := dk_96 (dk_at dksX2_pairs_1 8 rfl rfl)
theorem dX2_pairs_32 : decode cX2_pairs 32 = .ok (.istore_n 1, 1) := dk_60 (dk_at dksX2_pairs_1 9 rfl rfl)
theorem dX2_pairs_33 : decode cX2_pairs 33 = .ok (.iinc 4 1, 3) := dk_132 4 1 (dk_at dksX2_pairs_1 10 rfl rfl)
theorem dX2_pairs_36 : decode cX2_pairs 36 = .ok (.goto (-23), 3) := dk_167 255 233 (dk_at dksX2_pairs_1 13 rfl rfl)
theorem dX2_pairs_39 : decode cX2_pairs 39 = .ok (.iload_n 1, 1) := dk_27 (dk_at dksX2_pairs_1 16 rfl rfl)
theorem dX2_pairs_40 : decode cX2_pairs 40 = .ok (.iconst 2, 1) := dk_5 (dk_at dksX2_pairs_1 17 rfl rfl)
theorem dX2_pairs_41 : decode cX2_pairs 41 = .ok (.idiv, 1) := dk_108 (dk_at dksX2_pairs_1 18 rfl rfl)
theorem dX2_pairs_42 : decode cX2_pairs 42 = .ok (.ireturn, 1) := dk_172 (dk_at dksX2_pairs_1 19 rfl rfl)
abbrev cX2_gives : ByteArray := prog_20_method_11_code
def yX2_gives : MethodName := ⟨RX2, "gives", "(IIIIZ)I"⟩
def dkwX2_gives_3 : List UInt8 := [182, 0, 83, 87, 42, 180, 0, 33, 182, 0, 69, 4, 100, 172]
abbrev dktX2_gives_3 : List UInt8 := dkwX2_gives_3 ++ []
def dkwX2_gives_2 : List UInt8 := [28, 29, 21, 5, 183, 0, 169, 167, 0, 17, 187, 0, 172, 89, 27, 28, 29, 21, 5, 21, 6, 183, 0, 174]
abbrev dktX2_gives_2 : List UInt8 := dkwX2_gives_2 ++ dktX2_gives_3
def dkwX2_gives_1 : List UInt8 := [21, 5, 182, 0, 165, 154, 0, 5, 2, 172, 42, 180, 0, 33, 21, 4, 154, 0, 18, 187, 0, 77, 89, 27]
abbrev dktX2_gives_1 : List UInt8 := dkwX2_gives_1 ++ dktX2_gives_2
def dkwX2_gives_0 : List UInt8 := [21, 4, 154, 0, 7, 2, 167, 0, 10, 42, 180, 0, 57, 21, 4, 96, 54, 6, 42, 27, 28, 29, 21, 6]
abbrev dktX2_gives_0 : List UInt8 := dkwX2_gives_0 ++ dktX2_gives_1
theorem dksX2_gives_0 : cX2_gives.data.toList.drop 0 = dktX2_gives_0 := by decide +kernel
theorem dksX2_gives_1 : cX2_gives.data.toList.drop 24 = dktX2_gives_1 := dk_seg dksX2_gives_0 24 rfl rfl
theorem dksX2_gives_2 : cX2_gives.data.toList.drop 48 = dktX2_gives_2 := dk_seg dksX2_gives_1 24 rfl rfl
theorem dksX2_gives_3 : cX2_gives.data.toList.drop 72 = dktX2_gives_3 := dk_seg dksX2_gives_2 24 rfl rfl
theorem dX2_gives_0 : decode cX2_gives 0 = .ok (.iload 4, 2) := dk_21 4 (dk_at dksX2_gives_0 0 rfl rfl)
theorem dX2_gives_2 : decode cX2_gives 2 = .ok (.ifCond .ne 7, 3) := dk_154 0 7 (dk_at dksX2_gives_0 2 rfl rfl)
theorem dX2_gives_5 : decode cX2_gives 5 = .ok (.iconst (-1), 1) := dk_2 (dk_at dksX2_gives_0 5 rfl rfl)
theorem dX2_gives_6 : decode cX2_gives 6 = .ok (.goto 10, 3) := dk_167 0 10 (dk_at dksX2_gives_0 6 rfl rfl)
theorem dX2_gives_9 : decode cX2_gives 9 = .ok (.aload_n 0, 1) := dk_42 (dk_at dksX2_gives_0 9 rfl rfl)
theorem dX2_gives_10 : decode cX2_gives 10 = .ok (.getfield 57, 3) := dk_180 0 57 (dk_at dksX2_gives_0 10 rfl rfl)
theorem dX2_gives_13 : decode cX2_gives 13 = .ok (.iload 4, 2) := dk_21 4 (dk_at dksX2_gives_0 13 rfl rfl)
theorem dX2_gives_15 : decode cX2_gives 15 = .ok (.iadd, 1) := dk_96 (dk_at dksX2_gives_0 15 rfl rfl)
theorem dX2_gives_16 : decode cX2_gives 16 = .ok (.istore 6, 2) := dk_54 6 (dk_at dksX2_gives_0 16 rfl rfl)
theorem dX2_gives_18 : decode cX2_gives 18 = .ok (.aload_n 0, 1) := dk_42 (dk_at dksX2_gives_0 18 rfl rfl)
theorem dX2_gives_19 : decode cX2_gives 19 = .ok (.iload_n 1, 1) := dk_27 (dk_at dksX2_gives_0 19 rfl rfl)
theorem dX2_gives_20 : decode cX2_gives 20 = .ok (.iload_n 2, 1) := dk_28 (dk_at dksX2_gives_0 20 rfl rfl)
theorem dX2_gives_21 : decode cX2_gives 21 = .ok (.iload_n 3, 1) := dk_29 (dk_at dksX2_gives_0 21 rfl rfl)
theorem dX2_gives_22 : decode cX2_gives 22 = .ok (.iload 6, 2) := dk_21 6 (dk_at dksX2_gives_0 22 rfl rfl)
theorem dX2_gives_24 : decode cX2_gives 24 = .ok (.iload 5, 2) := dk_21 5 (dk_at dksX2_gives_1 0 rfl rfl)
theorem dX2_gives_26 : decode cX2_gives 26 = .ok (.invokevirtual 165, 3) := dk_182 0 165 (dk_at dksX2_gives_1 2 rfl rfl)
theorem dX2_gives_29 : decode cX2_gives 29 = .ok (.ifCond .ne 5, 3) := dk_154 0 5 (dk_at dksX2_gives_1 5 rfl rfl)
theorem dX2_gives_32 : decode cX2_gives 32 = .ok (.iconst (-1), 1) := dk_2 (dk_at dksX2_gives_1 8 rfl rfl)
theorem dX2_gives_33 : decode cX2_gives 33 = .ok (.ireturn, 1) := dk_172 (dk_at dksX2_gives_1 9 rfl rfl)
theorem dX2_gives_34 : decode cX2_gives 34 = .ok (.aload_n 0, 1) := dk_42 (dk_at dksX2_gives_1 10 rfl rfl)
theorem dX2_gives_35 : decode cX2_gives 35 = .ok (.getfield 33, 3) := dk_180 0 33 (dk_at dksX2_gives_1 11 rfl rfl)
theorem dX2_gives_38 : decode cX2_gives 38 = .ok (.iload 4, 2) := dk_21 4 (dk_at dksX2_gives_1 14 rfl rfl)
theorem dX2_gives_40 : decode cX2_gives 40 = .ok (.ifCond .ne 18, 3) := dk_154 0 18 (dk_at dksX2_gives_1 16 rfl rfl)
theorem dX2_gives_43 : decode cX2_gives 43 = .ok (.new 77, 3) := dk_187 0 77 (dk_at dksX2_gives_1 19 rfl rfl)
theorem dX2_gives_46 : decode cX2_gives 46 = .ok (.dup, 1) := dk_89 (dk_at dksX2_gives_1 22 rfl rfl)
theorem dX2_gives_47 : decode cX2_gives 47 = .ok (.iload_n 1, 1) := dk_27 (dk_at dksX2_gives_1 23 rfl rfl)
theorem dX2_gives_48 : decode cX2_gives 48 = .ok (.iload_n 2, 1) := dk_28 (dk_at dksX2_gives_2 0 rfl rfl)
theorem dX2_gives_49 : decode cX2_gives 49 = .ok (.iload_n 3, 1) := dk_29 (dk_at dksX2_gives_2 1 rfl rfl)
theorem dX2_gives_50 : decode cX2_gives 50 = .ok (.iload 5, 2) := dk_21 5 (dk_at dksX2_gives_2 2 rfl rfl)
theorem dX2_gives_52 : decode cX2_gives 52 = .ok (.invokespecial 169, 3) := dk_183 0 169 (dk_at dksX2_gives_2 4 rfl rfl)
theorem dX2_gives_55 : decode cX2_gives 55 = .ok (.goto 17, 3) := dk_167 0 17 (dk_at dksX2_gives_2 7 rfl rfl)
theorem dX2_gives_58 : decode cX2_gives 58 = .ok (.new 172, 3) := dk_187 0 172 (dk_at dksX2_gives_2 10 rfl rfl)
theorem dX2_gives_61 : decode cX2_gives 61 = .ok (.dup, 1) := dk_89 (dk_at dksX2_gives_2 13 rfl rfl)
theorem dX2_gives_62 : decode cX2_gives 62 = .ok (.iload_n 1, 1) := dk_27 (dk_at dksX2_gives_2 14 rfl rfl)
theorem dX2_gives_63 : decode cX2_gives 63 = .ok (.iload_n 2, 1) := dk_28 (dk_at dksX2_gives_2 15 rfl rfl)
theorem dX2_gives_64 : decode cX2_gives 64 = .ok (.iload_n 3, 1) := dk_29 (dk_at dksX2_gives_2 16 rfl rfl)
theorem dX2_gives_65 : decode cX2_gives 65 = .ok (.iload 5, 2) := dk_21 5 (dk_at dksX2_gives_2 17 rfl rfl)
theorem dX2_gives_67 : decode cX2_gives 67 = .ok (.iload 6, 2) := dk_21 6 (dk_at dksX2_gives_2 19 rfl rfl)
theorem dX2_gives_69 : decode cX2_gives 69 = .ok (.invokespecial 174, 3) := dk_183 0 174 (dk_at dksX2_gives_2 21 rfl rfl)
theorem dX2_gives_72 : decode cX2_gives 72 = .ok (.invokevirtual 83, 3) := dk_182 0 83 (dk_at dksX2_gives_3 0 rfl rfl)
theorem dX2_gives_75 : decode cX2_gives 75 = .ok (.pop, 1) := dk_87 (dk_at dksX2_gives_3 3 rfl rfl)
theorem dX2_gives_76 : decode cX2_gives 76 = .ok (.aload_n 0, 1) := dk_42 (dk_at dksX2_gives_3 4 rfl rfl)
theorem dX2_gives_77 : decode cX2_gives 77 = .ok (.getfield 33, 3) := dk_180 0 33 (dk_at dksX2_gives_3 5 rfl rfl)
theorem dX2_gives_80 : decode cX2_gives 80 = .ok (.invokevirtual 69, 3) := dk_182 0 69 (dk_at dksX2_gives_3 8 rfl rfl)
theorem dX2_gives_83 : decode cX2_gives 83 = .ok (.iconst 1, 1) := dk_4 (dk_at dksX2_gives_3 11 rfl rfl)
theorem dX2_gives_84 : decode cX2_gives 84 = .ok (.isub, 1) := dk_100 (dk_at dksX2_gives_3 12 rfl rfl)
theorem dX2_gives_85 : decode cX2_gives 85 = .ok (.ireturn, 1) := dk_172 (dk_at dksX2_gives_3 13 rfl rfl)
abbrev cX2_passes : ByteArray := prog_20_method_12_code
def yX2_passes : MethodName := ⟨RX2, "passes", "(LFavourTown$Favour;I)I"⟩
def dkwX2_passes_2 : List UInt8 := [92, 46, 21, 4, 43, 43, 180, 0, 107, 182, 0, 110, 100, 96, 79, 43, 43, 180, 0, 107, 182, 0, 110, 172]
abbrev dktX2_passes_2 : List UInt8 := dkwX2_passes_2 ++ []
def dkwX2_passes_1 : List UInt8 := [54, 4, 43, 28, 182, 0, 181, 43, 180, 0, 91, 2, 160, 0, 5, 3, 172, 42, 180, 0, 27, 28, 50, 29]
abbrev dktX2_passes_1 : List UInt8 := dkwX2_passes_1 ++ dktX2_passes_2
def dkwX2_passes_0 : List UInt8 := [42, 43, 28, 182, 0, 177, 154, 0, 5, 2, 172, 43, 180, 0, 91, 62, 43, 43, 180, 0, 107, 182, 0, 110]
abbrev dktX2_passes_0 : List UInt8 := dkwX2_passes_0 ++ dktX2_passes_1
theorem dksX2_passes_0 : cX2_passes.data.toList.drop 0 = dktX2_passes_0 := by decide +kernel
theorem dksX2_passes_1 : cX2_passes.data.toList.drop 24 = dktX2_passes_1 := dk_seg dksX2_passes_0 24 rfl rfl
theorem dksX2_passes_2 : cX2_passes.data.toList.drop 48 = dktX2_passes_2 := dk_seg dksX2_passes_1 24 rfl rfl
theorem dX2_passes_0 : decode cX2_passes 0 = .ok (.aload_n 0, 1) := dk_42 (dk_at dksX2_passes_0 0 rfl rfl)
theorem dX2_passes_1 : decode cX2_passes 1 = .ok (.aload_n 1, 1) := dk_43 (dk_at dksX2_passes_0 1 rfl rfl)
theorem dX2_passes_2 : decode cX2_passes 2 = .ok (.iload_n 2, 1) := dk_28 (dk_at dksX2_passes_0 2 rfl rfl)
theorem dX2_passes_3 : decode cX2_passes 3 = .ok (.invokevirtual 177, 3) := dk_182 0 177 (dk_at dksX2_passes_0 3 rfl rfl)
theorem dX2_passes_6 : decode cX2_passes 6 = .ok (.ifCond .ne 5, 3) := dk_154 0 5 (dk_at dksX2_passes_0 6 rfl rfl)
theorem dX2_passes_9 : decode cX2_passes 9 = .ok (.iconst (-1), 1) := dk_2 (dk_at dksX2_passes_0 9 rfl rfl)
theorem dX2_passes_10 : decode cX2_passes 10 = .ok (.ireturn, 1) := dk_172 (dk_at dksX2_passes_0 10 rfl rfl)
theorem dX2_passes_11 : decode cX2_passes 11 = .ok (.aload_n 1, 1) := dk_43 (dk_at dksX2_passes_0 11 rfl rfl)
theorem dX2_passes_12 : decode cX2_passes 12 = .ok (.getfield 91, 3) := dk_180 0 91 (dk_at dksX2_passes_0 12 rfl rfl)
theorem dX2_passes_15 : decode cX2_passes 15 = .ok (.istore_n 3, 1) := dk_62 (dk_at dksX2_passes_0 15 rfl rfl)
theorem dX2_passes_16 : decode cX2_passes 16 = .ok (.aload_n 1, 1) := dk_43 (dk_at dksX2_passes_0 16 rfl rfl)
theorem dX2_passes_17 : decode cX2_passes 17 = .ok (.aload_n 1, 1) := dk_43 (dk_at dksX2_passes_0 17 rfl rfl)
theorem dX2_passes_18 : decode cX2_passes 18 = .ok (.getfield 107, 3) := dk_180 0 107 (dk_at dksX2_passes_0 18 rfl rfl)
theorem dX2_passes_21 : decode cX2_passes 21 = .ok (.invokevirtual 110, 3) := dk_182 0 110 (dk_at dksX2_passes_0 21 rfl rfl)
theorem dX2_passes_24 : decode cX2_passes 24 = .ok (.istore 4, 2) := dk_54 4 (dk_at dksX2_passes_1 0 rfl rfl)
theorem dX2_passes_26 : decode cX2_passes 26 = .ok (.aload_n 1, 1) := dk_43 (dk_at dksX2_passes_1 2 rfl rfl)
theorem dX2_passes_27 : decode cX2_passes 27 = .ok (.iload_n 2, 1) := dk_28 (dk_at dksX2_passes_1 3 rfl rfl)
theorem dX2_passes_28 : decode cX2_passes 28 = .ok (.invokevirtual 181, 3) := dk_182 0 181 (dk_at dksX2_passes_1 4 rfl rfl)
theorem dX2_passes_31 : decode cX2_passes 31 = .ok (.aload_n 1, 1) := dk_43 (dk_at dksX2_passes_1 7 rfl rfl)
theorem dX2_passes_32 : decode cX2_passes 32 = .ok (.getfield 91, 3) := dk_180 0 91 (dk_at dksX2_passes_1 8 rfl rfl)
theorem dX2_passes_35 : decode cX2_passes 35 = .ok (.iconst (-1), 1) := dk_2 (dk_at dksX2_passes_1 11 rfl rfl)
theorem dX2_passes_36 : decode cX2_passes 36 = .ok (.if_icmp .ne 5, 3) := dk_160 0 5 (dk_at dksX2_passes_1 12 rfl rfl)
theorem dX2_passes_39 : decode cX2_passes 39 = .ok (.iconst 0, 1) := dk_3 (dk_at dksX2_passes_1 15 rfl rfl)
theorem dX2_passes_40 : decode cX2_passes 40 = .ok (.ireturn, 1) := dk_172 (dk_at dksX2_passes_1 16 rfl rfl)
theorem dX2_passes_41 : decode cX2_passes 41 = .ok (.aload_n 0, 1) := dk_42 (dk_at dksX2_passes_1 17 rfl rfl)
theorem dX2_passes_42 : decode cX2_passes 42 = .ok (.getfield 27, 3) := dk_180 0 27 (dk_at dksX2_passes_1 18 rfl rfl)
theorem dX2_passes_45 : decode cX2_passes 45 = .ok (.iload_n 2, 1) := dk_28 (dk_at dksX2_passes_1 21 rfl rfl)
theorem dX2_passes_46 : decode cX2_passes 46 = .ok (.aaload, 1) := dk_50 (dk_at dksX2_passes_1 22 rfl rfl)
theorem dX2_passes_47 : decode cX2_passes 47 = .ok (.iload_n 3, 1) := dk_29 (dk_at dksX2_passes_1 23 rfl rfl)
theorem dX2_passes_48 : decode cX2_passes 48 = .ok (.dup2, 1) := dk_92 (dk_at dksX2_passes_2 0 rfl rfl)
theorem dX2_passes_49 : decode cX2_passes 49 = .ok (.iaload, 1) := dk_46 (dk_at dksX2_passes_2 1 rfl rfl)
theorem dX2_passes_50 : decode cX2_passes 50 = .ok (.iload 4, 2) := dk_21 4 (dk_at dksX2_passes_2 2 rfl rfl)
theorem dX2_passes_52 : decode cX2_passes 52 = .ok (.aload_n 1, 1) := dk_43 (dk_at dksX2_passes_2 4 rfl rfl)
theorem dX2_passes_53 : decode cX2_passes 53 = .ok (.aload_n 1, 1) := dk_43 (dk_at dksX2_passes_2 5 rfl rfl)
theorem dX2_passes_54 : decode cX2_passes 54 = .ok (.getfield 107, 3) := dk_180 0 107 (dk_at dksX2_passes_2 6 rfl rfl)
theorem dX2_passes_57 : decode cX2_passes 57 = .ok (.invokevirtual 110, 3) := dk_182 0 110 (dk_at dksX2_passes_2 9 rfl rfl)
theorem dX2_passes_60 : decode cX2_passes 60 = .ok (.isub, 1) := dk_100 (dk_at dksX2_passes_2 12 rfl rfl)
theorem dX2_passes_61 : decode cX2_passes 61 = .ok (.iadd, 1) := dk_96 (dk_at dksX2_passes_2 13 rfl rfl)
theorem dX2_passes_62 : decode cX2_passes 62 = .ok (.iastore, 1) := dk_79 (dk_at dksX2_passes_2 14 rfl rfl)
theorem dX2_passes_63 : decode cX2_passes 63 = .ok (.aload_n 1, 1) := dk_43 (dk_at dksX2_passes_2 15 rfl rfl)
theorem dX2_passes_64 : decode cX2_passes 64 = .ok (.aload_n 1, 1) := dk_43 (dk_at dksX2_passes_2 16 rfl rfl)
theorem dX2_passes_65 : decode cX2_passes 65 = .ok (.getfield 107, 3) := dk_180 0 107 (dk_at dksX2_passes_2 17 rfl rfl)
theorem dX2_passes_68 : decode cX2_passes 68 = .ok (.invokevirtual 110, 3) := dk_182 0 110 (dk_at dksX2_passes_2 20 rfl rfl)
theorem dX2_passes_71 : decode cX2_passes 71 = .ok (.ireturn, 1) := dk_172 (dk_at dksX2_passes_2 23 rfl rfl)
abbrev cX2_days : ByteArray := prog_20_method_13_code
def yX2_days : MethodName := ⟨RX2, "days", "(I)I"⟩
def dkwX2_days_4 : List UInt8 := [132, 3, 1, 167, 255, 161, 28, 172]
abbrev dktX2_days_4 : List UInt8 := dkwX2_days_4 ++ []
def dkwX2_days_3 : List UInt8 := [180, 0, 57, 164, 0, 6, 167, 0, 12, 25, 5, 2, 181, 0, 91, 132, 2, 1, 132, 4, 1, 167, 255, 185]
abbrev dktX2_days_3 : List UInt8 := dkwX2_days_3 ++ dktX2_days_4
def dkwX2_days_2 : List UInt8 := [25, 5, 180, 0, 91, 2, 159, 0, 36, 25, 5, 182, 0, 118, 2, 159, 0, 27, 25, 5, 182, 0, 118, 42]
abbrev dktX2_days_2 : List UInt8 := dkwX2_days_2 ++ dktX2_days_3
def dkwX2_days_1 : List UInt8 := [42, 180, 0, 33, 182, 0, 69, 162, 0, 65, 42, 180, 0, 33, 21, 4, 182, 0, 73, 192, 0, 77, 58, 5]
abbrev dktX2_days_1 : List UInt8 := dkwX2_days_1 ++ dktX2_days_2
def dkwX2_days_0 : List UInt8 := [3, 61, 3, 62, 29, 27, 162, 0, 96, 42, 89, 180, 0, 57, 4, 96, 181, 0, 57, 3, 54, 4, 21, 4]
abbrev dktX2_days_0 : List UInt8 := dkwX2_days_0 ++ dktX2_days_1
theorem dksX2_days_0 : cX2_days.data.toList.drop 0 = dktX2_days_0 := by decide +kernel
theorem dksX2_days_1 : cX2_days.data.toList.drop 24 = dktX2_days_1 := dk_seg dksX2_days_0 24 rfl rfl
theorem dksX2_days_2 : cX2_days.data.toList.drop 48 = dktX2_days_2 := dk_seg dksX2_days_1 24 rfl rfl
theorem dksX2_days_3 : cX2_days.data.toList.drop 72 = dktX2_days_3 := dk_seg dksX2_days_2 24 rfl rfl
theorem dksX2_days_4 : cX2_days.data.toList.drop 96 = dktX2_days_4 := dk_seg dksX2_days_3 24 rfl rfl
theorem dX2_days_0 : decode cX2_days 0 = .ok (.iconst 0, 1) := dk_3 (dk_at dksX2_days_0 0 rfl rfl)
theorem dX2_days_1 : decode cX2_days 1 = .ok (.istore_n 2, 1) := dk_61 (dk_at dksX2_days_0 1 rfl rfl)
theorem dX2_days_2 : decode cX2_days 2 = .ok (.iconst 0, 1) := dk_3 (dk_at dksX2_days_0 2 rfl rfl)
theorem dX2_days_3 : decode cX2_days 3 = .ok (.istore_n 3, 1) := dk_62 (dk_at dksX2_days_0 3 rfl rfl)
theorem dX2_days_4 : decode cX2_days 4 = .ok (.iload_n 3, 1) := dk_29 (dk_at dksX2_days_0 4 rfl rfl)
theorem dX2_days_5 : decode cX2_days 5 = .ok (.iload_n 1, 1) := dk_27 (dk_at dksX2_days_0 5 rfl rfl)
theorem dX2_days_6 : decode cX2_days 6 = .ok (.if_icmp .ge 96, 3) := dk_162 0 96 (dk_at dksX2_days_0 6 rfl rfl)
theorem dX2_days_9 : decode cX2_days 9 = .ok (.aload_n 0, 1) := dk_42 (dk_at dksX2_days_0 9 rfl rfl)
theorem dX2_days_10 : decode cX2_days 10 = .ok (.dup, 1) := dk_89 (dk_at dksX2_days_0 10 rfl rfl)
theorem dX2_days_11 : decode cX2_days 11 = .ok (.getfield 57, 3) := dk_180 0 57 (dk_at dksX2_days_0 11 rfl rfl)
theorem dX2_days_14 : decode cX2_days 14 = .ok (.iconst 1, 1) := dk_4 (dk_at dksX2_days_0 14 rfl rfl)
theorem dX2_days_15 : decode cX2_days 15 = .ok (.iadd, 1) := dk_96 (dk_at dksX2_days_0 15 rfl rfl)
theorem dX2_days_16 : decode cX2_days 16 = .ok (.putfield 57, 3) := dk_181 0 57 (dk_at dksX2_days_0 16 rfl rfl)
theorem dX2_days_19 : decode cX2_days 19 = .ok (.iconst 0, 1) := dk_3 (dk_at dksX2_days_0 19 rfl rfl)
theorem dX2_days_20 : decode cX2_days 20 = .ok (.istore 4, 2) := dk_54 4 (dk_at dksX2_days_0 20 rfl rfl)
theorem dX2_days_22 : decode cX2_days 22 = .ok (.iload 4, 2) := dk_21 4 (dk_at dksX2_days_0 22 rfl rfl)
theorem dX2_days_24 : decode cX2_days 24 = .ok (.aload_n 0, 1) := dk_42 (dk_at dksX2_days_1 0 rfl rfl)
theorem dX2_days_25 : decode cX2_days 25 = .ok (.getfield 33, 3) := dk_180 0 33 (dk_at dksX2_days_1 1 rfl rfl)
theorem dX2_days_28 : decode cX2_days 28 = .ok (.invokevirtual 69, 3) := dk_182 0 69 (dk_at dksX2_days_1 4 rfl rfl)
theorem dX2_days_31 : decode cX2_days 31 = .ok (.if_icmp .ge 65, 3) := dk_162 0 65 (dk_at dksX2_days_1 7 rfl rfl)
theorem dX2_days_34 : decode cX2_days 34 = .ok (.aload_n 0, 1) := dk_42 (dk_at dksX2_days_1 10 rfl rfl)
theorem dX2_days_35 : decode cX2_days 35 = .ok (.getfield 33, 3) := dk_180 0 33 (dk_at dksX2_days_1 11 rfl rfl)
theorem dX2_days_38 : decode cX2_days 38 = .ok (.iload 4, 2) := dk_21 4 (dk_at dksX2_days_1 14 rfl rfl)
theorem dX2_days_40 : decode cX2_days 40 = .ok (.invokevirtual 73, 3) := dk_182 0 73 (dk_at dksX2_days_1 16 rfl rfl)
theorem dX2_days_43 : decode cX2_days 43 = .ok (.checkcast 77, 3) := dk_192 0 77 (dk_at dksX2_days_1 19 rfl rfl)
theorem dX2_days_46 : decode cX2_days 46 = .ok (.astore 5, 2) := dk_58 5 (dk_at dksX2_days_1 22 rfl rfl)
theorem dX2_days_48 : decode cX2_days 48 = .ok (.aload 5, 2) := dk_25 5 (dk_at dksX2_days_2 0 rfl rfl)
theorem dX2_days_50 : decode cX2_days 50 = .ok (.getfield 91, 3) := dk_180 0 91 (dk_at dksX2_days_2 2 rfl rfl)
theorem dX2_days_53 : decode cX2_days 53 = .ok (.iconst (-1), 1) := dk_2 (dk_at dksX2_days_2 5 rfl rfl)
theorem dX2_days_54 : decode cX2_days 54 = .ok (.if_icmp .eq 36, 3) := dk_159 0 36 (dk_at dksX2_days_2 6 rfl rfl)
theorem dX2_days_57 : decode cX2_days 57 = .ok (.aload 5, 2) := dk_25 5 (dk_at dksX2_days_2 9 rfl rfl)
theorem dX2_days_59 : decode cX2_days 59 = .ok (.invokevirtual 118, 3) := dk_182 0 118 (dk_at dksX2_days_2 11 rfl rfl)
theorem dX2_days_62 : decode cX2_days 62 = .ok (.iconst (-1), 1) := dk_2 (dk_at dksX2_days_2 14 rfl rfl)
theorem dX2_days_63 : decode cX2_days 63 = .ok (.if_icmp .eq 27, 3) := dk_159 0 27 (dk_at dksX2_days_2 15 rfl rfl)
theorem dX2_days_66 : decode cX2_days 66 = .ok (.aload 5, 2) := dk_25 5 (dk_at dksX2_days_2 18 rfl rfl)
theorem dX2_days_68 : decode cX2_days 68 = .ok (.invokevirtual 118, 3) := dk_182 0 118 (dk_at dksX2_days_2 20 rfl rfl)
theorem dX2_days_71 : decode cX2_days 71 = .ok (.aload_n 0, 1) := dk_42 (dk_at dksX2_days_2 23 rfl rfl)
theorem dX2_days_72 : decode cX2_days 72 = .ok (.getfield 57, 3) := dk_180 0 57 (dk_at dksX2_days_3 0 rfl rfl)
theorem dX2_days_75 : decode cX2_days 75 = .ok (.if_icmp .le 6, 3) := dk_164 0 6 (dk_at dksX2_days_3 3 rfl rfl)
theorem dX2_days_78 : decode cX2_days 78 = .ok (.goto 12, 3) := dk_167 0 12 (dk_at dksX2_days_3 6 rfl rfl)
theorem dX2_days_81 : decode cX2_days 81 = .ok (.aload 5, 2) := dk_25 5 (dk_at dksX2_days_3 9 rfl rfl)
theorem dX2_days_83 : decode cX2_days 83 = .ok (.iconst (-1), 1) := dk_2 (dk_at dksX2_days_3 11 rfl rfl)
theorem dX2_days_84 : decode cX2_days 84 = .ok (.putfield 91, 3) := dk_181 0 91 (dk_at dksX2_days_3 12 rfl rfl)
theorem dX2_days_87 : decode cX2_days 87 = .ok (.iinc 2 1, 3) := dk_132 2 1 (dk_at dksX2_days_3 15 rfl rfl)
theorem dX2_days_90 : decode cX2_days 90 = .ok (.iinc 4 1, 3) := dk_132 4 1 (dk_at dksX2_days_3 18 rfl rfl)
theorem dX2_days_93 : decode cX2_days 93 = .ok (.goto (-71), 3) := dk_167 255 185 (dk_at dksX2_days_3 21 rfl rfl)
theorem dX2_days_96 : decode cX2_days 96 = .ok (.iinc 3 1, 3) := dk_132 3 1 (dk_at dksX2_days_4 0 rfl rfl)
theorem dX2_days_99 : decode cX2_days 99 = .ok (.goto (-95), 3) := dk_167 255 161 (dk_at dksX2_days_4 3 rfl rfl)
theorem dX2_days_102 : decode cX2_days 102 = .ok (.iload_n 2, 1) := dk_28 (dk_at dksX2_days_4 6 rfl rfl)
theorem dX2_days_103 : decode cX2_days 103 = .ok (.ireturn, 1) := dk_172 (dk_at dksX2_days_4 7 rfl rfl)
abbrev cX2_owes : ByteArray := prog_20_method_6_code
def yX2_owes : MethodName := ⟨RX2, "owes", "(II)I"⟩
def dkwX2_owes_3 : List UInt8 := [167, 255, 192, 29, 172]
abbrev dktX2_owes_3 : List UInt8 := dkwX2_owes_3 ++ []
def dkwX2_owes_2 : List UInt8 := [160, 0, 20, 42, 25, 5, 182, 0, 100, 154, 0, 11, 29, 25, 5, 180, 0, 104, 96, 62, 132, 4, 1]
abbrev dktX2_owes_2 : List UInt8 := dkwX2_owes_2 ++ dktX2_owes_3
def dkwX2_owes_1 : List UInt8 := [182, 0, 73, 192, 0, 77, 58, 5, 25, 5, 180, 0, 97, 27, 160, 0, 29, 25, 5, 180, 0, 91, 28]
abbrev dktX2_owes_1 : List UInt8 := dkwX2_owes_1 ++ dktX2_owes_2
def dkwX2_owes_0 : List UInt8 := [3, 62, 3, 54, 4, 21, 4, 42, 180, 0, 33, 182, 0, 69, 162, 0, 58, 42, 180, 0, 33, 21, 4]
abbrev dktX2_owes_0 : List UInt8 := dkwX2_owes_0 ++ dktX2_owes_1
theorem dksX2_owes_0 : cX2_owes.data.toList.drop 0 = dktX2_owes_0 := by decide +kernel
theorem dksX2_owes_1 : cX2_owes.data.toList.drop 23 = dktX2_owes_1 := dk_seg dksX2_owes_0 23 rfl rfl
theorem dksX2_owes_2 : cX2_owes.data.toList.drop 46 = dktX2_owes_2 := dk_seg dksX2_owes_1 23 rfl rfl
theorem dksX2_owes_3 : cX2_owes.data.toList.drop 69 = dktX2_owes_3 := dk_seg dksX2_owes_2 23 rfl rfl
theorem dX2_owes_0 : decode cX2_owes 0 = .ok (.iconst 0, 1) := dk_3 (dk_at dksX2_owes_0 0 rfl rfl)
theorem dX2_owes_1 : decode cX2_owes 1 = .ok (.istore_n 3, 1) := dk_62 (dk_at dksX2_owes_0 1 rfl rfl)
theorem dX2_owes_2 : decode cX2_owes 2 = .ok (.iconst 0, 1) := dk_3 (dk_at dksX2_owes_0 2 rfl rfl)
theorem dX2_owes_3 : decode cX2_owes 3 = .ok (.istore 4, 2) := dk_54 4 (dk_at dksX2_owes_0 3 rfl rfl)
theorem dX2_owes_5 : decode cX2_owes 5 = .ok (.iload 4, 2) := dk_21 4 (dk_at dksX2_owes_0 5 rfl rfl)
theorem dX2_owes_7 : decode cX2_owes 7 = .ok (.aload_n 0, 1) := dk_42 (dk_at dksX2_owes_0 7 rfl rfl)
theorem dX2_owes_8 : decode cX2_owes 8 = .ok (.getfield 33, 3) := dk_180 0 33 (dk_at dksX2_owes_0 8 rfl rfl)
theorem dX2_owes_11 : decode cX2_owes 11 = .ok (.invokevirtual 69, 3) := dk_182 0 69 (dk_at dksX2_owes_0 11 rfl rfl)
theorem dX2_owes_14 : decode cX2_owes 14 = .ok (.if_icmp .ge 58, 3) := dk_162 0 58 (dk_at dksX2_owes_0 14 rfl rfl)
theorem dX2_owes_17 : decode cX2_owes 17 = .ok (.aload_n 0, 1) := dk_42 (dk_at dksX2_owes_0 17 rfl rfl)
theorem dX2_owes_18 : decode cX2_owes 18 = .ok (.getfield 33, 3) := dk_180 0 33 (dk_at dksX2_owes_0 18 rfl rfl)
theorem dX2_owes_21 : decode cX2_owes 21 = .ok (.iload 4, 2) := dk_21 4 (dk_at dksX2_owes_0 21 rfl rfl)
theorem dX2_owes_23 : decode cX2_owes 23 = .ok (.invokevirtual 73, 3) := dk_182 0 73 (dk_at dksX2_owes_1 0 rfl rfl)
theorem dX2_owes_26 : decode cX2_owes 26 = .ok (.checkcast 77, 3) := dk_192 0 77 (dk_at dksX2_owes_1 3 rfl rfl)
theorem dX2_owes_29 : decode cX2_owes 29 = .ok (.astore 5, 2) := dk_58 5 (dk_at dksX2_owes_1 6 rfl rfl)
theorem dX2_owes_31 : decode cX2_owes 31 = .ok (.aload 5, 2) := dk_25 5 (dk_at dksX2_owes_1 8 rfl rfl)
theorem dX2_owes_33 : decode cX2_owes 33 = .ok (.getfield 97, 3) := dk_180 0 97 (dk_at dksX2_owes_1 10 rfl rfl)
theorem dX2_owes_36 : decode cX2_owes 36 = .ok (.iload_n 1, 1) := dk_27 (dk_at dksX2_owes_1 13 rfl rfl)
theorem dX2_owes_37 : decode cX2_owes 37 = .ok (.if_icmp .ne 29, 3) := dk_160 0 29 (dk_at dksX2_owes_1 14 rfl rfl)
theorem dX2_owes_40 : decode cX2_owes 40 = .ok (.aload 5, 2) := dk_25 5 (dk_at dksX2_owes_1 17 rfl rfl)
theorem dX2_owes_42 : decode cX2_owes 42 = .ok (.getfield 91, 3) := dk_180 0 91 (dk_at dksX2_owes_1 19 rfl rfl)
theorem dX2_owes_45 : decode cX2_owes 45 = .ok (.iload_n 2, 1) := dk_28 (dk_at dksX2_owes_1 22 rfl rfl)
theorem dX2_owes_46 : decode cX2_owes 46 = .ok (.if_icmp .ne 20, 3) := dk_160 0 20 (dk_at dksX2_owes_2 0 rfl rfl)
theorem dX2_owes_49 : decode cX2_owes 49 = .ok (.aload_n 0, 1) := dk_42 (dk_at dksX2_owes_2 3 rfl rfl)
theorem dX2_owes_50 : decode cX2_owes 50 = .ok (.aload 5, 2) := dk_25 5 (dk_at dksX2_owes_2 4 rfl rfl)
theorem dX2_owes_52 : decode cX2_owes 52 = .ok (.invokevirtual 100, 3) := dk_182 0 100 (dk_at dksX2_owes_2 6 rfl rfl)
theorem dX2_owes_55 : decode cX2_owes 55 = .ok (.ifCond .ne 11, 3) := dk_154 0 11 (dk_at dksX2_owes_2 9 rfl rfl)
theorem dX2_owes_58 : decode cX2_owes 58 = .ok (.iload_n 3, 1) := dk_29 (dk_at dksX2_owes_2 12 rfl rfl)
theorem dX2_owes_59 : decode cX2_owes 59 = .ok (.aload 5, 2) := dk_25 5 (dk_at dksX2_owes_2 13 rfl rfl)
theorem dX2_owes_61 : decode cX2_owes 61 = .ok (.getfield 104, 3) := dk_180 0 104 (dk_at dksX2_owes_2 15 rfl rfl)
theorem dX2_owes_64 : decode cX2_owes 64 = .ok (.iadd, 1) := dk_96 (dk_at dksX2_owes_2 18 rfl rfl)
theorem dX2_owes_65 : decode cX2_owes 65 = .ok (.istore_n 3, 1) := dk_62 (dk_at dksX2_owes_2 19 rfl rfl)
theorem dX2_owes_66 : decode cX2_owes 66 = .ok (.iinc 4 1, 3) := dk_132 4 1 (dk_at dksX2_owes_2 20 rfl rfl)
theorem dX2_owes_69 : decode cX2_owes 69 = .ok (.goto (-64), 3) := dk_167 255 192 (dk_at dksX2_owes_3 0 rfl rfl)
theorem dX2_owes_72 : decode cX2_owes 72 = .ok (.iload_n 3, 1) := dk_29 (dk_at dksX2_owes_3 3 rfl rfl)
theorem dX2_owes_73 : decode cX2_owes 73 = .ok (.ireturn, 1) := dk_172 (dk_at dksX2_owes_3 4 rfl rfl)
abbrev cX2_meets : ByteArray := prog_20_method_17_code
def yX2_meets : MethodName := ⟨RX2, "meets", "(III)I"⟩
def dkwX2_meets_1 : List UInt8 := [172, 42, 42, 180, 0, 33, 21, 4, 182, 0, 73, 192, 0, 77, 28, 182, 0, 196, 87, 21, 4, 172]
abbrev dktX2_meets_1 : List UInt8 := dkwX2_meets_1 ++ []
def dkwX2_meets_0 : List UInt8 := [42, 27, 28, 29, 182, 0, 188, 54, 4, 21, 4, 2, 160, 0, 13, 42, 27, 28, 29, 3, 3, 182, 0, 192]
abbrev dktX2_meets_0 : List UInt8 := dkwX2_meets_0 ++ dktX2_meets_1
theorem dksX2_meets_0 : cX2_meets.data.toList.drop 0 = dktX2_meets_0 := by decide +kernel
theorem dksX2_meets_1 : cX2_meets.data.toList.drop 24 = dktX2_meets_1 := dk_seg dksX2_meets_0 24 rfl rfl
theorem dX2_meets_0 : decode cX2_meets 0 = .ok (.aload_n 0, 1) := dk_42 (dk_at dksX2_meets_0 0 rfl rfl)
theorem dX2_meets_1 : decode cX2_meets 1 = .ok (.iload_n 1, 1) := dk_27 (dk_at dksX2_meets_0 1 rfl rfl)
theorem dX2_meets_2 : decode cX2_meets 2 = .ok (.iload_n 2, 1) := dk_28 (dk_at dksX2_meets_0 2 rfl rfl)
theorem dX2_meets_3 : decode cX2_meets 3 = .ok (.iload_n 3, 1) := dk_29 (dk_at dksX2_meets_0 3 rfl rfl)
theorem dX2_meets_4 : decode cX2_meets 4 = .ok (.invokevirtual 188, 3) := dk_182 0 188 (dk_at dksX2_meets_0 4 rfl rfl)
theorem dX2_meets_7 : decode cX2_meets 7 = .ok (.istore 4, 2) := dk_54 4 (dk_at dksX2_meets_0 7 rfl rfl)
theorem dX2_meets_9 : decode cX2_meets 9 = .ok (.iload 4, 2) := dk_21 4 (dk_at dksX2_meets_0 9 rfl rfl)
theorem dX2_meets_11 : decode cX2_meets 11 = .ok (.iconst (-1), 1) := dk_2 (dk_at dksX2_meets_0 11 rfl rfl)
theorem dX2_meets_12 : decode cX2_meets 12 = .ok (.if_icmp .ne 13, 3) := dk_160 0 13 (dk_at dksX2_meets_0 12 rfl rfl)
theorem dX2_meets_15 : decode cX2_meets 15 = .ok (.aload_n 0, 1) := dk_42 (dk_at dksX2_meets_0 15 rfl rfl)
theorem dX2_meets_16 : decode cX2_meets 16 = .ok (.iload_n 1, 1) := dk_27 (dk_at dksX2_meets_0 16 rfl rfl)
theorem dX2_meets_17 : decode cX2_meets 17 = .ok (.iload_n 2, 1) := dk_28 (dk_at dksX2_meets_0 17 rfl rfl)
theorem dX2_meets_18 : decode cX2_meets 18 = .ok (.iload_n 3, 1) := dk_29 (dk_at dksX2_meets_0 18 rfl rfl)
theorem dX2_meets_19 : decode cX2_meets 19 = .ok (.iconst 0, 1) := dk_3 (dk_at dksX2_meets_0 19 rfl rfl)
theorem dX2_meets_20 : decode cX2_meets 20 = .ok (.iconst 0, 1) := dk_3 (dk_at dksX2_meets_0 20 rfl rfl)
theorem dX2_meets_21 : decode cX2_meets 21 = .ok (.invokevirtual 192, 3) := dk_182 0 192 (dk_at dksX2_meets_0 21 rfl rfl)
theorem dX2_meets_24 : decode cX2_meets 24 = .ok (.ireturn, 1) := dk_172 (dk_at dksX2_meets_1 0 rfl rfl)
theorem dX2_meets_25 : decode cX2_meets 25 = .ok (.aload_n 0, 1) := dk_42 (dk_at dksX2_meets_1 1 rfl rfl)
theorem dX2_meets_26 : decode cX2_meets 26 = .ok (.aload_n 0, 1) := dk_42 (dk_at dksX2_meets_1 2 rfl rfl)
theorem dX2_meets_27 : decode cX2_meets 27 = .ok (.getfield 33, 3) := dk_180 0 33 (dk_at dksX2_meets_1 3 rfl rfl)
theorem dX2_meets_30 : decode cX2_meets 30 = .ok (.iload 4, 2) := dk_21 4 (dk_at dksX2_meets_1 6 rfl rfl)
theorem dX2_meets_32 : decode cX2_meets 32 = .ok (.invokevirtual 73, 3) := dk_182 0 73 (dk_at dksX2_meets_1 8 rfl rfl)
theorem dX2_meets_35 : decode cX2_meets 35 = .ok (.checkcast 77, 3) := dk_192 0 77 (dk_at dksX2_meets_1 11 rfl rfl)
theorem dX2_meets_38 : decode cX2_meets 38 = .ok (.iload_n 2, 1) := dk_28 (dk_at dksX2_meets_1 14 rfl rfl)
theorem dX2_meets_39 : decode cX2_meets 39 = .ok (.invokevirtual 196, 3) := dk_182 0 196 (dk_at dksX2_meets_1 15 rfl rfl)
theorem dX2_meets_42 : decode cX2_meets 42 = .ok (.pop, 1) := dk_87 (dk_at dksX2_meets_1 18 rfl rfl)
theorem dX2_meets_43 : decode cX2_meets 43 = .ok (.iload 4, 2) := dk_21 4 (dk_at dksX2_meets_1 19 rfl rfl)
theorem dX2_meets_45 : decode cX2_meets 45 = .ok (.ireturn, 1) := dk_172 (dk_at dksX2_meets_1 21 rfl rfl)
abbrev cX2_port : ByteArray := prog_20_method_19_code
def yX2_port : MethodName := ⟨RX2, "port", "(II)I"⟩
def dkwX2_port_3 : List UInt8 := [182, 0, 110, 17, 4, 0, 108, 96, 62, 132, 4, 1, 167, 255, 180, 29, 172]
abbrev dktX2_port_3 : List UInt8 := dkwX2_port_3 ++ []
def dkwX2_port_2 : List UInt8 := [159, 0, 32, 42, 25, 5, 28, 182, 0, 177, 153, 0, 22, 29, 25, 5, 25, 5, 180, 0, 107, 4, 96]
abbrev dktX2_port_2 : List UInt8 := dkwX2_port_2 ++ dktX2_port_3
def dkwX2_port_1 : List UInt8 := [182, 0, 73, 192, 0, 77, 58, 5, 25, 5, 180, 0, 91, 27, 160, 0, 41, 25, 5, 180, 0, 97, 28]
abbrev dktX2_port_1 : List UInt8 := dkwX2_port_1 ++ dktX2_port_2
def dkwX2_port_0 : List UInt8 := [3, 62, 3, 54, 4, 21, 4, 42, 180, 0, 33, 182, 0, 69, 162, 0, 70, 42, 180, 0, 33, 21, 4]
abbrev dktX2_port_0 : List UInt8 := dkwX2_port_0 ++ dktX2_port_1
theorem dksX2_port_0 : cX2_port.data.toList.drop 0 = dktX2_port_0 := by decide +kernel
theorem dksX2_port_1 : cX2_port.data.toList.drop 23 = dktX2_port_1 := dk_seg dksX2_port_0 23 rfl rfl
theorem dksX2_port_2 : cX2_port.data.toList.drop 46 = dktX2_port_2 := dk_seg dksX2_port_1 23 rfl rfl
theorem dksX2_port_3 : cX2_port.data.toList.drop 69 = dktX2_port_3 := dk_seg dksX2_port_2 23 rfl rfl
theorem dX2_port_0 : decode cX2_port 0 = .ok (.iconst 0, 1) := dk_3 (dk_at dksX2_port_0 0 rfl rfl)
theorem dX2_port_1 : decode cX2_port 1 = .ok (.istore_n 3, 1) := dk_62 (dk_at dksX2_port_0 1 rfl rfl)
theorem dX2_port_2 : decode cX2_port 2 = .ok (.iconst 0, 1) := dk_3 (dk_at dksX2_port_0 2 rfl rfl)
theorem dX2_port_3 : decode cX2_port 3 = .ok (.istore 4, 2) := dk_54 4 (dk_at dksX2_port_0 3 rfl rfl)
theorem dX2_port_5 : decode cX2_port 5 = .ok (.iload 4, 2) := dk_21 4 (dk_at dksX2_port_0 5 rfl rfl)
theorem dX2_port_7 : decode cX2_port 7 = .ok (.aload_n 0, 1) := dk_42 (dk_at dksX2_port_0 7 rfl rfl)
theorem dX2_port_8 : decode cX2_port 8 = .ok (.getfield 33, 3) := dk_180 0 33 (dk_at dksX2_port_0 8 rfl rfl)
theorem dX2_port_11 : decode cX2_port 11 = .ok (.invokevirtual 69, 3) := dk_182 0 69 (dk_at dksX2_port_0 11 rfl rfl)
theorem dX2_port_14 : decode cX2_port 14 = .ok (.if_icmp .ge 70, 3) := dk_162 0 70 (dk_at dksX2_port_0 14 rfl rfl)
theorem dX2_port_17 : decode cX2_port 17 = .ok (.aload_n 0, 1) := dk_42 (dk_at dksX2_port_0 17 rfl rfl)
theorem dX2_port_18 : decode cX2_port 18 = .ok (.getfield 33, 3) := dk_180 0 33 (dk_at dksX2_port_0 18 rfl rfl)
theorem dX2_port_21 : decode cX2_port 21 = .ok (.iload 4, 2) := dk_21 4 (dk_at dksX2_port_0 21 rfl rfl)
theorem dX2_port_23 : decode cX2_port 23 = .ok (.invokevirtual 73, 3) := dk_182 0 73 (dk_at dksX2_port_1 0 rfl rfl)
theorem dX2_port_26 : decode cX2_port 26 = .ok (.checkcast 77, 3) := dk_192 0 77 (dk_at dksX2_port_1 3 rfl rfl)
theorem dX2_port_29 : decode cX2_port 29 = .ok (.astore 5, 2) := dk_58 5 (dk_at dksX2_port_1 6 rfl rfl)
theorem dX2_port_31 : decode cX2_port 31 = .ok (.aload 5, 2) := dk_25 5 (dk_at dksX2_port_1 8 rfl rfl)
theorem dX2_port_33 : decode cX2_port 33 = .ok (.getfield 91, 3) := dk_180 0 91 (dk_at dksX2_port_1 10 rfl rfl)
theorem dX2_port_36 : decode cX2_port 36 = .ok (.iload_n 1, 1) := dk_27 (dk_at dksX2_port_1 13 rfl rfl)
theorem dX2_port_37 : decode cX2_port 37 = .ok (.if_icmp .ne 41, 3) := dk_160 0 41 (dk_at dksX2_port_1 14 rfl rfl)
theorem dX2_port_40 : decode cX2_port 40 = .ok (.aload 5, 2) := dk_25 5 (dk_at dksX2_port_1 17 rfl rfl)
theorem dX2_port_42 : decode cX2_port 42 = .ok (.getfield 97, 3) := dk_180 0 97 (dk_at dksX2_port_1 19 rfl rfl)
theorem dX2_port_45 : decode cX2_port 45 = .ok (.iload_n 2, 1) := dk_28 (dk_at dksX2_port_1 22 rfl rfl)
theorem dX2_port_46 : decode cX2_port 46 = .ok (.if_icmp .eq 32, 3) := dk_159 0 32 (dk_at dksX2_port_2 0 rfl rfl)
theorem dX2_port_49 : decode cX2_port 49 = .ok (.aload_n 0, 1) := dk_42 (dk_at dksX2_port_2 3 rfl rfl)
theorem dX2_port_50 : decode cX2_port 50 = .ok (.aload 5, 2) := dk_25 5 (dk_at dksX2_port_2 4 rfl rfl)
theorem dX2_port_52 : decode cX2_port 52 = .ok (.iload_n 2, 1) := dk_28 (dk_at dksX2_port_2 6 rfl rfl)
theorem dX2_port_53 : decode cX2_port 53 = .ok (.invokevirtual 177, 3) := dk_182 0 177 (dk_at dksX2_port_2 7 rfl rfl)
theorem dX2_port_56 : decode cX2_port 56 = .ok (.ifCond .eq 22, 3) := dk_153 0 22 (dk_at dksX2_port_2 10 rfl rfl)
theorem dX2_port_59 : decode cX2_port 59 = .ok (.iload_n 3, 1) := dk_29 (dk_at dksX2_port_2 13 rfl rfl)
theorem dX2_port_60 : decode cX2_port 60 = .ok (.aload 5, 2) := dk_25 5 (dk_at dksX2_port_2 14 rfl rfl)
theorem dX2_port_62 : decode cX2_port 62 = .ok (.aload 5, 2) := dk_25 5 (dk_at dksX2_port_2 16 rfl rfl)
theorem dX2_port_64 : decode cX2_port 64 = .ok (.getfield 107, 3) := dk_180 0 107 (dk_at dksX2_port_2 18 rfl rfl)
theorem dX2_port_67 : decode cX2_port 67 = .ok (.iconst 1, 1) := dk_4 (dk_at dksX2_port_2 21 rfl rfl)
theorem dX2_port_68 : decode cX2_port 68 = .ok (.iadd, 1) := dk_96 (dk_at dksX2_port_2 22 rfl rfl)
theorem dX2_port_69 : decode cX2_port 69 = .ok (.invokevirtual 110, 3) := dk_182 0 110 (dk_at dksX2_port_3 0 rfl rfl)
theorem dX2_port_72 : decode cX2_port 72 = .ok (.sipush 1024, 3) := dk_17 4 0 (dk_at dksX2_port_3 3 rfl rfl)
theorem dX2_port_75 : decode cX2_port 75 = .ok (.idiv, 1) := dk_108 (dk_at dksX2_port_3 6 rfl rfl)
theorem dX2_port_76 : decode cX2_port 76 = .ok (.iadd, 1) := dk_96 (dk_at dksX2_port_3 7 rfl rfl)
theorem dX2_port_77 : decode cX2_port 77 = .ok (.istore_n 3, 1) := dk_62 (dk_at dksX2_port_3 8 rfl rfl)
theorem dX2_port_78 : decode cX2_port 78 = .ok (.iinc 4 1, 3) := dk_132 4 1 (dk_at dksX2_port_3 9 rfl rfl)
theorem dX2_port_81 : decode cX2_port 81 = .ok (.goto (-76), 3) := dk_167 255 180 (dk_at dksX2_port_3 12 rfl rfl)
theorem dX2_port_84 : decode cX2_port 84 = .ok (.iload_n 3, 1) := dk_29 (dk_at dksX2_port_3 15 rfl rfl)
theorem dX2_port_85 : decode cX2_port 85 = .ok (.ireturn, 1) := dk_172 (dk_at dksX2_port_3 16 rfl rfl)
theorem q84 : (Jvm.Cond.initialized "FavourTown$World") ∈ lw_all := lw_g (lw_at lw_m1 2 rfl) rfl
theorem q138 : (Jvm.Cond.instantiable "FavourTown$World" (14 : Nat)) ∈ lw_all := lw_g (lw_at lw_m1 56 rfl) rfl
theorem q140 : (Jvm.Cond.instanceMethod ({ cls := "FavourTown$World", name := "<init>", desc := "()V" } : Jvm.MethodName)) ∈ lw_all := lw_g (lw_at lw_m1 58 rfl) rfl
theorem q141 : (Jvm.Cond.code ({ cls := "FavourTown$World", name := "<init>", desc := "()V" } : Jvm.MethodName) prog_20_method_1_code (1 : Nat) (Option.none : Option Jvm.ClassFile.FieldType)) ∈ lw_all := lw_g (lw_at lw_m1 59 rfl) rfl
theorem q142 : (Jvm.Cond.methodLink "FavourTown$World" (3 : Nat) ({ cls := "java/lang/Object", name := "<init>", desc := "()V" } : Jvm.MethodName)) ∈ lw_all := lw_g (lw_at lw_m1 60 rfl) rfl
theorem q143 : (Jvm.Cond.classLink "FavourTown$World" (25 : Nat) "[[I") ∈ lw_all := lw_g (lw_at lw_m1 61 rfl) rfl
theorem q145 : (Jvm.Cond.classLink "FavourTown$World" (30 : Nat) "java/util/ArrayList") ∈ lw_all := lw_g (lw_at lw_m1 63 rfl) rfl
theorem q147 : (Jvm.Cond.methodLink "FavourTown$World" (32 : Nat) ({ cls := "java/util/ArrayList", name := "<init>", desc := "()V" } : Jvm.MethodName)) ∈ lw_all := lw_g (lw_at lw_m1 65 rfl) rfl
theorem q172 : (Jvm.Cond.classLink "FavourTown$World" (46 : Nat) "FavourTown$Scene") ∈ lw_all := lw_g (lw_at lw_m1 90 rfl) rfl
theorem q174 : (Jvm.Cond.methodLinkNest "FavourTown$World" (48 : Nat) ({ cls := "FavourTown$Scene", name := "<init>", desc := "()V" } : Jvm.MethodName) "FavourTown") ∈ lw_tbl := lw_at lw_m1 92 rfl
theorem q179 : (Jvm.Cond.fieldLinkNest "FavourTown$World" (126 : Nat) "FavourTown$Scene" "worth" "I" "FavourTown") ∈ lw_tbl := lw_at lw_m1 97 rfl
theorem q181 : (Jvm.Cond.fieldLinkNest "FavourTown$World" (142 : Nat) "FavourTown$Scene" "amount" "I" "FavourTown") ∈ lw_tbl := lw_at lw_m1 99 rfl
theorem q183 : (Jvm.Cond.fieldLinkNest "FavourTown$World" (125 : Nat) "FavourTown$Scene" "hands" "I" "FavourTown") ∈ lw_tbl := lw_at lw_m1 101 rfl
theorem q185 : (Jvm.Cond.fieldLinkNest "FavourTown$World" (146 : Nat) "FavourTown$Scene" "left" "I" "FavourTown") ∈ lw_tbl := lw_at lw_m1 103 rfl
theorem q187 : (Jvm.Cond.fieldLinkNest "FavourTown$World" (152 : Nat) "FavourTown$Scene" "owed" "I" "FavourTown") ∈ lw_tbl := lw_at lw_m1 105 rfl
theorem q189 : (Jvm.Cond.fieldLinkNest "FavourTown$World" (158 : Nat) "FavourTown$Scene" "debt" "I" "FavourTown") ∈ lw_tbl := lw_at lw_m1 107 rfl
theorem q191 : (Jvm.Cond.fieldLinkNest "FavourTown$World" (160 : Nat) "FavourTown$Scene" "near" "Z" "FavourTown") ∈ lw_tbl := lw_at lw_m1 109 rfl
theorem q193 : (Jvm.Cond.fieldLinkNest "FavourTown$World" (143 : Nat) "FavourTown$Scene" "timed" "Z" "FavourTown") ∈ lw_tbl := lw_at lw_m1 111 rfl
theorem q195 : (Jvm.Cond.fieldLinkNest "FavourTown$World" (133 : Nat) "FavourTown$Scene" "again" "Z" "FavourTown") ∈ lw_tbl := lw_at lw_m1 113 rfl
theorem q215 : (Jvm.Cond.fieldLink "FavourTown$World" (54 : Nat) "FavourTown$World" "texts" "I") ∈ lw_all := lw_g (lw_at lw_m1 133 rfl) rfl
theorem q217 : (Jvm.Cond.fieldLink "FavourTown$World" (57 : Nat) "FavourTown$World" "day" "I") ∈ lw_all := lw_g (lw_at lw_m1 135 rfl) rfl
theorem q219 : (Jvm.Cond.fieldLink "FavourTown$World" (9 : Nat) "FavourTown$World" "law" "I") ∈ lw_all := lw_g (lw_at lw_m1 137 rfl) rfl
theorem q223 : (Jvm.Cond.fieldLink "FavourTown$World" (60 : Nat) "FavourTown$World" "people" "I") ∈ lw_all := lw_g (lw_at lw_m1 141 rfl) rfl
theorem q225 : (Jvm.Cond.fieldLink "FavourTown$World" (94 : Nat) "FavourTown$World" "forgiving" "I") ∈ lw_all := lw_g (lw_at lw_m1 143 rfl) rfl
theorem q226 : (Jvm.Cond.fieldLink "FavourTown$World" (15 : Nat) "FavourTown$World" "limit" "[I") ∈ lw_all := lw_g (lw_at lw_m1 144 rfl) rfl
theorem q228 : (Jvm.Cond.fieldLink "FavourTown$World" (19 : Nat) "FavourTown$World" "near" "[I") ∈ lw_all := lw_g (lw_at lw_m1 146 rfl) rfl
theorem q230 : (Jvm.Cond.fieldLink "FavourTown$World" (22 : Nat) "FavourTown$World" "temperOf" "[I") ∈ lw_all := lw_g (lw_at lw_m1 148 rfl) rfl
theorem q232 : (Jvm.Cond.fieldLink "FavourTown$World" (27 : Nat) "FavourTown$World" "loss" "[[I") ∈ lw_all := lw_g (lw_at lw_m1 150 rfl) rfl
theorem q234 : (Jvm.Cond.fieldLink "FavourTown$World" (33 : Nat) "FavourTown$World" "favours" "Ljava/util/ArrayList;") ∈ lw_all := lw_g (lw_at lw_m1 152 rfl) rfl
theorem q236 : (Jvm.Cond.fieldLink "FavourTown$World" (37 : Nat) "FavourTown$World" "needs" "Ljava/util/ArrayList;") ∈ lw_all := lw_g (lw_at lw_m1 154 rfl) rfl
theorem q238 : (Jvm.Cond.fieldLink "FavourTown$World" (40 : Nat) "FavourTown$World" "tempers" "Ljava/util/ArrayList;") ∈ lw_all := lw_g (lw_at lw_m1 156 rfl) rfl
theorem q240 : (Jvm.Cond.fieldLink "FavourTown$World" (43 : Nat) "FavourTown$World" "rings" "Ljava/util/ArrayList;") ∈ lw_all := lw_g (lw_at lw_m1 158 rfl) rfl
theorem q243 : (Jvm.Cond.fieldLink "FavourTown$World" (49 : Nat) "FavourTown$World" "scene" "LFavourTown$Scene;") ∈ lw_all := lw_g (lw_at lw_m1 161 rfl) rfl
theorem q244 : (Jvm.Cond.lays "FavourTown$World" "FavourTown$World" "texts" "I") ∈ lw_all := lw_g (lw_at lw_m1 162 rfl) rfl
theorem q245 : (Jvm.Cond.soleField "FavourTown$World" "texts") ∈ lw_all := lw_g (lw_at lw_m1 163 rfl) rfl
theorem q246 : (Jvm.Cond.lays "FavourTown$World" "FavourTown$World" "day" "I") ∈ lw_all := lw_g (lw_at lw_m1 164 rfl) rfl
theorem q247 : (Jvm.Cond.soleField "FavourTown$World" "day") ∈ lw_all := lw_g (lw_at lw_m1 165 rfl) rfl
theorem q248 : (Jvm.Cond.lays "FavourTown$World" "FavourTown$World" "law" "I") ∈ lw_all := lw_g (lw_at lw_m1 166 rfl) rfl
theorem q249 : (Jvm.Cond.soleField "FavourTown$World" "law") ∈ lw_all := lw_g (lw_at lw_m1 167 rfl) rfl
theorem q250 : (Jvm.Cond.lays "FavourTown$World" "FavourTown$World" "people" "I") ∈ lw_all := lw_g (lw_at lw_m1 168 rfl) rfl
theorem q251 : (Jvm.Cond.soleField "FavourTown$World" "people") ∈ lw_all := lw_g (lw_at lw_m1 169 rfl) rfl
theorem q252 : (Jvm.Cond.lays "FavourTown$World" "FavourTown$World" "forgiving" "I") ∈ lw_all := lw_g (lw_at lw_m1 170 rfl) rfl
theorem q253 : (Jvm.Cond.soleField "FavourTown$World" "forgiving") ∈ lw_all := lw_g (lw_at lw_m1 171 rfl) rfl
theorem q254 : (Jvm.Cond.laysFinal "FavourTown$World" "FavourTown$World" "limit" "[I") ∈ lw_all := lw_g (lw_at lw_m1 172 rfl) rfl
theorem q255 : (Jvm.Cond.soleField "FavourTown$World" "limit") ∈ lw_all := lw_g (lw_at lw_m1 173 rfl) rfl
theorem q256 : (Jvm.Cond.laysFinal "FavourTown$World" "FavourTown$World" "near" "[I") ∈ lw_all := lw_g (lw_at lw_m1 174 rfl) rfl
theorem q257 : (Jvm.Cond.soleField "FavourTown$World" "near") ∈ lw_all := lw_g (lw_at lw_m1 175 rfl) rfl
theorem q258 : (Jvm.Cond.laysFinal "FavourTown$World" "FavourTown$World" "temperOf" "[I") ∈ lw_all := lw_g (lw_at lw_m1 176 rfl) rfl
theorem q259 : (Jvm.Cond.soleField "FavourTown$World" "temperOf") ∈ lw_all := lw_g (lw_at lw_m1 177 rfl) rfl
theorem q260 : (Jvm.Cond.laysFinal "FavourTown$World" "FavourTown$World" "loss" "[[I") ∈ lw_all := lw_g (lw_at lw_m1 178 rfl) rfl
theorem q261 : (Jvm.Cond.soleField "FavourTown$World" "loss") ∈ lw_all := lw_g (lw_at lw_m1 179 rfl) rfl
theorem q262 : (Jvm.Cond.laysFinal "FavourTown$World" "FavourTown$World" "favours" "Ljava/util/ArrayList;") ∈ lw_all := lw_g (lw_at lw_m1 180 rfl) rfl
theorem q263 : (Jvm.Cond.soleField "FavourTown$World" "favours") ∈ lw_all := lw_g (lw_at lw_m1 181 rfl) rfl
theorem q264 : (Jvm.Cond.laysFinal "FavourTown$World" "FavourTown$World" "needs" "Ljava/util/ArrayList;") ∈ lw_all := lw_g (lw_at lw_m1 182 rfl) rfl
theorem q265 : (Jvm.Cond.soleField "FavourTown$World" "needs") ∈ lw_all := lw_g (lw_at lw_m1 183 rfl) rfl
theorem q266 : (Jvm.Cond.laysFinal "FavourTown$World" "FavourTown$World" "tempers" "Ljava/util/ArrayList;") ∈ lw_all := lw_g (lw_at lw_m1 184 rfl) rfl
theorem q267 : (Jvm.Cond.soleField "FavourTown$World" "tempers") ∈ lw_all := lw_g (lw_at lw_m1 185 rfl) rfl
theorem q268 : (Jvm.Cond.laysFinal "FavourTown$World" "FavourTown$World" "rings" "Ljava/util/ArrayList;") ∈ lw_all := lw_g (lw_at lw_m1 186 rfl) rfl
theorem q269 : (Jvm.Cond.soleField "FavourTown$World" "rings") ∈ lw_all := lw_g (lw_at lw_m1 187 rfl) rfl
theorem q270 : (Jvm.Cond.laysFinal "FavourTown$World" "FavourTown$World" "scene" "LFavourTown$Scene;") ∈ lw_all := lw_g (lw_at lw_m1 188 rfl) rfl
theorem q271 : (Jvm.Cond.soleField "FavourTown$World" "scene") ∈ lw_all := lw_g (lw_at lw_m1 189 rfl) rfl
theorem q272 : (Jvm.Cond.superclass "FavourTown$World" "java/lang/Object") ∈ lw_all := lw_g (lw_at lw_m1 190 rfl) rfl
theorem q397 : (Jvm.Cond.instanceMethod ({ cls := "FavourTown$World", name := "unmet", desc := "(I)I" } : Jvm.MethodName)) ∈ lw_all := lw_g (lw_at lw_m2 75 rfl) rfl
theorem q398 : (Jvm.Cond.selects "FavourTown$World" ({ cls := "FavourTown$World", name := "unmet", desc := "(I)I" } : Jvm.MethodName) ({ cls := "FavourTown$World", name := "unmet", desc := "(I)I" } : Jvm.MethodName)) ∈ lw_all := lw_g (lw_at lw_m2 76 rfl) rfl
theorem q399 : (Jvm.Cond.code ({ cls := "FavourTown$World", name := "unmet", desc := "(I)I" } : Jvm.MethodName) prog_20_method_18_code (4 : Nat) (Option.some Jvm.ClassFile.FieldType.int)) ∈ lw_all := lw_g (lw_at lw_m2 77 rfl) rfl
theorem q400 : (Jvm.Cond.methodLink "FavourTown$World" (69 : Nat) ({ cls := "java/util/ArrayList", name := "size", desc := "()I" } : Jvm.MethodName)) ∈ lw_all := lw_g (lw_at lw_m2 78 rfl) rfl
theorem q404 : (Jvm.Cond.methodLink "FavourTown$World" (73 : Nat) ({ cls := "java/util/ArrayList", name := "get", desc := "(I)Ljava/lang/Object;" } : Jvm.MethodName)) ∈ lw_all := lw_g (lw_at lw_m2 82 rfl) rfl
theorem q418 : (Jvm.Cond.classLink "FavourTown$World" (200 : Nat) "FavourTown$Need") ∈ lw_all := lw_g (lw_at lw_m2 96 rfl) rfl
theorem q419 : (Jvm.Cond.methodLink "FavourTown$World" (211 : Nat) ({ cls := "FavourTown$World", name := "isMet", desc := "(III)Z" } : Jvm.MethodName)) ∈ lw_all := lw_g (lw_at lw_m2 97 rfl) rfl
theorem q420 : (Jvm.Cond.instanceMethod ({ cls := "FavourTown$World", name := "isMet", desc := "(III)Z" } : Jvm.MethodName)) ∈ lw_all := lw_g (lw_at lw_m2 98 rfl) rfl
theorem q421 : (Jvm.Cond.selects "FavourTown$World" ({ cls := "FavourTown$World", name := "isMet", desc := "(III)Z" } : Jvm.MethodName) ({ cls := "FavourTown$World", name := "isMet", desc := "(III)Z" } : Jvm.MethodName)) ∈ lw_all := lw_g (lw_at lw_m2 99 rfl) rfl
theorem q422 : (Jvm.Cond.code ({ cls := "FavourTown$World", name := "isMet", desc := "(III)Z" } : Jvm.MethodName) prog_20_method_16_code (4 : Nat) (Option.some Jvm.ClassFile.FieldType.boolean)) ∈ lw_all := lw_g (lw_at lw_m2 100 rfl) rfl
theorem q423 : (Jvm.Cond.methodLink "FavourTown$World" (188 : Nat) ({ cls := "FavourTown$World", name := "pays", desc := "(III)I" } : Jvm.MethodName)) ∈ lw_all := lw_g (lw_at lw_m2 101 rfl) rfl
theorem q424 : (Jvm.Cond.instanceMethod ({ cls := "FavourTown$World", name := "pays", desc := "(III)I" } : Jvm.MethodName)) ∈ lw_all := lw_g (lw_at lw_m2 102 rfl) rfl
theorem q425 : (Jvm.Cond.selects "FavourTown$World" ({ cls := "FavourTown$World", name := "pays", desc := "(III)I" } : Jvm.MethodName) ({ cls := "FavourTown$World", name := "pays", desc := "(III)I" } : Jvm.MethodName)) ∈ lw_all := lw_g (lw_at lw_m2 103 rfl) rfl
theorem q426 : (Jvm.Cond.code ({ cls := "FavourTown$World", name := "pays", desc := "(III)I" } : Jvm.MethodName) prog_20_method_14_code (8 : Nat) (Option.some Jvm.ClassFile.FieldType.int)) ∈ lw_all := lw_g (lw_at lw_m2 104 rfl) rfl
theorem q427 : (Jvm.Cond.classLink "FavourTown$World" (77 : Nat) "FavourTown$Favour") ∈ lw_all := lw_g (lw_at lw_m2 105 rfl) rfl
theorem q428 : (Jvm.Cond.methodLink "FavourTown$World" (177 : Nat) ({ cls := "FavourTown$World", name := "canPass", desc := "(LFavourTown$Favour;I)Z" } : Jvm.MethodName)) ∈ lw_all := lw_g (lw_at lw_m2 106 rfl) rfl
theorem q429 : (Jvm.Cond.instanceMethod ({ cls := "FavourTown$World", name := "canPass", desc := "(LFavourTown$Favour;I)Z" } : Jvm.MethodName)) ∈ lw_all := lw_g (lw_at lw_m2 107 rfl) rfl
theorem q430 : (Jvm.Cond.selects "FavourTown$World" ({ cls := "FavourTown$World", name := "canPass", desc := "(LFavourTown$Favour;I)Z" } : Jvm.MethodName) ({ cls := "FavourTown$World", name := "canPass", desc := "(LFavourTown$Favour;I)Z" } : Jvm.MethodName)) ∈ lw_all := lw_g (lw_at lw_m2 108 rfl) rfl
theorem q431 : (Jvm.Cond.code ({ cls := "FavourTown$World", name := "canPass", desc := "(LFavourTown$Favour;I)Z" } : Jvm.MethodName) prog_20_method_9_code (3 : Nat) (Option.some Jvm.ClassFile.FieldType.boolean)) ∈ lw_all := lw_g (lw_at lw_m2 109 rfl) rfl
theorem q432 : (Jvm.Cond.methodLink "FavourTown$World" (100 : Nat) ({ cls := "FavourTown$World", name := "isGone", desc := "(LFavourTown$Favour;)Z" } : Jvm.MethodName)) ∈ lw_all := lw_g (lw_at lw_m2 110 rfl) rfl
theorem q433 : (Jvm.Cond.instanceMethod ({ cls := "FavourTown$World", name := "isGone", desc := "(LFavourTown$Favour;)Z" } : Jvm.MethodName)) ∈ lw_all := lw_g (lw_at lw_m2 111 rfl) rfl
theorem q434 : (Jvm.Cond.selects "FavourTown$World" ({ cls := "FavourTown$World", name := "isGone", desc := "(LFavourTown$Favour;)Z" } : Jvm.MethodName) ({ cls := "FavourTown$World", name := "isGone", desc := "(LFavourTown$Favour;)Z" } : Jvm.MethodName)) ∈ lw_all := lw_g (lw_at lw_m2 112 rfl) rfl
theorem q435 : (Jvm.Cond.code ({ cls := "FavourTown$World", name := "isGone", desc := "(LFavourTown$Favour;)Z" } : Jvm.MethodName) prog_20_method_3_code (2 : Nat) (Option.some Jvm.ClassFile.FieldType.boolean)) ∈ lw_all := lw_g (lw_at lw_m2 113 rfl) rfl
theorem q436 : (Jvm.Cond.methodLink "FavourTown$World" (162 : Nat) ({ cls := "FavourTown$World", name := "takes", desc := "(ILFavourTown$Favour;)Z" } : Jvm.MethodName)) ∈ lw_all := lw_g (lw_at lw_m2 114 rfl) rfl
theorem q437 : (Jvm.Cond.instanceMethod ({ cls := "FavourTown$World", name := "takes", desc := "(ILFavourTown$Favour;)Z" } : Jvm.MethodName)) ∈ lw_all := lw_g (lw_at lw_m2 115 rfl) rfl
theorem q438 : (Jvm.Cond.selects "FavourTown$World" ({ cls := "FavourTown$World", name := "takes", desc := "(ILFavourTown$Favour;)Z" } : Jvm.MethodName) ({ cls := "FavourTown$World", name := "takes", desc := "(ILFavourTown$Favour;)Z" } : Jvm.MethodName)) ∈ lw_all := lw_g (lw_at lw_m2 116 rfl) rfl
theorem q439 : (Jvm.Cond.code ({ cls := "FavourTown$World", name := "takes", desc := "(ILFavourTown$Favour;)Z" } : Jvm.MethodName) prog_20_method_7_code (3 : Nat) (Option.some Jvm.ClassFile.FieldType.boolean)) ∈ lw_all := lw_g (lw_at lw_m2 117 rfl) rfl
theorem q440 : (Jvm.Cond.methodLink "FavourTown$World" (118 : Nat) ({ cls := "FavourTown$Favour", name := "end", desc := "()I" } : Jvm.MethodName)) ∈ lw_all := lw_g (lw_at lw_m2 118 rfl) rfl
theorem q448 : (Jvm.Cond.methodLink "FavourTown$World" (121 : Nat) ({ cls := "FavourTown$World", name := "sees", desc := "(IIII)V" } : Jvm.MethodName)) ∈ lw_all := lw_g (lw_at lw_m2 126 rfl) rfl
theorem q449 : (Jvm.Cond.privateMethod ({ cls := "FavourTown$World", name := "sees", desc := "(IIII)V" } : Jvm.MethodName)) ∈ lw_tbl := lw_at lw_m2 127 rfl
theorem q450 : (Jvm.Cond.instanceMethod ({ cls := "FavourTown$World", name := "sees", desc := "(IIII)V" } : Jvm.MethodName)) ∈ lw_all := lw_g (lw_at lw_m2 128 rfl) rfl
theorem q451 : (Jvm.Cond.code ({ cls := "FavourTown$World", name := "sees", desc := "(IIII)V" } : Jvm.MethodName) prog_20_method_8_code (5 : Nat) (Option.none : Option Jvm.ClassFile.FieldType)) ∈ lw_all := lw_g (lw_at lw_m2 129 rfl) rfl
theorem q452 : (Jvm.Cond.methodLink "FavourTown$World" (149 : Nat) ({ cls := "FavourTown$World", name := "rich", desc := "(I)I" } : Jvm.MethodName)) ∈ lw_all := lw_g (lw_at lw_m2 130 rfl) rfl
theorem q453 : (Jvm.Cond.instanceMethod ({ cls := "FavourTown$World", name := "rich", desc := "(I)I" } : Jvm.MethodName)) ∈ lw_all := lw_g (lw_at lw_m2 131 rfl) rfl
theorem q454 : (Jvm.Cond.selects "FavourTown$World" ({ cls := "FavourTown$World", name := "rich", desc := "(I)I" } : Jvm.MethodName) ({ cls := "FavourTown$World", name := "rich", desc := "(I)I" } : Jvm.MethodName)) ∈ lw_all := lw_g (lw_at lw_m2 132 rfl) rfl
theorem q455 : (Jvm.Cond.code ({ cls := "FavourTown$World", name := "rich", desc := "(I)I" } : Jvm.MethodName) prog_20_method_5_code (5 : Nat) (Option.some Jvm.ClassFile.FieldType.int)) ∈ lw_all := lw_g (lw_at lw_m2 133 rfl) rfl
theorem q456 : (Jvm.Cond.methodLink "FavourTown$World" (110 : Nat) ({ cls := "FavourTown$Favour", name := "worthAt", desc := "(I)I" } : Jvm.MethodName)) ∈ lw_all := lw_g (lw_at lw_m2 134 rfl) rfl
theorem q462 : (Jvm.Cond.methodLink "FavourTown$World" (155 : Nat) ({ cls := "FavourTown$World", name := "debt", desc := "(I)I" } : Jvm.MethodName)) ∈ lw_all := lw_g (lw_at lw_m2 140 rfl) rfl
theorem q463 : (Jvm.Cond.instanceMethod ({ cls := "FavourTown$World", name := "debt", desc := "(I)I" } : Jvm.MethodName)) ∈ lw_all := lw_g (lw_at lw_m2 141 rfl) rfl
theorem q464 : (Jvm.Cond.selects "FavourTown$World" ({ cls := "FavourTown$World", name := "debt", desc := "(I)I" } : Jvm.MethodName) ({ cls := "FavourTown$World", name := "debt", desc := "(I)I" } : Jvm.MethodName)) ∈ lw_all := lw_g (lw_at lw_m2 142 rfl) rfl
theorem q465 : (Jvm.Cond.code ({ cls := "FavourTown$World", name := "debt", desc := "(I)I" } : Jvm.MethodName) prog_20_method_4_code (5 : Nat) (Option.some Jvm.ClassFile.FieldType.int)) ∈ lw_all := lw_g (lw_at lw_m2 143 rfl) rfl
theorem q466 : (Jvm.Cond.methodLink "FavourTown$World" (129 : Nat) ({ cls := "FavourTown$Favour", name := "wasHeldBy", desc := "(I)Z" } : Jvm.MethodName)) ∈ lw_all := lw_g (lw_at lw_m2 144 rfl) rfl
theorem q472 : (Jvm.Cond.classLink "FavourTown$World" (136 : Nat) "FavourTown$Temper") ∈ lw_all := lw_g (lw_at lw_m2 150 rfl) rfl
theorem q473 : (Jvm.Cond.methodLink "FavourTown$World" (138 : Nat) ({ cls := "FavourTown$Temper", name := "takes", desc := "(LFavourTown$Scene;)Z" } : Jvm.MethodName)) ∈ lw_all := lw_g (lw_at lw_m2 151 rfl) rfl
theorem q544 : (Jvm.Cond.methodLink "FavourTown$World" (185 : Nat) ({ cls := "FavourTown$World", name := "worthThen", desc := "(I)I" } : Jvm.MethodName)) ∈ lw_all := lw_g (lw_at lw_m2 222 rfl) rfl
theorem q545 : (Jvm.Cond.privateMethod ({ cls := "FavourTown$World", name := "worthThen", desc := "(I)I" } : Jvm.MethodName)) ∈ lw_tbl := lw_at lw_m2 223 rfl
theorem q546 : (Jvm.Cond.instanceMethod ({ cls := "FavourTown$World", name := "worthThen", desc := "(I)I" } : Jvm.MethodName)) ∈ lw_all := lw_g (lw_at lw_m2 224 rfl) rfl
theorem q547 : (Jvm.Cond.code ({ cls := "FavourTown$World", name := "worthThen", desc := "(I)I" } : Jvm.MethodName) prog_20_method_15_code (2 : Nat) (Option.some Jvm.ClassFile.FieldType.int)) ∈ lw_all := lw_g (lw_at lw_m2 225 rfl) rfl
theorem q548 : (Jvm.Cond.methodLink "FavourTown$World" (165 : Nat) ({ cls := "FavourTown$World", name := "canGive", desc := "(IIIIZ)Z" } : Jvm.MethodName)) ∈ lw_all := lw_g (lw_at lw_m2 226 rfl) rfl
theorem q549 : (Jvm.Cond.instanceMethod ({ cls := "FavourTown$World", name := "canGive", desc := "(IIIIZ)Z" } : Jvm.MethodName)) ∈ lw_all := lw_g (lw_at lw_m2 227 rfl) rfl
theorem q550 : (Jvm.Cond.selects "FavourTown$World" ({ cls := "FavourTown$World", name := "canGive", desc := "(IIIIZ)Z" } : Jvm.MethodName) ({ cls := "FavourTown$World", name := "canGive", desc := "(IIIIZ)Z" } : Jvm.MethodName)) ∈ lw_all := lw_g (lw_at lw_m2 228 rfl) rfl
theorem q551 : (Jvm.Cond.code ({ cls := "FavourTown$World", name := "canGive", desc := "(IIIIZ)Z" } : Jvm.MethodName) prog_20_method_10_code (6 : Nat) (Option.some Jvm.ClassFile.FieldType.boolean)) ∈ lw_all := lw_g (lw_at lw_m2 229 rfl) rfl
theorem q578 : (Jvm.Cond.instanceMethod ({ cls := "FavourTown$World", name := "copy", desc := "()LFavourTown$World;" } : Jvm.MethodName)) ∈ lw_all := lw_g (lw_at lw_m3 16 rfl) rfl
theorem q579 : (Jvm.Cond.selects "FavourTown$World" ({ cls := "FavourTown$World", name := "copy", desc := "()LFavourTown$World;" } : Jvm.MethodName) ({ cls := "FavourTown$World", name := "copy", desc := "()LFavourTown$World;" } : Jvm.MethodName)) ∈ lw_all := lw_g (lw_at lw_m3 17 rfl) rfl
theorem q580 : (Jvm.Cond.code ({ cls := "FavourTown$World", name := "copy", desc := "()LFavourTown$World;" } : Jvm.MethodName) prog_20_method_2_code (3 : Nat) (Option.some (Jvm.ClassFile.FieldType.object "FavourTown$World"))) ∈ lw_all := lw_g (lw_at lw_m3 18 rfl) rfl
theorem q581 : (Jvm.Cond.classLink "FavourTown$World" (10 : Nat) "FavourTown$World") ∈ lw_all := lw_g (lw_at lw_m3 19 rfl) rfl
theorem q582 : (Jvm.Cond.methodLink "FavourTown$World" (53 : Nat) ({ cls := "FavourTown$World", name := "<init>", desc := "()V" } : Jvm.MethodName)) ∈ lw_all := lw_g (lw_at lw_m3 20 rfl) rfl
theorem q583 : (Jvm.Cond.methodLink "FavourTown$World" (63 : Nat) ({ cls := "java/lang/System", name := "arraycopy", desc := "(Ljava/lang/Object;ILjava/lang/Object;II)V" } : Jvm.MethodName)) ∈ lw_all := lw_g (lw_at lw_m3 21 rfl) rfl
theorem q586 : (Jvm.Cond.methodLink "FavourTown$World" (79 : Nat) ({ cls := "FavourTown$Favour", name := "copy", desc := "()LFavourTown$Favour;" } : Jvm.MethodName)) ∈ lw_all := lw_g (lw_at lw_m3 24 rfl) rfl
theorem q605 : (Jvm.Cond.fieldLinkNest "FavourTown$World" (97 : Nat) "FavourTown$Favour" "giver" "I" "FavourTown") ∈ lw_tbl := lw_at lw_m3 43 rfl
theorem q609 : (Jvm.Cond.fieldLinkNest "FavourTown$World" (104 : Nat) "FavourTown$Favour" "amount" "I" "FavourTown") ∈ lw_tbl := lw_at lw_m3 47 rfl
theorem q613 : (Jvm.Cond.fieldLinkNest "FavourTown$World" (114 : Nat) "FavourTown$Favour" "forced" "Z" "FavourTown") ∈ lw_tbl := lw_at lw_m3 51 rfl
theorem q619 : (Jvm.Cond.fieldLinkNest "FavourTown$World" (91 : Nat) "FavourTown$Favour" "holder" "I" "FavourTown") ∈ lw_tbl := lw_at lw_m3 57 rfl
theorem q622 : (Jvm.Cond.fieldLinkNest "FavourTown$World" (107 : Nat) "FavourTown$Favour" "hands" "I" "FavourTown") ∈ lw_tbl := lw_at lw_m3 60 rfl
theorem q658 : (Jvm.Cond.methodLink "FavourTown$World" (83 : Nat) ({ cls := "java/util/ArrayList", name := "add", desc := "(Ljava/lang/Object;)Z" } : Jvm.MethodName)) ∈ lw_all := lw_g (lw_at lw_m3 96 rfl) rfl
theorem q708 : (Jvm.Cond.selects "FavourTown$World" ({ cls := "java/lang/Object", name := "getClass", desc := "()Ljava/lang/Class;" } : Jvm.MethodName) ({ cls := "java/lang/Object", name := "getClass", desc := "()Ljava/lang/Class;" } : Jvm.MethodName)) ∈ lw_all := lw_g (lw_at lw_m3 146 rfl) rfl
theorem q733 : (Jvm.Cond.methodLink "FavourTown$World" (87 : Nat) ({ cls := "java/util/ArrayList", name := "addAll", desc := "(Ljava/util/Collection;)Z" } : Jvm.MethodName)) ∈ lw_all := lw_g (lw_at lw_m3 171 rfl) rfl
theorem q757 : (Jvm.Cond.instanceMethod ({ cls := "FavourTown$World", name := "alive", desc := "()I" } : Jvm.MethodName)) ∈ lw_all := lw_g (lw_at lw_m3 195 rfl) rfl
theorem q758 : (Jvm.Cond.selects "FavourTown$World" ({ cls := "FavourTown$World", name := "alive", desc := "()I" } : Jvm.MethodName) ({ cls := "FavourTown$World", name := "alive", desc := "()I" } : Jvm.MethodName)) ∈ lw_all := lw_g (lw_at lw_m3 196 rfl) rfl
theorem q759 : (Jvm.Cond.code ({ cls := "FavourTown$World", name := "alive", desc := "()I" } : Jvm.MethodName) prog_20_method_20_code (3 : Nat) (Option.some Jvm.ClassFile.FieldType.int)) ∈ lw_all := lw_g (lw_at lw_m3 197 rfl) rfl
theorem q761 : (Jvm.Cond.instanceMethod ({ cls := "FavourTown$World", name := "pairs", desc := "()I" } : Jvm.MethodName)) ∈ lw_all := lw_g (lw_at lw_m3 199 rfl) rfl
theorem q762 : (Jvm.Cond.selects "FavourTown$World" ({ cls := "FavourTown$World", name := "pairs", desc := "()I" } : Jvm.MethodName) ({ cls := "FavourTown$World", name := "pairs", desc := "()I" } : Jvm.MethodName)) ∈ lw_all := lw_g (lw_at lw_m3 200 rfl) rfl
theorem q763 : (Jvm.Cond.code ({ cls := "FavourTown$World", name := "pairs", desc := "()I" } : Jvm.MethodName) prog_20_method_21_code (6 : Nat) (Option.some Jvm.ClassFile.FieldType.int)) ∈ lw_all := lw_g (lw_at lw_m3 201 rfl) rfl
theorem q764 : (Jvm.Cond.methodLink "FavourTown$World" (215 : Nat) ({ cls := "java/lang/Integer", name := "bitCount", desc := "(I)I" } : Jvm.MethodName)) ∈ lw_all := lw_g (lw_at lw_m3 202 rfl) rfl
theorem q1258 : (Jvm.Cond.instanceMethod ({ cls := "FavourTown$World", name := "gives", desc := "(IIIIZ)I" } : Jvm.MethodName)) ∈ lw_all := lw_g (lw_at lw_m5 216 rfl) rfl
theorem q1259 : (Jvm.Cond.selects "FavourTown$World" ({ cls := "FavourTown$World", name := "gives", desc := "(IIIIZ)I" } : Jvm.MethodName) ({ cls := "FavourTown$World", name := "gives", desc := "(IIIIZ)I" } : Jvm.MethodName)) ∈ lw_all := lw_g (lw_at lw_m5 217 rfl) rfl
theorem q1260 : (Jvm.Cond.code ({ cls := "FavourTown$World", name := "gives", desc := "(IIIIZ)I" } : Jvm.MethodName) prog_20_method_11_code (7 : Nat) (Option.some Jvm.ClassFile.FieldType.int)) ∈ lw_all := lw_g (lw_at lw_m5 218 rfl) rfl
theorem q1261 : (Jvm.Cond.methodLink "FavourTown$World" (169 : Nat) ({ cls := "FavourTown$Favour", name := "<init>", desc := "(IIIZ)V" } : Jvm.MethodName)) ∈ lw_all := lw_g (lw_at lw_m5 219 rfl) rfl
theorem q1262 : (Jvm.Cond.classLink "FavourTown$World" (172 : Nat) "FavourTown$Timed") ∈ lw_all := lw_g (lw_at lw_m5 220 rfl) rfl
theorem q1263 : (Jvm.Cond.methodLink "FavourTown$World" (174 : Nat) ({ cls := "FavourTown$Timed", name := "<init>", desc := "(IIIZI)V" } : Jvm.MethodName)) ∈ lw_all := lw_g (lw_at lw_m5 221 rfl) rfl
theorem q1269 : (Jvm.Cond.instanceMethod ({ cls := "FavourTown$World", name := "passes", desc := "(LFavourTown$Favour;I)I" } : Jvm.MethodName)) ∈ lw_all := lw_g (lw_at lw_m5 227 rfl) rfl
theorem q1270 : (Jvm.Cond.selects "FavourTown$World" ({ cls := "FavourTown$World", name := "passes", desc := "(LFavourTown$Favour;I)I" } : Jvm.MethodName) ({ cls := "FavourTown$World", name := "passes", desc := "(LFavourTown$Favour;I)I" } : Jvm.MethodName)) ∈ lw_all := lw_g (lw_at lw_m5 228 rfl) rfl
theorem q1271 : (Jvm.Cond.code ({ cls := "FavourTown$World", name := "passes", desc := "(LFavourTown$Favour;I)I" } : Jvm.MethodName) prog_20_method_12_code (5 : Nat) (Option.some Jvm.ClassFile.FieldType.int)) ∈ lw_all := lw_g (lw_at lw_m5 229 rfl) rfl
theorem q1272 : (Jvm.Cond.methodLink "FavourTown$World" (181 : Nat) ({ cls := "FavourTown$Favour", name := "goes", desc := "(I)V" } : Jvm.MethodName)) ∈ lw_all := lw_g (lw_at lw_m5 230 rfl) rfl
theorem q1279 : (Jvm.Cond.instanceMethod ({ cls := "FavourTown$World", name := "days", desc := "(I)I" } : Jvm.MethodName)) ∈ lw_all := lw_g (lw_at lw_m5 237 rfl) rfl
theorem q1280 : (Jvm.Cond.selects "FavourTown$World" ({ cls := "FavourTown$World", name := "days", desc := "(I)I" } : Jvm.MethodName) ({ cls := "FavourTown$World", name := "days", desc := "(I)I" } : Jvm.MethodName)) ∈ lw_all := lw_g (lw_at lw_m5 238 rfl) rfl
theorem q1281 : (Jvm.Cond.code ({ cls := "FavourTown$World", name := "days", desc := "(I)I" } : Jvm.MethodName) prog_20_method_13_code (6 : Nat) (Option.some Jvm.ClassFile.FieldType.int)) ∈ lw_all := lw_g (lw_at lw_m5 239 rfl) rfl
theorem q1290 : (Jvm.Cond.fieldLinkNest "FavourTown$World" (202 : Nat) "FavourTown$Need" "who" "I" "FavourTown") ∈ lw_tbl := lw_at lw_m6 8 rfl
theorem q1293 : (Jvm.Cond.fieldLinkNest "FavourTown$World" (205 : Nat) "FavourTown$Need" "of" "I" "FavourTown") ∈ lw_tbl := lw_at lw_m6 11 rfl
theorem q1296 : (Jvm.Cond.fieldLinkNest "FavourTown$World" (208 : Nat) "FavourTown$Need" "n" "I" "FavourTown") ∈ lw_tbl := lw_at lw_m6 14 rfl
theorem q1676 : (Jvm.Cond.instanceMethod ({ cls := "FavourTown$World", name := "owes", desc := "(II)I" } : Jvm.MethodName)) ∈ lw_all := lw_g (lw_at lw_m7 154 rfl) rfl
theorem q1677 : (Jvm.Cond.selects "FavourTown$World" ({ cls := "FavourTown$World", name := "owes", desc := "(II)I" } : Jvm.MethodName) ({ cls := "FavourTown$World", name := "owes", desc := "(II)I" } : Jvm.MethodName)) ∈ lw_all := lw_g (lw_at lw_m7 155 rfl) rfl
theorem q1678 : (Jvm.Cond.code ({ cls := "FavourTown$World", name := "owes", desc := "(II)I" } : Jvm.MethodName) prog_20_method_6_code (6 : Nat) (Option.some Jvm.ClassFile.FieldType.int)) ∈ lw_all := lw_g (lw_at lw_m7 156 rfl) rfl
theorem q1707 : (Jvm.Cond.instanceMethod ({ cls := "FavourTown$World", name := "meets", desc := "(III)I" } : Jvm.MethodName)) ∈ lw_all := lw_g (lw_at lw_m7 185 rfl) rfl
theorem q1708 : (Jvm.Cond.selects "FavourTown$World" ({ cls := "FavourTown$World", name := "meets", desc := "(III)I" } : Jvm.MethodName) ({ cls := "FavourTown$World", name := "meets", desc := "(III)I" } : Jvm.MethodName)) ∈ lw_all := lw_g (lw_at lw_m7 186 rfl) rfl
theorem q1709 : (Jvm.Cond.code ({ cls := "FavourTown$World", name := "meets", desc := "(III)I" } : Jvm.MethodName) prog_20_method_17_code (5 : Nat) (Option.some Jvm.ClassFile.FieldType.int)) ∈ lw_all := lw_g (lw_at lw_m7 187 rfl) rfl
theorem q1710 : (Jvm.Cond.methodLink "FavourTown$World" (192 : Nat) ({ cls := "FavourTown$World", name := "gives", desc := "(IIIIZ)I" } : Jvm.MethodName)) ∈ lw_all := lw_g (lw_at lw_m7 188 rfl) rfl
theorem q1711 : (Jvm.Cond.methodLink "FavourTown$World" (196 : Nat) ({ cls := "FavourTown$World", name := "passes", desc := "(LFavourTown$Favour;I)I" } : Jvm.MethodName)) ∈ lw_all := lw_g (lw_at lw_m7 189 rfl) rfl
theorem q1720 : (Jvm.Cond.instanceMethod ({ cls := "FavourTown$World", name := "port", desc := "(II)I" } : Jvm.MethodName)) ∈ lw_all := lw_g (lw_at lw_m7 198 rfl) rfl
theorem q1721 : (Jvm.Cond.selects "FavourTown$World" ({ cls := "FavourTown$World", name := "port", desc := "(II)I" } : Jvm.MethodName) ({ cls := "FavourTown$World", name := "port", desc := "(II)I" } : Jvm.MethodName)) ∈ lw_all := lw_g (lw_at lw_m7 199 rfl) rfl
theorem q1722 : (Jvm.Cond.code ({ cls := "FavourTown$World", name := "port", desc := "(II)I" } : Jvm.MethodName) prog_20_method_19_code (6 : Nat) (Option.some Jvm.ClassFile.FieldType.int)) ∈ lw_all := lw_g (lw_at lw_m7 200 rfl) rfl
theorem q2342 : (Jvm.Cond.castable "FavourTown$World" "java/lang/Object") ∈ lw_tbl := lw_at lw_m10 100 rfl
theorem in_X2 : ∀ w ∈ wsX20, w ∈ lw_all := lw_in wsX20 [244, 246, 248, 250, 252, 254, 256, 258, 260, 262, 264, 266, 268, 270] (by decide +kernel) (by decide +kernel)
/-! FavourTown$Scene -/
set_option maxRecDepth 100000
def RX3 : String := "FavourTown$Scene"
def TX3 : u_T := fun k => match k with
  | 0 => ("FavourTown$Scene", "worth", "I", false)
  | 1 => ("FavourTown$Scene", "amount", "I", false)
  | 2 => ("FavourTown$Scene", "hands", "I", false)
  | 3 => ("FavourTown$Scene", "left", "I", false)
  | 4 => ("FavourTown$Scene", "owed", "I", false)
  | 5 => ("FavourTown$Scene", "debt", "I", false)
  | 6 => ("FavourTown$Scene", "near", "Z", false)
  | 7 => ("FavourTown$Scene", "timed", "Z", false)
  | _ => ("FavourTown$Scene", "again", "Z", false)
def tyX3 : Nat → FieldType := fun k => match k with
  | 0 => .int
  | 1 => .int
  | 2 => .int
  | 3 => .int
  | 4 => .int
  | 5 => .int
  | 6 => .boolean
  | 7 => .boolean
  | _ => .boolean
abbrev wsX30 : List Cond := u_ws RX3 TX3 9
theorem nmX3 : ∀ a, a < 9 → ∀ b, b < 9 → a ≠ b → (TX3 a).2.1 ≠ (TX3 b).2.1 := by decide +kernel
theorem tyX3_ok : ∀ k, k < 9 → parseFieldDescriptor (TX3 k).2.2.1 = some (tyX3 k) := by decide +kernel
abbrev cX3_init : ByteArray := prog_15_method_1_code
def yX3_init : MethodName := ⟨RX3, "<init>", "()V"⟩
theorem dX3_init_0 : decode cX3_init 0 = .ok (.aload_n 0, 1) := by decide +kernel
theorem dX3_init_1 : decode cX3_init 1 = .ok (.invokespecial 1, 3) := by decide +kernel
theorem dX3_init_4 : decode cX3_init 4 = .ok (.return_, 1) := by decide +kernel
abbrev cX3_is : ByteArray := prog_15_method_3_code
def yX3_is : MethodName := ⟨RX3, "is", "(LFavourTown$Tag;)Z"⟩
def dkwX3_is_1 : List UInt8 := [180, 0, 47, 167, 0, 7, 42, 180, 0, 50, 172]
abbrev dktX3_is_1 : List UInt8 := dkwX3_is_1 ++ []
def dkwX3_is_0 : List UInt8 := [43, 178, 0, 34, 166, 0, 10, 42, 180, 0, 40, 167, 0, 21, 43, 178, 0, 44, 166, 0, 10, 42]
abbrev dktX3_is_0 : List UInt8 := dkwX3_is_0 ++ dktX3_is_1
theorem dksX3_is_0 : cX3_is.data.toList.drop 0 = dktX3_is_0 := by decide +kernel
theorem dksX3_is_1 : cX3_is.data.toList.drop 22 = dktX3_is_1 := dk_seg dksX3_is_0 22 rfl rfl
theorem dX3_is_0 : decode cX3_is 0 = .ok (.aload_n 1, 1) := dk_43 (dk_at dksX3_is_0 0 rfl rfl)
theorem dX3_is_1 : decode cX3_is 1 = .ok (.getstatic 34, 3) := dk_178 0 34 (dk_at dksX3_is_0 1 rfl rfl)
theorem dX3_is_4 : decode cX3_is 4 = .ok (.if_acmp .ne 10, 3) := dk_166 0 10 (dk_at dksX3_is_0 4 rfl rfl)
theorem dX3_is_7 : decode cX3_is 7 = .ok (.aload_n 0, 1) := dk_42 (dk_at dksX3_is_0 7 rfl rfl)
theorem dX3_is_8 : decode cX3_is 8 = .ok (.getfield 40, 3) := dk_180 0 40 (dk_at dksX3_is_0 8 rfl rfl)
theorem dX3_is_11 : decode cX3_is 11 = .ok (.goto 21, 3) := dk_167 0 21 (dk_at dksX3_is_0 11 rfl rfl)
theorem dX3_is_14 : decode cX3_is 14 = .ok (.aload_n 1, 1) := dk_43 (dk_at dksX3_is_0 14 rfl rfl)
theorem dX3_is_15 : decode cX3_is 15 = .ok (.getstatic 44, 3) := dk_178 0 44 (dk_at dksX3_is_0 15 rfl rfl)
theorem dX3_is_18 : decode cX3_is 18 = .ok (.if_acmp .ne 10, 3) := dk_166 0 10 (dk_at dksX3_is_0 18 rfl rfl)
theorem dX3_is_21 : decode cX3_is 21 = .ok (.aload_n 0, 1) := dk_42 (dk_at dksX3_is_0 21 rfl rfl)
theorem dX3_is_22 : decode cX3_is 22 = .ok (.getfield 47, 3) := dk_180 0 47 (dk_at dksX3_is_1 0 rfl rfl)
theorem dX3_is_25 : decode cX3_is 25 = .ok (.goto 7, 3) := dk_167 0 7 (dk_at dksX3_is_1 3 rfl rfl)
theorem dX3_is_28 : decode cX3_is 28 = .ok (.aload_n 0, 1) := dk_42 (dk_at dksX3_is_1 6 rfl rfl)
theorem dX3_is_29 : decode cX3_is 29 = .ok (.getfield 50, 3) := dk_180 0 50 (dk_at dksX3_is_1 7 rfl rfl)
theorem dX3_is_32 : decode cX3_is 32 = .ok (.ireturn, 1) := dk_172 (dk_at dksX3_is_1 10 rfl rfl)
abbrev cX3_of : ByteArray := prog_15_method_2_code
def yX3_of : MethodName := ⟨RX3, "of", "(LFavourTown$Fact;)I"⟩
def dkwX3_of_3 : List UInt8 := [172, 42, 180, 0, 31, 172]
abbrev dktX3_of_3 : List UInt8 := dkwX3_of_3 ++ []
def dkwX3_of_2 : List UInt8 := [42, 180, 0, 13, 172, 42, 180, 0, 19, 172, 42, 180, 0, 22, 172, 42, 180, 0, 25, 172, 42, 180, 0, 28]
abbrev dktX3_of_2 : List UInt8 := dkwX3_of_2 ++ dktX3_of_3
def dkwX3_of_1 : List UInt8 := [170, 0, 0, 0, 0, 0, 0, 61, 0, 0, 0, 0, 0, 0, 0, 4, 0, 0, 0, 36, 0, 0, 0, 41, 0, 0, 0, 46, 0, 0, 0, 51, 0, 0, 0, 56]
abbrev dktX3_of_1 : List UInt8 := dkwX3_of_1 ++ dktX3_of_2
def dkwX3_of_0 : List UInt8 := [43, 182, 0, 7]
abbrev dktX3_of_0 : List UInt8 := dkwX3_of_0 ++ dktX3_of_1
theorem dksX3_of_0 : cX3_of.data.toList.drop 0 = dktX3_of_0 := by decide +kernel
theorem dksX3_of_1 : cX3_of.data.toList.drop 4 = dktX3_of_1 := dk_seg dksX3_of_0 4 rfl rfl
theorem dksX3_of_2 : cX3_of.data.toList.drop 40 = dktX3_of_2 := dk_seg dksX3_of_1 36 rfl rfl
theorem dksX3_of_3 : cX3_of.data.toList.drop 64 = dktX3_of_3 := dk_seg dksX3_of_2 24 rfl rfl
theorem dX3_of_0 : decode cX3_of 0 = .ok (.aload_n 1, 1) := dk_43 (dk_at dksX3_of_0 0 rfl rfl)
theorem dX3_of_1 : decode cX3_of 1 = .ok (.invokevirtual 7, 3) := dk_182 0 7 (dk_at dksX3_of_0 1 rfl rfl)
theorem dX3_of_4 : decode cX3_of 4 = .ok (.tableswitch 61 0 4 #[36, 41, 46, 51, 56], 36) := by decide +kernel
theorem dX3_of_40 : decode cX3_of 40 = .ok (.aload_n 0, 1) := dk_42 (dk_at dksX3_of_2 0 rfl rfl)
theorem dX3_of_41 : decode cX3_of 41 = .ok (.getfield 13, 3) := dk_180 0 13 (dk_at dksX3_of_2 1 rfl rfl)
theorem dX3_of_44 : decode cX3_of 44 = .ok (.ireturn, 1) := dk_172 (dk_at dksX3_of_2 4 rfl rfl)
theorem dX3_of_45 : decode cX3_of 45 = .ok (.aload_n 0, 1) := dk_42 (dk_at dksX3_of_2 5 rfl rfl)
theorem dX3_of_46 : decode cX3_of 46 = .ok (.getfield 19, 3) := dk_180 0 19 (dk_at dksX3_of_2 6 rfl rfl)
theorem dX3_of_49 : decode cX3_of 49 = .ok (.ireturn, 1) := dk_172 (dk_at dksX3_of_2 9 rfl rfl)
theorem dX3_of_50 : decode cX3_of 50 = .ok (.aload_n 0, 1) := dk_42 (dk_at dksX3_of_2 10 rfl rfl)
theorem dX3_of_51 : decode cX3_of 51 = .ok (.getfield 22, 3) := dk_180 0 22 (dk_at dksX3_of_2 11 rfl rfl)
theorem dX3_of_54 : decode cX3_of 54 = .ok (.ireturn, 1) := dk_172 (dk_at dksX3_of_2 14 rfl rfl)
theorem dX3_of_55 : decode cX3_of 55 = .ok (.aload_n 0, 1) := dk_42 (dk_at dksX3_of_2 15 rfl rfl)
theorem dX3_of_56 : decode cX3_of 56 = .ok (.getfield 25, 3) := dk_180 0 25 (dk_at dksX3_of_2 16 rfl rfl)
theorem dX3_of_59 : decode cX3_of 59 = .ok (.ireturn, 1) := dk_172 (dk_at dksX3_of_2 19 rfl rfl)
theorem dX3_of_60 : decode cX3_of 60 = .ok (.aload_n 0, 1) := dk_42 (dk_at dksX3_of_2 20 rfl rfl)
theorem dX3_of_61 : decode cX3_of 61 = .ok (.getfield 28, 3) := dk_180 0 28 (dk_at dksX3_of_2 21 rfl rfl)
theorem dX3_of_64 : decode cX3_of 64 = .ok (.ireturn, 1) := dk_172 (dk_at dksX3_of_3 0 rfl rfl)
theorem dX3_of_65 : decode cX3_of 65 = .ok (.aload_n 0, 1) := dk_42 (dk_at dksX3_of_3 1 rfl rfl)
theorem dX3_of_66 : decode cX3_of 66 = .ok (.getfield 31, 3) := dk_180 0 31 (dk_at dksX3_of_3 2 rfl rfl)
theorem dX3_of_69 : decode cX3_of 69 = .ok (.ireturn, 1) := dk_172 (dk_at dksX3_of_3 5 rfl rfl)
theorem q88 : (Jvm.Cond.initialized "FavourTown$Scene") ∈ lw_all := lw_g (lw_at lw_m1 6 rfl) rfl
theorem q173 : (Jvm.Cond.instantiable "FavourTown$Scene" (9 : Nat)) ∈ lw_all := lw_g (lw_at lw_m1 91 rfl) rfl
theorem q175 : (Jvm.Cond.instanceMethod ({ cls := "FavourTown$Scene", name := "<init>", desc := "()V" } : Jvm.MethodName)) ∈ lw_all := lw_g (lw_at lw_m1 93 rfl) rfl
theorem q176 : (Jvm.Cond.code ({ cls := "FavourTown$Scene", name := "<init>", desc := "()V" } : Jvm.MethodName) prog_15_method_1_code (1 : Nat) (Option.none : Option Jvm.ClassFile.FieldType)) ∈ lw_all := lw_g (lw_at lw_m1 94 rfl) rfl
theorem q177 : (Jvm.Cond.methodLink "FavourTown$Scene" (1 : Nat) ({ cls := "java/lang/Object", name := "<init>", desc := "()V" } : Jvm.MethodName)) ∈ lw_all := lw_g (lw_at lw_m1 95 rfl) rfl
theorem q178 : (Jvm.Cond.fieldLink "FavourTown$Scene" (13 : Nat) "FavourTown$Scene" "worth" "I") ∈ lw_all := lw_g (lw_at lw_m1 96 rfl) rfl
theorem q180 : (Jvm.Cond.fieldLink "FavourTown$Scene" (19 : Nat) "FavourTown$Scene" "amount" "I") ∈ lw_all := lw_g (lw_at lw_m1 98 rfl) rfl
theorem q182 : (Jvm.Cond.fieldLink "FavourTown$Scene" (22 : Nat) "FavourTown$Scene" "hands" "I") ∈ lw_all := lw_g (lw_at lw_m1 100 rfl) rfl
theorem q184 : (Jvm.Cond.fieldLink "FavourTown$Scene" (25 : Nat) "FavourTown$Scene" "left" "I") ∈ lw_all := lw_g (lw_at lw_m1 102 rfl) rfl
theorem q186 : (Jvm.Cond.fieldLink "FavourTown$Scene" (28 : Nat) "FavourTown$Scene" "owed" "I") ∈ lw_all := lw_g (lw_at lw_m1 104 rfl) rfl
theorem q188 : (Jvm.Cond.fieldLink "FavourTown$Scene" (31 : Nat) "FavourTown$Scene" "debt" "I") ∈ lw_all := lw_g (lw_at lw_m1 106 rfl) rfl
theorem q190 : (Jvm.Cond.fieldLink "FavourTown$Scene" (40 : Nat) "FavourTown$Scene" "near" "Z") ∈ lw_all := lw_g (lw_at lw_m1 108 rfl) rfl
theorem q192 : (Jvm.Cond.fieldLink "FavourTown$Scene" (47 : Nat) "FavourTown$Scene" "timed" "Z") ∈ lw_all := lw_g (lw_at lw_m1 110 rfl) rfl
theorem q194 : (Jvm.Cond.fieldLink "FavourTown$Scene" (50 : Nat) "FavourTown$Scene" "again" "Z") ∈ lw_all := lw_g (lw_at lw_m1 112 rfl) rfl
theorem q196 : (Jvm.Cond.lays "FavourTown$Scene" "FavourTown$Scene" "worth" "I") ∈ lw_all := lw_g (lw_at lw_m1 114 rfl) rfl
theorem q197 : (Jvm.Cond.soleField "FavourTown$Scene" "worth") ∈ lw_all := lw_g (lw_at lw_m1 115 rfl) rfl
theorem q198 : (Jvm.Cond.lays "FavourTown$Scene" "FavourTown$Scene" "amount" "I") ∈ lw_all := lw_g (lw_at lw_m1 116 rfl) rfl
theorem q199 : (Jvm.Cond.soleField "FavourTown$Scene" "amount") ∈ lw_all := lw_g (lw_at lw_m1 117 rfl) rfl
theorem q200 : (Jvm.Cond.lays "FavourTown$Scene" "FavourTown$Scene" "hands" "I") ∈ lw_all := lw_g (lw_at lw_m1 118 rfl) rfl
theorem q201 : (Jvm.Cond.soleField "FavourTown$Scene" "hands") ∈ lw_all := lw_g (lw_at lw_m1 119 rfl) rfl
theorem q202 : (Jvm.Cond.lays "FavourTown$Scene" "FavourTown$Scene" "left" "I") ∈ lw_all := lw_g (lw_at lw_m1 120 rfl) rfl
theorem q203 : (Jvm.Cond.soleField "FavourTown$Scene" "left") ∈ lw_all := lw_g (lw_at lw_m1 121 rfl) rfl
theorem q204 : (Jvm.Cond.lays "FavourTown$Scene" "FavourTown$Scene" "owed" "I") ∈ lw_all := lw_g (lw_at lw_m1 122 rfl) rfl
theorem q205 : (Jvm.Cond.soleField "FavourTown$Scene" "owed") ∈ lw_all := lw_g (lw_at lw_m1 123 rfl) rfl
theorem q206 : (Jvm.Cond.lays "FavourTown$Scene" "FavourTown$Scene" "debt" "I") ∈ lw_all := lw_g (lw_at lw_m1 124 rfl) rfl
theorem q207 : (Jvm.Cond.soleField "FavourTown$Scene" "debt") ∈ lw_all := lw_g (lw_at lw_m1 125 rfl) rfl
theorem q208 : (Jvm.Cond.lays "FavourTown$Scene" "FavourTown$Scene" "near" "Z") ∈ lw_all := lw_g (lw_at lw_m1 126 rfl) rfl
theorem q209 : (Jvm.Cond.soleField "FavourTown$Scene" "near") ∈ lw_all := lw_g (lw_at lw_m1 127 rfl) rfl
theorem q210 : (Jvm.Cond.lays "FavourTown$Scene" "FavourTown$Scene" "timed" "Z") ∈ lw_all := lw_g (lw_at lw_m1 128 rfl) rfl
theorem q211 : (Jvm.Cond.soleField "FavourTown$Scene" "timed") ∈ lw_all := lw_g (lw_at lw_m1 129 rfl) rfl
theorem q212 : (Jvm.Cond.lays "FavourTown$Scene" "FavourTown$Scene" "again" "Z") ∈ lw_all := lw_g (lw_at lw_m1 130 rfl) rfl
theorem q213 : (Jvm.Cond.soleField "FavourTown$Scene" "again") ∈ lw_all := lw_g (lw_at lw_m1 131 rfl) rfl
theorem q214 : (Jvm.Cond.superclass "FavourTown$Scene" "java/lang/Object") ∈ lw_all := lw_g (lw_at lw_m1 132 rfl) rfl
theorem q491 : (Jvm.Cond.instanceMethod ({ cls := "FavourTown$Scene", name := "is", desc := "(LFavourTown$Tag;)Z" } : Jvm.MethodName)) ∈ lw_all := lw_g (lw_at lw_m2 169 rfl) rfl
theorem q492 : (Jvm.Cond.selects "FavourTown$Scene" ({ cls := "FavourTown$Scene", name := "is", desc := "(LFavourTown$Tag;)Z" } : Jvm.MethodName) ({ cls := "FavourTown$Scene", name := "is", desc := "(LFavourTown$Tag;)Z" } : Jvm.MethodName)) ∈ lw_all := lw_g (lw_at lw_m2 170 rfl) rfl
theorem q493 : (Jvm.Cond.code ({ cls := "FavourTown$Scene", name := "is", desc := "(LFavourTown$Tag;)Z" } : Jvm.MethodName) prog_15_method_3_code (2 : Nat) (Option.some Jvm.ClassFile.FieldType.boolean)) ∈ lw_all := lw_g (lw_at lw_m2 171 rfl) rfl
theorem q494 : (Jvm.Cond.fieldLink "FavourTown$Scene" (34 : Nat) "FavourTown$Tag" "NEAR" "LFavourTown$Tag;") ∈ lw_all := lw_g (lw_at lw_m2 172 rfl) rfl
theorem q496 : (Jvm.Cond.fieldLink "FavourTown$Scene" (44 : Nat) "FavourTown$Tag" "TIMED" "LFavourTown$Tag;") ∈ lw_all := lw_g (lw_at lw_m2 174 rfl) rfl
theorem q516 : (Jvm.Cond.instanceMethod ({ cls := "FavourTown$Scene", name := "of", desc := "(LFavourTown$Fact;)I" } : Jvm.MethodName)) ∈ lw_all := lw_g (lw_at lw_m2 194 rfl) rfl
theorem q517 : (Jvm.Cond.selects "FavourTown$Scene" ({ cls := "FavourTown$Scene", name := "of", desc := "(LFavourTown$Fact;)I" } : Jvm.MethodName) ({ cls := "FavourTown$Scene", name := "of", desc := "(LFavourTown$Fact;)I" } : Jvm.MethodName)) ∈ lw_all := lw_g (lw_at lw_m2 195 rfl) rfl
theorem q518 : (Jvm.Cond.code ({ cls := "FavourTown$Scene", name := "of", desc := "(LFavourTown$Fact;)I" } : Jvm.MethodName) prog_15_method_2_code (2 : Nat) (Option.some Jvm.ClassFile.FieldType.int)) ∈ lw_all := lw_g (lw_at lw_m2 196 rfl) rfl
theorem q519 : (Jvm.Cond.methodLink "FavourTown$Scene" (7 : Nat) ({ cls := "FavourTown$Fact", name := "ordinal", desc := "()I" } : Jvm.MethodName)) ∈ lw_all := lw_g (lw_at lw_m2 197 rfl) rfl
theorem q703 : (Jvm.Cond.selects "FavourTown$Scene" ({ cls := "java/lang/Object", name := "getClass", desc := "()Ljava/lang/Class;" } : Jvm.MethodName) ({ cls := "java/lang/Object", name := "getClass", desc := "()Ljava/lang/Class;" } : Jvm.MethodName)) ∈ lw_all := lw_g (lw_at lw_m3 141 rfl) rfl
theorem q2344 : (Jvm.Cond.castable "FavourTown$Scene" "java/lang/Object") ∈ lw_tbl := lw_at lw_m10 102 rfl
theorem in_X3 : ∀ w ∈ wsX30, w ∈ lw_all := lw_in wsX30 [196, 198, 200, 202, 204, 206, 208, 210, 212] (by decide +kernel) (by decide +kernel)
/-! FavourTown$Reader -/
set_option maxRecDepth 100000
def RX4 : String := "FavourTown$Reader"
def TX4 : u_T := fun k => match k with
  | 0 => ("FavourTown$Reader", "tape", "[B", true)
  | 1 => ("FavourTown$Reader", "length", "I", false)
  | 2 => ("FavourTown$Reader", "end", "I", false)
  | 3 => ("FavourTown$Reader", "at", "I", false)
  | 4 => ("FavourTown$Reader", "begin", "I", false)
  | 5 => ("FavourTown$Reader", "fault", "I", false)
  | _ => ("FavourTown$Reader", "deep", "I", false)
def tyX4 : Nat → FieldType := fun k => match k with
  | 0 => .array .byte
  | 1 => .int
  | 2 => .int
  | 3 => .int
  | 4 => .int
  | 5 => .int
  | _ => .int
abbrev wsX40 : List Cond := u_ws RX4 TX4 7
theorem nmX4 : ∀ a, a < 7 → ∀ b, b < 7 → a ≠ b → (TX4 a).2.1 ≠ (TX4 b).2.1 := by decide +kernel
theorem tyX4_ok : ∀ k, k < 7 → parseFieldDescriptor (TX4 k).2.2.1 = some (tyX4 k) := by decide +kernel
abbrev cX4_init : ByteArray := prog_13_method_1_code
def yX4_init : MethodName := ⟨RX4, "<init>", "()V"⟩
def dkwX4_init_0 : List UInt8 := [42, 183, 0, 3, 42, 17, 1, 144, 188, 8, 181, 0, 9, 42, 2, 181, 0, 15, 177]
abbrev dktX4_init_0 : List UInt8 := dkwX4_init_0 ++ []
theorem dksX4_init_0 : cX4_init.data.toList.drop 0 = dktX4_init_0 := by decide +kernel
theorem dX4_init_0 : decode cX4_init 0 = .ok (.aload_n 0, 1) := dk_42 (dk_at dksX4_init_0 0 rfl rfl)
theorem dX4_init_1 : decode cX4_init 1 = .ok (.invokespecial 3, 3) := dk_183 0 3 (dk_at dksX4_init_0 1 rfl rfl)
theorem dX4_init_4 : decode cX4_init 4 = .ok (.aload_n 0, 1) := dk_42 (dk_at dksX4_init_0 4 rfl rfl)
theorem dX4_init_5 : decode cX4_init 5 = .ok (.sipush 400, 3) := dk_17 1 144 (dk_at dksX4_init_0 5 rfl rfl)
theorem dX4_init_8 : decode cX4_init 8 = .ok (.newarray .byte, 2) := dk_188_8 (dk_at dksX4_init_0 8 rfl rfl)
theorem dX4_init_10 : decode cX4_init 10 = .ok (.putfield 9, 3) := dk_181 0 9 (dk_at dksX4_init_0 10 rfl rfl)
theorem dX4_init_13 : decode cX4_init 13 = .ok (.aload_n 0, 1) := dk_42 (dk_at dksX4_init_0 13 rfl rfl)
theorem dX4_init_14 : decode cX4_init 14 = .ok (.iconst (-1), 1) := dk_2 (dk_at dksX4_init_0 14 rfl rfl)
theorem dX4_init_15 : decode cX4_init 15 = .ok (.putfield 15, 3) := dk_181 0 15 (dk_at dksX4_init_0 15 rfl rfl)
theorem dX4_init_18 : decode cX4_init 18 = .ok (.return_, 1) := dk_177 (dk_at dksX4_init_0 18 rfl rfl)
abbrev cX4_add : ByteArray := prog_13_method_2_code
def yX4_add : MethodName := ⟨RX4, "add", "([I)I"⟩
def dkwX4_add_3 : List UInt8 := [132, 6, 248, 167, 255, 223, 132, 4, 1, 167, 255, 201, 42, 180, 0, 19, 172]
abbrev dktX4_add_3 : List UInt8 := dkwX4_add_3 ++ []
def dkwX4_add_2 : List UInt8 := [180, 0, 9, 42, 180, 0, 19, 21, 5, 21, 6, 122, 145, 84, 42, 89, 180, 0, 19, 4, 96, 181, 0, 19]
abbrev dktX4_add_2 : List UInt8 := dkwX4_add_2 ++ dktX4_add_3
def dkwX4_add_1 : List UInt8 := [21, 4, 29, 162, 0, 55, 44, 21, 4, 46, 54, 5, 16, 24, 54, 6, 21, 6, 155, 0, 34, 42]
abbrev dktX4_add_1 : List UInt8 := dkwX4_add_1 ++ dktX4_add_2
def dkwX4_add_0 : List UInt8 := [42, 180, 0, 19, 16, 20, 96, 17, 1, 144, 164, 0, 5, 2, 172, 43, 77, 44, 190, 62, 3, 54, 4]
abbrev dktX4_add_0 : List UInt8 := dkwX4_add_0 ++ dktX4_add_1
theorem dksX4_add_0 : cX4_add.data.toList.drop 0 = dktX4_add_0 := by decide +kernel
theorem dksX4_add_1 : cX4_add.data.toList.drop 23 = dktX4_add_1 := dk_seg dksX4_add_0 23 rfl rfl
theorem dksX4_add_2 : cX4_add.data.toList.drop 45 = dktX4_add_2 := dk_seg dksX4_add_1 22 rfl rfl
theorem dksX4_add_3 : cX4_add.data.toList.drop 69 = dktX4_add_3 := dk_seg dksX4_add_2 24 rfl rfl
theorem dX4_add_0 : decode cX4_add 0 = .ok (.aload_n 0, 1) := dk_42 (dk_at dksX4_add_0 0 rfl rfl)
theorem dX4_add_1 : decode cX4_add 1 = .ok (.getfield 19, 3) := dk_180 0 19 (dk_at dksX4_add_0 1 rfl rfl)
theorem dX4_add_4 : decode cX4_add 4 = .ok (.bipush 20, 2) := dk_16 20 (dk_at dksX4_add_0 4 rfl rfl)
theorem dX4_add_6 : decode cX4_add 6 = .ok (.iadd, 1) := dk_96 (dk_at dksX4_add_0 6 rfl rfl)
theorem dX4_add_7 : decode cX4_add 7 = .ok (.sipush 400, 3) := dk_17 1 144 (dk_at dksX4_add_0 7 rfl rfl)
theorem dX4_add_10 : decode cX4_add 10 = .ok (.if_icmp .le 5, 3) := dk_164 0 5 (dk_at dksX4_add_0 10 rfl rfl)
theorem dX4_add_13 : decode cX4_add 13 = .ok (.iconst (-1), 1) := dk_2 (dk_at dksX4_add_0 13 rfl rfl)
theorem dX4_add_14 : decode cX4_add 14 = .ok (.ireturn, 1) := dk_172 (dk_at dksX4_add_0 14 rfl rfl)
theorem dX4_add_15 : decode cX4_add 15 = .ok (.aload_n 1, 1) := dk_43 (dk_at dksX4_add_0 15 rfl rfl)
theorem dX4_add_16 : decode cX4_add 16 = .ok (.astore_n 2, 1) := dk_77 (dk_at dksX4_add_0 16 rfl rfl)
theorem dX4_add_17 : decode cX4_add 17 = .ok (.aload_n 2, 1) := dk_44 (dk_at dksX4_add_0 17 rfl rfl)
theorem dX4_add_18 : decode cX4_add 18 = .ok (.arraylength, 1) := dk_190 (dk_at dksX4_add_0 18 rfl rfl)
theorem dX4_add_19 : decode cX4_add 19 = .ok (.istore_n 3, 1) := dk_62 (dk_at dksX4_add_0 19 rfl rfl)
theorem dX4_add_20 : decode cX4_add 20 = .ok (.iconst 0, 1) := dk_3 (dk_at dksX4_add_0 20 rfl rfl)
theorem dX4_add_21 : decode cX4_add 21 = .ok (.istore 4, 2) := dk_54 4 (dk_at dksX4_add_0 21 rfl rfl)
theorem dX4_add_23 : decode cX4_add 23 = .ok (.iload 4, 2) := dk_21 4 (dk_at dksX4_add_1 0 rfl rfl)
theorem dX4_add_25 : decode cX4_add 25 = .ok (.iload_n 3, 1) := dk_29 (dk_at dksX4_add_1 2 rfl rfl)
theorem dX4_add_26 : decode cX4_add 26 = .ok (.if_icmp .ge 55, 3) := dk_162 0 55 (dk_at dksX4_add_1 3 rfl rfl)
theorem dX4_add_29 : decode cX4_add 29 = .ok (.aload_n 2, 1) := dk_44 (dk_at dksX4_add_1 6 rfl rfl)
theorem dX4_add_30 : decode cX4_add 30 = .ok (.iload 4, 2) := dk_21 4 (dk_at dksX4_add_1 7 rfl rfl)
theorem dX4_add_32 : decode cX4_add 32 = .ok (.iaload, 1) := dk_46 (dk_at dksX4_add_1 9 rfl rfl)
theorem dX4_add_33 : decode cX4_add 33 = .ok (.istore 5, 2) := dk_54 5 (dk_at dksX4_add_1 10 rfl rfl)
theorem dX4_add_35 : decode cX4_add 35 = .ok (.bipush 24, 2) := dk_16 24 (dk_at dksX4_add_1 12 rfl rfl)
theorem dX4_add_37 : decode cX4_add 37 = .ok (.istore 6, 2) := dk_54 6 (dk_at dksX4_add_1 14 rfl rfl)
theorem dX4_add_39 : decode cX4_add 39 = .ok (.iload 6, 2) := dk_21 6 (dk_at dksX4_add_1 16 rfl rfl)
theorem dX4_add_41 : decode cX4_add 41 = .ok (.ifCond .lt 34, 3) := dk_155 0 34 (dk_at dksX4_add_1 18 rfl rfl)
theorem dX4_add_44 : decode cX4_add 44 = .ok (.aload_n 0, 1) := dk_42 (dk_at dksX4_add_1 21 rfl rfl)
theorem dX4_add_45 : decode cX4_add 45 = .ok (.getfield 9, 3) := dk_180 0 9 (dk_at dksX4_add_2 0 rfl rfl)
theorem dX4_add_48 : decode cX4_add 48 = .ok (.aload_n 0, 1) := dk_42 (dk_at dksX4_add_2 3 rfl rfl)
theorem dX4_add_49 : decode cX4_add 49 = .ok (.getfield 19, 3) := dk_180 0 19 (dk_at dksX4_add_2 4 rfl rfl)
theorem dX4_add_52 : decode cX4_add 52 = .ok (.iload 5, 2) := dk_21 5 (dk_at dksX4_add_2 7 rfl rfl)
theorem dX4_add_54 : decode cX4_add 54 = .ok (.iload 6, 2) := dk_21 6 (dk_at dksX4_add_2 9 rfl rfl)
theorem dX4_add_56 : decode cX4_add 56 = .ok (.ishr, 1) := dk_122 (dk_at dksX4_add_2 11 rfl rfl)
theorem dX4_add_57 : decode cX4_add 57 = .ok (.i2b, 1) := dk_145 (dk_at dksX4_add_2 12 rfl rfl)
theorem dX4_add_58 : decode cX4_add 58 = .ok (.bastore, 1) := dk_84 (dk_at dksX4_add_2 13 rfl rfl)
theorem dX4_add_59 : decode cX4_add 59 = .ok (.aload_n 0, 1) := dk_42 (dk_at dksX4_add_2 14 rfl rfl)
theorem dX4_add_60 : decode cX4_add 60 = .ok (.dup, 1) := dk_89 (dk_at dksX4_add_2 15 rfl rfl)
theorem dX4_add_61 : decode cX4_add 61 = .ok (.getfield 19, 3) := dk_180 0 19 (dk_at dksX4_add_2 16 rfl rfl)
theorem dX4_add_64 : decode cX4_add 64 = .ok (.iconst 1, 1) := dk_4 (dk_at dksX4_add_2 19 rfl rfl)
theorem dX4_add_65 : decode cX4_add 65 = .ok (.iadd, 1) := dk_96 (dk_at dksX4_add_2 20 rfl rfl)
theorem dX4_add_66 : decode cX4_add 66 = .ok (.putfield 19, 3) := dk_181 0 19 (dk_at dksX4_add_2 21 rfl rfl)
theorem dX4_add_69 : decode cX4_add 69 = .ok (.iinc 6 (-8), 3) := dk_132 6 248 (dk_at dksX4_add_3 0 rfl rfl)
theorem dX4_add_72 : decode cX4_add 72 = .ok (.goto (-33), 3) := dk_167 255 223 (dk_at dksX4_add_3 3 rfl rfl)
theorem dX4_add_75 : decode cX4_add 75 = .ok (.iinc 4 1, 3) := dk_132 4 1 (dk_at dksX4_add_3 6 rfl rfl)
theorem dX4_add_78 : decode cX4_add 78 = .ok (.goto (-55), 3) := dk_167 255 201 (dk_at dksX4_add_3 9 rfl rfl)
theorem dX4_add_81 : decode cX4_add 81 = .ok (.aload_n 0, 1) := dk_42 (dk_at dksX4_add_3 12 rfl rfl)
theorem dX4_add_82 : decode cX4_add 82 = .ok (.getfield 19, 3) := dk_180 0 19 (dk_at dksX4_add_3 13 rfl rfl)
theorem dX4_add_85 : decode cX4_add 85 = .ok (.ireturn, 1) := dk_172 (dk_at dksX4_add_3 16 rfl rfl)
abbrev cX4_cut : ByteArray := prog_13_method_3_code
def yX4_cut : MethodName := ⟨RX4, "cut", "(I)Z"⟩
def dkwX4_cut_0 : List UInt8 := [27, 155, 0, 11, 27, 42, 180, 0, 19, 164, 0, 5, 3, 172, 42, 27, 181, 0, 19, 4, 172]
abbrev dktX4_cut_0 : List UInt8 := dkwX4_cut_0 ++ []
theorem dksX4_cut_0 : cX4_cut.data.toList.drop 0 = dktX4_cut_0 := by decide +kernel
theorem dX4_cut_0 : decode cX4_cut 0 = .ok (.iload_n 1, 1) := dk_27 (dk_at dksX4_cut_0 0 rfl rfl)
theorem dX4_cut_1 : decode cX4_cut 1 = .ok (.ifCond .lt 11, 3) := dk_155 0 11 (dk_at dksX4_cut_0 1 rfl rfl)
theorem dX4_cut_4 : decode cX4_cut 4 = .ok (.iload_n 1, 1) := dk_27 (dk_at dksX4_cut_0 4 rfl rfl)
theorem dX4_cut_5 : decode cX4_cut 5 = .ok (.aload_n 0, 1) := dk_42 (dk_at dksX4_cut_0 5 rfl rfl)
theorem dX4_cut_6 : decode cX4_cut 6 = .ok (.getfield 19, 3) := dk_180 0 19 (dk_at dksX4_cut_0 6 rfl rfl)
theorem dX4_cut_9 : decode cX4_cut 9 = .ok (.if_icmp .le 5, 3) := dk_164 0 5 (dk_at dksX4_cut_0 9 rfl rfl)
theorem dX4_cut_12 : decode cX4_cut 12 = .ok (.iconst 0, 1) := dk_3 (dk_at dksX4_cut_0 12 rfl rfl)
theorem dX4_cut_13 : decode cX4_cut 13 = .ok (.ireturn, 1) := dk_172 (dk_at dksX4_cut_0 13 rfl rfl)
theorem dX4_cut_14 : decode cX4_cut 14 = .ok (.aload_n 0, 1) := dk_42 (dk_at dksX4_cut_0 14 rfl rfl)
theorem dX4_cut_15 : decode cX4_cut 15 = .ok (.iload_n 1, 1) := dk_27 (dk_at dksX4_cut_0 15 rfl rfl)
theorem dX4_cut_16 : decode cX4_cut 16 = .ok (.putfield 19, 3) := dk_181 0 19 (dk_at dksX4_cut_0 16 rfl rfl)
theorem dX4_cut_19 : decode cX4_cut 19 = .ok (.iconst 1, 1) := dk_4 (dk_at dksX4_cut_0 19 rfl rfl)
theorem dX4_cut_20 : decode cX4_cut 20 = .ok (.ireturn, 1) := dk_172 (dk_at dksX4_cut_0 20 rfl rfl)
abbrev cX4_begins : ByteArray := prog_13_method_4_code
def yX4_begins : MethodName := ⟨RX4, "begins", "()V"⟩
def dkwX4_begins_0 : List UInt8 := [42, 42, 180, 0, 19, 181, 0, 22, 42, 3, 181, 0, 19, 42, 3, 181, 0, 25, 42, 3, 181, 0, 28, 177]
abbrev dktX4_begins_0 : List UInt8 := dkwX4_begins_0 ++ []
theorem dksX4_begins_0 : cX4_begins.data.toList.drop 0 = dktX4_begins_0 := by decide +kernel
theorem dX4_begins_0 : decode cX4_begins 0 = .ok (.aload_n 0, 1) := dk_42 (dk_at dksX4_begins_0 0 rfl rfl)
theorem dX4_begins_1 : decode cX4_begins 1 = .ok (.aload_n 0, 1) := dk_42 (dk_at dksX4_begins_0 1 rfl rfl)
theorem dX4_begins_2 : decode cX4_begins 2 = .ok (.getfield 19, 3) := dk_180 0 19 (dk_at dksX4_begins_0 2 rfl rfl)
theorem dX4_begins_5 : decode cX4_begins 5 = .ok (.putfield 22, 3) := dk_181 0 22 (dk_at dksX4_begins_0 5 rfl rfl)
theorem dX4_begins_8 : decode cX4_begins 8 = .ok (.aload_n 0, 1) := dk_42 (dk_at dksX4_begins_0 8 rfl rfl)
theorem dX4_begins_9 : decode cX4_begins 9 = .ok (.iconst 0, 1) := dk_3 (dk_at dksX4_begins_0 9 rfl rfl)
theorem dX4_begins_10 : decode cX4_begins 10 = .ok (.putfield 19, 3) := dk_181 0 19 (dk_at dksX4_begins_0 10 rfl rfl)
theorem dX4_begins_13 : decode cX4_begins 13 = .ok (.aload_n 0, 1) := dk_42 (dk_at dksX4_begins_0 13 rfl rfl)
theorem dX4_begins_14 : decode cX4_begins 14 = .ok (.iconst 0, 1) := dk_3 (dk_at dksX4_begins_0 14 rfl rfl)
theorem dX4_begins_15 : decode cX4_begins 15 = .ok (.putfield 25, 3) := dk_181 0 25 (dk_at dksX4_begins_0 15 rfl rfl)
theorem dX4_begins_18 : decode cX4_begins 18 = .ok (.aload_n 0, 1) := dk_42 (dk_at dksX4_begins_0 18 rfl rfl)
theorem dX4_begins_19 : decode cX4_begins 19 = .ok (.iconst 0, 1) := dk_3 (dk_at dksX4_begins_0 19 rfl rfl)
theorem dX4_begins_20 : decode cX4_begins 20 = .ok (.putfield 28, 3) := dk_181 0 28 (dk_at dksX4_begins_0 20 rfl rfl)
theorem dX4_begins_23 : decode cX4_begins 23 = .ok (.return_, 1) := dk_177 (dk_at dksX4_begins_0 23 rfl rfl)
abbrev cX4_isOver : ByteArray := prog_13_method_7_code
def yX4_isOver : MethodName := ⟨RX4, "isOver", "()Z"⟩
def dkwX4_isOver_0 : List UInt8 := [42, 182, 0, 38, 42, 180, 0, 25, 42, 180, 0, 22, 160, 0, 7, 4, 167, 0, 4, 3, 172]
abbrev dktX4_isOver_0 : List UInt8 := dkwX4_isOver_0 ++ []
theorem dksX4_isOver_0 : cX4_isOver.data.toList.drop 0 = dktX4_isOver_0 := by decide +kernel
theorem dX4_isOver_0 : decode cX4_isOver 0 = .ok (.aload_n 0, 1) := dk_42 (dk_at dksX4_isOver_0 0 rfl rfl)
theorem dX4_isOver_1 : decode cX4_isOver 1 = .ok (.invokevirtual 38, 3) := dk_182 0 38 (dk_at dksX4_isOver_0 1 rfl rfl)
theorem dX4_isOver_4 : decode cX4_isOver 4 = .ok (.aload_n 0, 1) := dk_42 (dk_at dksX4_isOver_0 4 rfl rfl)
theorem dX4_isOver_5 : decode cX4_isOver 5 = .ok (.getfield 25, 3) := dk_180 0 25 (dk_at dksX4_isOver_0 5 rfl rfl)
theorem dX4_isOver_8 : decode cX4_isOver 8 = .ok (.aload_n 0, 1) := dk_42 (dk_at dksX4_isOver_0 8 rfl rfl)
theorem dX4_isOver_9 : decode cX4_isOver 9 = .ok (.getfield 22, 3) := dk_180 0 22 (dk_at dksX4_isOver_0 9 rfl rfl)
theorem dX4_isOver_12 : decode cX4_isOver 12 = .ok (.if_icmp .ne 7, 3) := dk_160 0 7 (dk_at dksX4_isOver_0 12 rfl rfl)
theorem dX4_isOver_15 : decode cX4_isOver 15 = .ok (.iconst 1, 1) := dk_4 (dk_at dksX4_isOver_0 15 rfl rfl)
theorem dX4_isOver_16 : decode cX4_isOver 16 = .ok (.goto 4, 3) := dk_167 0 4 (dk_at dksX4_isOver_0 16 rfl rfl)
theorem dX4_isOver_19 : decode cX4_isOver 19 = .ok (.iconst 0, 1) := dk_3 (dk_at dksX4_isOver_0 19 rfl rfl)
theorem dX4_isOver_20 : decode cX4_isOver 20 = .ok (.ireturn, 1) := dk_172 (dk_at dksX4_isOver_0 20 rfl rfl)
abbrev cX4_blanks : ByteArray := prog_13_method_6_code
def yX4_blanks : MethodName := ⟨RX4, "blanks", "()V"⟩
def dkwX4_blanks_1 : List UInt8 := [167, 255, 233, 42, 42, 180, 0, 25, 181, 0, 35, 177]
abbrev dktX4_blanks_1 : List UInt8 := dkwX4_blanks_1 ++ []
def dkwX4_blanks_0 : List UInt8 := [42, 42, 180, 0, 25, 182, 0, 31, 16, 32, 160, 0, 16, 42, 89, 180, 0, 25, 4, 96, 181, 0, 25]
abbrev dktX4_blanks_0 : List UInt8 := dkwX4_blanks_0 ++ dktX4_blanks_1
theorem dksX4_blanks_0 : cX4_blanks.data.toList.drop 0 = dktX4_blanks_0 := by decide +kernel
theorem dksX4_blanks_1 : cX4_blanks.data.toList.drop 23 = dktX4_blanks_1 := dk_seg dksX4_blanks_0 23 rfl rfl
theorem dX4_blanks_0 : decode cX4_blanks 0 = .ok (.aload_n 0, 1) := dk_42 (dk_at dksX4_blanks_0 0 rfl rfl)
theorem dX4_blanks_1 : decode cX4_blanks 1 = .ok (.aload_n 0, 1) := dk_42 (dk_at dksX4_blanks_0 1 rfl rfl)
theorem dX4_blanks_2 : decode cX4_blanks 2 = .ok (.getfield 25, 3) := dk_180 0 25 (dk_at dksX4_blanks_0 2 rfl rfl)
theorem dX4_blanks_5 : decode cX4_blanks 5 = .ok (.invokevirtual 31, 3) := dk_182 0 31 (dk_at dksX4_blanks_0 5 rfl rfl)
theorem dX4_blanks_8 : decode cX4_blanks 8 = .ok (.bipush 32, 2) := dk_16 32 (dk_at dksX4_blanks_0 8 rfl rfl)
theorem dX4_blanks_10 : decode cX4_blanks 10 = .ok (.if_icmp .ne 16, 3) := dk_160 0 16 (dk_at dksX4_blanks_0 10 rfl rfl)
theorem dX4_blanks_13 : decode cX4_blanks 13 = .ok (.aload_n 0, 1) := dk_42 (dk_at dksX4_blanks_0 13 rfl rfl)
theorem dX4_blanks_14 : decode cX4_blanks 14 = .ok (.dup, 1) := dk_89 (dk_at dksX4_blanks_0 14 rfl rfl)
theorem dX4_blanks_15 : decode cX4_blanks 15 = .ok (.getfield 25, 3) := dk_180 0 25 (dk_at dksX4_blanks_0 15 rfl rfl)
theorem dX4_blanks_18 : decode cX4_blanks 18 = .ok (.iconst 1, 1) := dk_4 (dk_at dksX4_blanks_0 18 rfl rfl)
theorem dX4_blanks_19 : decode cX4_blanks 19 = .ok (.iadd, 1) := dk_96 (dk_at dksX4_blanks_0 19 rfl rfl)
theorem dX4_blanks_20 : decode cX4_blanks 20 = .ok (.putfield 25, 3) := dk_181 0 25 (dk_at dksX4_blanks_0 20 rfl rfl)
theorem dX4_blanks_23 : decode cX4_blanks 23 = .ok (.goto (-23), 3) := dk_167 255 233 (dk_at dksX4_blanks_1 0 rfl rfl)
theorem dX4_blanks_26 : decode cX4_blanks 26 = .ok (.aload_n 0, 1) := dk_42 (dk_at dksX4_blanks_1 3 rfl rfl)
theorem dX4_blanks_27 : decode cX4_blanks 27 = .ok (.aload_n 0, 1) := dk_42 (dk_at dksX4_blanks_1 4 rfl rfl)
theorem dX4_blanks_28 : decode cX4_blanks 28 = .ok (.getfield 25, 3) := dk_180 0 25 (dk_at dksX4_blanks_1 5 rfl rfl)
theorem dX4_blanks_31 : decode cX4_blanks 31 = .ok (.putfield 35, 3) := dk_181 0 35 (dk_at dksX4_blanks_1 8 rfl rfl)
theorem dX4_blanks_34 : decode cX4_blanks 34 = .ok (.return_, 1) := dk_177 (dk_at dksX4_blanks_1 11 rfl rfl)
abbrev cX4_byteAt : ByteArray := prog_13_method_5_code
def yX4_byteAt : MethodName := ⟨RX4, "byteAt", "(I)I"⟩
def dkwX4_byteAt_0 : List UInt8 := [27, 42, 180, 0, 22, 162, 0, 12, 42, 180, 0, 9, 27, 51, 167, 0, 4, 2, 172]
abbrev dktX4_byteAt_0 : List UInt8 := dkwX4_byteAt_0 ++ []
theorem dksX4_byteAt_0 : cX4_byteAt.data.toList.drop 0 = dktX4_byteAt_0 := by decide +kernel
theorem dX4_byteAt_0 : decode cX4_byteAt 0 = .ok (.iload_n 1, 1) := dk_27 (dk_at dksX4_byteAt_0 0 rfl rfl)
theorem dX4_byteAt_1 : decode cX4_byteAt 1 = .ok (.aload_n 0, 1) := dk_42 (dk_at dksX4_byteAt_0 1 rfl rfl)
theorem dX4_byteAt_2 : decode cX4_byteAt 2 = .ok (.getfield 22, 3) := dk_180 0 22 (dk_at dksX4_byteAt_0 2 rfl rfl)
theorem dX4_byteAt_5 : decode cX4_byteAt 5 = .ok (.if_icmp .ge 12, 3) := dk_162 0 12 (dk_at dksX4_byteAt_0 5 rfl rfl)
theorem dX4_byteAt_8 : decode cX4_byteAt 8 = .ok (.aload_n 0, 1) := dk_42 (dk_at dksX4_byteAt_0 8 rfl rfl)
theorem dX4_byteAt_9 : decode cX4_byteAt 9 = .ok (.getfield 9, 3) := dk_180 0 9 (dk_at dksX4_byteAt_0 9 rfl rfl)
theorem dX4_byteAt_12 : decode cX4_byteAt 12 = .ok (.iload_n 1, 1) := dk_27 (dk_at dksX4_byteAt_0 12 rfl rfl)
theorem dX4_byteAt_13 : decode cX4_byteAt 13 = .ok (.baload, 1) := dk_51 (dk_at dksX4_byteAt_0 13 rfl rfl)
theorem dX4_byteAt_14 : decode cX4_byteAt 14 = .ok (.goto 4, 3) := dk_167 0 4 (dk_at dksX4_byteAt_0 14 rfl rfl)
theorem dX4_byteAt_17 : decode cX4_byteAt 17 = .ok (.iconst (-1), 1) := dk_2 (dk_at dksX4_byteAt_0 17 rfl rfl)
theorem dX4_byteAt_18 : decode cX4_byteAt 18 = .ok (.ireturn, 1) := dk_172 (dk_at dksX4_byteAt_0 18 rfl rfl)
abbrev cX4_word : ByteArray := prog_13_method_8_code
def yX4_word : MethodName := ⟨RX4, "word", "()Ljava/lang/String;"⟩
def dkwX4_word_3 : List UInt8 := [167, 255, 233, 43, 182, 0, 52, 176]
abbrev dktX4_word_3 : List UInt8 := dkwX4_word_3 ++ []
def dkwX4_word_2 : List UInt8 := [28, 42, 180, 0, 25, 162, 0, 21, 43, 42, 180, 0, 9, 28, 51, 146, 182, 0, 48, 87, 132, 2, 1]
abbrev dktX4_word_2 : List UInt8 := dkwX4_word_2 ++ dktX4_word_3
def dkwX4_word_1 : List UInt8 := [180, 0, 25, 4, 96, 181, 0, 25, 167, 255, 228, 187, 0, 45, 89, 183, 0, 47, 76, 42, 180, 0, 35, 61]
abbrev dktX4_word_1 : List UInt8 := dkwX4_word_1 ++ dktX4_word_2
def dkwX4_word_0 : List UInt8 := [42, 182, 0, 38, 42, 42, 180, 0, 25, 182, 0, 31, 16, 97, 16, 122, 184, 0, 41, 153, 0, 16, 42, 89]
abbrev dktX4_word_0 : List UInt8 := dkwX4_word_0 ++ dktX4_word_1
theorem dksX4_word_0 : cX4_word.data.toList.drop 0 = dktX4_word_0 := by decide +kernel
theorem dksX4_word_1 : cX4_word.data.toList.drop 24 = dktX4_word_1 := dk_seg dksX4_word_0 24 rfl rfl
theorem dksX4_word_2 : cX4_word.data.toList.drop 48 = dktX4_word_2 := dk_seg dksX4_word_1 24 rfl rfl
theorem dksX4_word_3 : cX4_word.data.toList.drop 71 = dktX4_word_3 := dk_seg dksX4_word_2 23 rfl rfl
theorem dX4_word_0 : decode cX4_word 0 = .ok (.aload_n 0, 1) := dk_42 (dk_at dksX4_word_0 0 rfl rfl)
theorem dX4_word_1 : decode cX4_word 1 = .ok (.invokevirtual 38, 3) := dk_182 0 38 (dk_at dksX4_word_0 1 rfl rfl)
theorem dX4_word_4 : decode cX4_word 4 = .ok (.aload_n 0, 1) := dk_42 (dk_at dksX4_word_0 4 rfl rfl)
theorem dX4_word_5 : decode cX4_word 5 = .ok (.aload_n 0, 1) := dk_42 (dk_at dksX4_word_0 5 rfl rfl)
theorem dX4_word_6 : decode cX4_word 6 = .ok (.getfield 25, 3) := dk_180 0 25 (dk_at dksX4_word_0 6 rfl rfl)
theorem dX4_word_9 : decode cX4_word 9 = .ok (.invokevirtual 31, 3) := dk_182 0 31 (dk_at dksX4_word_0 9 rfl rfl)
theorem dX4_word_12 : decode cX4_word 12 = .ok (.bipush 97, 2) := dk_16 97 (dk_at dksX4_word_0 12 rfl rfl)
theorem dX4_word_14 : decode cX4_word 14 = .ok (.bipush 122, 2) := dk_16 122 (dk_at dksX4_word_0 14 rfl rfl)
theorem dX4_word_16 : decode cX4_word 16 = .ok (.invokestatic 41, 3) := dk_184 0 41 (dk_at dksX4_word_0 16 rfl rfl)
theorem dX4_word_19 : decode cX4_word 19 = .ok (.ifCond .eq 16, 3) := dk_153 0 16 (dk_at dksX4_word_0 19 rfl rfl)
theorem dX4_word_22 : decode cX4_word 22 = .ok (.aload_n 0, 1) := dk_42 (dk_at dksX4_word_0 22 rfl rfl)
theorem dX4_word_23 : decode cX4_word 23 = .ok (.dup, 1) := dk_89 (dk_at dksX4_word_0 23 rfl rfl)
theorem dX4_word_24 : decode cX4_word 24 = .ok (.getfield 25, 3) := dk_180 0 25 (dk_at dksX4_word_1 0 rfl rfl)
theorem dX4_word_27 : decode cX4_word 27 = .ok (.iconst 1, 1) := dk_4 (dk_at dksX4_word_1 3 rfl rfl)
theorem dX4_word_28 : decode cX4_word 28 = .ok (.iadd, 1) := dk_96 (dk_at dksX4_word_1 4 rfl rfl)
theorem dX4_word_29 : decode cX4_word 29 = .ok (.putfield 25, 3) := dk_181 0 25 (dk_at dksX4_word_1 5 rfl rfl)
theorem dX4_word_32 : decode cX4_word 32 = .ok (.goto (-28), 3) := dk_167 255 228 (dk_at dksX4_word_1 8 rfl rfl)
theorem dX4_word_35 : decode cX4_word 35 = .ok (.new 45, 3) := dk_187 0 45 (dk_at dksX4_word_1 11 rfl rfl)
theorem dX4_word_38 : decode cX4_word 38 = .ok (.dup, 1) := dk_89 (dk_at dksX4_word_1 14 rfl rfl)
theorem dX4_word_39 : decode cX4_word 39 = .ok (.invokespecial 47, 3) := dk_183 0 47 (dk_at dksX4_word_1 15 rfl rfl)
theorem dX4_word_42 : decode cX4_word 42 = .ok (.astore_n 1, 1) := dk_76 (dk_at dksX4_word_1 18 rfl rfl)
theorem dX4_word_43 : decode cX4_word 43 = .ok (.aload_n 0, 1) := dk_42 (dk_at dksX4_word_1 19 rfl rfl)
theorem dX4_word_44 : decode cX4_word 44 = .ok (.getfield 35, 3) := dk_180 0 35 (dk_at dksX4_word_1 20 rfl rfl)
theorem dX4_word_47 : decode cX4_word 47 = .ok (.istore_n 2, 1) := dk_61 (dk_at dksX4_word_1 23 rfl rfl)
theorem dX4_word_48 : decode cX4_word 48 = .ok (.iload_n 2, 1) := dk_28 (dk_at dksX4_word_2 0 rfl rfl)
theorem dX4_word_49 : decode cX4_word 49 = .ok (.aload_n 0, 1) := dk_42 (dk_at dksX4_word_2 1 rfl rfl)
theorem dX4_word_50 : decode cX4_word 50 = .ok (.getfield 25, 3) := dk_180 0 25 (dk_at dksX4_word_2 2 rfl rfl)
theorem dX4_word_53 : decode cX4_word 53 = .ok (.if_icmp .ge 21, 3) := dk_162 0 21 (dk_at dksX4_word_2 5 rfl rfl)
theorem dX4_word_56 : decode cX4_word 56 = .ok (.aload_n 1, 1) := dk_43 (dk_at dksX4_word_2 8 rfl rfl)
theorem dX4_word_57 : decode cX4_word 57 = .ok (.aload_n 0, 1) := dk_42 (dk_at dksX4_word_2 9 rfl rfl)
theorem dX4_word_58 : decode cX4_word 58 = .ok (.getfield 9, 3) := dk_180 0 9 (dk_at dksX4_word_2 10 rfl rfl)
theorem dX4_word_61 : decode cX4_word 61 = .ok (.iload_n 2, 1) := dk_28 (dk_at dksX4_word_2 13 rfl rfl)
theorem dX4_word_62 : decode cX4_word 62 = .ok (.baload, 1) := dk_51 (dk_at dksX4_word_2 14 rfl rfl)
theorem dX4_word_63 : decode cX4_word 63 = .ok (.i2c, 1) := dk_146 (dk_at dksX4_word_2 15 rfl rfl)
theorem dX4_word_64 : decode cX4_word 64 = .ok (.invokevirtual 48, 3) := dk_182 0 48 (dk_at dksX4_word_2 16 rfl rfl)
theorem dX4_word_67 : decode cX4_word 67 = .ok (.pop, 1) := dk_87 (dk_at dksX4_word_2 19 rfl rfl)
theorem dX4_word_68 : decode cX4_word 68 = .ok (.iinc 2 1, 3) := dk_132 2 1 (dk_at dksX4_word_2 20 rfl rfl)
theorem dX4_word_71 : decode cX4_word 71 = .ok (.goto (-23), 3) := dk_167 255 233 (dk_at dksX4_word_3 0 rfl rfl)
theorem dX4_word_74 : decode cX4_word 74 = .ok (.aload_n 1, 1) := dk_43 (dk_at dksX4_word_3 3 rfl rfl)
theorem dX4_word_75 : decode cX4_word 75 = .ok (.invokevirtual 52, 3) := dk_182 0 52 (dk_at dksX4_word_3 4 rfl rfl)
theorem dX4_word_78 : decode cX4_word 78 = .ok (.areturn, 1) := dk_176 (dk_at dksX4_word_3 7 rfl rfl)
abbrev cX4_wrong : ByteArray := prog_13_method_14_code
def yX4_wrong : MethodName := ⟨RX4, "wrong", "()LFavourTown$Wrong;"⟩
def dkwX4_wrong_0 : List UInt8 := [187, 0, 72, 89, 183, 0, 74, 176]
abbrev dktX4_wrong_0 : List UInt8 := dkwX4_wrong_0 ++ []
theorem dksX4_wrong_0 : cX4_wrong.data.toList.drop 0 = dktX4_wrong_0 := by decide +kernel
theorem dX4_wrong_0 : decode cX4_wrong 0 = .ok (.new 72, 3) := dk_187 0 72 (dk_at dksX4_wrong_0 0 rfl rfl)
theorem dX4_wrong_3 : decode cX4_wrong 3 = .ok (.dup, 1) := dk_89 (dk_at dksX4_wrong_0 3 rfl rfl)
theorem dX4_wrong_4 : decode cX4_wrong 4 = .ok (.invokespecial 74, 3) := dk_183 0 74 (dk_at dksX4_wrong_0 4 rfl rfl)
theorem dX4_wrong_7 : decode cX4_wrong 7 = .ok (.areturn, 1) := dk_176 (dk_at dksX4_wrong_0 7 rfl rfl)
abbrev cX4_number : ByteArray := prog_13_method_12_code
def yX4_number : MethodName := ⟨RX4, "number", "(II)I"⟩
def dkwX4_number_4 : List UInt8 := [163, 0, 12, 29, 27, 28, 184, 0, 41, 154, 0, 8, 42, 182, 0, 65, 191, 29, 172]
abbrev dktX4_number_4 : List UInt8 := dkwX4_number_4 ++ []
def dkwX4_number_3 : List UInt8 := [167, 255, 194, 42, 180, 0, 25, 42, 180, 0, 35, 159, 0, 25, 42, 180, 0, 25, 42, 180, 0, 35, 100, 6]
abbrev dktX4_number_3 : List UInt8 := dkwX4_number_3 ++ dktX4_number_4
def dkwX4_number_2 : List UInt8 := [182, 0, 31, 96, 16, 48, 100, 167, 0, 4, 29, 62, 42, 89, 180, 0, 25, 4, 96, 181, 0, 25]
abbrev dktX4_number_2 : List UInt8 := dkwX4_number_2 ++ dktX4_number_3
def dkwX4_number_1 : List UInt8 := [42, 180, 0, 25, 42, 180, 0, 35, 100, 6, 162, 0, 22, 16, 10, 29, 104, 42, 42, 180, 0, 25]
abbrev dktX4_number_1 : List UInt8 := dkwX4_number_1 ++ dktX4_number_2
def dkwX4_number_0 : List UInt8 := [42, 182, 0, 38, 3, 62, 42, 42, 180, 0, 25, 182, 0, 31, 16, 48, 16, 57, 184, 0, 41, 153, 0, 50]
abbrev dktX4_number_0 : List UInt8 := dkwX4_number_0 ++ dktX4_number_1
theorem dksX4_number_0 : cX4_number.data.toList.drop 0 = dktX4_number_0 := by decide +kernel
theorem dksX4_number_1 : cX4_number.data.toList.drop 24 = dktX4_number_1 := dk_seg dksX4_number_0 24 rfl rfl
theorem dksX4_number_2 : cX4_number.data.toList.drop 46 = dktX4_number_2 := dk_seg dksX4_number_1 22 rfl rfl
theorem dksX4_number_3 : cX4_number.data.toList.drop 68 = dktX4_number_3 := dk_seg dksX4_number_2 22 rfl rfl
theorem dksX4_number_4 : cX4_number.data.toList.drop 92 = dktX4_number_4 := dk_seg dksX4_number_3 24 rfl rfl
theorem dX4_number_0 : decode cX4_number 0 = .ok (.aload_n 0, 1) := dk_42 (dk_at dksX4_number_0 0 rfl rfl)
theorem dX4_number_1 : decode cX4_number 1 = .ok (.invokevirtual 38, 3) := dk_182 0 38 (dk_at dksX4_number_0 1 rfl rfl)
theorem dX4_number_4 : decode cX4_number 4 = .ok (.iconst 0, 1) := dk_3 (dk_at dksX4_number_0 4 rfl rfl)
theorem dX4_number_5 : decode cX4_number 5 = .ok (.istore_n 3, 1) := dk_62 (dk_at dksX4_number_0 5 rfl rfl)
theorem dX4_number_6 : decode cX4_number 6 = .ok (.aload_n 0, 1) := dk_42 (dk_at dksX4_number_0 6 rfl rfl)
theorem dX4_number_7 : decode cX4_number 7 = .ok (.aload_n 0, 1) := dk_42 (dk_at dksX4_number_0 7 rfl rfl)
theorem dX4_number_8 : decode cX4_number 8 = .ok (.getfield 25, 3) := dk_180 0 25 (dk_at dksX4_number_0 8 rfl rfl)
theorem dX4_number_11 : decode cX4_number 11 = .ok (.invokevirtual 31, 3) := dk_182 0 31 (dk_at dksX4_number_0 11 rfl rfl)
theorem dX4_number_14 : decode cX4_number 14 = .ok (.bipush 48, 2) := dk_16 48 (dk_at dksX4_number_0 14 rfl rfl)
theorem dX4_number_16 : decode cX4_number 16 = .ok (.bipush 57, 2) := dk_16 57 (dk_at dksX4_number_0 16 rfl rfl)
theorem dX4_number_18 : decode cX4_number 18 = .ok (.invokestatic 41, 3) := dk_184 0 41 (dk_at dksX4_number_0 18 rfl rfl)
theorem dX4_number_21 : decode cX4_number 21 = .ok (.ifCond .eq 50, 3) := dk_153 0 50 (dk_at dksX4_number_0 21 rfl rfl)
theorem dX4_number_24 : decode cX4_number 24 = .ok (.aload_n 0, 1) := dk_42 (dk_at dksX4_number_1 0 rfl rfl)
theorem dX4_number_25 : decode cX4_number 25 = .ok (.getfield 25, 3) := dk_180 0 25 (dk_at dksX4_number_1 1 rfl rfl)
theorem dX4_number_28 : decode cX4_number 28 = .ok (.aload_n 0, 1) := dk_42 (dk_at dksX4_number_1 4 rfl rfl)
theorem dX4_number_29 : decode cX4_number 29 = .ok (.getfield 35, 3) := dk_180 0 35 (dk_at dksX4_number_1 5 rfl rfl)
theorem dX4_number_32 : decode cX4_number 32 = .ok (.isub, 1) := dk_100 (dk_at dksX4_number_1 8 rfl rfl)
theorem dX4_number_33 : decode cX4_number 33 = .ok (.iconst 3, 1) := dk_6 (dk_at dksX4_number_1 9 rfl rfl)
theorem dX4_number_34 : decode cX4_number 34 = .ok (.if_icmp .ge 22, 3) := dk_162 0 22 (dk_at dksX4_number_1 10 rfl rfl)
theorem dX4_number_37 : decode cX4_number 37 = .ok (.bipush 10, 2) := dk_16 10 (dk_at dksX4_number_1 13 rfl rfl)
theorem dX4_number_39 : decode cX4_number 39 = .ok (.iload_n 3, 1) := dk_29 (dk_at dksX4_number_1 15 rfl rfl)
theorem dX4_number_40 : decode cX4_number 40 = .ok (.imul, 1) := dk_104 (dk_at dksX4_number_1 16 rfl rfl)
theorem dX4_number_41 : decode cX4_number 41 = .ok (.aload_n 0, 1) := dk_42 (dk_at dksX4_number_1 17 rfl rfl)
theorem dX4_number_42 : decode cX4_number 42 = .ok (.aload_n 0, 1) := dk_42 (dk_at dksX4_number_1 18 rfl rfl)
theorem dX4_number_43 : decode cX4_number 43 = .ok (.getfield 25, 3) := dk_180 0 25 (dk_at dksX4_number_1 19 rfl rfl)
theorem dX4_number_46 : decode cX4_number 46 = .ok (.invokevirtual 31, 3) := dk_182 0 31 (dk_at dksX4_number_2 0 rfl rfl)
theorem dX4_number_49 : decode cX4_number 49 = .ok (.iadd, 1) := dk_96 (dk_at dksX4_number_2 3 rfl rfl)
theorem dX4_number_50 : decode cX4_number 50 = .ok (.bipush 48, 2) := dk_16 48 (dk_at dksX4_number_2 4 rfl rfl)
theorem dX4_number_52 : decode cX4_number 52 = .ok (.isub, 1) := dk_100 (dk_at dksX4_number_2 6 rfl rfl)
theorem dX4_number_53 : decode cX4_number 53 = .ok (.goto 4, 3) := dk_167 0 4 (dk_at dksX4_number_2 7 rfl rfl)
theorem dX4_number_56 : decode cX4_number 56 = .ok (.iload_n 3, 1) := dk_29 (dk_at dksX4_number_2 10 rfl rfl)
theorem dX4_number_57 : decode cX4_number 57 = .ok (.istore_n 3, 1) := dk_62 (dk_at dksX4_number_2 11 rfl rfl)
theorem dX4_number_58 : decode cX4_number 58 = .ok (.aload_n 0, 1) := dk_42 (dk_at dksX4_number_2 12 rfl rfl)
theorem dX4_number_59 : decode cX4_number 59 = .ok (.dup, 1) := dk_89 (dk_at dksX4_number_2 13 rfl rfl)
theorem dX4_number_60 : decode cX4_number 60 = .ok (.getfield 25, 3) := dk_180 0 25 (dk_at dksX4_number_2 14 rfl rfl)
theorem dX4_number_63 : decode cX4_number 63 = .ok (.iconst 1, 1) := dk_4 (dk_at dksX4_number_2 17 rfl rfl)
theorem dX4_number_64 : decode cX4_number 64 = .ok (.iadd, 1) := dk_96 (dk_at dksX4_number_2 18 rfl rfl)
theorem dX4_number_65 : decode cX4_number 65 = .ok (.putfield 25, 3) := dk_181 0 25 (dk_at dksX4_number_2 19 rfl rfl)
theorem dX4_number_68 : decode cX4_number 68 = .ok (.goto (-62), 3) := dk_167 255 194 (dk_at dksX4_number_3 0 rfl rfl)
theorem dX4_number_71 : decode cX4_number 71 = .ok (.aload_n 0, 1) := dk_42 (dk_at dksX4_number_3 3 rfl rfl)
theorem dX4_number_72 : decode cX4_number 72 = .ok (.getfield 25, 3) := dk_180 0 25 (dk_at dksX4_number_3 4 rfl rfl)
theorem dX4_number_75 : decode cX4_number 75 = .ok (.aload_n 0, 1) := dk_42 (dk_at dksX4_number_3 7 rfl rfl)
theorem dX4_number_76 : decode cX4_number 76 = .ok (.getfield 35, 3) := dk_180 0 35 (dk_at dksX4_number_3 8 rfl rfl)
theorem dX4_number_79 : decode cX4_number 79 = .ok (.if_icmp .eq 25, 3) := dk_159 0 25 (dk_at dksX4_number_3 11 rfl rfl)
theorem dX4_number_82 : decode cX4_number 82 = .ok (.aload_n 0, 1) := dk_42 (dk_at dksX4_number_3 14 rfl rfl)
theorem dX4_number_83 : decode cX4_number 83 = .ok (.getfield 25, 3) := dk_180 0 25 (dk_at dksX4_number_3 15 rfl rfl)
theorem dX4_number_86 : decode cX4_number 86 = .ok (.aload_n 0, 1) := dk_42 (dk_at dksX4_number_3 18 rfl rfl)
theorem dX4_number_87 : decode cX4_number 87 = .ok (.getfield 35, 3) := dk_180 0 35 (dk_at dksX4_number_3 19 rfl rfl)
theorem dX4_number_90 : decode cX4_number 90 = .ok (.isub, 1) := dk_100 (dk_at dksX4_number_3 22 rfl rfl)
theorem dX4_number_91 : decode cX4_number 91 = .ok (.iconst 3, 1) := dk_6 (dk_at dksX4_number_3 23 rfl rfl)
theorem dX4_number_92 : decode cX4_number 92 = .ok (.if_icmp .gt 12, 3) := dk_163 0 12 (dk_at dksX4_number_4 0 rfl rfl)
theorem dX4_number_95 : decode cX4_number 95 = .ok (.iload_n 3, 1) := dk_29 (dk_at dksX4_number_4 3 rfl rfl)
theorem dX4_number_96 : decode cX4_number 96 = .ok (.iload_n 1, 1) := dk_27 (dk_at dksX4_number_4 4 rfl rfl)
theorem dX4_number_97 : decode cX4_number 97 = .ok (.iload_n 2, 1) := dk_28 (dk_at dksX4_number_4 5 rfl rfl)
theorem dX4_number_98 : decode cX4_number 98 = .ok (.invokestatic 41, 3) := dk_184 0 41 (dk_at dksX4_number_4 6 rfl rfl)
theorem dX4_number_101 : decode cX4_number 101 = .ok (.ifCond .ne 8, 3) := dk_154 0 8 (dk_at dksX4_number_4 9 rfl rfl)
theorem dX4_number_104 : decode cX4_number 104 = .ok (.aload_n 0, 1) := dk_42 (dk_at dksX4_number_4 12 rfl rfl)
theorem dX4_number_105 : decode cX4_number 105 = .ok (.invokevirtual 65, 3) := dk_182 0 65 (dk_at dksX4_number_4 13 rfl rfl)
theorem dX4_number_108 : decode cX4_number 108 = .ok (.athrow, 1) := dk_191 (dk_at dksX4_number_4 16 rfl rfl)
theorem dX4_number_109 : decode cX4_number 109 = .ok (.iload_n 3, 1) := dk_29 (dk_at dksX4_number_4 17 rfl rfl)
theorem dX4_number_110 : decode cX4_number 110 = .ok (.ireturn, 1) := dk_172 (dk_at dksX4_number_4 18 rfl rfl)
abbrev cX4_passes : ByteArray := prog_13_method_9_code
def yX4_passes : MethodName := ⟨RX4, "passes", "(Ljava/lang/String;)Z"⟩
def dkwX4_passes_0 : List UInt8 := [42, 182, 0, 56, 43, 182, 0, 59, 153, 0, 5, 4, 172, 42, 42, 180, 0, 35, 181, 0, 25, 3, 172]
abbrev dktX4_passes_0 : List UInt8 := dkwX4_passes_0 ++ []
theorem dksX4_passes_0 : cX4_passes.data.toList.drop 0 = dktX4_passes_0 := by decide +kernel
theorem dX4_passes_0 : decode cX4_passes 0 = .ok (.aload_n 0, 1) := dk_42 (dk_at dksX4_passes_0 0 rfl rfl)
theorem dX4_passes_1 : decode cX4_passes 1 = .ok (.invokevirtual 56, 3) := dk_182 0 56 (dk_at dksX4_passes_0 1 rfl rfl)
theorem dX4_passes_4 : decode cX4_passes 4 = .ok (.aload_n 1, 1) := dk_43 (dk_at dksX4_passes_0 4 rfl rfl)
theorem dX4_passes_5 : decode cX4_passes 5 = .ok (.invokevirtual 59, 3) := dk_182 0 59 (dk_at dksX4_passes_0 5 rfl rfl)
theorem dX4_passes_8 : decode cX4_passes 8 = .ok (.ifCond .eq 5, 3) := dk_153 0 5 (dk_at dksX4_passes_0 8 rfl rfl)
theorem dX4_passes_11 : decode cX4_passes 11 = .ok (.iconst 1, 1) := dk_4 (dk_at dksX4_passes_0 11 rfl rfl)
theorem dX4_passes_12 : decode cX4_passes 12 = .ok (.ireturn, 1) := dk_172 (dk_at dksX4_passes_0 12 rfl rfl)
theorem dX4_passes_13 : decode cX4_passes 13 = .ok (.aload_n 0, 1) := dk_42 (dk_at dksX4_passes_0 13 rfl rfl)
theorem dX4_passes_14 : decode cX4_passes 14 = .ok (.aload_n 0, 1) := dk_42 (dk_at dksX4_passes_0 14 rfl rfl)
theorem dX4_passes_15 : decode cX4_passes 15 = .ok (.getfield 35, 3) := dk_180 0 35 (dk_at dksX4_passes_0 15 rfl rfl)
theorem dX4_passes_18 : decode cX4_passes 18 = .ok (.putfield 25, 3) := dk_181 0 25 (dk_at dksX4_passes_0 18 rfl rfl)
theorem dX4_passes_21 : decode cX4_passes 21 = .ok (.iconst 0, 1) := dk_3 (dk_at dksX4_passes_0 21 rfl rfl)
theorem dX4_passes_22 : decode cX4_passes 22 = .ok (.ireturn, 1) := dk_172 (dk_at dksX4_passes_0 22 rfl rfl)
abbrev cX4_sign : ByteArray := prog_13_method_10_code
def yX4_sign : MethodName := ⟨RX4, "sign", "(I)Z"⟩
def dkwX4_sign_1 : List UInt8 := [96, 181, 0, 25, 4, 172]
abbrev dktX4_sign_1 : List UInt8 := dkwX4_sign_1 ++ []
def dkwX4_sign_0 : List UInt8 := [42, 182, 0, 38, 42, 42, 180, 0, 25, 182, 0, 31, 27, 159, 0, 5, 3, 172, 42, 89, 180, 0, 25, 4]
abbrev dktX4_sign_0 : List UInt8 := dkwX4_sign_0 ++ dktX4_sign_1
theorem dksX4_sign_0 : cX4_sign.data.toList.drop 0 = dktX4_sign_0 := by decide +kernel
theorem dksX4_sign_1 : cX4_sign.data.toList.drop 24 = dktX4_sign_1 := dk_seg dksX4_sign_0 24 rfl rfl
theorem dX4_sign_0 : decode cX4_sign 0 = .ok (.aload_n 0, 1) := dk_42 (dk_at dksX4_sign_0 0 rfl rfl)
theorem dX4_sign_1 : decode cX4_sign 1 = .ok (.invokevirtual 38, 3) := dk_182 0 38 (dk_at dksX4_sign_0 1 rfl rfl)
theorem dX4_sign_4 : decode cX4_sign 4 = .ok (.aload_n 0, 1) := dk_42 (dk_at dksX4_sign_0 4 rfl rfl)
theorem dX4_sign_5 : decode cX4_sign 5 = .ok (.aload_n 0, 1) := dk_42 (dk_at dksX4_sign_0 5 rfl rfl)
theorem dX4_sign_6 : decode cX4_sign 6 = .ok (.getfield 25, 3) := dk_180 0 25 (dk_at dksX4_sign_0 6 rfl rfl)
theorem dX4_sign_9 : decode cX4_sign 9 = .ok (.invokevirtual 31, 3) := dk_182 0 31 (dk_at dksX4_sign_0 9 rfl rfl)
theorem dX4_sign_12 : decode cX4_sign 12 = .ok (.iload_n 1, 1) := dk_27 (dk_at dksX4_sign_0 12 rfl rfl)
theorem dX4_sign_13 : decode cX4_sign 13 = .ok (.if_icmp .eq 5, 3) := dk_159 0 5 (dk_at dksX4_sign_0 13 rfl rfl)
theorem dX4_sign_16 : decode cX4_sign 16 = .ok (.iconst 0, 1) := dk_3 (dk_at dksX4_sign_0 16 rfl rfl)
theorem dX4_sign_17 : decode cX4_sign 17 = .ok (.ireturn, 1) := dk_172 (dk_at dksX4_sign_0 17 rfl rfl)
theorem dX4_sign_18 : decode cX4_sign 18 = .ok (.aload_n 0, 1) := dk_42 (dk_at dksX4_sign_0 18 rfl rfl)
theorem dX4_sign_19 : decode cX4_sign 19 = .ok (.dup, 1) := dk_89 (dk_at dksX4_sign_0 19 rfl rfl)
theorem dX4_sign_20 : decode cX4_sign 20 = .ok (.getfield 25, 3) := dk_180 0 25 (dk_at dksX4_sign_0 20 rfl rfl)
theorem dX4_sign_23 : decode cX4_sign 23 = .ok (.iconst 1, 1) := dk_4 (dk_at dksX4_sign_0 23 rfl rfl)
theorem dX4_sign_24 : decode cX4_sign 24 = .ok (.iadd, 1) := dk_96 (dk_at dksX4_sign_1 0 rfl rfl)
theorem dX4_sign_25 : decode cX4_sign 25 = .ok (.putfield 25, 3) := dk_181 0 25 (dk_at dksX4_sign_1 1 rfl rfl)
theorem dX4_sign_28 : decode cX4_sign 28 = .ok (.iconst 1, 1) := dk_4 (dk_at dksX4_sign_1 4 rfl rfl)
theorem dX4_sign_29 : decode cX4_sign 29 = .ok (.ireturn, 1) := dk_172 (dk_at dksX4_sign_1 5 rfl rfl)
abbrev cX4_goesDeeper : ByteArray := prog_13_method_15_code
def yX4_goesDeeper : MethodName := ⟨RX4, "goesDeeper", "()V"⟩
def dkwX4_goesDeeper_1 : List UInt8 := [177]
abbrev dktX4_goesDeeper_1 : List UInt8 := dkwX4_goesDeeper_1 ++ []
def dkwX4_goesDeeper_0 : List UInt8 := [42, 180, 0, 28, 16, 6, 160, 0, 8, 42, 182, 0, 65, 191, 42, 89, 180, 0, 28, 4, 96, 181, 0, 28]
abbrev dktX4_goesDeeper_0 : List UInt8 := dkwX4_goesDeeper_0 ++ dktX4_goesDeeper_1
theorem dksX4_goesDeeper_0 : cX4_goesDeeper.data.toList.drop 0 = dktX4_goesDeeper_0 := by decide +kernel
theorem dksX4_goesDeeper_1 : cX4_goesDeeper.data.toList.drop 24 = dktX4_goesDeeper_1 := dk_seg dksX4_goesDeeper_0 24 rfl rfl
theorem dX4_goesDeeper_0 : decode cX4_goesDeeper 0 = .ok (.aload_n 0, 1) := dk_42 (dk_at dksX4_goesDeeper_0 0 rfl rfl)
theorem dX4_goesDeeper_1 : decode cX4_goesDeeper 1 = .ok (.getfield 28, 3) := dk_180 0 28 (dk_at dksX4_goesDeeper_0 1 rfl rfl)
theorem dX4_goesDeeper_4 : decode cX4_goesDeeper 4 = .ok (.bipush 6, 2) := dk_16 6 (dk_at dksX4_goesDeeper_0 4 rfl rfl)
theorem dX4_goesDeeper_6 : decode cX4_goesDeeper 6 = .ok (.if_icmp .ne 8, 3) := dk_160 0 8 (dk_at dksX4_goesDeeper_0 6 rfl rfl)
theorem dX4_goesDeeper_9 : decode cX4_goesDeeper 9 = .ok (.aload_n 0, 1) := dk_42 (dk_at dksX4_goesDeeper_0 9 rfl rfl)
theorem dX4_goesDeeper_10 : decode cX4_goesDeeper 10 = .ok (.invokevirtual 65, 3) := dk_182 0 65 (dk_at dksX4_goesDeeper_0 10 rfl rfl)
theorem dX4_goesDeeper_13 : decode cX4_goesDeeper 13 = .ok (.athrow, 1) := dk_191 (dk_at dksX4_goesDeeper_0 13 rfl rfl)
theorem dX4_goesDeeper_14 : decode cX4_goesDeeper 14 = .ok (.aload_n 0, 1) := dk_42 (dk_at dksX4_goesDeeper_0 14 rfl rfl)
theorem dX4_goesDeeper_15 : decode cX4_goesDeeper 15 = .ok (.dup, 1) := dk_89 (dk_at dksX4_goesDeeper_0 15 rfl rfl)
theorem dX4_goesDeeper_16 : decode cX4_goesDeeper 16 = .ok (.getfield 28, 3) := dk_180 0 28 (dk_at dksX4_goesDeeper_0 16 rfl rfl)
theorem dX4_goesDeeper_19 : decode cX4_goesDeeper 19 = .ok (.iconst 1, 1) := dk_4 (dk_at dksX4_goesDeeper_0 19 rfl rfl)
theorem dX4_goesDeeper_20 : decode cX4_goesDeeper 20 = .ok (.iadd, 1) := dk_96 (dk_at dksX4_goesDeeper_0 20 rfl rfl)
theorem dX4_goesDeeper_21 : decode cX4_goesDeeper 21 = .ok (.putfield 28, 3) := dk_181 0 28 (dk_at dksX4_goesDeeper_0 21 rfl rfl)
theorem dX4_goesDeeper_24 : decode cX4_goesDeeper 24 = .ok (.return_, 1) := dk_177 (dk_at dksX4_goesDeeper_1 0 rfl rfl)
abbrev cX4_comesUp : ByteArray := prog_13_method_16_code
def yX4_comesUp : MethodName := ⟨RX4, "comesUp", "()V"⟩
def dkwX4_comesUp_0 : List UInt8 := [42, 89, 180, 0, 28, 4, 100, 181, 0, 28, 177]
abbrev dktX4_comesUp_0 : List UInt8 := dkwX4_comesUp_0 ++ []
theorem dksX4_comesUp_0 : cX4_comesUp.data.toList.drop 0 = dktX4_comesUp_0 := by decide +kernel
theorem dX4_comesUp_0 : decode cX4_comesUp 0 = .ok (.aload_n 0, 1) := dk_42 (dk_at dksX4_comesUp_0 0 rfl rfl)
theorem dX4_comesUp_1 : decode cX4_comesUp 1 = .ok (.dup, 1) := dk_89 (dk_at dksX4_comesUp_0 1 rfl rfl)
theorem dX4_comesUp_2 : decode cX4_comesUp 2 = .ok (.getfield 28, 3) := dk_180 0 28 (dk_at dksX4_comesUp_0 2 rfl rfl)
theorem dX4_comesUp_5 : decode cX4_comesUp 5 = .ok (.iconst 1, 1) := dk_4 (dk_at dksX4_comesUp_0 5 rfl rfl)
theorem dX4_comesUp_6 : decode cX4_comesUp 6 = .ok (.isub, 1) := dk_100 (dk_at dksX4_comesUp_0 6 rfl rfl)
theorem dX4_comesUp_7 : decode cX4_comesUp 7 = .ok (.putfield 28, 3) := dk_181 0 28 (dk_at dksX4_comesUp_0 7 rfl rfl)
theorem dX4_comesUp_10 : decode cX4_comesUp 10 = .ok (.return_, 1) := dk_177 (dk_at dksX4_comesUp_0 10 rfl rfl)
abbrev cX4_isFigure : ByteArray := prog_13_method_11_code
def yX4_isFigure : MethodName := ⟨RX4, "isFigure", "()Z"⟩
def dkwX4_isFigure_0 : List UInt8 := [42, 182, 0, 38, 42, 42, 180, 0, 25, 182, 0, 31, 16, 48, 16, 57, 184, 0, 41, 172]
abbrev dktX4_isFigure_0 : List UInt8 := dkwX4_isFigure_0 ++ []
theorem dksX4_isFigure_0 : cX4_isFigure.data.toList.drop 0 = dktX4_isFigure_0 := by decide +kernel
theorem dX4_isFigure_0 : decode cX4_isFigure 0 = .ok (.aload_n 0, 1) := dk_42 (dk_at dksX4_isFigure_0 0 rfl rfl)
theorem dX4_isFigure_1 : decode cX4_isFigure 1 = .ok (.invokevirtual 38, 3) := dk_182 0 38 (dk_at dksX4_isFigure_0 1 rfl rfl)
theorem dX4_isFigure_4 : decode cX4_isFigure 4 = .ok (.aload_n 0, 1) := dk_42 (dk_at dksX4_isFigure_0 4 rfl rfl)
theorem dX4_isFigure_5 : decode cX4_isFigure 5 = .ok (.aload_n 0, 1) := dk_42 (dk_at dksX4_isFigure_0 5 rfl rfl)
theorem dX4_isFigure_6 : decode cX4_isFigure 6 = .ok (.getfield 25, 3) := dk_180 0 25 (dk_at dksX4_isFigure_0 6 rfl rfl)
theorem dX4_isFigure_9 : decode cX4_isFigure 9 = .ok (.invokevirtual 31, 3) := dk_182 0 31 (dk_at dksX4_isFigure_0 9 rfl rfl)
theorem dX4_isFigure_12 : decode cX4_isFigure 12 = .ok (.bipush 48, 2) := dk_16 48 (dk_at dksX4_isFigure_0 12 rfl rfl)
theorem dX4_isFigure_14 : decode cX4_isFigure 14 = .ok (.bipush 57, 2) := dk_16 57 (dk_at dksX4_isFigure_0 14 rfl rfl)
theorem dX4_isFigure_16 : decode cX4_isFigure 16 = .ok (.invokestatic 41, 3) := dk_184 0 41 (dk_at dksX4_isFigure_0 16 rfl rfl)
theorem dX4_isFigure_19 : decode cX4_isFigure 19 = .ok (.ireturn, 1) := dk_172 (dk_at dksX4_isFigure_0 19 rfl rfl)
theorem q89 : (Jvm.Cond.initialized "FavourTown$Reader") ∈ lw_all := lw_g (lw_at lw_m1 7 rfl) rfl
theorem q274 : (Jvm.Cond.instantiable "FavourTown$Reader" (7 : Nat)) ∈ lw_all := lw_g (lw_at lw_m1 192 rfl) rfl
theorem q276 : (Jvm.Cond.instanceMethod ({ cls := "FavourTown$Reader", name := "<init>", desc := "()V" } : Jvm.MethodName)) ∈ lw_all := lw_g (lw_at lw_m1 194 rfl) rfl
theorem q277 : (Jvm.Cond.code ({ cls := "FavourTown$Reader", name := "<init>", desc := "()V" } : Jvm.MethodName) prog_13_method_1_code (1 : Nat) (Option.none : Option Jvm.ClassFile.FieldType)) ∈ lw_all := lw_g (lw_at lw_m1 195 rfl) rfl
theorem q278 : (Jvm.Cond.methodLink "FavourTown$Reader" (3 : Nat) ({ cls := "java/lang/Object", name := "<init>", desc := "()V" } : Jvm.MethodName)) ∈ lw_all := lw_g (lw_at lw_m1 196 rfl) rfl
theorem q279 : (Jvm.Cond.fieldLink "FavourTown$Reader" (9 : Nat) "FavourTown$Reader" "tape" "[B") ∈ lw_all := lw_g (lw_at lw_m1 197 rfl) rfl
theorem q281 : (Jvm.Cond.fieldLink "FavourTown$Reader" (19 : Nat) "FavourTown$Reader" "length" "I") ∈ lw_all := lw_g (lw_at lw_m1 199 rfl) rfl
theorem q282 : (Jvm.Cond.fieldLink "FavourTown$Reader" (22 : Nat) "FavourTown$Reader" "end" "I") ∈ lw_all := lw_g (lw_at lw_m1 200 rfl) rfl
theorem q284 : (Jvm.Cond.fieldLink "FavourTown$Reader" (25 : Nat) "FavourTown$Reader" "at" "I") ∈ lw_all := lw_g (lw_at lw_m1 202 rfl) rfl
theorem q285 : (Jvm.Cond.fieldLink "FavourTown$Reader" (35 : Nat) "FavourTown$Reader" "begin" "I") ∈ lw_all := lw_g (lw_at lw_m1 203 rfl) rfl
theorem q287 : (Jvm.Cond.fieldLink "FavourTown$Reader" (15 : Nat) "FavourTown$Reader" "fault" "I") ∈ lw_all := lw_g (lw_at lw_m1 205 rfl) rfl
theorem q289 : (Jvm.Cond.fieldLink "FavourTown$Reader" (28 : Nat) "FavourTown$Reader" "deep" "I") ∈ lw_all := lw_g (lw_at lw_m1 207 rfl) rfl
theorem q290 : (Jvm.Cond.laysFinal "FavourTown$Reader" "FavourTown$Reader" "tape" "[B") ∈ lw_all := lw_g (lw_at lw_m1 208 rfl) rfl
theorem q291 : (Jvm.Cond.soleField "FavourTown$Reader" "tape") ∈ lw_all := lw_g (lw_at lw_m1 209 rfl) rfl
theorem q292 : (Jvm.Cond.lays "FavourTown$Reader" "FavourTown$Reader" "length" "I") ∈ lw_all := lw_g (lw_at lw_m1 210 rfl) rfl
theorem q293 : (Jvm.Cond.soleField "FavourTown$Reader" "length") ∈ lw_all := lw_g (lw_at lw_m1 211 rfl) rfl
theorem q294 : (Jvm.Cond.lays "FavourTown$Reader" "FavourTown$Reader" "end" "I") ∈ lw_all := lw_g (lw_at lw_m1 212 rfl) rfl
theorem q295 : (Jvm.Cond.soleField "FavourTown$Reader" "end") ∈ lw_all := lw_g (lw_at lw_m1 213 rfl) rfl
theorem q296 : (Jvm.Cond.lays "FavourTown$Reader" "FavourTown$Reader" "at" "I") ∈ lw_all := lw_g (lw_at lw_m1 214 rfl) rfl
theorem q297 : (Jvm.Cond.soleField "FavourTown$Reader" "at") ∈ lw_all := lw_g (lw_at lw_m1 215 rfl) rfl
theorem q298 : (Jvm.Cond.lays "FavourTown$Reader" "FavourTown$Reader" "begin" "I") ∈ lw_all := lw_g (lw_at lw_m1 216 rfl) rfl
theorem q299 : (Jvm.Cond.soleField "FavourTown$Reader" "begin") ∈ lw_all := lw_g (lw_at lw_m1 217 rfl) rfl
theorem q300 : (Jvm.Cond.lays "FavourTown$Reader" "FavourTown$Reader" "fault" "I") ∈ lw_all := lw_g (lw_at lw_m1 218 rfl) rfl
theorem q301 : (Jvm.Cond.soleField "FavourTown$Reader" "fault") ∈ lw_all := lw_g (lw_at lw_m1 219 rfl) rfl
theorem q302 : (Jvm.Cond.lays "FavourTown$Reader" "FavourTown$Reader" "deep" "I") ∈ lw_all := lw_g (lw_at lw_m1 220 rfl) rfl
theorem q303 : (Jvm.Cond.soleField "FavourTown$Reader" "deep") ∈ lw_all := lw_g (lw_at lw_m1 221 rfl) rfl
theorem q304 : (Jvm.Cond.superclass "FavourTown$Reader" "java/lang/Object") ∈ lw_all := lw_g (lw_at lw_m1 222 rfl) rfl
theorem q377 : (Jvm.Cond.instanceMethod ({ cls := "FavourTown$Reader", name := "add", desc := "([I)I" } : Jvm.MethodName)) ∈ lw_all := lw_g (lw_at lw_m2 55 rfl) rfl
theorem q378 : (Jvm.Cond.selects "FavourTown$Reader" ({ cls := "FavourTown$Reader", name := "add", desc := "([I)I" } : Jvm.MethodName) ({ cls := "FavourTown$Reader", name := "add", desc := "([I)I" } : Jvm.MethodName)) ∈ lw_all := lw_g (lw_at lw_m2 56 rfl) rfl
theorem q379 : (Jvm.Cond.code ({ cls := "FavourTown$Reader", name := "add", desc := "([I)I" } : Jvm.MethodName) prog_13_method_2_code (7 : Nat) (Option.some Jvm.ClassFile.FieldType.int)) ∈ lw_all := lw_g (lw_at lw_m2 57 rfl) rfl
theorem q385 : (Jvm.Cond.instanceMethod ({ cls := "FavourTown$Reader", name := "cut", desc := "(I)Z" } : Jvm.MethodName)) ∈ lw_all := lw_g (lw_at lw_m2 63 rfl) rfl
theorem q386 : (Jvm.Cond.selects "FavourTown$Reader" ({ cls := "FavourTown$Reader", name := "cut", desc := "(I)Z" } : Jvm.MethodName) ({ cls := "FavourTown$Reader", name := "cut", desc := "(I)Z" } : Jvm.MethodName)) ∈ lw_all := lw_g (lw_at lw_m2 64 rfl) rfl
theorem q387 : (Jvm.Cond.code ({ cls := "FavourTown$Reader", name := "cut", desc := "(I)Z" } : Jvm.MethodName) prog_13_method_3_code (2 : Nat) (Option.some Jvm.ClassFile.FieldType.boolean)) ∈ lw_all := lw_g (lw_at lw_m2 65 rfl) rfl
theorem q701 : (Jvm.Cond.selects "FavourTown$Reader" ({ cls := "java/lang/Object", name := "getClass", desc := "()Ljava/lang/Class;" } : Jvm.MethodName) ({ cls := "java/lang/Object", name := "getClass", desc := "()Ljava/lang/Class;" } : Jvm.MethodName)) ∈ lw_all := lw_g (lw_at lw_m3 139 rfl) rfl
theorem q776 : (Jvm.Cond.instanceMethod ({ cls := "FavourTown$Reader", name := "begins", desc := "()V" } : Jvm.MethodName)) ∈ lw_all := lw_g (lw_at lw_m3 214 rfl) rfl
theorem q777 : (Jvm.Cond.selects "FavourTown$Reader" ({ cls := "FavourTown$Reader", name := "begins", desc := "()V" } : Jvm.MethodName) ({ cls := "FavourTown$Reader", name := "begins", desc := "()V" } : Jvm.MethodName)) ∈ lw_all := lw_g (lw_at lw_m3 215 rfl) rfl
theorem q778 : (Jvm.Cond.code ({ cls := "FavourTown$Reader", name := "begins", desc := "()V" } : Jvm.MethodName) prog_13_method_4_code (1 : Nat) (Option.none : Option Jvm.ClassFile.FieldType)) ∈ lw_all := lw_g (lw_at lw_m3 216 rfl) rfl
theorem q784 : (Jvm.Cond.instanceMethod ({ cls := "FavourTown$Reader", name := "isOver", desc := "()Z" } : Jvm.MethodName)) ∈ lw_all := lw_g (lw_at lw_m3 222 rfl) rfl
theorem q785 : (Jvm.Cond.selects "FavourTown$Reader" ({ cls := "FavourTown$Reader", name := "isOver", desc := "()Z" } : Jvm.MethodName) ({ cls := "FavourTown$Reader", name := "isOver", desc := "()Z" } : Jvm.MethodName)) ∈ lw_all := lw_g (lw_at lw_m3 223 rfl) rfl
theorem q786 : (Jvm.Cond.code ({ cls := "FavourTown$Reader", name := "isOver", desc := "()Z" } : Jvm.MethodName) prog_13_method_7_code (1 : Nat) (Option.some Jvm.ClassFile.FieldType.boolean)) ∈ lw_all := lw_g (lw_at lw_m3 224 rfl) rfl
theorem q787 : (Jvm.Cond.methodLink "FavourTown$Reader" (38 : Nat) ({ cls := "FavourTown$Reader", name := "blanks", desc := "()V" } : Jvm.MethodName)) ∈ lw_all := lw_g (lw_at lw_m3 225 rfl) rfl
theorem q788 : (Jvm.Cond.instanceMethod ({ cls := "FavourTown$Reader", name := "blanks", desc := "()V" } : Jvm.MethodName)) ∈ lw_all := lw_g (lw_at lw_m3 226 rfl) rfl
theorem q789 : (Jvm.Cond.selects "FavourTown$Reader" ({ cls := "FavourTown$Reader", name := "blanks", desc := "()V" } : Jvm.MethodName) ({ cls := "FavourTown$Reader", name := "blanks", desc := "()V" } : Jvm.MethodName)) ∈ lw_all := lw_g (lw_at lw_m3 227 rfl) rfl
theorem q790 : (Jvm.Cond.code ({ cls := "FavourTown$Reader", name := "blanks", desc := "()V" } : Jvm.MethodName) prog_13_method_6_code (1 : Nat) (Option.none : Option Jvm.ClassFile.FieldType)) ∈ lw_all := lw_g (lw_at lw_m3 228 rfl) rfl
theorem q791 : (Jvm.Cond.methodLink "FavourTown$Reader" (31 : Nat) ({ cls := "FavourTown$Reader", name := "byteAt", desc := "(I)I" } : Jvm.MethodName)) ∈ lw_all := lw_g (lw_at lw_m3 229 rfl) rfl
theorem q792 : (Jvm.Cond.privateMethod ({ cls := "FavourTown$Reader", name := "byteAt", desc := "(I)I" } : Jvm.MethodName)) ∈ lw_tbl := lw_at lw_m3 230 rfl
theorem q793 : (Jvm.Cond.instanceMethod ({ cls := "FavourTown$Reader", name := "byteAt", desc := "(I)I" } : Jvm.MethodName)) ∈ lw_all := lw_g (lw_at lw_m3 231 rfl) rfl
theorem q794 : (Jvm.Cond.code ({ cls := "FavourTown$Reader", name := "byteAt", desc := "(I)I" } : Jvm.MethodName) prog_13_method_5_code (2 : Nat) (Option.some Jvm.ClassFile.FieldType.int)) ∈ lw_all := lw_g (lw_at lw_m3 232 rfl) rfl
theorem q800 : (Jvm.Cond.instanceMethod ({ cls := "FavourTown$Reader", name := "word", desc := "()Ljava/lang/String;" } : Jvm.MethodName)) ∈ lw_all := lw_g (lw_at lw_m3 238 rfl) rfl
theorem q801 : (Jvm.Cond.selects "FavourTown$Reader" ({ cls := "FavourTown$Reader", name := "word", desc := "()Ljava/lang/String;" } : Jvm.MethodName) ({ cls := "FavourTown$Reader", name := "word", desc := "()Ljava/lang/String;" } : Jvm.MethodName)) ∈ lw_all := lw_g (lw_at lw_m3 239 rfl) rfl
theorem q802 : (Jvm.Cond.code ({ cls := "FavourTown$Reader", name := "word", desc := "()Ljava/lang/String;" } : Jvm.MethodName) prog_13_method_8_code (3 : Nat) (Option.some (Jvm.ClassFile.FieldType.object "java/lang/String"))) ∈ lw_all := lw_g (lw_at lw_m4 0 rfl) rfl
theorem q803 : (Jvm.Cond.methodLinkNest "FavourTown$Reader" (41 : Nat) ({ cls := "FavourTown", name := "in", desc := "(III)Z" } : Jvm.MethodName) "FavourTown") ∈ lw_tbl := lw_at lw_m4 1 rfl
theorem q806 : (Jvm.Cond.classLink "FavourTown$Reader" (45 : Nat) "java/lang/StringBuilder") ∈ lw_all := lw_g (lw_at lw_m4 4 rfl) rfl
theorem q808 : (Jvm.Cond.methodLink "FavourTown$Reader" (47 : Nat) ({ cls := "java/lang/StringBuilder", name := "<init>", desc := "()V" } : Jvm.MethodName)) ∈ lw_all := lw_g (lw_at lw_m4 6 rfl) rfl
theorem q837 : (Jvm.Cond.methodLink "FavourTown$Reader" (48 : Nat) ({ cls := "java/lang/StringBuilder", name := "append", desc := "(C)Ljava/lang/StringBuilder;" } : Jvm.MethodName)) ∈ lw_all := lw_g (lw_at lw_m4 35 rfl) rfl
theorem q915 : (Jvm.Cond.methodLink "FavourTown$Reader" (52 : Nat) ({ cls := "java/lang/StringBuilder", name := "toString", desc := "()Ljava/lang/String;" } : Jvm.MethodName)) ∈ lw_all := lw_g (lw_at lw_m4 113 rfl) rfl
theorem q1123 : (Jvm.Cond.instanceMethod ({ cls := "FavourTown$Reader", name := "wrong", desc := "()LFavourTown$Wrong;" } : Jvm.MethodName)) ∈ lw_all := lw_g (lw_at lw_m5 81 rfl) rfl
theorem q1124 : (Jvm.Cond.selects "FavourTown$Reader" ({ cls := "FavourTown$Reader", name := "wrong", desc := "()LFavourTown$Wrong;" } : Jvm.MethodName) ({ cls := "FavourTown$Reader", name := "wrong", desc := "()LFavourTown$Wrong;" } : Jvm.MethodName)) ∈ lw_all := lw_g (lw_at lw_m5 82 rfl) rfl
theorem q1125 : (Jvm.Cond.code ({ cls := "FavourTown$Reader", name := "wrong", desc := "()LFavourTown$Wrong;" } : Jvm.MethodName) prog_13_method_14_code (1 : Nat) (Option.some (Jvm.ClassFile.FieldType.object "FavourTown$Wrong"))) ∈ lw_all := lw_g (lw_at lw_m5 83 rfl) rfl
theorem q1126 : (Jvm.Cond.classLink "FavourTown$Reader" (72 : Nat) "FavourTown$Wrong") ∈ lw_all := lw_g (lw_at lw_m5 84 rfl) rfl
theorem q1135 : (Jvm.Cond.methodLink "FavourTown$Reader" (74 : Nat) ({ cls := "FavourTown$Wrong", name := "<init>", desc := "()V" } : Jvm.MethodName)) ∈ lw_all := lw_g (lw_at lw_m5 93 rfl) rfl
theorem q1228 : (Jvm.Cond.instanceMethod ({ cls := "FavourTown$Reader", name := "number", desc := "(II)I" } : Jvm.MethodName)) ∈ lw_all := lw_g (lw_at lw_m5 186 rfl) rfl
theorem q1229 : (Jvm.Cond.selects "FavourTown$Reader" ({ cls := "FavourTown$Reader", name := "number", desc := "(II)I" } : Jvm.MethodName) ({ cls := "FavourTown$Reader", name := "number", desc := "(II)I" } : Jvm.MethodName)) ∈ lw_all := lw_g (lw_at lw_m5 187 rfl) rfl
theorem q1230 : (Jvm.Cond.code ({ cls := "FavourTown$Reader", name := "number", desc := "(II)I" } : Jvm.MethodName) prog_13_method_12_code (4 : Nat) (Option.some Jvm.ClassFile.FieldType.int)) ∈ lw_all := lw_g (lw_at lw_m5 188 rfl) rfl
theorem q1231 : (Jvm.Cond.methodLink "FavourTown$Reader" (65 : Nat) ({ cls := "FavourTown$Reader", name := "wrong", desc := "()LFavourTown$Wrong;" } : Jvm.MethodName)) ∈ lw_all := lw_g (lw_at lw_m5 189 rfl) rfl
theorem q1251 : (Jvm.Cond.instanceMethod ({ cls := "FavourTown$Reader", name := "passes", desc := "(Ljava/lang/String;)Z" } : Jvm.MethodName)) ∈ lw_all := lw_g (lw_at lw_m5 209 rfl) rfl
theorem q1252 : (Jvm.Cond.selects "FavourTown$Reader" ({ cls := "FavourTown$Reader", name := "passes", desc := "(Ljava/lang/String;)Z" } : Jvm.MethodName) ({ cls := "FavourTown$Reader", name := "passes", desc := "(Ljava/lang/String;)Z" } : Jvm.MethodName)) ∈ lw_all := lw_g (lw_at lw_m5 210 rfl) rfl
theorem q1253 : (Jvm.Cond.code ({ cls := "FavourTown$Reader", name := "passes", desc := "(Ljava/lang/String;)Z" } : Jvm.MethodName) prog_13_method_9_code (2 : Nat) (Option.some Jvm.ClassFile.FieldType.boolean)) ∈ lw_all := lw_g (lw_at lw_m5 211 rfl) rfl
theorem q1254 : (Jvm.Cond.methodLink "FavourTown$Reader" (56 : Nat) ({ cls := "FavourTown$Reader", name := "word", desc := "()Ljava/lang/String;" } : Jvm.MethodName)) ∈ lw_all := lw_g (lw_at lw_m5 212 rfl) rfl
theorem q1255 : (Jvm.Cond.methodLink "FavourTown$Reader" (59 : Nat) ({ cls := "java/lang/String", name := "equals", desc := "(Ljava/lang/Object;)Z" } : Jvm.MethodName)) ∈ lw_all := lw_g (lw_at lw_m5 213 rfl) rfl
theorem q1311 : (Jvm.Cond.instanceMethod ({ cls := "FavourTown$Reader", name := "sign", desc := "(I)Z" } : Jvm.MethodName)) ∈ lw_all := lw_g (lw_at lw_m6 29 rfl) rfl
theorem q1312 : (Jvm.Cond.selects "FavourTown$Reader" ({ cls := "FavourTown$Reader", name := "sign", desc := "(I)Z" } : Jvm.MethodName) ({ cls := "FavourTown$Reader", name := "sign", desc := "(I)Z" } : Jvm.MethodName)) ∈ lw_all := lw_g (lw_at lw_m6 30 rfl) rfl
theorem q1313 : (Jvm.Cond.code ({ cls := "FavourTown$Reader", name := "sign", desc := "(I)Z" } : Jvm.MethodName) prog_13_method_10_code (2 : Nat) (Option.some Jvm.ClassFile.FieldType.boolean)) ∈ lw_all := lw_g (lw_at lw_m6 31 rfl) rfl
theorem q1406 : (Jvm.Cond.instanceMethod ({ cls := "FavourTown$Reader", name := "goesDeeper", desc := "()V" } : Jvm.MethodName)) ∈ lw_all := lw_g (lw_at lw_m6 124 rfl) rfl
theorem q1407 : (Jvm.Cond.selects "FavourTown$Reader" ({ cls := "FavourTown$Reader", name := "goesDeeper", desc := "()V" } : Jvm.MethodName) ({ cls := "FavourTown$Reader", name := "goesDeeper", desc := "()V" } : Jvm.MethodName)) ∈ lw_all := lw_g (lw_at lw_m6 125 rfl) rfl
theorem q1408 : (Jvm.Cond.code ({ cls := "FavourTown$Reader", name := "goesDeeper", desc := "()V" } : Jvm.MethodName) prog_13_method_15_code (1 : Nat) (Option.none : Option Jvm.ClassFile.FieldType)) ∈ lw_all := lw_g (lw_at lw_m6 126 rfl) rfl
theorem q1410 : (Jvm.Cond.instanceMethod ({ cls := "FavourTown$Reader", name := "comesUp", desc := "()V" } : Jvm.MethodName)) ∈ lw_all := lw_g (lw_at lw_m6 128 rfl) rfl
theorem q1411 : (Jvm.Cond.selects "FavourTown$Reader" ({ cls := "FavourTown$Reader", name := "comesUp", desc := "()V" } : Jvm.MethodName) ({ cls := "FavourTown$Reader", name := "comesUp", desc := "()V" } : Jvm.MethodName)) ∈ lw_all := lw_g (lw_at lw_m6 129 rfl) rfl
theorem q1412 : (Jvm.Cond.code ({ cls := "FavourTown$Reader", name := "comesUp", desc := "()V" } : Jvm.MethodName) prog_13_method_16_code (1 : Nat) (Option.none : Option Jvm.ClassFile.FieldType)) ∈ lw_all := lw_g (lw_at lw_m6 130 rfl) rfl
theorem q1462 : (Jvm.Cond.instanceMethod ({ cls := "FavourTown$Reader", name := "isFigure", desc := "()Z" } : Jvm.MethodName)) ∈ lw_all := lw_g (lw_at lw_m6 180 rfl) rfl
theorem q1463 : (Jvm.Cond.selects "FavourTown$Reader" ({ cls := "FavourTown$Reader", name := "isFigure", desc := "()Z" } : Jvm.MethodName) ({ cls := "FavourTown$Reader", name := "isFigure", desc := "()Z" } : Jvm.MethodName)) ∈ lw_all := lw_g (lw_at lw_m6 181 rfl) rfl
theorem q1464 : (Jvm.Cond.code ({ cls := "FavourTown$Reader", name := "isFigure", desc := "()Z" } : Jvm.MethodName) prog_13_method_11_code (1 : Nat) (Option.some Jvm.ClassFile.FieldType.boolean)) ∈ lw_all := lw_g (lw_at lw_m6 182 rfl) rfl
theorem q2345 : (Jvm.Cond.castable "FavourTown$Reader" "java/lang/Object") ∈ lw_tbl := lw_at lw_m10 103 rfl
theorem in_X4 : ∀ w ∈ wsX40, w ∈ lw_all := lw_in wsX40 [290, 292, 294, 296, 298, 300, 302] (by decide +kernel) (by decide +kernel)
/-! FavourTown$Flow -/
set_option maxRecDepth 100000
def RX5 : String := "FavourTown$Flow"
def TX5 : u_T := fun k => match k with
  | 0 => ("FavourTown$Flow", "room", "[[I", true)
  | 1 => ("FavourTown$Flow", "from", "[I", true)
  | 2 => ("FavourTown$Flow", "row", "[I", true)
  | _ => ("FavourTown$Flow", "this$0", "LFavourTown;", true)
def tyX5 : Nat → FieldType := fun k => match k with
  | 0 => .array (.array .int)
  | 1 => .array .int
  | 2 => .array .int
  | _ => .object "FavourTown"
abbrev wsX50 : List Cond := u_ws RX5 TX5 4
theorem nmX5 : ∀ a, a < 4 → ∀ b, b < 4 → a ≠ b → (TX5 a).2.1 ≠ (TX5 b).2.1 := by decide +kernel
theorem tyX5_ok : ∀ k, k < 4 → parseFieldDescriptor (TX5 k).2.2.1 = some (tyX5 k) := by decide +kernel
abbrev cX5_init : ByteArray := prog_6_method_1_code
def yX5_init : MethodName := ⟨RX5, "<init>", "(LFavourTown;)V"⟩
def dkwX5_init_1 : List UInt8 := [188, 10, 181, 0, 20, 42, 16, 12, 188, 10, 181, 0, 24, 177]
abbrev dktX5_init_1 : List UInt8 := dkwX5_init_1 ++ []
def dkwX5_init_0 : List UInt8 := [42, 43, 181, 0, 3, 42, 183, 0, 9, 42, 16, 12, 16, 12, 197, 0, 15, 2, 181, 0, 17, 42, 16, 12]
abbrev dktX5_init_0 : List UInt8 := dkwX5_init_0 ++ dktX5_init_1
theorem dksX5_init_0 : cX5_init.data.toList.drop 0 = dktX5_init_0 := by decide +kernel
theorem dksX5_init_1 : cX5_init.data.toList.drop 24 = dktX5_init_1 := dk_seg dksX5_init_0 24 rfl rfl
theorem dX5_init_0 : decode cX5_init 0 = .ok (.aload_n 0, 1) := dk_42 (dk_at dksX5_init_0 0 rfl rfl)
theorem dX5_init_1 : decode cX5_init 1 = .ok (.aload_n 1, 1) := dk_43 (dk_at dksX5_init_0 1 rfl rfl)
theorem dX5_init_2 : decode cX5_init 2 = .ok (.putfield 3, 3) := dk_181 0 3 (dk_at dksX5_init_0 2 rfl rfl)
theorem dX5_init_5 : decode cX5_init 5 = .ok (.aload_n 0, 1) := dk_42 (dk_at dksX5_init_0 5 rfl rfl)
theorem dX5_init_6 : decode cX5_init 6 = .ok (.invokespecial 9, 3) := dk_183 0 9 (dk_at dksX5_init_0 6 rfl rfl)
theorem dX5_init_9 : decode cX5_init 9 = .ok (.aload_n 0, 1) := dk_42 (dk_at dksX5_init_0 9 rfl rfl)
theorem dX5_init_10 : decode cX5_init 10 = .ok (.bipush 12, 2) := dk_16 12 (dk_at dksX5_init_0 10 rfl rfl)
theorem dX5_init_12 : decode cX5_init 12 = .ok (.bipush 12, 2) := dk_16 12 (dk_at dksX5_init_0 12 rfl rfl)
theorem dX5_init_14 : decode cX5_init 14 = .ok (.multianewarray 15 2, 4) := by decide +kernel
theorem dX5_init_18 : decode cX5_init 18 = .ok (.putfield 17, 3) := dk_181 0 17 (dk_at dksX5_init_0 18 rfl rfl)
theorem dX5_init_21 : decode cX5_init 21 = .ok (.aload_n 0, 1) := dk_42 (dk_at dksX5_init_0 21 rfl rfl)
theorem dX5_init_22 : decode cX5_init 22 = .ok (.bipush 12, 2) := dk_16 12 (dk_at dksX5_init_0 22 rfl rfl)
theorem dX5_init_24 : decode cX5_init 24 = .ok (.newarray .int, 2) := dk_188_10 (dk_at dksX5_init_1 0 rfl rfl)
theorem dX5_init_26 : decode cX5_init 26 = .ok (.putfield 20, 3) := dk_181 0 20 (dk_at dksX5_init_1 2 rfl rfl)
theorem dX5_init_29 : decode cX5_init 29 = .ok (.aload_n 0, 1) := dk_42 (dk_at dksX5_init_1 5 rfl rfl)
theorem dX5_init_30 : decode cX5_init 30 = .ok (.bipush 12, 2) := dk_16 12 (dk_at dksX5_init_1 6 rfl rfl)
theorem dX5_init_32 : decode cX5_init 32 = .ok (.newarray .int, 2) := dk_188_10 (dk_at dksX5_init_1 8 rfl rfl)
theorem dX5_init_34 : decode cX5_init 34 = .ok (.putfield 24, 3) := dk_181 0 24 (dk_at dksX5_init_1 10 rfl rfl)
theorem dX5_init_37 : decode cX5_init 37 = .ok (.return_, 1) := dk_177 (dk_at dksX5_init_1 13 rfl rfl)
abbrev cX5_begins : ByteArray := prog_6_method_2_code
def yX5_begins : MethodName := ⟨RX5, "begins", "()LFavourTown$Flow;"⟩
def dkwX5_begins_3 : List UInt8 := [132, 1, 1, 167, 255, 188, 42, 176]
abbrev dktX5_begins_3 : List UInt8 := dkwX5_begins_3 ++ []
def dkwX5_begins_2 : List UInt8 := [167, 0, 15, 42, 180, 0, 3, 180, 0, 27, 27, 28, 182, 0, 37, 79, 132, 2, 1, 167, 255, 210]
abbrev dktX5_begins_2 : List UInt8 := dkwX5_begins_2 ++ dktX5_begins_3
def dkwX5_begins_1 : List UInt8 := [180, 0, 27, 180, 0, 31, 162, 0, 38, 42, 180, 0, 17, 27, 50, 28, 27, 28, 160, 0, 7, 3]
abbrev dktX5_begins_1 : List UInt8 := dkwX5_begins_1 ++ dktX5_begins_2
def dkwX5_begins_0 : List UInt8 := [3, 60, 27, 42, 180, 0, 3, 180, 0, 27, 180, 0, 31, 162, 0, 60, 3, 61, 28, 42, 180, 0, 3]
abbrev dktX5_begins_0 : List UInt8 := dkwX5_begins_0 ++ dktX5_begins_1
theorem dksX5_begins_0 : cX5_begins.data.toList.drop 0 = dktX5_begins_0 := by decide +kernel
theorem dksX5_begins_1 : cX5_begins.data.toList.drop 23 = dktX5_begins_1 := dk_seg dksX5_begins_0 23 rfl rfl
theorem dksX5_begins_2 : cX5_begins.data.toList.drop 45 = dktX5_begins_2 := dk_seg dksX5_begins_1 22 rfl rfl
theorem dksX5_begins_3 : cX5_begins.data.toList.drop 67 = dktX5_begins_3 := dk_seg dksX5_begins_2 22 rfl rfl
theorem dX5_begins_0 : decode cX5_begins 0 = .ok (.iconst 0, 1) := dk_3 (dk_at dksX5_begins_0 0 rfl rfl)
theorem dX5_begins_1 : decode cX5_begins 1 = .ok (.istore_n 1, 1) := dk_60 (dk_at dksX5_begins_0 1 rfl rfl)
theorem dX5_begins_2 : decode cX5_begins 2 = .ok (.iload_n 1, 1) := dk_27 (dk_at dksX5_begins_0 2 rfl rfl)
theorem dX5_begins_3 : decode cX5_begins 3 = .ok (.aload_n 0, 1) := dk_42 (dk_at dksX5_begins_0 3 rfl rfl)
theorem dX5_begins_4 : decode cX5_begins 4 = .ok (.getfield 3, 3) := dk_180 0 3 (dk_at dksX5_begins_0 4 rfl rfl)
theorem dX5_begins_7 : decode cX5_begins 7 = .ok (.getfield 27, 3) := dk_180 0 27 (dk_at dksX5_begins_0 7 rfl rfl)
theorem dX5_begins_10 : decode cX5_begins 10 = .ok (.getfield 31, 3) := dk_180 0 31 (dk_at dksX5_begins_0 10 rfl rfl)
theorem dX5_begins_13 : decode cX5_begins 13 = .ok (.if_icmp .ge 60, 3) := dk_162 0 60 (dk_at dksX5_begins_0 13 rfl rfl)
theorem dX5_begins_16 : decode cX5_begins 16 = .ok (.iconst 0, 1) := dk_3 (dk_at dksX5_begins_0 16 rfl rfl)
theorem dX5_begins_17 : decode cX5_begins 17 = .ok (.istore_n 2, 1) := dk_61 (dk_at dksX5_begins_0 17 rfl rfl)
theorem dX5_begins_18 : decode cX5_begins 18 = .ok (.iload_n 2, 1) := dk_28 (dk_at dksX5_begins_0 18 rfl rfl)
theorem dX5_begins_19 : decode cX5_begins 19 = .ok (.aload_n 0, 1) := dk_42 (dk_at dksX5_begins_0 19 rfl rfl)
theorem dX5_begins_20 : decode cX5_begins 20 = .ok (.getfield 3, 3) := dk_180 0 3 (dk_at dksX5_begins_0 20 rfl rfl)
theorem dX5_begins_23 : decode cX5_begins 23 = .ok (.getfield 27, 3) := dk_180 0 27 (dk_at dksX5_begins_1 0 rfl rfl)
theorem dX5_begins_26 : decode cX5_begins 26 = .ok (.getfield 31, 3) := dk_180 0 31 (dk_at dksX5_begins_1 3 rfl rfl)
theorem dX5_begins_29 : decode cX5_begins 29 = .ok (.if_icmp .ge 38, 3) := dk_162 0 38 (dk_at dksX5_begins_1 6 rfl rfl)
theorem dX5_begins_32 : decode cX5_begins 32 = .ok (.aload_n 0, 1) := dk_42 (dk_at dksX5_begins_1 9 rfl rfl)
theorem dX5_begins_33 : decode cX5_begins 33 = .ok (.getfield 17, 3) := dk_180 0 17 (dk_at dksX5_begins_1 10 rfl rfl)
theorem dX5_begins_36 : decode cX5_begins 36 = .ok (.iload_n 1, 1) := dk_27 (dk_at dksX5_begins_1 13 rfl rfl)
theorem dX5_begins_37 : decode cX5_begins 37 = .ok (.aaload, 1) := dk_50 (dk_at dksX5_begins_1 14 rfl rfl)
theorem dX5_begins_38 : decode cX5_begins 38 = .ok (.iload_n 2, 1) := dk_28 (dk_at dksX5_begins_1 15 rfl rfl)
theorem dX5_begins_39 : decode cX5_begins 39 = .ok (.iload_n 1, 1) := dk_27 (dk_at dksX5_begins_1 16 rfl rfl)
theorem dX5_begins_40 : decode cX5_begins 40 = .ok (.iload_n 2, 1) := dk_28 (dk_at dksX5_begins_1 17 rfl rfl)
theorem dX5_begins_41 : decode cX5_begins 41 = .ok (.if_icmp .ne 7, 3) := dk_160 0 7 (dk_at dksX5_begins_1 18 rfl rfl)
theorem dX5_begins_44 : decode cX5_begins 44 = .ok (.iconst 0, 1) := dk_3 (dk_at dksX5_begins_1 21 rfl rfl)
theorem dX5_begins_45 : decode cX5_begins 45 = .ok (.goto 15, 3) := dk_167 0 15 (dk_at dksX5_begins_2 0 rfl rfl)
theorem dX5_begins_48 : decode cX5_begins 48 = .ok (.aload_n 0, 1) := dk_42 (dk_at dksX5_begins_2 3 rfl rfl)
theorem dX5_begins_49 : decode cX5_begins 49 = .ok (.getfield 3, 3) := dk_180 0 3 (dk_at dksX5_begins_2 4 rfl rfl)
theorem dX5_begins_52 : decode cX5_begins 52 = .ok (.getfield 27, 3) := dk_180 0 27 (dk_at dksX5_begins_2 7 rfl rfl)
theorem dX5_begins_55 : decode cX5_begins 55 = .ok (.iload_n 1, 1) := dk_27 (dk_at dksX5_begins_2 10 rfl rfl)
theorem dX5_begins_56 : decode cX5_begins 56 = .ok (.iload_n 2, 1) := dk_28 (dk_at dksX5_begins_2 11 rfl rfl)
theorem dX5_begins_57 : decode cX5_begins 57 = .ok (.invokevirtual 37, 3) := dk_182 0 37 (dk_at dksX5_begins_2 12 rfl rfl)
theorem dX5_begins_60 : decode cX5_begins 60 = .ok (.iastore, 1) := dk_79 (dk_at dksX5_begins_2 15 rfl rfl)
theorem dX5_begins_61 : decode cX5_begins 61 = .ok (.iinc 2 1, 3) := dk_132 2 1 (dk_at dksX5_begins_2 16 rfl rfl)
theorem dX5_begins_64 : decode cX5_begins 64 = .ok (.goto (-46), 3) := dk_167 255 210 (dk_at dksX5_begins_2 19 rfl rfl)
theorem dX5_begins_67 : decode cX5_begins 67 = .ok (.iinc 1 1, 3) := dk_132 1 1 (dk_at dksX5_begins_3 0 rfl rfl)
theorem dX5_begins_70 : decode cX5_begins 70 = .ok (.goto (-68), 3) := dk_167 255 188 (dk_at dksX5_begins_3 3 rfl rfl)
theorem dX5_begins_73 : decode cX5_begins 73 = .ok (.aload_n 0, 1) := dk_42 (dk_at dksX5_begins_3 6 rfl rfl)
theorem dX5_begins_74 : decode cX5_begins 74 = .ok (.areturn, 1) := dk_176 (dk_at dksX5_begins_3 7 rfl rfl)
abbrev cX5_most : ByteArray := prog_6_method_4_code
def yX5_most : MethodName := ⟨RX5, "most", "(II)I"⟩
def dkwX5_most_5 : List UInt8 := [54, 5, 167, 255, 201, 29, 21, 4, 96, 62, 167, 255, 130, 29, 172]
abbrev dktX5_most_5 : List UInt8 := dkwX5_most_5 ++ []
def dkwX5_most_4 : List UInt8 := [21, 5, 50, 42, 180, 0, 20, 21, 5, 46, 92, 46, 21, 4, 96, 79, 42, 180, 0, 20, 21, 5, 46]
abbrev dktX5_most_4 : List UInt8 := dkwX5_most_4 ++ dktX5_most_5
def dkwX5_most_3 : List UInt8 := [180, 0, 17, 42, 180, 0, 20, 21, 5, 46, 50, 21, 5, 92, 46, 21, 4, 100, 79, 42, 180, 0, 17]
abbrev dktX5_most_3 : List UInt8 := dkwX5_most_3 ++ dktX5_most_4
def dkwX5_most_2 : List UInt8 := [54, 4, 42, 180, 0, 20, 21, 5, 46, 54, 5, 167, 255, 219, 28, 54, 5, 21, 5, 27, 159, 0, 55, 42]
abbrev dktX5_most_2 : List UInt8 := dkwX5_most_2 ++ dktX5_most_3
def dkwX5_most_1 : List UInt8 := [27, 159, 0, 37, 21, 4, 42, 180, 0, 17, 42, 180, 0, 20, 21, 5, 46, 50, 21, 5, 46, 184, 0, 48]
abbrev dktX5_most_1 : List UInt8 := dkwX5_most_1 ++ dktX5_most_2
def dkwX5_most_0 : List UInt8 := [3, 62, 42, 27, 182, 0, 41, 28, 122, 4, 126, 4, 160, 0, 119, 18, 47, 54, 4, 28, 54, 5, 21, 5]
abbrev dktX5_most_0 : List UInt8 := dkwX5_most_0 ++ dktX5_most_1
theorem dksX5_most_0 : cX5_most.data.toList.drop 0 = dktX5_most_0 := by decide +kernel
theorem dksX5_most_1 : cX5_most.data.toList.drop 24 = dktX5_most_1 := dk_seg dksX5_most_0 24 rfl rfl
theorem dksX5_most_2 : cX5_most.data.toList.drop 48 = dktX5_most_2 := dk_seg dksX5_most_1 24 rfl rfl
theorem dksX5_most_3 : cX5_most.data.toList.drop 72 = dktX5_most_3 := dk_seg dksX5_most_2 24 rfl rfl
theorem dksX5_most_4 : cX5_most.data.toList.drop 95 = dktX5_most_4 := dk_seg dksX5_most_3 23 rfl rfl
theorem dksX5_most_5 : cX5_most.data.toList.drop 118 = dktX5_most_5 := dk_seg dksX5_most_4 23 rfl rfl
theorem dX5_most_0 : decode cX5_most 0 = .ok (.iconst 0, 1) := dk_3 (dk_at dksX5_most_0 0 rfl rfl)
theorem dX5_most_1 : decode cX5_most 1 = .ok (.istore_n 3, 1) := dk_62 (dk_at dksX5_most_0 1 rfl rfl)
theorem dX5_most_2 : decode cX5_most 2 = .ok (.aload_n 0, 1) := dk_42 (dk_at dksX5_most_0 2 rfl rfl)
theorem dX5_most_3 : decode cX5_most 3 = .ok (.iload_n 1, 1) := dk_27 (dk_at dksX5_most_0 3 rfl rfl)
theorem dX5_most_4 : decode cX5_most 4 = .ok (.invokevirtual 41, 3) := dk_182 0 41 (dk_at dksX5_most_0 4 rfl rfl)
theorem dX5_most_7 : decode cX5_most 7 = .ok (.iload_n 2, 1) := dk_28 (dk_at dksX5_most_0 7 rfl rfl)
theorem dX5_most_8 : decode cX5_most 8 = .ok (.ishr, 1) := dk_122 (dk_at dksX5_most_0 8 rfl rfl)
theorem dX5_most_9 : decode cX5_most 9 = .ok (.iconst 1, 1) := dk_4 (dk_at dksX5_most_0 9 rfl rfl)
theorem dX5_most_10 : decode cX5_most 10 = .ok (.iand, 1) := dk_126 (dk_at dksX5_most_0 10 rfl rfl)
theorem dX5_most_11 : decode cX5_most 11 = .ok (.iconst 1, 1) := dk_4 (dk_at dksX5_most_0 11 rfl rfl)
theorem dX5_most_12 : decode cX5_most 12 = .ok (.if_icmp .ne 119, 3) := dk_160 0 119 (dk_at dksX5_most_0 12 rfl rfl)
theorem dX5_most_15 : decode cX5_most 15 = .ok (.ldc 47, 2) := dk_18 47 (dk_at dksX5_most_0 15 rfl rfl)
theorem dX5_most_17 : decode cX5_most 17 = .ok (.istore 4, 2) := dk_54 4 (dk_at dksX5_most_0 17 rfl rfl)
theorem dX5_most_19 : decode cX5_most 19 = .ok (.iload_n 2, 1) := dk_28 (dk_at dksX5_most_0 19 rfl rfl)
theorem dX5_most_20 : decode cX5_most 20 = .ok (.istore 5, 2) := dk_54 5 (dk_at dksX5_most_0 20 rfl rfl)
theorem dX5_most_22 : decode cX5_most 22 = .ok (.iload 5, 2) := dk_21 5 (dk_at dksX5_most_0 22 rfl rfl)
theorem dX5_most_24 : decode cX5_most 24 = .ok (.iload_n 1, 1) := dk_27 (dk_at dksX5_most_1 0 rfl rfl)
theorem dX5_most_25 : decode cX5_most 25 = .ok (.if_icmp .eq 37, 3) := dk_159 0 37 (dk_at dksX5_most_1 1 rfl rfl)
theorem dX5_most_28 : decode cX5_most 28 = .ok (.iload 4, 2) := dk_21 4 (dk_at dksX5_most_1 4 rfl rfl)
theorem dX5_most_30 : decode cX5_most 30 = .ok (.aload_n 0, 1) := dk_42 (dk_at dksX5_most_1 6 rfl rfl)
theorem dX5_most_31 : decode cX5_most 31 = .ok (.getfield 17, 3) := dk_180 0 17 (dk_at dksX5_most_1 7 rfl rfl)
theorem dX5_most_34 : decode cX5_most 34 = .ok (.aload_n 0, 1) := dk_42 (dk_at dksX5_most_1 10 rfl rfl)
theorem dX5_most_35 : decode cX5_most 35 = .ok (.getfield 20, 3) := dk_180 0 20 (dk_at dksX5_most_1 11 rfl rfl)
theorem dX5_most_38 : decode cX5_most 38 = .ok (.iload 5, 2) := dk_21 5 (dk_at dksX5_most_1 14 rfl rfl)
theorem dX5_most_40 : decode cX5_most 40 = .ok (.iaload, 1) := dk_46 (dk_at dksX5_most_1 16 rfl rfl)
theorem dX5_most_41 : decode cX5_most 41 = .ok (.aaload, 1) := dk_50 (dk_at dksX5_most_1 17 rfl rfl)
theorem dX5_most_42 : decode cX5_most 42 = .ok (.iload 5, 2) := dk_21 5 (dk_at dksX5_most_1 18 rfl rfl)
theorem dX5_most_44 : decode cX5_most 44 = .ok (.iaload, 1) := dk_46 (dk_at dksX5_most_1 20 rfl rfl)
theorem dX5_most_45 : decode cX5_most 45 = .ok (.invokestatic 48, 3) := dk_184 0 48 (dk_at dksX5_most_1 21 rfl rfl)
theorem dX5_most_48 : decode cX5_most 48 = .ok (.istore 4, 2) := dk_54 4 (dk_at dksX5_most_2 0 rfl rfl)
theorem dX5_most_50 : decode cX5_most 50 = .ok (.aload_n 0, 1) := dk_42 (dk_at dksX5_most_2 2 rfl rfl)
theorem dX5_most_51 : decode cX5_most 51 = .ok (.getfield 20, 3) := dk_180 0 20 (dk_at dksX5_most_2 3 rfl rfl)
theorem dX5_most_54 : decode cX5_most 54 = .ok (.iload 5, 2) := dk_21 5 (dk_at dksX5_most_2 6 rfl rfl)
theorem dX5_most_56 : decode cX5_most 56 = .ok (.iaload, 1) := dk_46 (dk_at dksX5_most_2 8 rfl rfl)
theorem dX5_most_57 : decode cX5_most 57 = .ok (.istore 5, 2) := dk_54 5 (dk_at dksX5_most_2 9 rfl rfl)
theorem dX5_most_59 : decode cX5_most 59 = .ok (.goto (-37), 3) := dk_167 255 219 (dk_at dksX5_most_2 11 rfl rfl)
theorem dX5_most_62 : decode cX5_most 62 = .ok (.iload_n 2, 1) := dk_28 (dk_at dksX5_most_2 14 rfl rfl)
theorem dX5_most_63 : decode cX5_most 63 = .ok (.istore 5, 2) := dk_54 5 (dk_at dksX5_most_2 15 rfl rfl)
theorem dX5_most_65 : decode cX5_most 65 = .ok (.iload 5, 2) := dk_21 5 (dk_at dksX5_most_2 17 rfl rfl)
theorem dX5_most_67 : decode cX5_most 67 = .ok (.iload_n 1, 1) := dk_27 (dk_at dksX5_most_2 19 rfl rfl)
theorem dX5_most_68 : decode cX5_most 68 = .ok (.if_icmp .eq 55, 3) := dk_159 0 55 (dk_at dksX5_most_2 20 rfl rfl)
theorem dX5_most_71 : decode cX5_most 71 = .ok (.aload_n 0, 1) := dk_42 (dk_at dksX5_most_2 23 rfl rfl)
theorem dX5_most_72 : decode cX5_most 72 = .ok (.getfield 17, 3) := dk_180 0 17 (dk_at dksX5_most_3 0 rfl rfl)
theorem dX5_most_75 : decode cX5_most 75 = .ok (.aload_n 0, 1) := dk_42 (dk_at dksX5_most_3 3 rfl rfl)
theorem dX5_most_76 : decode cX5_most 76 = .ok (.getfield 20, 3) := dk_180 0 20 (dk_at dksX5_most_3 4 rfl rfl)
theorem dX5_most_79 : decode cX5_most 79 = .ok (.iload 5, 2) := dk_21 5 (dk_at dksX5_most_3 7 rfl rfl)
theorem dX5_most_81 : decode cX5_most 81 = .ok (.iaload, 1) := dk_46 (dk_at dksX5_most_3 9 rfl rfl)
theorem dX5_most_82 : decode cX5_most 82 = .ok (.aaload, 1) := dk_50 (dk_at dksX5_most_3 10 rfl rfl)
theorem dX5_most_83 : decode cX5_most 83 = .ok (.iload 5, 2) := dk_21 5 (dk_at dksX5_most_3 11 rfl rfl)
theorem dX5_most_85 : decode cX5_most 85 = .ok (.dup2, 1) := dk_92 (dk_at dksX5_most_3 13 rfl rfl)
theorem dX5_most_86 : decode cX5_most 86 = .ok (.iaload, 1) := dk_46 (dk_at dksX5_most_3 14 rfl rfl)
theorem dX5_most_87 : decode cX5_most 87 = .ok (.iload 4, 2) := dk_21 4 (dk_at dksX5_most_3 15 rfl rfl)
theorem dX5_most_89 : decode cX5_most 89 = .ok (.isub, 1) := dk_100 (dk_at dksX5_most_3 17 rfl rfl)
theorem dX5_most_90 : decode cX5_most 90 = .ok (.iastore, 1) := dk_79 (dk_at dksX5_most_3 18 rfl rfl)
theorem dX5_most_91 : decode cX5_most 91 = .ok (.aload_n 0, 1) := dk_42 (dk_at dksX5_most_3 19 rfl rfl)
theorem dX5_most_92 : decode cX5_most 92 = .ok (.getfield 17, 3) := dk_180 0 17 (dk_at dksX5_most_3 20 rfl rfl)
theorem dX5_most_95 : decode cX5_most 95 = .ok (.iload 5, 2) := dk_21 5 (dk_at dksX5_most_4 0 rfl rfl)
theorem dX5_most_97 : decode cX5_most 97 = .ok (.aaload, 1) := dk_50 (dk_at dksX5_most_4 2 rfl rfl)
theorem dX5_most_98 : decode cX5_most 98 = .ok (.aload_n 0, 1) := dk_42 (dk_at dksX5_most_4 3 rfl rfl)
theorem dX5_most_99 : decode cX5_most 99 = .ok (.getfield 20, 3) := dk_180 0 20 (dk_at dksX5_most_4 4 rfl rfl)
theorem dX5_most_102 : decode cX5_most 102 = .ok (.iload 5, 2) := dk_21 5 (dk_at dksX5_most_4 7 rfl rfl)
theorem dX5_most_104 : decode cX5_most 104 = .ok (.iaload, 1) := dk_46 (dk_at dksX5_most_4 9 rfl rfl)
theorem dX5_most_105 : decode cX5_most 105 = .ok (.dup2, 1) := dk_92 (dk_at dksX5_most_4 10 rfl rfl)
theorem dX5_most_106 : decode cX5_most 106 = .ok (.iaload, 1) := dk_46 (dk_at dksX5_most_4 11 rfl rfl)
theorem dX5_most_107 : decode cX5_most 107 = .ok (.iload 4, 2) := dk_21 4 (dk_at dksX5_most_4 12 rfl rfl)
theorem dX5_most_109 : decode cX5_most 109 = .ok (.iadd, 1) := dk_96 (dk_at dksX5_most_4 14 rfl rfl)
theorem dX5_most_110 : decode cX5_most 110 = .ok (.iastore, 1) := dk_79 (dk_at dksX5_most_4 15 rfl rfl)
theorem dX5_most_111 : decode cX5_most 111 = .ok (.aload_n 0, 1) := dk_42 (dk_at dksX5_most_4 16 rfl rfl)
theorem dX5_most_112 : decode cX5_most 112 = .ok (.getfield 20, 3) := dk_180 0 20 (dk_at dksX5_most_4 17 rfl rfl)
theorem dX5_most_115 : decode cX5_most 115 = .ok (.iload 5, 2) := dk_21 5 (dk_at dksX5_most_4 20 rfl rfl)
theorem dX5_most_117 : decode cX5_most 117 = .ok (.iaload, 1) := dk_46 (dk_at dksX5_most_4 22 rfl rfl)
theorem dX5_most_118 : decode cX5_most 118 = .ok (.istore 5, 2) := dk_54 5 (dk_at dksX5_most_5 0 rfl rfl)
theorem dX5_most_120 : decode cX5_most 120 = .ok (.goto (-55), 3) := dk_167 255 201 (dk_at dksX5_most_5 2 rfl rfl)
theorem dX5_most_123 : decode cX5_most 123 = .ok (.iload_n 3, 1) := dk_29 (dk_at dksX5_most_5 5 rfl rfl)
theorem dX5_most_124 : decode cX5_most 124 = .ok (.iload 4, 2) := dk_21 4 (dk_at dksX5_most_5 6 rfl rfl)
theorem dX5_most_126 : decode cX5_most 126 = .ok (.iadd, 1) := dk_96 (dk_at dksX5_most_5 8 rfl rfl)
theorem dX5_most_127 : decode cX5_most 127 = .ok (.istore_n 3, 1) := dk_62 (dk_at dksX5_most_5 9 rfl rfl)
theorem dX5_most_128 : decode cX5_most 128 = .ok (.goto (-126), 3) := dk_167 255 130 (dk_at dksX5_most_5 10 rfl rfl)
theorem dX5_most_131 : decode cX5_most 131 = .ok (.iload_n 3, 1) := dk_29 (dk_at dksX5_most_5 13 rfl rfl)
theorem dX5_most_132 : decode cX5_most 132 = .ok (.ireturn, 1) := dk_172 (dk_at dksX5_most_5 14 rfl rfl)
abbrev cX5_reached : ByteArray := prog_6_method_3_code
def yX5_reached : MethodName := ⟨RX5, "reached", "(I)I"⟩
def dkwX5_reached_4 : List UInt8 := [180, 0, 24, 29, 21, 5, 79, 132, 3, 1, 132, 5, 1, 167, 255, 175, 132, 4, 1, 167, 255, 160, 28, 172]
abbrev dktX5_reached_4 : List UInt8 := dkwX5_reached_4 ++ []
def dkwX5_reached_3 : List UInt8 := [28, 4, 21, 5, 120, 128, 61, 42, 180, 0, 20, 21, 5, 42, 180, 0, 24, 21, 4, 46, 79, 42]
abbrev dktX5_reached_3 : List UInt8 := dkwX5_reached_3 ++ dktX5_reached_4
def dkwX5_reached_2 : List UInt8 := [159, 0, 56, 42, 180, 0, 17, 42, 180, 0, 24, 21, 4, 46, 50, 21, 5, 46, 154, 0, 6, 167, 0, 35]
abbrev dktX5_reached_2 : List UInt8 := dkwX5_reached_2 ++ dktX5_reached_3
def dkwX5_reached_1 : List UInt8 := [54, 5, 21, 5, 42, 180, 0, 3, 180, 0, 27, 180, 0, 31, 162, 0, 72, 28, 21, 5, 122, 4, 126, 4]
abbrev dktX5_reached_1 : List UInt8 := dkwX5_reached_1 ++ dktX5_reached_2
def dkwX5_reached_0 : List UInt8 := [4, 27, 120, 61, 4, 62, 42, 180, 0, 24, 3, 27, 79, 3, 54, 4, 21, 4, 29, 162, 0, 96, 3]
abbrev dktX5_reached_0 : List UInt8 := dkwX5_reached_0 ++ dktX5_reached_1
theorem dksX5_reached_0 : cX5_reached.data.toList.drop 0 = dktX5_reached_0 := by decide +kernel
theorem dksX5_reached_1 : cX5_reached.data.toList.drop 23 = dktX5_reached_1 := dk_seg dksX5_reached_0 23 rfl rfl
theorem dksX5_reached_2 : cX5_reached.data.toList.drop 47 = dktX5_reached_2 := dk_seg dksX5_reached_1 24 rfl rfl
theorem dksX5_reached_3 : cX5_reached.data.toList.drop 71 = dktX5_reached_3 := dk_seg dksX5_reached_2 24 rfl rfl
theorem dksX5_reached_4 : cX5_reached.data.toList.drop 93 = dktX5_reached_4 := dk_seg dksX5_reached_3 22 rfl rfl
theorem dX5_reached_0 : decode cX5_reached 0 = .ok (.iconst 1, 1) := dk_4 (dk_at dksX5_reached_0 0 rfl rfl)
theorem dX5_reached_1 : decode cX5_reached 1 = .ok (.iload_n 1, 1) := dk_27 (dk_at dksX5_reached_0 1 rfl rfl)
theorem dX5_reached_2 : decode cX5_reached 2 = .ok (.ishl, 1) := dk_120 (dk_at dksX5_reached_0 2 rfl rfl)
theorem dX5_reached_3 : decode cX5_reached 3 = .ok (.istore_n 2, 1) := dk_61 (dk_at dksX5_reached_0 3 rfl rfl)
theorem dX5_reached_4 : decode cX5_reached 4 = .ok (.iconst 1, 1) := dk_4 (dk_at dksX5_reached_0 4 rfl rfl)
theorem dX5_reached_5 : decode cX5_reached 5 = .ok (.istore_n 3, 1) := dk_62 (dk_at dksX5_reached_0 5 rfl rfl)
theorem dX5_reached_6 : decode cX5_reached 6 = .ok (.aload_n 0, 1) := dk_42 (dk_at dksX5_reached_0 6 rfl rfl)
theorem dX5_reached_7 : decode cX5_reached 7 = .ok (.getfield 24, 3) := dk_180 0 24 (dk_at dksX5_reached_0 7 rfl rfl)
theorem dX5_reached_10 : decode cX5_reached 10 = .ok (.iconst 0, 1) := dk_3 (dk_at dksX5_reached_0 10 rfl rfl)
theorem dX5_reached_11 : decode cX5_reached 11 = .ok (.iload_n 1, 1) := dk_27 (dk_at dksX5_reached_0 11 rfl rfl)
theorem dX5_reached_12 : decode cX5_reached 12 = .ok (.iastore, 1) := dk_79 (dk_at dksX5_reached_0 12 rfl rfl)
theorem dX5_reached_13 : decode cX5_reached 13 = .ok (.iconst 0, 1) := dk_3 (dk_at dksX5_reached_0 13 rfl rfl)
theorem dX5_reached_14 : decode cX5_reached 14 = .ok (.istore 4, 2) := dk_54 4 (dk_at dksX5_reached_0 14 rfl rfl)
theorem dX5_reached_16 : decode cX5_reached 16 = .ok (.iload 4, 2) := dk_21 4 (dk_at dksX5_reached_0 16 rfl rfl)
theorem dX5_reached_18 : decode cX5_reached 18 = .ok (.iload_n 3, 1) := dk_29 (dk_at dksX5_reached_0 18 rfl rfl)
theorem dX5_reached_19 : decode cX5_reached 19 = .ok (.if_icmp .ge 96, 3) := dk_162 0 96 (dk_at dksX5_reached_0 19 rfl rfl)
theorem dX5_reached_22 : decode cX5_reached 22 = .ok (.iconst 0, 1) := dk_3 (dk_at dksX5_reached_0 22 rfl rfl)
theorem dX5_reached_23 : decode cX5_reached 23 = .ok (.istore 5, 2) := dk_54 5 (dk_at dksX5_reached_1 0 rfl rfl)
theorem dX5_reached_25 : decode cX5_reached 25 = .ok (.iload 5, 2) := dk_21 5 (dk_at dksX5_reached_1 2 rfl rfl)
theorem dX5_reached_27 : decode cX5_reached 27 = .ok (.aload_n 0, 1) := dk_42 (dk_at dksX5_reached_1 4 rfl rfl)
theorem dX5_reached_28 : decode cX5_reached 28 = .ok (.getfield 3, 3) := dk_180 0 3 (dk_at dksX5_reached_1 5 rfl rfl)
theorem dX5_reached_31 : decode cX5_reached 31 = .ok (.getfield 27, 3) := dk_180 0 27 (dk_at dksX5_reached_1 8 rfl rfl)
theorem dX5_reached_34 : decode cX5_reached 34 = .ok (.getfield 31, 3) := dk_180 0 31 (dk_at dksX5_reached_1 11 rfl rfl)
theorem dX5_reached_37 : decode cX5_reached 37 = .ok (.if_icmp .ge 72, 3) := dk_162 0 72 (dk_at dksX5_reached_1 14 rfl rfl)
theorem dX5_reached_40 : decode cX5_reached 40 = .ok (.iload_n 2, 1) := dk_28 (dk_at dksX5_reached_1 17 rfl rfl)
theorem dX5_reached_41 : decode cX5_reached 41 = .ok (.iload 5, 2) := dk_21 5 (dk_at dksX5_reached_1 18 rfl rfl)
theorem dX5_reached_43 : decode cX5_reached 43 = .ok (.ishr, 1) := dk_122 (dk_at dksX5_reached_1 20 rfl rfl)
theorem dX5_reached_44 : decode cX5_reached 44 = .ok (.iconst 1, 1) := dk_4 (dk_at dksX5_reached_1 21 rfl rfl)
theorem dX5_reached_45 : decode cX5_reached 45 = .ok (.iand, 1) := dk_126 (dk_at dksX5_reached_1 22 rfl rfl)
theorem dX5_reached_46 : decode cX5_reached 46 = .ok (.iconst 1, 1) := dk_4 (dk_at dksX5_reached_1 23 rfl rfl)
theorem dX5_reached_47 : decode cX5_reached 47 = .ok (.if_icmp .eq 56, 3) := dk_159 0 56 (dk_at dksX5_reached_2 0 rfl rfl)
theorem dX5_reached_50 : decode cX5_reached 50 = .ok (.aload_n 0, 1) := dk_42 (dk_at dksX5_reached_2 3 rfl rfl)
theorem dX5_reached_51 : decode cX5_reached 51 = .ok (.getfield 17, 3) := dk_180 0 17 (dk_at dksX5_reached_2 4 rfl rfl)
theorem dX5_reached_54 : decode cX5_reached 54 = .ok (.aload_n 0, 1) := dk_42 (dk_at dksX5_reached_2 7 rfl rfl)
theorem dX5_reached_55 : decode cX5_reached 55 = .ok (.getfield 24, 3) := dk_180 0 24 (dk_at dksX5_reached_2 8 rfl rfl)
theorem dX5_reached_58 : decode cX5_reached 58 = .ok (.iload 4, 2) := dk_21 4 (dk_at dksX5_reached_2 11 rfl rfl)
theorem dX5_reached_60 : decode cX5_reached 60 = .ok (.iaload, 1) := dk_46 (dk_at dksX5_reached_2 13 rfl rfl)
theorem dX5_reached_61 : decode cX5_reached 61 = .ok (.aaload, 1) := dk_50 (dk_at dksX5_reached_2 14 rfl rfl)
theorem dX5_reached_62 : decode cX5_reached 62 = .ok (.iload 5, 2) := dk_21 5 (dk_at dksX5_reached_2 15 rfl rfl)
theorem dX5_reached_64 : decode cX5_reached 64 = .ok (.iaload, 1) := dk_46 (dk_at dksX5_reached_2 17 rfl rfl)
theorem dX5_reached_65 : decode cX5_reached 65 = .ok (.ifCond .ne 6, 3) := dk_154 0 6 (dk_at dksX5_reached_2 18 rfl rfl)
theorem dX5_reached_68 : decode cX5_reached 68 = .ok (.goto 35, 3) := dk_167 0 35 (dk_at dksX5_reached_2 21 rfl rfl)
theorem dX5_reached_71 : decode cX5_reached 71 = .ok (.iload_n 2, 1) := dk_28 (dk_at dksX5_reached_3 0 rfl rfl)
theorem dX5_reached_72 : decode cX5_reached 72 = .ok (.iconst 1, 1) := dk_4 (dk_at dksX5_reached_3 1 rfl rfl)
theorem dX5_reached_73 : decode cX5_reached 73 = .ok (.iload 5, 2) := dk_21 5 (dk_at dksX5_reached_3 2 rfl rfl)
theorem dX5_reached_75 : decode cX5_reached 75 = .ok (.ishl, 1) := dk_120 (dk_at dksX5_reached_3 4 rfl rfl)
theorem dX5_reached_76 : decode cX5_reached 76 = .ok (.ior, 1) := dk_128 (dk_at dksX5_reached_3 5 rfl rfl)
theorem dX5_reached_77 : decode cX5_reached 77 = .ok (.istore_n 2, 1) := dk_61 (dk_at dksX5_reached_3 6 rfl rfl)
theorem dX5_reached_78 : decode cX5_reached 78 = .ok (.aload_n 0, 1) := dk_42 (dk_at dksX5_reached_3 7 rfl rfl)
theorem dX5_reached_79 : decode cX5_reached 79 = .ok (.getfield 20, 3) := dk_180 0 20 (dk_at dksX5_reached_3 8 rfl rfl)
theorem dX5_reached_82 : decode cX5_reached 82 = .ok (.iload 5, 2) := dk_21 5 (dk_at dksX5_reached_3 11 rfl rfl)
theorem dX5_reached_84 : decode cX5_reached 84 = .ok (.aload_n 0, 1) := dk_42 (dk_at dksX5_reached_3 13 rfl rfl)
theorem dX5_reached_85 : decode cX5_reached 85 = .ok (.getfield 24, 3) := dk_180 0 24 (dk_at dksX5_reached_3 14 rfl rfl)
theorem dX5_reached_88 : decode cX5_reached 88 = .ok (.iload 4, 2) := dk_21 4 (dk_at dksX5_reached_3 17 rfl rfl)
theorem dX5_reached_90 : decode cX5_reached 90 = .ok (.iaload, 1) := dk_46 (dk_at dksX5_reached_3 19 rfl rfl)
theorem dX5_reached_91 : decode cX5_reached 91 = .ok (.iastore, 1) := dk_79 (dk_at dksX5_reached_3 20 rfl rfl)
theorem dX5_reached_92 : decode cX5_reached 92 = .ok (.aload_n 0, 1) := dk_42 (dk_at dksX5_reached_3 21 rfl rfl)
theorem dX5_reached_93 : decode cX5_reached 93 = .ok (.getfield 24, 3) := dk_180 0 24 (dk_at dksX5_reached_4 0 rfl rfl)
theorem dX5_reached_96 : decode cX5_reached 96 = .ok (.iload_n 3, 1) := dk_29 (dk_at dksX5_reached_4 3 rfl rfl)
theorem dX5_reached_97 : decode cX5_reached 97 = .ok (.iload 5, 2) := dk_21 5 (dk_at dksX5_reached_4 4 rfl rfl)
theorem dX5_reached_99 : decode cX5_reached 99 = .ok (.iastore, 1) := dk_79 (dk_at dksX5_reached_4 6 rfl rfl)
theorem dX5_reached_100 : decode cX5_reached 100 = .ok (.iinc 3 1, 3) := dk_132 3 1 (dk_at dksX5_reached_4 7 rfl rfl)
theorem dX5_reached_103 : decode cX5_reached 103 = .ok (.iinc 5 1, 3) := dk_132 5 1 (dk_at dksX5_reached_4 10 rfl rfl)
theorem dX5_reached_106 : decode cX5_reached 106 = .ok (.goto (-81), 3) := dk_167 255 175 (dk_at dksX5_reached_4 13 rfl rfl)
theorem dX5_reached_109 : decode cX5_reached 109 = .ok (.iinc 4 1, 3) := dk_132 4 1 (dk_at dksX5_reached_4 16 rfl rfl)
theorem dX5_reached_112 : decode cX5_reached 112 = .ok (.goto (-96), 3) := dk_167 255 160 (dk_at dksX5_reached_4 19 rfl rfl)
theorem dX5_reached_115 : decode cX5_reached 115 = .ok (.iload_n 2, 1) := dk_28 (dk_at dksX5_reached_4 22 rfl rfl)
theorem dX5_reached_116 : decode cX5_reached 116 = .ok (.ireturn, 1) := dk_172 (dk_at dksX5_reached_4 23 rfl rfl)
theorem q90 : (Jvm.Cond.initialized "FavourTown$Flow") ∈ lw_all := lw_g (lw_at lw_m1 8 rfl) rfl
theorem q221 : (Jvm.Cond.fieldLinkNest "FavourTown$Flow" (31 : Nat) "FavourTown$World" "people" "I" "FavourTown") ∈ lw_tbl := lw_at lw_m1 139 rfl
theorem q307 : (Jvm.Cond.instantiable "FavourTown$Flow" (4 : Nat)) ∈ lw_all := lw_g (lw_at lw_m1 225 rfl) rfl
theorem q309 : (Jvm.Cond.instanceMethod ({ cls := "FavourTown$Flow", name := "<init>", desc := "(LFavourTown;)V" } : Jvm.MethodName)) ∈ lw_all := lw_g (lw_at lw_m1 227 rfl) rfl
theorem q310 : (Jvm.Cond.code ({ cls := "FavourTown$Flow", name := "<init>", desc := "(LFavourTown;)V" } : Jvm.MethodName) prog_6_method_1_code (2 : Nat) (Option.none : Option Jvm.ClassFile.FieldType)) ∈ lw_all := lw_g (lw_at lw_m1 228 rfl) rfl
theorem q311 : (Jvm.Cond.methodLink "FavourTown$Flow" (9 : Nat) ({ cls := "java/lang/Object", name := "<init>", desc := "()V" } : Jvm.MethodName)) ∈ lw_all := lw_g (lw_at lw_m1 229 rfl) rfl
theorem q312 : (Jvm.Cond.classLink "FavourTown$Flow" (15 : Nat) "[[I") ∈ lw_all := lw_g (lw_at lw_m1 230 rfl) rfl
theorem q313 : (Jvm.Cond.fieldLink "FavourTown$Flow" (17 : Nat) "FavourTown$Flow" "room" "[[I") ∈ lw_all := lw_g (lw_at lw_m1 231 rfl) rfl
theorem q315 : (Jvm.Cond.fieldLink "FavourTown$Flow" (20 : Nat) "FavourTown$Flow" "from" "[I") ∈ lw_all := lw_g (lw_at lw_m1 233 rfl) rfl
theorem q316 : (Jvm.Cond.fieldLink "FavourTown$Flow" (24 : Nat) "FavourTown$Flow" "row" "[I") ∈ lw_all := lw_g (lw_at lw_m1 234 rfl) rfl
theorem q317 : (Jvm.Cond.fieldLink "FavourTown$Flow" (3 : Nat) "FavourTown$Flow" "this$0" "LFavourTown;") ∈ lw_all := lw_g (lw_at lw_m1 235 rfl) rfl
theorem q318 : (Jvm.Cond.laysFinal "FavourTown$Flow" "FavourTown$Flow" "room" "[[I") ∈ lw_all := lw_g (lw_at lw_m1 236 rfl) rfl
theorem q319 : (Jvm.Cond.soleField "FavourTown$Flow" "room") ∈ lw_all := lw_g (lw_at lw_m1 237 rfl) rfl
theorem q320 : (Jvm.Cond.laysFinal "FavourTown$Flow" "FavourTown$Flow" "from" "[I") ∈ lw_all := lw_g (lw_at lw_m1 238 rfl) rfl
theorem q321 : (Jvm.Cond.soleField "FavourTown$Flow" "from") ∈ lw_all := lw_g (lw_at lw_m1 239 rfl) rfl
theorem q322 : (Jvm.Cond.laysFinal "FavourTown$Flow" "FavourTown$Flow" "row" "[I") ∈ lw_all := lw_g (lw_at lw_m2 0 rfl) rfl
theorem q323 : (Jvm.Cond.soleField "FavourTown$Flow" "row") ∈ lw_all := lw_g (lw_at lw_m2 1 rfl) rfl
theorem q324 : (Jvm.Cond.laysFinal "FavourTown$Flow" "FavourTown$Flow" "this$0" "LFavourTown;") ∈ lw_all := lw_g (lw_at lw_m2 2 rfl) rfl
theorem q325 : (Jvm.Cond.soleField "FavourTown$Flow" "this$0") ∈ lw_all := lw_g (lw_at lw_m2 3 rfl) rfl
theorem q326 : (Jvm.Cond.superclass "FavourTown$Flow" "java/lang/Object") ∈ lw_all := lw_g (lw_at lw_m2 4 rfl) rfl
theorem q352 : (Jvm.Cond.fieldLinkNest "FavourTown$Flow" (27 : Nat) "FavourTown" "world" "LFavourTown$World;" "FavourTown") ∈ lw_tbl := lw_at lw_m2 30 rfl
theorem q694 : (Jvm.Cond.selects "FavourTown$Flow" ({ cls := "java/lang/Object", name := "getClass", desc := "()Ljava/lang/Class;" } : Jvm.MethodName) ({ cls := "java/lang/Object", name := "getClass", desc := "()Ljava/lang/Class;" } : Jvm.MethodName)) ∈ lw_all := lw_g (lw_at lw_m3 132 rfl) rfl
theorem q1731 : (Jvm.Cond.instanceMethod ({ cls := "FavourTown$Flow", name := "begins", desc := "()LFavourTown$Flow;" } : Jvm.MethodName)) ∈ lw_all := lw_g (lw_at lw_m7 209 rfl) rfl
theorem q1732 : (Jvm.Cond.selects "FavourTown$Flow" ({ cls := "FavourTown$Flow", name := "begins", desc := "()LFavourTown$Flow;" } : Jvm.MethodName) ({ cls := "FavourTown$Flow", name := "begins", desc := "()LFavourTown$Flow;" } : Jvm.MethodName)) ∈ lw_all := lw_g (lw_at lw_m7 210 rfl) rfl
theorem q1733 : (Jvm.Cond.code ({ cls := "FavourTown$Flow", name := "begins", desc := "()LFavourTown$Flow;" } : Jvm.MethodName) prog_6_method_2_code (3 : Nat) (Option.some (Jvm.ClassFile.FieldType.object "FavourTown$Flow"))) ∈ lw_all := lw_g (lw_at lw_m7 211 rfl) rfl
theorem q1734 : (Jvm.Cond.methodLink "FavourTown$Flow" (37 : Nat) ({ cls := "FavourTown$World", name := "port", desc := "(II)I" } : Jvm.MethodName)) ∈ lw_all := lw_g (lw_at lw_m7 212 rfl) rfl
theorem q1736 : (Jvm.Cond.instanceMethod ({ cls := "FavourTown$Flow", name := "most", desc := "(II)I" } : Jvm.MethodName)) ∈ lw_all := lw_g (lw_at lw_m7 214 rfl) rfl
theorem q1737 : (Jvm.Cond.selects "FavourTown$Flow" ({ cls := "FavourTown$Flow", name := "most", desc := "(II)I" } : Jvm.MethodName) ({ cls := "FavourTown$Flow", name := "most", desc := "(II)I" } : Jvm.MethodName)) ∈ lw_all := lw_g (lw_at lw_m7 215 rfl) rfl
theorem q1738 : (Jvm.Cond.code ({ cls := "FavourTown$Flow", name := "most", desc := "(II)I" } : Jvm.MethodName) prog_6_method_4_code (6 : Nat) (Option.some Jvm.ClassFile.FieldType.int)) ∈ lw_all := lw_g (lw_at lw_m7 216 rfl) rfl
theorem q1739 : (Jvm.Cond.methodLink "FavourTown$Flow" (41 : Nat) ({ cls := "FavourTown$Flow", name := "reached", desc := "(I)I" } : Jvm.MethodName)) ∈ lw_all := lw_g (lw_at lw_m7 217 rfl) rfl
theorem q1740 : (Jvm.Cond.instanceMethod ({ cls := "FavourTown$Flow", name := "reached", desc := "(I)I" } : Jvm.MethodName)) ∈ lw_all := lw_g (lw_at lw_m7 218 rfl) rfl
theorem q1741 : (Jvm.Cond.selects "FavourTown$Flow" ({ cls := "FavourTown$Flow", name := "reached", desc := "(I)I" } : Jvm.MethodName) ({ cls := "FavourTown$Flow", name := "reached", desc := "(I)I" } : Jvm.MethodName)) ∈ lw_all := lw_g (lw_at lw_m7 219 rfl) rfl
theorem q1742 : (Jvm.Cond.code ({ cls := "FavourTown$Flow", name := "reached", desc := "(I)I" } : Jvm.MethodName) prog_6_method_3_code (6 : Nat) (Option.some Jvm.ClassFile.FieldType.int)) ∈ lw_all := lw_g (lw_at lw_m7 220 rfl) rfl
theorem q1743 : (Jvm.Cond.constant "FavourTown$Flow" (47 : Nat) (2147483647 : Int32)) ∈ lw_all := lw_g (lw_at lw_m7 221 rfl) rfl
theorem q1744 : (Jvm.Cond.methodLink "FavourTown$Flow" (48 : Nat) ({ cls := "java/lang/Math", name := "min", desc := "(II)I" } : Jvm.MethodName)) ∈ lw_all := lw_g (lw_at lw_m7 222 rfl) rfl
theorem q2346 : (Jvm.Cond.castable "FavourTown$Flow" "java/lang/Object") ∈ lw_tbl := lw_at lw_m10 104 rfl
theorem in_X5 : ∀ w ∈ wsX50, w ∈ lw_all := lw_in wsX50 [318, 320, 322, 324] (by decide +kernel) (by decide +kernel)
/-! FavourTown$Clearing -/
set_option maxRecDepth 100000
def RX6 : String := "FavourTown$Clearing"
def TX6 : u_T := fun k => match k with
  | 0 => ("FavourTown$Clearing", "owed", "[[I", true)
  | 1 => ("FavourTown$Clearing", "order", "[I", true)
  | 2 => ("FavourTown$Clearing", "best", "[I", true)
  | 3 => ("FavourTown$Clearing", "most", "I", false)
  | _ => ("FavourTown$Clearing", "this$0", "LFavourTown;", true)
def tyX6 : Nat → FieldType := fun k => match k with
  | 0 => .array (.array .int)
  | 1 => .array .int
  | 2 => .array .int
  | 3 => .int
  | _ => .object "FavourTown"
abbrev wsX60 : List Cond := u_ws RX6 TX6 5
theorem nmX6 : ∀ a, a < 5 → ∀ b, b < 5 → a ≠ b → (TX6 a).2.1 ≠ (TX6 b).2.1 := by decide +kernel
theorem tyX6_ok : ∀ k, k < 5 → parseFieldDescriptor (TX6 k).2.2.1 = some (tyX6 k) := by decide +kernel
abbrev cX6_init : ByteArray := prog_2_method_1_code
def yX6_init : MethodName := ⟨RX6, "<init>", "(LFavourTown;)V"⟩
def dkwX6_init_1 : List UInt8 := [188, 10, 181, 0, 20, 42, 16, 8, 188, 10, 181, 0, 24, 177]
abbrev dktX6_init_1 : List UInt8 := dkwX6_init_1 ++ []
def dkwX6_init_0 : List UInt8 := [42, 43, 181, 0, 3, 42, 183, 0, 9, 42, 16, 12, 16, 12, 197, 0, 15, 2, 181, 0, 17, 42, 16, 8]
abbrev dktX6_init_0 : List UInt8 := dkwX6_init_0 ++ dktX6_init_1
theorem dksX6_init_0 : cX6_init.data.toList.drop 0 = dktX6_init_0 := by decide +kernel
theorem dksX6_init_1 : cX6_init.data.toList.drop 24 = dktX6_init_1 := dk_seg dksX6_init_0 24 rfl rfl
theorem dX6_init_0 : decode cX6_init 0 = .ok (.aload_n 0, 1) := dk_42 (dk_at dksX6_init_0 0 rfl rfl)
theorem dX6_init_1 : decode cX6_init 1 = .ok (.aload_n 1, 1) := dk_43 (dk_at dksX6_init_0 1 rfl rfl)
theorem dX6_init_2 : decode cX6_init 2 = .ok (.putfield 3, 3) := dk_181 0 3 (dk_at dksX6_init_0 2 rfl rfl)
theorem dX6_init_5 : decode cX6_init 5 = .ok (.aload_n 0, 1) := dk_42 (dk_at dksX6_init_0 5 rfl rfl)
theorem dX6_init_6 : decode cX6_init 6 = .ok (.invokespecial 9, 3) := dk_183 0 9 (dk_at dksX6_init_0 6 rfl rfl)
theorem dX6_init_9 : decode cX6_init 9 = .ok (.aload_n 0, 1) := dk_42 (dk_at dksX6_init_0 9 rfl rfl)
theorem dX6_init_10 : decode cX6_init 10 = .ok (.bipush 12, 2) := dk_16 12 (dk_at dksX6_init_0 10 rfl rfl)
theorem dX6_init_12 : decode cX6_init 12 = .ok (.bipush 12, 2) := dk_16 12 (dk_at dksX6_init_0 12 rfl rfl)
theorem dX6_init_14 : decode cX6_init 14 = .ok (.multianewarray 15 2, 4) := by decide +kernel
theorem dX6_init_18 : decode cX6_init 18 = .ok (.putfield 17, 3) := dk_181 0 17 (dk_at dksX6_init_0 18 rfl rfl)
theorem dX6_init_21 : decode cX6_init 21 = .ok (.aload_n 0, 1) := dk_42 (dk_at dksX6_init_0 21 rfl rfl)
theorem dX6_init_22 : decode cX6_init 22 = .ok (.bipush 8, 2) := dk_16 8 (dk_at dksX6_init_0 22 rfl rfl)
theorem dX6_init_24 : decode cX6_init 24 = .ok (.newarray .int, 2) := dk_188_10 (dk_at dksX6_init_1 0 rfl rfl)
theorem dX6_init_26 : decode cX6_init 26 = .ok (.putfield 20, 3) := dk_181 0 20 (dk_at dksX6_init_1 2 rfl rfl)
theorem dX6_init_29 : decode cX6_init 29 = .ok (.aload_n 0, 1) := dk_42 (dk_at dksX6_init_1 5 rfl rfl)
theorem dX6_init_30 : decode cX6_init 30 = .ok (.bipush 8, 2) := dk_16 8 (dk_at dksX6_init_1 6 rfl rfl)
theorem dX6_init_32 : decode cX6_init 32 = .ok (.newarray .int, 2) := dk_188_10 (dk_at dksX6_init_1 8 rfl rfl)
theorem dX6_init_34 : decode cX6_init 34 = .ok (.putfield 24, 3) := dk_181 0 24 (dk_at dksX6_init_1 10 rfl rfl)
theorem dX6_init_37 : decode cX6_init 37 = .ok (.return_, 1) := dk_177 (dk_at dksX6_init_1 13 rfl rfl)
abbrev cX6_goes : ByteArray := prog_2_method_2_code
def yX6_goes : MethodName := ⟨RX6, "goes", "()I"⟩
def dkwX6_goes_3 : List UInt8 := [3, 3, 182, 0, 44, 42, 180, 0, 41, 172]
abbrev dktX6_goes_3 : List UInt8 := dkwX6_goes_3 ++ []
def dkwX6_goes_2 : List UInt8 := [28, 182, 0, 37, 79, 132, 2, 1, 167, 255, 219, 132, 1, 1, 167, 255, 197, 42, 2, 181, 0, 41, 42, 3]
abbrev dktX6_goes_2 : List UInt8 := dkwX6_goes_2 ++ dktX6_goes_3
def dkwX6_goes_1 : List UInt8 := [180, 0, 27, 180, 0, 31, 162, 0, 29, 42, 180, 0, 17, 27, 50, 28, 42, 180, 0, 3, 180, 0, 27, 27]
abbrev dktX6_goes_1 : List UInt8 := dkwX6_goes_1 ++ dktX6_goes_2
def dkwX6_goes_0 : List UInt8 := [3, 60, 27, 42, 180, 0, 3, 180, 0, 27, 180, 0, 31, 162, 0, 51, 3, 61, 28, 42, 180, 0, 3]
abbrev dktX6_goes_0 : List UInt8 := dkwX6_goes_0 ++ dktX6_goes_1
theorem dksX6_goes_0 : cX6_goes.data.toList.drop 0 = dktX6_goes_0 := by decide +kernel
theorem dksX6_goes_1 : cX6_goes.data.toList.drop 23 = dktX6_goes_1 := dk_seg dksX6_goes_0 23 rfl rfl
theorem dksX6_goes_2 : cX6_goes.data.toList.drop 47 = dktX6_goes_2 := dk_seg dksX6_goes_1 24 rfl rfl
theorem dksX6_goes_3 : cX6_goes.data.toList.drop 71 = dktX6_goes_3 := dk_seg dksX6_goes_2 24 rfl rfl
theorem dX6_goes_0 : decode cX6_goes 0 = .ok (.iconst 0, 1) := dk_3 (dk_at dksX6_goes_0 0 rfl rfl)
theorem dX6_goes_1 : decode cX6_goes 1 = .ok (.istore_n 1, 1) := dk_60 (dk_at dksX6_goes_0 1 rfl rfl)
theorem dX6_goes_2 : decode cX6_goes 2 = .ok (.iload_n 1, 1) := dk_27 (dk_at dksX6_goes_0 2 rfl rfl)
theorem dX6_goes_3 : decode cX6_goes 3 = .ok (.aload_n 0, 1) := dk_42 (dk_at dksX6_goes_0 3 rfl rfl)
theorem dX6_goes_4 : decode cX6_goes 4 = .ok (.getfield 3, 3) := dk_180 0 3 (dk_at dksX6_goes_0 4 rfl rfl)
theorem dX6_goes_7 : decode cX6_goes 7 = .ok (.getfield 27, 3) := dk_180 0 27 (dk_at dksX6_goes_0 7 rfl rfl)
theorem dX6_goes_10 : decode cX6_goes 10 = .ok (.getfield 31, 3) := dk_180 0 31 (dk_at dksX6_goes_0 10 rfl rfl)
theorem dX6_goes_13 : decode cX6_goes 13 = .ok (.if_icmp .ge 51, 3) := dk_162 0 51 (dk_at dksX6_goes_0 13 rfl rfl)
theorem dX6_goes_16 : decode cX6_goes 16 = .ok (.iconst 0, 1) := dk_3 (dk_at dksX6_goes_0 16 rfl rfl)
theorem dX6_goes_17 : decode cX6_goes 17 = .ok (.istore_n 2, 1) := dk_61 (dk_at dksX6_goes_0 17 rfl rfl)
theorem dX6_goes_18 : decode cX6_goes 18 = .ok (.iload_n 2, 1) := dk_28 (dk_at dksX6_goes_0 18 rfl rfl)
theorem dX6_goes_19 : decode cX6_goes 19 = .ok (.aload_n 0, 1) := dk_42 (dk_at dksX6_goes_0 19 rfl rfl)
theorem dX6_goes_20 : decode cX6_goes 20 = .ok (.getfield 3, 3) := dk_180 0 3 (dk_at dksX6_goes_0 20 rfl rfl)
theorem dX6_goes_23 : decode cX6_goes 23 = .ok (.getfield 27, 3) := dk_180 0 27 (dk_at dksX6_goes_1 0 rfl rfl)
theorem dX6_goes_26 : decode cX6_goes 26 = .ok (.getfield 31, 3) := dk_180 0 31 (dk_at dksX6_goes_1 3 rfl rfl)
theorem dX6_goes_29 : decode cX6_goes 29 = .ok (.if_icmp .ge 29, 3) := dk_162 0 29 (dk_at dksX6_goes_1 6 rfl rfl)
theorem dX6_goes_32 : decode cX6_goes 32 = .ok (.aload_n 0, 1) := dk_42 (dk_at dksX6_goes_1 9 rfl rfl)
theorem dX6_goes_33 : decode cX6_goes 33 = .ok (.getfield 17, 3) := dk_180 0 17 (dk_at dksX6_goes_1 10 rfl rfl)
theorem dX6_goes_36 : decode cX6_goes 36 = .ok (.iload_n 1, 1) := dk_27 (dk_at dksX6_goes_1 13 rfl rfl)
theorem dX6_goes_37 : decode cX6_goes 37 = .ok (.aaload, 1) := dk_50 (dk_at dksX6_goes_1 14 rfl rfl)
theorem dX6_goes_38 : decode cX6_goes 38 = .ok (.iload_n 2, 1) := dk_28 (dk_at dksX6_goes_1 15 rfl rfl)
theorem dX6_goes_39 : decode cX6_goes 39 = .ok (.aload_n 0, 1) := dk_42 (dk_at dksX6_goes_1 16 rfl rfl)
theorem dX6_goes_40 : decode cX6_goes 40 = .ok (.getfield 3, 3) := dk_180 0 3 (dk_at dksX6_goes_1 17 rfl rfl)
theorem dX6_goes_43 : decode cX6_goes 43 = .ok (.getfield 27, 3) := dk_180 0 27 (dk_at dksX6_goes_1 20 rfl rfl)
theorem dX6_goes_46 : decode cX6_goes 46 = .ok (.iload_n 1, 1) := dk_27 (dk_at dksX6_goes_1 23 rfl rfl)
theorem dX6_goes_47 : decode cX6_goes 47 = .ok (.iload_n 2, 1) := dk_28 (dk_at dksX6_goes_2 0 rfl rfl)
theorem dX6_goes_48 : decode cX6_goes 48 = .ok (.invokevirtual 37, 3) := dk_182 0 37 (dk_at dksX6_goes_2 1 rfl rfl)
theorem dX6_goes_51 : decode cX6_goes 51 = .ok (.iastore, 1) := dk_79 (dk_at dksX6_goes_2 4 rfl rfl)
theorem dX6_goes_52 : decode cX6_goes 52 = .ok (.iinc 2 1, 3) := dk_132 2 1 (dk_at dksX6_goes_2 5 rfl rfl)
theorem dX6_goes_55 : decode cX6_goes 55 = .ok (.goto (-37), 3) := dk_167 255 219 (dk_at dksX6_goes_2 8 rfl rfl)
theorem dX6_goes_58 : decode cX6_goes 58 = .ok (.iinc 1 1, 3) := dk_132 1 1 (dk_at dksX6_goes_2 11 rfl rfl)
theorem dX6_goes_61 : decode cX6_goes 61 = .ok (.goto (-59), 3) := dk_167 255 197 (dk_at dksX6_goes_2 14 rfl rfl)
theorem dX6_goes_64 : decode cX6_goes 64 = .ok (.aload_n 0, 1) := dk_42 (dk_at dksX6_goes_2 17 rfl rfl)
theorem dX6_goes_65 : decode cX6_goes 65 = .ok (.iconst (-1), 1) := dk_2 (dk_at dksX6_goes_2 18 rfl rfl)
theorem dX6_goes_66 : decode cX6_goes 66 = .ok (.putfield 41, 3) := dk_181 0 41 (dk_at dksX6_goes_2 19 rfl rfl)
theorem dX6_goes_69 : decode cX6_goes 69 = .ok (.aload_n 0, 1) := dk_42 (dk_at dksX6_goes_2 22 rfl rfl)
theorem dX6_goes_70 : decode cX6_goes 70 = .ok (.iconst 0, 1) := dk_3 (dk_at dksX6_goes_2 23 rfl rfl)
theorem dX6_goes_71 : decode cX6_goes 71 = .ok (.iconst 0, 1) := dk_3 (dk_at dksX6_goes_3 0 rfl rfl)
theorem dX6_goes_72 : decode cX6_goes 72 = .ok (.iconst 0, 1) := dk_3 (dk_at dksX6_goes_3 1 rfl rfl)
theorem dX6_goes_73 : decode cX6_goes 73 = .ok (.invokevirtual 44, 3) := dk_182 0 44 (dk_at dksX6_goes_3 2 rfl rfl)
theorem dX6_goes_76 : decode cX6_goes 76 = .ok (.aload_n 0, 1) := dk_42 (dk_at dksX6_goes_3 5 rfl rfl)
theorem dX6_goes_77 : decode cX6_goes 77 = .ok (.getfield 41, 3) := dk_180 0 41 (dk_at dksX6_goes_3 6 rfl rfl)
theorem dX6_goes_80 : decode cX6_goes 80 = .ok (.ireturn, 1) := dk_172 (dk_at dksX6_goes_3 9 rfl rfl)
abbrev cX6_tries : ByteArray := prog_2_method_3_code
def yX6_tries : MethodName := ⟨RX6, "tries", "(III)V"⟩
def dkwX6_tries_6 : List UInt8 := [104, 96, 182, 0, 44, 42, 25, 5, 21, 6, 116, 182, 0, 73, 132, 4, 1, 167, 255, 148, 177]
abbrev dktX6_tries_6 : List UInt8 := dkwX6_tries_6 ++ []
def dkwX6_tries_5 : List UInt8 := [42, 180, 0, 20, 27, 21, 4, 79, 42, 27, 4, 96, 28, 4, 21, 4, 120, 128, 29, 21, 6, 25, 5, 190]
abbrev dktX6_tries_5 : List UInt8 := dkwX6_tries_5 ++ dktX6_tries_6
def dkwX6_tries_4 : List UInt8 := [182, 0, 64, 192, 0, 68, 58, 5, 42, 25, 5, 182, 0, 69, 54, 6, 42, 25, 5, 21, 6, 182, 0, 73]
abbrev dktX6_tries_4 : List UInt8 := dkwX6_tries_4 ++ dktX6_tries_5
def dkwX6_tries_3 : List UInt8 := [122, 4, 126, 4, 160, 0, 6, 167, 0, 77, 42, 180, 0, 3, 180, 0, 27, 180, 0, 48, 21, 4]
abbrev dktX6_tries_3 : List UInt8 := dkwX6_tries_3 ++ dktX6_tries_4
def dkwX6_tries_2 : List UInt8 := [3, 54, 4, 21, 4, 42, 180, 0, 3, 180, 0, 27, 180, 0, 48, 182, 0, 52, 162, 0, 96, 28, 21, 4]
abbrev dktX6_tries_2 : List UInt8 := dkwX6_tries_2 ++ dktX6_tries_3
def dkwX6_tries_1 : List UInt8 := [163, 0, 4, 177, 42, 29, 181, 0, 41, 42, 180, 0, 20, 3, 42, 180, 0, 24, 3, 27, 184, 0, 58, 177]
abbrev dktX6_tries_1 : List UInt8 := dkwX6_tries_1 ++ dktX6_tries_2
def dkwX6_tries_0 : List UInt8 := [27, 42, 180, 0, 3, 180, 0, 27, 180, 0, 48, 182, 0, 52, 160, 0, 32, 29, 42, 180, 0, 41]
abbrev dktX6_tries_0 : List UInt8 := dkwX6_tries_0 ++ dktX6_tries_1
theorem dksX6_tries_0 : cX6_tries.data.toList.drop 0 = dktX6_tries_0 := by decide +kernel
theorem dksX6_tries_1 : cX6_tries.data.toList.drop 22 = dktX6_tries_1 := dk_seg dksX6_tries_0 22 rfl rfl
theorem dksX6_tries_2 : cX6_tries.data.toList.drop 46 = dktX6_tries_2 := dk_seg dksX6_tries_1 24 rfl rfl
theorem dksX6_tries_3 : cX6_tries.data.toList.drop 70 = dktX6_tries_3 := dk_seg dksX6_tries_2 24 rfl rfl
theorem dksX6_tries_4 : cX6_tries.data.toList.drop 92 = dktX6_tries_4 := dk_seg dksX6_tries_3 22 rfl rfl
theorem dksX6_tries_5 : cX6_tries.data.toList.drop 116 = dktX6_tries_5 := dk_seg dksX6_tries_4 24 rfl rfl
theorem dksX6_tries_6 : cX6_tries.data.toList.drop 140 = dktX6_tries_6 := dk_seg dksX6_tries_5 24 rfl rfl
theorem dX6_tries_0 : decode cX6_tries 0 = .ok (.iload_n 1, 1) := dk_27 (dk_at dksX6_tries_0 0 rfl rfl)
theorem dX6_tries_1 : decode cX6_tries 1 = .ok (.aload_n 0, 1) := dk_42 (dk_at dksX6_tries_0 1 rfl rfl)
theorem dX6_tries_2 : decode cX6_tries 2 = .ok (.getfield 3, 3) := dk_180 0 3 (dk_at dksX6_tries_0 2 rfl rfl)
theorem dX6_tries_5 : decode cX6_tries 5 = .ok (.getfield 27, 3) := dk_180 0 27 (dk_at dksX6_tries_0 5 rfl rfl)
theorem dX6_tries_8 : decode cX6_tries 8 = .ok (.getfield 48, 3) := dk_180 0 48 (dk_at dksX6_tries_0 8 rfl rfl)
theorem dX6_tries_11 : decode cX6_tries 11 = .ok (.invokevirtual 52, 3) := dk_182 0 52 (dk_at dksX6_tries_0 11 rfl rfl)
theorem dX6_tries_14 : decode cX6_tries 14 = .ok (.if_icmp .ne 32, 3) := dk_160 0 32 (dk_at dksX6_tries_0 14 rfl rfl)
theorem dX6_tries_17 : decode cX6_tries 17 = .ok (.iload_n 3, 1) := dk_29 (dk_at dksX6_tries_0 17 rfl rfl)
theorem dX6_tries_18 : decode cX6_tries 18 = .ok (.aload_n 0, 1) := dk_42 (dk_at dksX6_tries_0 18 rfl rfl)
theorem dX6_tries_19 : decode cX6_tries 19 = .ok (.getfield 41, 3) := dk_180 0 41 (dk_at dksX6_tries_0 19 rfl rfl)
theorem dX6_tries_22 : decode cX6_tries 22 = .ok (.if_icmp .gt 4, 3) := dk_163 0 4 (dk_at dksX6_tries_1 0 rfl rfl)
theorem dX6_tries_25 : decode cX6_tries 25 = .ok (.return_, 1) := dk_177 (dk_at dksX6_tries_1 3 rfl rfl)
theorem dX6_tries_26 : decode cX6_tries 26 = .ok (.aload_n 0, 1) := dk_42 (dk_at dksX6_tries_1 4 rfl rfl)
theorem dX6_tries_27 : decode cX6_tries 27 = .ok (.iload_n 3, 1) := dk_29 (dk_at dksX6_tries_1 5 rfl rfl)
theorem dX6_tries_28 : decode cX6_tries 28 = .ok (.putfield 41, 3) := dk_181 0 41 (dk_at dksX6_tries_1 6 rfl rfl)
theorem dX6_tries_31 : decode cX6_tries 31 = .ok (.aload_n 0, 1) := dk_42 (dk_at dksX6_tries_1 9 rfl rfl)
theorem dX6_tries_32 : decode cX6_tries 32 = .ok (.getfield 20, 3) := dk_180 0 20 (dk_at dksX6_tries_1 10 rfl rfl)
theorem dX6_tries_35 : decode cX6_tries 35 = .ok (.iconst 0, 1) := dk_3 (dk_at dksX6_tries_1 13 rfl rfl)
theorem dX6_tries_36 : decode cX6_tries 36 = .ok (.aload_n 0, 1) := dk_42 (dk_at dksX6_tries_1 14 rfl rfl)
theorem dX6_tries_37 : decode cX6_tries 37 = .ok (.getfield 24, 3) := dk_180 0 24 (dk_at dksX6_tries_1 15 rfl rfl)
theorem dX6_tries_40 : decode cX6_tries 40 = .ok (.iconst 0, 1) := dk_3 (dk_at dksX6_tries_1 18 rfl rfl)
theorem dX6_tries_41 : decode cX6_tries 41 = .ok (.iload_n 1, 1) := dk_27 (dk_at dksX6_tries_1 19 rfl rfl)
theorem dX6_tries_42 : decode cX6_tries 42 = .ok (.invokestatic 58, 3) := dk_184 0 58 (dk_at dksX6_tries_1 20 rfl rfl)
theorem dX6_tries_45 : decode cX6_tries 45 = .ok (.return_, 1) := dk_177 (dk_at dksX6_tries_1 23 rfl rfl)
theorem dX6_tries_46 : decode cX6_tries 46 = .ok (.iconst 0, 1) := dk_3 (dk_at dksX6_tries_2 0 rfl rfl)
theorem dX6_tries_47 : decode cX6_tries 47 = .ok (.istore 4, 2) := dk_54 4 (dk_at dksX6_tries_2 1 rfl rfl)
theorem dX6_tries_49 : decode cX6_tries 49 = .ok (.iload 4, 2) := dk_21 4 (dk_at dksX6_tries_2 3 rfl rfl)
theorem dX6_tries_51 : decode cX6_tries 51 = .ok (.aload_n 0, 1) := dk_42 (dk_at dksX6_tries_2 5 rfl rfl)
theorem dX6_tries_52 : decode cX6_tries 52 = .ok (.getfield 3, 3) := dk_180 0 3 (dk_at dksX6_tries_2 6 rfl rfl)
theorem dX6_tries_55 : decode cX6_tries 55 = .ok (.getfield 27, 3) := dk_180 0 27 (dk_at dksX6_tries_2 9 rfl rfl)
theorem dX6_tries_58 : decode cX6_tries 58 = .ok (.getfield 48, 3) := dk_180 0 48 (dk_at dksX6_tries_2 12 rfl rfl)
theorem dX6_tries_61 : decode cX6_tries 61 = .ok (.invokevirtual 52, 3) := dk_182 0 52 (dk_at dksX6_tries_2 15 rfl rfl)
theorem dX6_tries_64 : decode cX6_tries 64 = .ok (.if_icmp .ge 96, 3) := dk_162 0 96 (dk_at dksX6_tries_2 18 rfl rfl)
theorem dX6_tries_67 : decode cX6_tries 67 = .ok (.iload_n 2, 1) := dk_28 (dk_at dksX6_tries_2 21 rfl rfl)
theorem dX6_tries_68 : decode cX6_tries 68 = .ok (.iload 4, 2) := dk_21 4 (dk_at dksX6_tries_2 22 rfl rfl)
theorem dX6_tries_70 : decode cX6_tries 70 = .ok (.ishr, 1) := dk_122 (dk_at dksX6_tries_3 0 rfl rfl)
theorem dX6_tries_71 : decode cX6_tries 71 = .ok (.iconst 1, 1) := dk_4 (dk_at dksX6_tries_3 1 rfl rfl)
theorem dX6_tries_72 : decode cX6_tries 72 = .ok (.iand, 1) := dk_126 (dk_at dksX6_tries_3 2 rfl rfl)
theorem dX6_tries_73 : decode cX6_tries 73 = .ok (.iconst 1, 1) := dk_4 (dk_at dksX6_tries_3 3 rfl rfl)
theorem dX6_tries_74 : decode cX6_tries 74 = .ok (.if_icmp .ne 6, 3) := dk_160 0 6 (dk_at dksX6_tries_3 4 rfl rfl)
theorem dX6_tries_77 : decode cX6_tries 77 = .ok (.goto 77, 3) := dk_167 0 77 (dk_at dksX6_tries_3 7 rfl rfl)
theorem dX6_tries_80 : decode cX6_tries 80 = .ok (.aload_n 0, 1) := dk_42 (dk_at dksX6_tries_3 10 rfl rfl)
theorem dX6_tries_81 : decode cX6_tries 81 = .ok (.getfield 3, 3) := dk_180 0 3 (dk_at dksX6_tries_3 11 rfl rfl)
theorem dX6_tries_84 : decode cX6_tries 84 = .ok (.getfield 27, 3) := dk_180 0 27 (dk_at dksX6_tries_3 14 rfl rfl)
theorem dX6_tries_87 : decode cX6_tries 87 = .ok (.getfield 48, 3) := dk_180 0 48 (dk_at dksX6_tries_3 17 rfl rfl)
theorem dX6_tries_90 : decode cX6_tries 90 = .ok (.iload 4, 2) := dk_21 4 (dk_at dksX6_tries_3 20 rfl rfl)
theorem dX6_tries_92 : decode cX6_tries 92 = .ok (.invokevirtual 64, 3) := dk_182 0 64 (dk_at dksX6_tries_4 0 rfl rfl)
theorem dX6_tries_95 : decode cX6_tries 95 = .ok (.checkcast 68, 3) := dk_192 0 68 (dk_at dksX6_tries_4 3 rfl rfl)
theorem dX6_tries_98 : decode cX6_tries 98 = .ok (.astore 5, 2) := dk_58 5 (dk_at dksX6_tries_4 6 rfl rfl)
theorem dX6_tries_100 : decode cX6_tries 100 = .ok (.aload_n 0, 1) := dk_42 (dk_at dksX6_tries_4 8 rfl rfl)
theorem dX6_tries_101 : decode cX6_tries 101 = .ok (.aload 5, 2) := dk_25 5 (dk_at dksX6_tries_4 9 rfl rfl)
theorem dX6_tries_103 : decode cX6_tries 103 = .ok (.invokevirtual 69, 3) := dk_182 0 69 (dk_at dksX6_tries_4 11 rfl rfl)
theorem dX6_tries_106 : decode cX6_tries 106 = .ok (.istore 6, 2) := dk_54 6 (dk_at dksX6_tries_4 14 rfl rfl)
theorem dX6_tries_108 : decode cX6_tries 108 = .ok (.aload_n 0, 1) := dk_42 (dk_at dksX6_tries_4 16 rfl rfl)
theorem dX6_tries_109 : decode cX6_tries 109 = .ok (.aload 5, 2) := dk_25 5 (dk_at dksX6_tries_4 17 rfl rfl)
theorem dX6_tries_111 : decode cX6_tries 111 = .ok (.iload 6, 2) := dk_21 6 (dk_at dksX6_tries_4 19 rfl rfl)
theorem dX6_tries_113 : decode cX6_tries 113 = .ok (.invokevirtual 73, 3) := dk_182 0 73 (dk_at dksX6_tries_4 21 rfl rfl)
theorem dX6_tries_116 : decode cX6_tries 116 = .ok (.aload_n 0, 1) := dk_42 (dk_at dksX6_tries_5 0 rfl rfl)
theorem dX6_tries_117 : decode cX6_tries 117 = .ok (.getfield 20, 3) := dk_180 0 20 (dk_at dksX6_tries_5 1 rfl rfl)
theorem dX6_tries_120 : decode cX6_tries 120 = .ok (.iload_n 1, 1) := dk_27 (dk_at dksX6_tries_5 4 rfl rfl)
theorem dX6_tries_121 : decode cX6_tries 121 = .ok (.iload 4, 2) := dk_21 4 (dk_at dksX6_tries_5 5 rfl rfl)
theorem dX6_tries_123 : decode cX6_tries 123 = .ok (.iastore, 1) := dk_79 (dk_at dksX6_tries_5 7 rfl rfl)
theorem dX6_tries_124 : decode cX6_tries 124 = .ok (.aload_n 0, 1) := dk_42 (dk_at dksX6_tries_5 8 rfl rfl)
theorem dX6_tries_125 : decode cX6_tries 125 = .ok (.iload_n 1, 1) := dk_27 (dk_at dksX6_tries_5 9 rfl rfl)
theorem dX6_tries_126 : decode cX6_tries 126 = .ok (.iconst 1, 1) := dk_4 (dk_at dksX6_tries_5 10 rfl rfl)
theorem dX6_tries_127 : decode cX6_tries 127 = .ok (.iadd, 1) := dk_96 (dk_at dksX6_tries_5 11 rfl rfl)
theorem dX6_tries_128 : decode cX6_tries 128 = .ok (.iload_n 2, 1) := dk_28 (dk_at dksX6_tries_5 12 rfl rfl)
theorem dX6_tries_129 : decode cX6_tries 129 = .ok (.iconst 1, 1) := dk_4 (dk_at dksX6_tries_5 13 rfl rfl)
theorem dX6_tries_130 : decode cX6_tries 130 = .ok (.iload 4, 2) := dk_21 4 (dk_at dksX6_tries_5 14 rfl rfl)
theorem dX6_tries_132 : decode cX6_tries 132 = .ok (.ishl, 1) := dk_120 (dk_at dksX6_tries_5 16 rfl rfl)
theorem dX6_tries_133 : decode cX6_tries 133 = .ok (.ior, 1) := dk_128 (dk_at dksX6_tries_5 17 rfl rfl)
theorem dX6_tries_134 : decode cX6_tries 134 = .ok (.iload_n 3, 1) := dk_29 (dk_at dksX6_tries_5 18 rfl rfl)
theorem dX6_tries_135 : decode cX6_tries 135 = .ok (.iload 6, 2) := dk_21 6 (dk_at dksX6_tries_5 19 rfl rfl)
theorem dX6_tries_137 : decode cX6_tries 137 = .ok (.aload 5, 2) := dk_25 5 (dk_at dksX6_tries_5 21 rfl rfl)
theorem dX6_tries_139 : decode cX6_tries 139 = .ok (.arraylength, 1) := dk_190 (dk_at dksX6_tries_5 23 rfl rfl)
theorem dX6_tries_140 : decode cX6_tries 140 = .ok (.imul, 1) := dk_104 (dk_at dksX6_tries_6 0 rfl rfl)
theorem dX6_tries_141 : decode cX6_tries 141 = .ok (.iadd, 1) := dk_96 (dk_at dksX6_tries_6 1 rfl rfl)
theorem dX6_tries_142 : decode cX6_tries 142 = .ok (.invokevirtual 44, 3) := dk_182 0 44 (dk_at dksX6_tries_6 2 rfl rfl)
theorem dX6_tries_145 : decode cX6_tries 145 = .ok (.aload_n 0, 1) := dk_42 (dk_at dksX6_tries_6 5 rfl rfl)
theorem dX6_tries_146 : decode cX6_tries 146 = .ok (.aload 5, 2) := dk_25 5 (dk_at dksX6_tries_6 6 rfl rfl)
theorem dX6_tries_148 : decode cX6_tries 148 = .ok (.iload 6, 2) := dk_21 6 (dk_at dksX6_tries_6 8 rfl rfl)
theorem dX6_tries_150 : decode cX6_tries 150 = .ok (.ineg, 1) := dk_116 (dk_at dksX6_tries_6 10 rfl rfl)
theorem dX6_tries_151 : decode cX6_tries 151 = .ok (.invokevirtual 73, 3) := dk_182 0 73 (dk_at dksX6_tries_6 11 rfl rfl)
theorem dX6_tries_154 : decode cX6_tries 154 = .ok (.iinc 4 1, 3) := dk_132 4 1 (dk_at dksX6_tries_6 14 rfl rfl)
theorem dX6_tries_157 : decode cX6_tries 157 = .ok (.goto (-108), 3) := dk_167 255 148 (dk_at dksX6_tries_6 17 rfl rfl)
theorem dX6_tries_160 : decode cX6_tries 160 = .ok (.return_, 1) := dk_177 (dk_at dksX6_tries_6 20 rfl rfl)
abbrev cX6_least : ByteArray := prog_2_method_4_code
def yX6_least : MethodName := ⟨RX6, "least", "([I)I"⟩
def dkwX6_least_1 : List UInt8 := [43, 190, 112, 46, 46, 184, 0, 80, 61, 132, 3, 1, 167, 255, 225, 28, 172]
abbrev dktX6_least_1 : List UInt8 := dkwX6_least_1 ++ []
def dkwX6_least_0 : List UInt8 := [18, 79, 61, 3, 62, 29, 43, 190, 162, 0, 31, 28, 42, 180, 0, 17, 43, 29, 46, 50, 43, 29, 4, 96]
abbrev dktX6_least_0 : List UInt8 := dkwX6_least_0 ++ dktX6_least_1
theorem dksX6_least_0 : cX6_least.data.toList.drop 0 = dktX6_least_0 := by decide +kernel
theorem dksX6_least_1 : cX6_least.data.toList.drop 24 = dktX6_least_1 := dk_seg dksX6_least_0 24 rfl rfl
theorem dX6_least_0 : decode cX6_least 0 = .ok (.ldc 79, 2) := dk_18 79 (dk_at dksX6_least_0 0 rfl rfl)
theorem dX6_least_2 : decode cX6_least 2 = .ok (.istore_n 2, 1) := dk_61 (dk_at dksX6_least_0 2 rfl rfl)
theorem dX6_least_3 : decode cX6_least 3 = .ok (.iconst 0, 1) := dk_3 (dk_at dksX6_least_0 3 rfl rfl)
theorem dX6_least_4 : decode cX6_least 4 = .ok (.istore_n 3, 1) := dk_62 (dk_at dksX6_least_0 4 rfl rfl)
theorem dX6_least_5 : decode cX6_least 5 = .ok (.iload_n 3, 1) := dk_29 (dk_at dksX6_least_0 5 rfl rfl)
theorem dX6_least_6 : decode cX6_least 6 = .ok (.aload_n 1, 1) := dk_43 (dk_at dksX6_least_0 6 rfl rfl)
theorem dX6_least_7 : decode cX6_least 7 = .ok (.arraylength, 1) := dk_190 (dk_at dksX6_least_0 7 rfl rfl)
theorem dX6_least_8 : decode cX6_least 8 = .ok (.if_icmp .ge 31, 3) := dk_162 0 31 (dk_at dksX6_least_0 8 rfl rfl)
theorem dX6_least_11 : decode cX6_least 11 = .ok (.iload_n 2, 1) := dk_28 (dk_at dksX6_least_0 11 rfl rfl)
theorem dX6_least_12 : decode cX6_least 12 = .ok (.aload_n 0, 1) := dk_42 (dk_at dksX6_least_0 12 rfl rfl)
theorem dX6_least_13 : decode cX6_least 13 = .ok (.getfield 17, 3) := dk_180 0 17 (dk_at dksX6_least_0 13 rfl rfl)
theorem dX6_least_16 : decode cX6_least 16 = .ok (.aload_n 1, 1) := dk_43 (dk_at dksX6_least_0 16 rfl rfl)
theorem dX6_least_17 : decode cX6_least 17 = .ok (.iload_n 3, 1) := dk_29 (dk_at dksX6_least_0 17 rfl rfl)
theorem dX6_least_18 : decode cX6_least 18 = .ok (.iaload, 1) := dk_46 (dk_at dksX6_least_0 18 rfl rfl)
theorem dX6_least_19 : decode cX6_least 19 = .ok (.aaload, 1) := dk_50 (dk_at dksX6_least_0 19 rfl rfl)
theorem dX6_least_20 : decode cX6_least 20 = .ok (.aload_n 1, 1) := dk_43 (dk_at dksX6_least_0 20 rfl rfl)
theorem dX6_least_21 : decode cX6_least 21 = .ok (.iload_n 3, 1) := dk_29 (dk_at dksX6_least_0 21 rfl rfl)
theorem dX6_least_22 : decode cX6_least 22 = .ok (.iconst 1, 1) := dk_4 (dk_at dksX6_least_0 22 rfl rfl)
theorem dX6_least_23 : decode cX6_least 23 = .ok (.iadd, 1) := dk_96 (dk_at dksX6_least_0 23 rfl rfl)
theorem dX6_least_24 : decode cX6_least 24 = .ok (.aload_n 1, 1) := dk_43 (dk_at dksX6_least_1 0 rfl rfl)
theorem dX6_least_25 : decode cX6_least 25 = .ok (.arraylength, 1) := dk_190 (dk_at dksX6_least_1 1 rfl rfl)
theorem dX6_least_26 : decode cX6_least 26 = .ok (.irem, 1) := dk_112 (dk_at dksX6_least_1 2 rfl rfl)
theorem dX6_least_27 : decode cX6_least 27 = .ok (.iaload, 1) := dk_46 (dk_at dksX6_least_1 3 rfl rfl)
theorem dX6_least_28 : decode cX6_least 28 = .ok (.iaload, 1) := dk_46 (dk_at dksX6_least_1 4 rfl rfl)
theorem dX6_least_29 : decode cX6_least 29 = .ok (.invokestatic 80, 3) := dk_184 0 80 (dk_at dksX6_least_1 5 rfl rfl)
theorem dX6_least_32 : decode cX6_least 32 = .ok (.istore_n 2, 1) := dk_61 (dk_at dksX6_least_1 8 rfl rfl)
theorem dX6_least_33 : decode cX6_least 33 = .ok (.iinc 3 1, 3) := dk_132 3 1 (dk_at dksX6_least_1 9 rfl rfl)
theorem dX6_least_36 : decode cX6_least 36 = .ok (.goto (-31), 3) := dk_167 255 225 (dk_at dksX6_least_1 12 rfl rfl)
theorem dX6_least_39 : decode cX6_least 39 = .ok (.iload_n 2, 1) := dk_28 (dk_at dksX6_least_1 15 rfl rfl)
theorem dX6_least_40 : decode cX6_least 40 = .ok (.ireturn, 1) := dk_172 (dk_at dksX6_least_1 16 rfl rfl)
abbrev cX6_takes : ByteArray := prog_2_method_5_code
def yX6_takes : MethodName := ⟨RX6, "takes", "([II)V"⟩
def dkwX6_takes_1 : List UInt8 := [92, 46, 28, 100, 79, 132, 3, 1, 167, 255, 226, 177]
abbrev dktX6_takes_1 : List UInt8 := dkwX6_takes_1 ++ []
def dkwX6_takes_0 : List UInt8 := [3, 62, 29, 43, 190, 162, 0, 30, 42, 180, 0, 17, 43, 29, 46, 50, 43, 29, 4, 96, 43, 190, 112, 46]
abbrev dktX6_takes_0 : List UInt8 := dkwX6_takes_0 ++ dktX6_takes_1
theorem dksX6_takes_0 : cX6_takes.data.toList.drop 0 = dktX6_takes_0 := by decide +kernel
theorem dksX6_takes_1 : cX6_takes.data.toList.drop 24 = dktX6_takes_1 := dk_seg dksX6_takes_0 24 rfl rfl
theorem dX6_takes_0 : decode cX6_takes 0 = .ok (.iconst 0, 1) := dk_3 (dk_at dksX6_takes_0 0 rfl rfl)
theorem dX6_takes_1 : decode cX6_takes 1 = .ok (.istore_n 3, 1) := dk_62 (dk_at dksX6_takes_0 1 rfl rfl)
theorem dX6_takes_2 : decode cX6_takes 2 = .ok (.iload_n 3, 1) := dk_29 (dk_at dksX6_takes_0 2 rfl rfl)
theorem dX6_takes_3 : decode cX6_takes 3 = .ok (.aload_n 1, 1) := dk_43 (dk_at dksX6_takes_0 3 rfl rfl)
theorem dX6_takes_4 : decode cX6_takes 4 = .ok (.arraylength, 1) := dk_190 (dk_at dksX6_takes_0 4 rfl rfl)
theorem dX6_takes_5 : decode cX6_takes 5 = .ok (.if_icmp .ge 30, 3) := dk_162 0 30 (dk_at dksX6_takes_0 5 rfl rfl)
theorem dX6_takes_8 : decode cX6_takes 8 = .ok (.aload_n 0, 1) := dk_42 (dk_at dksX6_takes_0 8 rfl rfl)
theorem dX6_takes_9 : decode cX6_takes 9 = .ok (.getfield 17, 3) := dk_180 0 17 (dk_at dksX6_takes_0 9 rfl rfl)
theorem dX6_takes_12 : decode cX6_takes 12 = .ok (.aload_n 1, 1) := dk_43 (dk_at dksX6_takes_0 12 rfl rfl)
theorem dX6_takes_13 : decode cX6_takes 13 = .ok (.iload_n 3, 1) := dk_29 (dk_at dksX6_takes_0 13 rfl rfl)
theorem dX6_takes_14 : decode cX6_takes 14 = .ok (.iaload, 1) := dk_46 (dk_at dksX6_takes_0 14 rfl rfl)
theorem dX6_takes_15 : decode cX6_takes 15 = .ok (.aaload, 1) := dk_50 (dk_at dksX6_takes_0 15 rfl rfl)
theorem dX6_takes_16 : decode cX6_takes 16 = .ok (.aload_n 1, 1) := dk_43 (dk_at dksX6_takes_0 16 rfl rfl)
theorem dX6_takes_17 : decode cX6_takes 17 = .ok (.iload_n 3, 1) := dk_29 (dk_at dksX6_takes_0 17 rfl rfl)
theorem dX6_takes_18 : decode cX6_takes 18 = .ok (.iconst 1, 1) := dk_4 (dk_at dksX6_takes_0 18 rfl rfl)
theorem dX6_takes_19 : decode cX6_takes 19 = .ok (.iadd, 1) := dk_96 (dk_at dksX6_takes_0 19 rfl rfl)
theorem dX6_takes_20 : decode cX6_takes 20 = .ok (.aload_n 1, 1) := dk_43 (dk_at dksX6_takes_0 20 rfl rfl)
theorem dX6_takes_21 : decode cX6_takes 21 = .ok (.arraylength, 1) := dk_190 (dk_at dksX6_takes_0 21 rfl rfl)
theorem dX6_takes_22 : decode cX6_takes 22 = .ok (.irem, 1) := dk_112 (dk_at dksX6_takes_0 22 rfl rfl)
theorem dX6_takes_23 : decode cX6_takes 23 = .ok (.iaload, 1) := dk_46 (dk_at dksX6_takes_0 23 rfl rfl)
theorem dX6_takes_24 : decode cX6_takes 24 = .ok (.dup2, 1) := dk_92 (dk_at dksX6_takes_1 0 rfl rfl)
theorem dX6_takes_25 : decode cX6_takes 25 = .ok (.iaload, 1) := dk_46 (dk_at dksX6_takes_1 1 rfl rfl)
theorem dX6_takes_26 : decode cX6_takes 26 = .ok (.iload_n 2, 1) := dk_28 (dk_at dksX6_takes_1 2 rfl rfl)
theorem dX6_takes_27 : decode cX6_takes 27 = .ok (.isub, 1) := dk_100 (dk_at dksX6_takes_1 3 rfl rfl)
theorem dX6_takes_28 : decode cX6_takes 28 = .ok (.iastore, 1) := dk_79 (dk_at dksX6_takes_1 4 rfl rfl)
theorem dX6_takes_29 : decode cX6_takes 29 = .ok (.iinc 3 1, 3) := dk_132 3 1 (dk_at dksX6_takes_1 5 rfl rfl)
theorem dX6_takes_32 : decode cX6_takes 32 = .ok (.goto (-30), 3) := dk_167 255 226 (dk_at dksX6_takes_1 8 rfl rfl)
theorem dX6_takes_35 : decode cX6_takes 35 = .ok (.return_, 1) := dk_177 (dk_at dksX6_takes_1 11 rfl rfl)
theorem q91 : (Jvm.Cond.initialized "FavourTown$Clearing") ∈ lw_all := lw_g (lw_at lw_m1 9 rfl) rfl
theorem q222 : (Jvm.Cond.fieldLinkNest "FavourTown$Clearing" (31 : Nat) "FavourTown$World" "people" "I" "FavourTown") ∈ lw_tbl := lw_at lw_m1 140 rfl
theorem q241 : (Jvm.Cond.fieldLinkNest "FavourTown$Clearing" (48 : Nat) "FavourTown$World" "rings" "Ljava/util/ArrayList;" "FavourTown") ∈ lw_tbl := lw_at lw_m1 159 rfl
theorem q328 : (Jvm.Cond.instantiable "FavourTown$Clearing" (5 : Nat)) ∈ lw_all := lw_g (lw_at lw_m2 6 rfl) rfl
theorem q330 : (Jvm.Cond.instanceMethod ({ cls := "FavourTown$Clearing", name := "<init>", desc := "(LFavourTown;)V" } : Jvm.MethodName)) ∈ lw_all := lw_g (lw_at lw_m2 8 rfl) rfl
theorem q331 : (Jvm.Cond.code ({ cls := "FavourTown$Clearing", name := "<init>", desc := "(LFavourTown;)V" } : Jvm.MethodName) prog_2_method_1_code (2 : Nat) (Option.none : Option Jvm.ClassFile.FieldType)) ∈ lw_all := lw_g (lw_at lw_m2 9 rfl) rfl
theorem q332 : (Jvm.Cond.methodLink "FavourTown$Clearing" (9 : Nat) ({ cls := "java/lang/Object", name := "<init>", desc := "()V" } : Jvm.MethodName)) ∈ lw_all := lw_g (lw_at lw_m2 10 rfl) rfl
theorem q333 : (Jvm.Cond.classLink "FavourTown$Clearing" (15 : Nat) "[[I") ∈ lw_all := lw_g (lw_at lw_m2 11 rfl) rfl
theorem q334 : (Jvm.Cond.fieldLink "FavourTown$Clearing" (17 : Nat) "FavourTown$Clearing" "owed" "[[I") ∈ lw_all := lw_g (lw_at lw_m2 12 rfl) rfl
theorem q335 : (Jvm.Cond.fieldLink "FavourTown$Clearing" (20 : Nat) "FavourTown$Clearing" "order" "[I") ∈ lw_all := lw_g (lw_at lw_m2 13 rfl) rfl
theorem q336 : (Jvm.Cond.fieldLink "FavourTown$Clearing" (24 : Nat) "FavourTown$Clearing" "best" "[I") ∈ lw_all := lw_g (lw_at lw_m2 14 rfl) rfl
theorem q338 : (Jvm.Cond.fieldLink "FavourTown$Clearing" (41 : Nat) "FavourTown$Clearing" "most" "I") ∈ lw_all := lw_g (lw_at lw_m2 16 rfl) rfl
theorem q339 : (Jvm.Cond.fieldLink "FavourTown$Clearing" (3 : Nat) "FavourTown$Clearing" "this$0" "LFavourTown;") ∈ lw_all := lw_g (lw_at lw_m2 17 rfl) rfl
theorem q340 : (Jvm.Cond.laysFinal "FavourTown$Clearing" "FavourTown$Clearing" "owed" "[[I") ∈ lw_all := lw_g (lw_at lw_m2 18 rfl) rfl
theorem q341 : (Jvm.Cond.soleField "FavourTown$Clearing" "owed") ∈ lw_all := lw_g (lw_at lw_m2 19 rfl) rfl
theorem q342 : (Jvm.Cond.laysFinal "FavourTown$Clearing" "FavourTown$Clearing" "order" "[I") ∈ lw_all := lw_g (lw_at lw_m2 20 rfl) rfl
theorem q343 : (Jvm.Cond.soleField "FavourTown$Clearing" "order") ∈ lw_all := lw_g (lw_at lw_m2 21 rfl) rfl
theorem q344 : (Jvm.Cond.laysFinal "FavourTown$Clearing" "FavourTown$Clearing" "best" "[I") ∈ lw_all := lw_g (lw_at lw_m2 22 rfl) rfl
theorem q345 : (Jvm.Cond.soleField "FavourTown$Clearing" "best") ∈ lw_all := lw_g (lw_at lw_m2 23 rfl) rfl
theorem q346 : (Jvm.Cond.lays "FavourTown$Clearing" "FavourTown$Clearing" "most" "I") ∈ lw_all := lw_g (lw_at lw_m2 24 rfl) rfl
theorem q347 : (Jvm.Cond.soleField "FavourTown$Clearing" "most") ∈ lw_all := lw_g (lw_at lw_m2 25 rfl) rfl
theorem q348 : (Jvm.Cond.laysFinal "FavourTown$Clearing" "FavourTown$Clearing" "this$0" "LFavourTown;") ∈ lw_all := lw_g (lw_at lw_m2 26 rfl) rfl
theorem q349 : (Jvm.Cond.soleField "FavourTown$Clearing" "this$0") ∈ lw_all := lw_g (lw_at lw_m2 27 rfl) rfl
theorem q350 : (Jvm.Cond.superclass "FavourTown$Clearing" "java/lang/Object") ∈ lw_all := lw_g (lw_at lw_m2 28 rfl) rfl
theorem q353 : (Jvm.Cond.fieldLinkNest "FavourTown$Clearing" (27 : Nat) "FavourTown" "world" "LFavourTown$World;" "FavourTown") ∈ lw_tbl := lw_at lw_m2 31 rfl
theorem q691 : (Jvm.Cond.selects "FavourTown$Clearing" ({ cls := "java/lang/Object", name := "getClass", desc := "()Ljava/lang/Class;" } : Jvm.MethodName) ({ cls := "java/lang/Object", name := "getClass", desc := "()Ljava/lang/Class;" } : Jvm.MethodName)) ∈ lw_all := lw_g (lw_at lw_m3 129 rfl) rfl
theorem q1782 : (Jvm.Cond.instanceMethod ({ cls := "FavourTown$Clearing", name := "goes", desc := "()I" } : Jvm.MethodName)) ∈ lw_all := lw_g (lw_at lw_m8 20 rfl) rfl
theorem q1783 : (Jvm.Cond.selects "FavourTown$Clearing" ({ cls := "FavourTown$Clearing", name := "goes", desc := "()I" } : Jvm.MethodName) ({ cls := "FavourTown$Clearing", name := "goes", desc := "()I" } : Jvm.MethodName)) ∈ lw_all := lw_g (lw_at lw_m8 21 rfl) rfl
theorem q1784 : (Jvm.Cond.code ({ cls := "FavourTown$Clearing", name := "goes", desc := "()I" } : Jvm.MethodName) prog_2_method_2_code (3 : Nat) (Option.some Jvm.ClassFile.FieldType.int)) ∈ lw_all := lw_g (lw_at lw_m8 22 rfl) rfl
theorem q1785 : (Jvm.Cond.methodLink "FavourTown$Clearing" (37 : Nat) ({ cls := "FavourTown$World", name := "owes", desc := "(II)I" } : Jvm.MethodName)) ∈ lw_all := lw_g (lw_at lw_m8 23 rfl) rfl
theorem q1786 : (Jvm.Cond.methodLink "FavourTown$Clearing" (44 : Nat) ({ cls := "FavourTown$Clearing", name := "tries", desc := "(III)V" } : Jvm.MethodName)) ∈ lw_all := lw_g (lw_at lw_m8 24 rfl) rfl
theorem q1787 : (Jvm.Cond.privateMethod ({ cls := "FavourTown$Clearing", name := "tries", desc := "(III)V" } : Jvm.MethodName)) ∈ lw_tbl := lw_at lw_m8 25 rfl
theorem q1788 : (Jvm.Cond.instanceMethod ({ cls := "FavourTown$Clearing", name := "tries", desc := "(III)V" } : Jvm.MethodName)) ∈ lw_all := lw_g (lw_at lw_m8 26 rfl) rfl
theorem q1789 : (Jvm.Cond.code ({ cls := "FavourTown$Clearing", name := "tries", desc := "(III)V" } : Jvm.MethodName) prog_2_method_3_code (7 : Nat) (Option.none : Option Jvm.ClassFile.FieldType)) ∈ lw_all := lw_g (lw_at lw_m8 27 rfl) rfl
theorem q1790 : (Jvm.Cond.methodLink "FavourTown$Clearing" (52 : Nat) ({ cls := "java/util/ArrayList", name := "size", desc := "()I" } : Jvm.MethodName)) ∈ lw_all := lw_g (lw_at lw_m8 28 rfl) rfl
theorem q1791 : (Jvm.Cond.methodLink "FavourTown$Clearing" (58 : Nat) ({ cls := "java/lang/System", name := "arraycopy", desc := "(Ljava/lang/Object;ILjava/lang/Object;II)V" } : Jvm.MethodName)) ∈ lw_all := lw_g (lw_at lw_m8 29 rfl) rfl
theorem q1792 : (Jvm.Cond.methodLink "FavourTown$Clearing" (64 : Nat) ({ cls := "java/util/ArrayList", name := "get", desc := "(I)Ljava/lang/Object;" } : Jvm.MethodName)) ∈ lw_all := lw_g (lw_at lw_m8 30 rfl) rfl
theorem q1793 : (Jvm.Cond.classLink "FavourTown$Clearing" (68 : Nat) "[I") ∈ lw_all := lw_g (lw_at lw_m8 31 rfl) rfl
theorem q1794 : (Jvm.Cond.methodLink "FavourTown$Clearing" (69 : Nat) ({ cls := "FavourTown$Clearing", name := "least", desc := "([I)I" } : Jvm.MethodName)) ∈ lw_all := lw_g (lw_at lw_m8 32 rfl) rfl
theorem q1795 : (Jvm.Cond.privateMethod ({ cls := "FavourTown$Clearing", name := "least", desc := "([I)I" } : Jvm.MethodName)) ∈ lw_tbl := lw_at lw_m8 33 rfl
theorem q1796 : (Jvm.Cond.instanceMethod ({ cls := "FavourTown$Clearing", name := "least", desc := "([I)I" } : Jvm.MethodName)) ∈ lw_all := lw_g (lw_at lw_m8 34 rfl) rfl
theorem q1797 : (Jvm.Cond.code ({ cls := "FavourTown$Clearing", name := "least", desc := "([I)I" } : Jvm.MethodName) prog_2_method_4_code (4 : Nat) (Option.some Jvm.ClassFile.FieldType.int)) ∈ lw_all := lw_g (lw_at lw_m8 35 rfl) rfl
theorem q1798 : (Jvm.Cond.constant "FavourTown$Clearing" (79 : Nat) (2147483647 : Int32)) ∈ lw_all := lw_g (lw_at lw_m8 36 rfl) rfl
theorem q1799 : (Jvm.Cond.methodLink "FavourTown$Clearing" (80 : Nat) ({ cls := "java/lang/Math", name := "min", desc := "(II)I" } : Jvm.MethodName)) ∈ lw_all := lw_g (lw_at lw_m8 37 rfl) rfl
theorem q1800 : (Jvm.Cond.methodLink "FavourTown$Clearing" (73 : Nat) ({ cls := "FavourTown$Clearing", name := "takes", desc := "([II)V" } : Jvm.MethodName)) ∈ lw_all := lw_g (lw_at lw_m8 38 rfl) rfl
theorem q1801 : (Jvm.Cond.privateMethod ({ cls := "FavourTown$Clearing", name := "takes", desc := "([II)V" } : Jvm.MethodName)) ∈ lw_tbl := lw_at lw_m8 39 rfl
theorem q1802 : (Jvm.Cond.instanceMethod ({ cls := "FavourTown$Clearing", name := "takes", desc := "([II)V" } : Jvm.MethodName)) ∈ lw_all := lw_g (lw_at lw_m8 40 rfl) rfl
theorem q1803 : (Jvm.Cond.code ({ cls := "FavourTown$Clearing", name := "takes", desc := "([II)V" } : Jvm.MethodName) prog_2_method_5_code (4 : Nat) (Option.none : Option Jvm.ClassFile.FieldType)) ∈ lw_all := lw_g (lw_at lw_m8 41 rfl) rfl
theorem q2347 : (Jvm.Cond.castable "FavourTown$Clearing" "java/lang/Object") ∈ lw_tbl := lw_at lw_m10 105 rfl
theorem in_X6 : ∀ w ∈ wsX60, w ∈ lw_all := lw_in wsX60 [340, 342, 344, 346, 348] (by decide +kernel) (by decide +kernel)
/-! FavourTown$Favour -/
set_option maxRecDepth 100000
def RX8 : String := "FavourTown$Favour"
def TX8 : u_T := fun k => match k with
  | 0 => ("FavourTown$Favour", "giver", "I", true)
  | 1 => ("FavourTown$Favour", "amount", "I", true)
  | 2 => ("FavourTown$Favour", "forced", "Z", true)
  | 3 => ("FavourTown$Favour", "row", "[I", true)
  | 4 => ("FavourTown$Favour", "holder", "I", false)
  | _ => ("FavourTown$Favour", "hands", "I", false)
def tyX8 : Nat → FieldType := fun k => match k with
  | 0 => .int
  | 1 => .int
  | 2 => .boolean
  | 3 => .array .int
  | 4 => .int
  | _ => .int
abbrev wsX80 : List Cond := u_ws RX8 TX8 6
theorem nmX8 : ∀ a, a < 6 → ∀ b, b < 6 → a ≠ b → (TX8 a).2.1 ≠ (TX8 b).2.1 := by decide +kernel
theorem tyX8_ok : ∀ k, k < 6 → parseFieldDescriptor (TX8 k).2.2.1 = some (tyX8 k) := by decide +kernel
abbrev cX8_end : ByteArray := prog_5_method_4_code
def yX8_end : MethodName := ⟨RX8, "end", "()I"⟩
theorem dX8_end_0 : decode cX8_end 0 = .ok (.iconst (-1), 1) := by decide +kernel
theorem dX8_end_1 : decode cX8_end 1 = .ok (.ireturn, 1) := by decide +kernel
abbrev cX8_worthAt : ByteArray := prog_5_method_5_code
def yX8_worthAt : MethodName := ⟨RX8, "worthAt", "(I)I"⟩
def dkwX8_worthAt_0 : List UInt8 := [42, 180, 0, 19, 17, 4, 0, 104, 27, 122, 172]
abbrev dktX8_worthAt_0 : List UInt8 := dkwX8_worthAt_0 ++ []
theorem dksX8_worthAt_0 : cX8_worthAt.data.toList.drop 0 = dktX8_worthAt_0 := by decide +kernel
theorem dX8_worthAt_0 : decode cX8_worthAt 0 = .ok (.aload_n 0, 1) := dk_42 (dk_at dksX8_worthAt_0 0 rfl rfl)
theorem dX8_worthAt_1 : decode cX8_worthAt 1 = .ok (.getfield 19, 3) := dk_180 0 19 (dk_at dksX8_worthAt_0 1 rfl rfl)
theorem dX8_worthAt_4 : decode cX8_worthAt 4 = .ok (.sipush 1024, 3) := dk_17 4 0 (dk_at dksX8_worthAt_0 4 rfl rfl)
theorem dX8_worthAt_7 : decode cX8_worthAt 7 = .ok (.imul, 1) := dk_104 (dk_at dksX8_worthAt_0 7 rfl rfl)
theorem dX8_worthAt_8 : decode cX8_worthAt 8 = .ok (.iload_n 1, 1) := dk_27 (dk_at dksX8_worthAt_0 8 rfl rfl)
theorem dX8_worthAt_9 : decode cX8_worthAt 9 = .ok (.ishr, 1) := dk_122 (dk_at dksX8_worthAt_0 9 rfl rfl)
theorem dX8_worthAt_10 : decode cX8_worthAt 10 = .ok (.ireturn, 1) := dk_172 (dk_at dksX8_worthAt_0 10 rfl rfl)
abbrev cX8_wasHeldBy : ByteArray := prog_5_method_6_code
def yX8_wasHeldBy : MethodName := ⟨RX8, "wasHeldBy", "(I)Z"⟩
def dkwX8_wasHeldBy_1 : List UInt8 := [132, 2, 1, 167, 255, 231, 3, 172]
abbrev dktX8_wasHeldBy_1 : List UInt8 := dkwX8_wasHeldBy_1 ++ []
def dkwX8_wasHeldBy_0 : List UInt8 := [4, 61, 28, 42, 180, 0, 42, 4, 96, 163, 0, 21, 42, 180, 0, 9, 28, 46, 27, 160, 0, 5, 4, 172]
abbrev dktX8_wasHeldBy_0 : List UInt8 := dkwX8_wasHeldBy_0 ++ dktX8_wasHeldBy_1
theorem dksX8_wasHeldBy_0 : cX8_wasHeldBy.data.toList.drop 0 = dktX8_wasHeldBy_0 := by decide +kernel
theorem dksX8_wasHeldBy_1 : cX8_wasHeldBy.data.toList.drop 24 = dktX8_wasHeldBy_1 := dk_seg dksX8_wasHeldBy_0 24 rfl rfl
theorem dX8_wasHeldBy_0 : decode cX8_wasHeldBy 0 = .ok (.iconst 1, 1) := dk_4 (dk_at dksX8_wasHeldBy_0 0 rfl rfl)
theorem dX8_wasHeldBy_1 : decode cX8_wasHeldBy 1 = .ok (.istore_n 2, 1) := dk_61 (dk_at dksX8_wasHeldBy_0 1 rfl rfl)
theorem dX8_wasHeldBy_2 : decode cX8_wasHeldBy 2 = .ok (.iload_n 2, 1) := dk_28 (dk_at dksX8_wasHeldBy_0 2 rfl rfl)
theorem dX8_wasHeldBy_3 : decode cX8_wasHeldBy 3 = .ok (.aload_n 0, 1) := dk_42 (dk_at dksX8_wasHeldBy_0 3 rfl rfl)
theorem dX8_wasHeldBy_4 : decode cX8_wasHeldBy 4 = .ok (.getfield 42, 3) := dk_180 0 42 (dk_at dksX8_wasHeldBy_0 4 rfl rfl)
theorem dX8_wasHeldBy_7 : decode cX8_wasHeldBy 7 = .ok (.iconst 1, 1) := dk_4 (dk_at dksX8_wasHeldBy_0 7 rfl rfl)
theorem dX8_wasHeldBy_8 : decode cX8_wasHeldBy 8 = .ok (.iadd, 1) := dk_96 (dk_at dksX8_wasHeldBy_0 8 rfl rfl)
theorem dX8_wasHeldBy_9 : decode cX8_wasHeldBy 9 = .ok (.if_icmp .gt 21, 3) := dk_163 0 21 (dk_at dksX8_wasHeldBy_0 9 rfl rfl)
theorem dX8_wasHeldBy_12 : decode cX8_wasHeldBy 12 = .ok (.aload_n 0, 1) := dk_42 (dk_at dksX8_wasHeldBy_0 12 rfl rfl)
theorem dX8_wasHeldBy_13 : decode cX8_wasHeldBy 13 = .ok (.getfield 9, 3) := dk_180 0 9 (dk_at dksX8_wasHeldBy_0 13 rfl rfl)
theorem dX8_wasHeldBy_16 : decode cX8_wasHeldBy 16 = .ok (.iload_n 2, 1) := dk_28 (dk_at dksX8_wasHeldBy_0 16 rfl rfl)
theorem dX8_wasHeldBy_17 : decode cX8_wasHeldBy 17 = .ok (.iaload, 1) := dk_46 (dk_at dksX8_wasHeldBy_0 17 rfl rfl)
theorem dX8_wasHeldBy_18 : decode cX8_wasHeldBy 18 = .ok (.iload_n 1, 1) := dk_27 (dk_at dksX8_wasHeldBy_0 18 rfl rfl)
theorem dX8_wasHeldBy_19 : decode cX8_wasHeldBy 19 = .ok (.if_icmp .ne 5, 3) := dk_160 0 5 (dk_at dksX8_wasHeldBy_0 19 rfl rfl)
theorem dX8_wasHeldBy_22 : decode cX8_wasHeldBy 22 = .ok (.iconst 1, 1) := dk_4 (dk_at dksX8_wasHeldBy_0 22 rfl rfl)
theorem dX8_wasHeldBy_23 : decode cX8_wasHeldBy 23 = .ok (.ireturn, 1) := dk_172 (dk_at dksX8_wasHeldBy_0 23 rfl rfl)
theorem dX8_wasHeldBy_24 : decode cX8_wasHeldBy 24 = .ok (.iinc 2 1, 3) := dk_132 2 1 (dk_at dksX8_wasHeldBy_1 0 rfl rfl)
theorem dX8_wasHeldBy_27 : decode cX8_wasHeldBy 27 = .ok (.goto (-25), 3) := dk_167 255 231 (dk_at dksX8_wasHeldBy_1 3 rfl rfl)
theorem dX8_wasHeldBy_30 : decode cX8_wasHeldBy 30 = .ok (.iconst 0, 1) := dk_3 (dk_at dksX8_wasHeldBy_1 6 rfl rfl)
theorem dX8_wasHeldBy_31 : decode cX8_wasHeldBy 31 = .ok (.ireturn, 1) := dk_172 (dk_at dksX8_wasHeldBy_1 7 rfl rfl)
abbrev cX8_init : ByteArray := prog_5_method_1_code
def yX8_init : MethodName := ⟨RX8, "<init>", "(IIIZ)V"⟩
def dkwX8_init_2 : List UInt8 := [177]
abbrev dktX8_init_2 : List UInt8 := dkwX8_init_2 ++ []
def dkwX8_init_1 : List UInt8 := [21, 4, 181, 0, 22, 42, 180, 0, 9, 3, 27, 79, 42, 180, 0, 9, 4, 28, 79, 42, 28, 181, 0, 26]
abbrev dktX8_init_1 : List UInt8 := dkwX8_init_1 ++ dktX8_init_2
def dkwX8_init_0 : List UInt8 := [42, 183, 0, 3, 42, 16, 12, 188, 10, 181, 0, 9, 42, 27, 181, 0, 15, 42, 29, 181, 0, 19, 42]
abbrev dktX8_init_0 : List UInt8 := dkwX8_init_0 ++ dktX8_init_1
theorem dksX8_init_0 : cX8_init.data.toList.drop 0 = dktX8_init_0 := by decide +kernel
theorem dksX8_init_1 : cX8_init.data.toList.drop 23 = dktX8_init_1 := dk_seg dksX8_init_0 23 rfl rfl
theorem dksX8_init_2 : cX8_init.data.toList.drop 47 = dktX8_init_2 := dk_seg dksX8_init_1 24 rfl rfl
theorem dX8_init_0 : decode cX8_init 0 = .ok (.aload_n 0, 1) := dk_42 (dk_at dksX8_init_0 0 rfl rfl)
theorem dX8_init_1 : decode cX8_init 1 = .ok (.invokespecial 3, 3) := dk_183 0 3 (dk_at dksX8_init_0 1 rfl rfl)
theorem dX8_init_4 : decode cX8_init 4 = .ok (.aload_n 0, 1) := dk_42 (dk_at dksX8_init_0 4 rfl rfl)
theorem dX8_init_5 : decode cX8_init 5 = .ok (.bipush 12, 2) := dk_16 12 (dk_at dksX8_init_0 5 rfl rfl)
theorem dX8_init_7 : decode cX8_init 7 = .ok (.newarray .int, 2) := dk_188_10 (dk_at dksX8_init_0 7 rfl rfl)
theorem dX8_init_9 : decode cX8_init 9 = .ok (.putfield 9, 3) := dk_181 0 9 (dk_at dksX8_init_0 9 rfl rfl)
theorem dX8_init_12 : decode cX8_init 12 = .ok (.aload_n 0, 1) := dk_42 (dk_at dksX8_init_0 12 rfl rfl)
theorem dX8_init_13 : decode cX8_init 13 = .ok (.iload_n 1, 1) := dk_27 (dk_at dksX8_init_0 13 rfl rfl)
theorem dX8_init_14 : decode cX8_init 14 = .ok (.putfield 15, 3) := dk_181 0 15 (dk_at dksX8_init_0 14 rfl rfl)
theorem dX8_init_17 : decode cX8_init 17 = .ok (.aload_n 0, 1) := dk_42 (dk_at dksX8_init_0 17 rfl rfl)
theorem dX8_init_18 : decode cX8_init 18 = .ok (.iload_n 3, 1) := dk_29 (dk_at dksX8_init_0 18 rfl rfl)
theorem dX8_init_19 : decode cX8_init 19 = .ok (.putfield 19, 3) := dk_181 0 19 (dk_at dksX8_init_0 19 rfl rfl)
theorem dX8_init_22 : decode cX8_init 22 = .ok (.aload_n 0, 1) := dk_42 (dk_at dksX8_init_0 22 rfl rfl)
theorem dX8_init_23 : decode cX8_init 23 = .ok (.iload 4, 2) := dk_21 4 (dk_at dksX8_init_1 0 rfl rfl)
theorem dX8_init_25 : decode cX8_init 25 = .ok (.putfield 22, 3) := dk_181 0 22 (dk_at dksX8_init_1 2 rfl rfl)
theorem dX8_init_28 : decode cX8_init 28 = .ok (.aload_n 0, 1) := dk_42 (dk_at dksX8_init_1 5 rfl rfl)
theorem dX8_init_29 : decode cX8_init 29 = .ok (.getfield 9, 3) := dk_180 0 9 (dk_at dksX8_init_1 6 rfl rfl)
theorem dX8_init_32 : decode cX8_init 32 = .ok (.iconst 0, 1) := dk_3 (dk_at dksX8_init_1 9 rfl rfl)
theorem dX8_init_33 : decode cX8_init 33 = .ok (.iload_n 1, 1) := dk_27 (dk_at dksX8_init_1 10 rfl rfl)
theorem dX8_init_34 : decode cX8_init 34 = .ok (.iastore, 1) := dk_79 (dk_at dksX8_init_1 11 rfl rfl)
theorem dX8_init_35 : decode cX8_init 35 = .ok (.aload_n 0, 1) := dk_42 (dk_at dksX8_init_1 12 rfl rfl)
theorem dX8_init_36 : decode cX8_init 36 = .ok (.getfield 9, 3) := dk_180 0 9 (dk_at dksX8_init_1 13 rfl rfl)
theorem dX8_init_39 : decode cX8_init 39 = .ok (.iconst 1, 1) := dk_4 (dk_at dksX8_init_1 16 rfl rfl)
theorem dX8_init_40 : decode cX8_init 40 = .ok (.iload_n 2, 1) := dk_28 (dk_at dksX8_init_1 17 rfl rfl)
theorem dX8_init_41 : decode cX8_init 41 = .ok (.iastore, 1) := dk_79 (dk_at dksX8_init_1 18 rfl rfl)
theorem dX8_init_42 : decode cX8_init 42 = .ok (.aload_n 0, 1) := dk_42 (dk_at dksX8_init_1 19 rfl rfl)
theorem dX8_init_43 : decode cX8_init 43 = .ok (.iload_n 2, 1) := dk_28 (dk_at dksX8_init_1 20 rfl rfl)
theorem dX8_init_44 : decode cX8_init 44 = .ok (.putfield 26, 3) := dk_181 0 26 (dk_at dksX8_init_1 21 rfl rfl)
theorem dX8_init_47 : decode cX8_init 47 = .ok (.return_, 1) := dk_177 (dk_at dksX8_init_2 0 rfl rfl)
abbrev cX8_takes : ByteArray := prog_5_method_3_code
def yX8_takes : MethodName := ⟨RX8, "takes", "(LFavourTown$Favour;)LFavourTown$Favour;"⟩
def dkwX8_takes_1 : List UInt8 := [181, 0, 26, 43, 42, 180, 0, 42, 181, 0, 42, 43, 176]
abbrev dktX8_takes_1 : List UInt8 := dkwX8_takes_1 ++ []
def dkwX8_takes_0 : List UInt8 := [42, 180, 0, 9, 3, 43, 180, 0, 9, 3, 42, 180, 0, 9, 190, 184, 0, 36, 43, 42, 180, 0, 26]
abbrev dktX8_takes_0 : List UInt8 := dkwX8_takes_0 ++ dktX8_takes_1
theorem dksX8_takes_0 : cX8_takes.data.toList.drop 0 = dktX8_takes_0 := by decide +kernel
theorem dksX8_takes_1 : cX8_takes.data.toList.drop 23 = dktX8_takes_1 := dk_seg dksX8_takes_0 23 rfl rfl
theorem dX8_takes_0 : decode cX8_takes 0 = .ok (.aload_n 0, 1) := dk_42 (dk_at dksX8_takes_0 0 rfl rfl)
theorem dX8_takes_1 : decode cX8_takes 1 = .ok (.getfield 9, 3) := dk_180 0 9 (dk_at dksX8_takes_0 1 rfl rfl)
theorem dX8_takes_4 : decode cX8_takes 4 = .ok (.iconst 0, 1) := dk_3 (dk_at dksX8_takes_0 4 rfl rfl)
theorem dX8_takes_5 : decode cX8_takes 5 = .ok (.aload_n 1, 1) := dk_43 (dk_at dksX8_takes_0 5 rfl rfl)
theorem dX8_takes_6 : decode cX8_takes 6 = .ok (.getfield 9, 3) := dk_180 0 9 (dk_at dksX8_takes_0 6 rfl rfl)
theorem dX8_takes_9 : decode cX8_takes 9 = .ok (.iconst 0, 1) := dk_3 (dk_at dksX8_takes_0 9 rfl rfl)
theorem dX8_takes_10 : decode cX8_takes 10 = .ok (.aload_n 0, 1) := dk_42 (dk_at dksX8_takes_0 10 rfl rfl)
theorem dX8_takes_11 : decode cX8_takes 11 = .ok (.getfield 9, 3) := dk_180 0 9 (dk_at dksX8_takes_0 11 rfl rfl)
theorem dX8_takes_14 : decode cX8_takes 14 = .ok (.arraylength, 1) := dk_190 (dk_at dksX8_takes_0 14 rfl rfl)
theorem dX8_takes_15 : decode cX8_takes 15 = .ok (.invokestatic 36, 3) := dk_184 0 36 (dk_at dksX8_takes_0 15 rfl rfl)
theorem dX8_takes_18 : decode cX8_takes 18 = .ok (.aload_n 1, 1) := dk_43 (dk_at dksX8_takes_0 18 rfl rfl)
theorem dX8_takes_19 : decode cX8_takes 19 = .ok (.aload_n 0, 1) := dk_42 (dk_at dksX8_takes_0 19 rfl rfl)
theorem dX8_takes_20 : decode cX8_takes 20 = .ok (.getfield 26, 3) := dk_180 0 26 (dk_at dksX8_takes_0 20 rfl rfl)
theorem dX8_takes_23 : decode cX8_takes 23 = .ok (.putfield 26, 3) := dk_181 0 26 (dk_at dksX8_takes_1 0 rfl rfl)
theorem dX8_takes_26 : decode cX8_takes 26 = .ok (.aload_n 1, 1) := dk_43 (dk_at dksX8_takes_1 3 rfl rfl)
theorem dX8_takes_27 : decode cX8_takes 27 = .ok (.aload_n 0, 1) := dk_42 (dk_at dksX8_takes_1 4 rfl rfl)
theorem dX8_takes_28 : decode cX8_takes 28 = .ok (.getfield 42, 3) := dk_180 0 42 (dk_at dksX8_takes_1 5 rfl rfl)
theorem dX8_takes_31 : decode cX8_takes 31 = .ok (.putfield 42, 3) := dk_181 0 42 (dk_at dksX8_takes_1 8 rfl rfl)
theorem dX8_takes_34 : decode cX8_takes 34 = .ok (.aload_n 1, 1) := dk_43 (dk_at dksX8_takes_1 11 rfl rfl)
theorem dX8_takes_35 : decode cX8_takes 35 = .ok (.areturn, 1) := dk_176 (dk_at dksX8_takes_1 12 rfl rfl)
abbrev cX8_copy : ByteArray := prog_5_method_2_code
def yX8_copy : MethodName := ⟨RX8, "copy", "()LFavourTown$Favour;"⟩
def dkwX8_copy_1 : List UInt8 := [183, 0, 29, 182, 0, 32, 176]
abbrev dktX8_copy_1 : List UInt8 := dkwX8_copy_1 ++ []
def dkwX8_copy_0 : List UInt8 := [42, 187, 0, 10, 89, 42, 180, 0, 15, 42, 180, 0, 9, 4, 46, 42, 180, 0, 19, 42, 180, 0, 22]
abbrev dktX8_copy_0 : List UInt8 := dkwX8_copy_0 ++ dktX8_copy_1
theorem dksX8_copy_0 : cX8_copy.data.toList.drop 0 = dktX8_copy_0 := by decide +kernel
theorem dksX8_copy_1 : cX8_copy.data.toList.drop 23 = dktX8_copy_1 := dk_seg dksX8_copy_0 23 rfl rfl
theorem dX8_copy_0 : decode cX8_copy 0 = .ok (.aload_n 0, 1) := dk_42 (dk_at dksX8_copy_0 0 rfl rfl)
theorem dX8_copy_1 : decode cX8_copy 1 = .ok (.new 10, 3) := dk_187 0 10 (dk_at dksX8_copy_0 1 rfl rfl)
theorem dX8_copy_4 : decode cX8_copy 4 = .ok (.dup, 1) := dk_89 (dk_at dksX8_copy_0 4 rfl rfl)
theorem dX8_copy_5 : decode cX8_copy 5 = .ok (.aload_n 0, 1) := dk_42 (dk_at dksX8_copy_0 5 rfl rfl)
theorem dX8_copy_6 : decode cX8_copy 6 = .ok (.getfield 15, 3) := dk_180 0 15 (dk_at dksX8_copy_0 6 rfl rfl)
theorem dX8_copy_9 : decode cX8_copy 9 = .ok (.aload_n 0, 1) := dk_42 (dk_at dksX8_copy_0 9 rfl rfl)
theorem dX8_copy_10 : decode cX8_copy 10 = .ok (.getfield 9, 3) := dk_180 0 9 (dk_at dksX8_copy_0 10 rfl rfl)
theorem dX8_copy_13 : decode cX8_copy 13 = .ok (.iconst 1, 1) := dk_4 (dk_at dksX8_copy_0 13 rfl rfl)
theorem dX8_copy_14 : decode cX8_copy 14 = .ok (.iaload, 1) := dk_46 (dk_at dksX8_copy_0 14 rfl rfl)
theorem dX8_copy_15 : decode cX8_copy 15 = .ok (.aload_n 0, 1) := dk_42 (dk_at dksX8_copy_0 15 rfl rfl)
theorem dX8_copy_16 : decode cX8_copy 16 = .ok (.getfield 19, 3) := dk_180 0 19 (dk_at dksX8_copy_0 16 rfl rfl)
theorem dX8_copy_19 : decode cX8_copy 19 = .ok (.aload_n 0, 1) := dk_42 (dk_at dksX8_copy_0 19 rfl rfl)
theorem dX8_copy_20 : decode cX8_copy 20 = .ok (.getfield 22, 3) := dk_180 0 22 (dk_at dksX8_copy_0 20 rfl rfl)
theorem dX8_copy_23 : decode cX8_copy 23 = .ok (.invokespecial 29, 3) := dk_183 0 29 (dk_at dksX8_copy_1 0 rfl rfl)
theorem dX8_copy_26 : decode cX8_copy 26 = .ok (.invokevirtual 32, 3) := dk_182 0 32 (dk_at dksX8_copy_1 3 rfl rfl)
theorem dX8_copy_29 : decode cX8_copy 29 = .ok (.areturn, 1) := dk_176 (dk_at dksX8_copy_1 6 rfl rfl)
abbrev cX8_goes : ByteArray := prog_5_method_7_code
def yX8_goes : MethodName := ⟨RX8, "goes", "(I)V"⟩
def dkwX8_goes_1 : List UInt8 := [42, 180, 0, 15, 160, 0, 7, 2, 167, 0, 4, 27, 181, 0, 26, 177]
abbrev dktX8_goes_1 : List UInt8 := dkwX8_goes_1 ++ []
def dkwX8_goes_0 : List UInt8 := [42, 89, 180, 0, 42, 4, 96, 181, 0, 42, 42, 180, 0, 9, 42, 180, 0, 42, 4, 96, 27, 79, 42, 27]
abbrev dktX8_goes_0 : List UInt8 := dkwX8_goes_0 ++ dktX8_goes_1
theorem dksX8_goes_0 : cX8_goes.data.toList.drop 0 = dktX8_goes_0 := by decide +kernel
theorem dksX8_goes_1 : cX8_goes.data.toList.drop 24 = dktX8_goes_1 := dk_seg dksX8_goes_0 24 rfl rfl
theorem dX8_goes_0 : decode cX8_goes 0 = .ok (.aload_n 0, 1) := dk_42 (dk_at dksX8_goes_0 0 rfl rfl)
theorem dX8_goes_1 : decode cX8_goes 1 = .ok (.dup, 1) := dk_89 (dk_at dksX8_goes_0 1 rfl rfl)
theorem dX8_goes_2 : decode cX8_goes 2 = .ok (.getfield 42, 3) := dk_180 0 42 (dk_at dksX8_goes_0 2 rfl rfl)
theorem dX8_goes_5 : decode cX8_goes 5 = .ok (.iconst 1, 1) := dk_4 (dk_at dksX8_goes_0 5 rfl rfl)
theorem dX8_goes_6 : decode cX8_goes 6 = .ok (.iadd, 1) := dk_96 (dk_at dksX8_goes_0 6 rfl rfl)
theorem dX8_goes_7 : decode cX8_goes 7 = .ok (.putfield 42, 3) := dk_181 0 42 (dk_at dksX8_goes_0 7 rfl rfl)
theorem dX8_goes_10 : decode cX8_goes 10 = .ok (.aload_n 0, 1) := dk_42 (dk_at dksX8_goes_0 10 rfl rfl)
theorem dX8_goes_11 : decode cX8_goes 11 = .ok (.getfield 9, 3) := dk_180 0 9 (dk_at dksX8_goes_0 11 rfl rfl)
theorem dX8_goes_14 : decode cX8_goes 14 = .ok (.aload_n 0, 1) := dk_42 (dk_at dksX8_goes_0 14 rfl rfl)
theorem dX8_goes_15 : decode cX8_goes 15 = .ok (.getfield 42, 3) := dk_180 0 42 (dk_at dksX8_goes_0 15 rfl rfl)
theorem dX8_goes_18 : decode cX8_goes 18 = .ok (.iconst 1, 1) := dk_4 (dk_at dksX8_goes_0 18 rfl rfl)
theorem dX8_goes_19 : decode cX8_goes 19 = .ok (.iadd, 1) := dk_96 (dk_at dksX8_goes_0 19 rfl rfl)
theorem dX8_goes_20 : decode cX8_goes 20 = .ok (.iload_n 1, 1) := dk_27 (dk_at dksX8_goes_0 20 rfl rfl)
theorem dX8_goes_21 : decode cX8_goes 21 = .ok (.iastore, 1) := dk_79 (dk_at dksX8_goes_0 21 rfl rfl)
theorem dX8_goes_22 : decode cX8_goes 22 = .ok (.aload_n 0, 1) := dk_42 (dk_at dksX8_goes_0 22 rfl rfl)
theorem dX8_goes_23 : decode cX8_goes 23 = .ok (.iload_n 1, 1) := dk_27 (dk_at dksX8_goes_0 23 rfl rfl)
theorem dX8_goes_24 : decode cX8_goes 24 = .ok (.aload_n 0, 1) := dk_42 (dk_at dksX8_goes_1 0 rfl rfl)
theorem dX8_goes_25 : decode cX8_goes 25 = .ok (.getfield 15, 3) := dk_180 0 15 (dk_at dksX8_goes_1 1 rfl rfl)
theorem dX8_goes_28 : decode cX8_goes 28 = .ok (.if_icmp .ne 7, 3) := dk_160 0 7 (dk_at dksX8_goes_1 4 rfl rfl)
theorem dX8_goes_31 : decode cX8_goes 31 = .ok (.iconst (-1), 1) := dk_2 (dk_at dksX8_goes_1 7 rfl rfl)
theorem dX8_goes_32 : decode cX8_goes 32 = .ok (.goto 4, 3) := dk_167 0 4 (dk_at dksX8_goes_1 8 rfl rfl)
theorem dX8_goes_35 : decode cX8_goes 35 = .ok (.iload_n 1, 1) := dk_27 (dk_at dksX8_goes_1 11 rfl rfl)
theorem dX8_goes_36 : decode cX8_goes 36 = .ok (.putfield 26, 3) := dk_181 0 26 (dk_at dksX8_goes_1 12 rfl rfl)
theorem dX8_goes_39 : decode cX8_goes 39 = .ok (.return_, 1) := dk_177 (dk_at dksX8_goes_1 15 rfl rfl)
theorem q96 : (Jvm.Cond.initialized "FavourTown$Favour") ∈ lw_all := lw_g (lw_at lw_m1 14 rfl) rfl
theorem q441 : (Jvm.Cond.instanceMethod ({ cls := "FavourTown$Favour", name := "end", desc := "()I" } : Jvm.MethodName)) ∈ lw_all := lw_g (lw_at lw_m2 119 rfl) rfl
theorem q442 : (Jvm.Cond.selects "FavourTown$Favour" ({ cls := "FavourTown$Favour", name := "end", desc := "()I" } : Jvm.MethodName) ({ cls := "FavourTown$Favour", name := "end", desc := "()I" } : Jvm.MethodName)) ∈ lw_all := lw_g (lw_at lw_m2 120 rfl) rfl
theorem q443 : (Jvm.Cond.sameMethod "FavourTown$Favour" "FavourTown$Favour" "end" "()I") ∈ lw_all := lw_g (lw_at lw_m2 121 rfl) rfl
theorem q447 : (Jvm.Cond.code ({ cls := "FavourTown$Favour", name := "end", desc := "()I" } : Jvm.MethodName) prog_5_method_4_code (1 : Nat) (Option.some Jvm.ClassFile.FieldType.int)) ∈ lw_all := lw_g (lw_at lw_m2 125 rfl) rfl
theorem q457 : (Jvm.Cond.instanceMethod ({ cls := "FavourTown$Favour", name := "worthAt", desc := "(I)I" } : Jvm.MethodName)) ∈ lw_all := lw_g (lw_at lw_m2 135 rfl) rfl
theorem q458 : (Jvm.Cond.selects "FavourTown$Favour" ({ cls := "FavourTown$Favour", name := "worthAt", desc := "(I)I" } : Jvm.MethodName) ({ cls := "FavourTown$Favour", name := "worthAt", desc := "(I)I" } : Jvm.MethodName)) ∈ lw_all := lw_g (lw_at lw_m2 136 rfl) rfl
theorem q459 : (Jvm.Cond.sameMethod "FavourTown$Favour" "FavourTown$Favour" "worthAt" "(I)I") ∈ lw_all := lw_g (lw_at lw_m2 137 rfl) rfl
theorem q461 : (Jvm.Cond.code ({ cls := "FavourTown$Favour", name := "worthAt", desc := "(I)I" } : Jvm.MethodName) prog_5_method_5_code (2 : Nat) (Option.some Jvm.ClassFile.FieldType.int)) ∈ lw_all := lw_g (lw_at lw_m2 139 rfl) rfl
theorem q467 : (Jvm.Cond.instanceMethod ({ cls := "FavourTown$Favour", name := "wasHeldBy", desc := "(I)Z" } : Jvm.MethodName)) ∈ lw_all := lw_g (lw_at lw_m2 145 rfl) rfl
theorem q468 : (Jvm.Cond.selects "FavourTown$Favour" ({ cls := "FavourTown$Favour", name := "wasHeldBy", desc := "(I)Z" } : Jvm.MethodName) ({ cls := "FavourTown$Favour", name := "wasHeldBy", desc := "(I)Z" } : Jvm.MethodName)) ∈ lw_all := lw_g (lw_at lw_m2 146 rfl) rfl
theorem q469 : (Jvm.Cond.sameMethod "FavourTown$Favour" "FavourTown$Favour" "wasHeldBy" "(I)Z") ∈ lw_all := lw_g (lw_at lw_m2 147 rfl) rfl
theorem q471 : (Jvm.Cond.code ({ cls := "FavourTown$Favour", name := "wasHeldBy", desc := "(I)Z" } : Jvm.MethodName) prog_5_method_6_code (3 : Nat) (Option.some Jvm.ClassFile.FieldType.boolean)) ∈ lw_all := lw_g (lw_at lw_m2 149 rfl) rfl
theorem q587 : (Jvm.Cond.instanceMethod ({ cls := "FavourTown$Favour", name := "copy", desc := "()LFavourTown$Favour;" } : Jvm.MethodName)) ∈ lw_all := lw_g (lw_at lw_m3 25 rfl) rfl
theorem q588 : (Jvm.Cond.selects "FavourTown$Favour" ({ cls := "FavourTown$Favour", name := "copy", desc := "()LFavourTown$Favour;" } : Jvm.MethodName) ({ cls := "FavourTown$Favour", name := "copy", desc := "()LFavourTown$Favour;" } : Jvm.MethodName)) ∈ lw_all := lw_g (lw_at lw_m3 26 rfl) rfl
theorem q589 : (Jvm.Cond.sameMethod "FavourTown$Favour" "FavourTown$Favour" "copy" "()LFavourTown$Favour;") ∈ lw_all := lw_g (lw_at lw_m3 27 rfl) rfl
theorem q599 : (Jvm.Cond.instanceMethod ({ cls := "FavourTown$Favour", name := "<init>", desc := "(IIIZ)V" } : Jvm.MethodName)) ∈ lw_all := lw_g (lw_at lw_m3 37 rfl) rfl
theorem q600 : (Jvm.Cond.code ({ cls := "FavourTown$Favour", name := "<init>", desc := "(IIIZ)V" } : Jvm.MethodName) prog_5_method_1_code (5 : Nat) (Option.none : Option Jvm.ClassFile.FieldType)) ∈ lw_all := lw_g (lw_at lw_m3 38 rfl) rfl
theorem q601 : (Jvm.Cond.methodLink "FavourTown$Favour" (3 : Nat) ({ cls := "java/lang/Object", name := "<init>", desc := "()V" } : Jvm.MethodName)) ∈ lw_all := lw_g (lw_at lw_m3 39 rfl) rfl
theorem q603 : (Jvm.Cond.fieldLink "FavourTown$Favour" (15 : Nat) "FavourTown$Favour" "giver" "I") ∈ lw_all := lw_g (lw_at lw_m3 41 rfl) rfl
theorem q607 : (Jvm.Cond.fieldLink "FavourTown$Favour" (19 : Nat) "FavourTown$Favour" "amount" "I") ∈ lw_all := lw_g (lw_at lw_m3 45 rfl) rfl
theorem q611 : (Jvm.Cond.fieldLink "FavourTown$Favour" (22 : Nat) "FavourTown$Favour" "forced" "Z") ∈ lw_all := lw_g (lw_at lw_m3 49 rfl) rfl
theorem q615 : (Jvm.Cond.fieldLink "FavourTown$Favour" (9 : Nat) "FavourTown$Favour" "row" "[I") ∈ lw_all := lw_g (lw_at lw_m3 53 rfl) rfl
theorem q618 : (Jvm.Cond.fieldLink "FavourTown$Favour" (26 : Nat) "FavourTown$Favour" "holder" "I") ∈ lw_all := lw_g (lw_at lw_m3 56 rfl) rfl
theorem q621 : (Jvm.Cond.fieldLink "FavourTown$Favour" (42 : Nat) "FavourTown$Favour" "hands" "I") ∈ lw_all := lw_g (lw_at lw_m3 59 rfl) rfl
theorem q627 : (Jvm.Cond.soleField "FavourTown$Favour" "giver") ∈ lw_all := lw_g (lw_at lw_m3 65 rfl) rfl
theorem q629 : (Jvm.Cond.soleField "FavourTown$Favour" "amount") ∈ lw_all := lw_g (lw_at lw_m3 67 rfl) rfl
theorem q631 : (Jvm.Cond.soleField "FavourTown$Favour" "forced") ∈ lw_all := lw_g (lw_at lw_m3 69 rfl) rfl
theorem q633 : (Jvm.Cond.soleField "FavourTown$Favour" "row") ∈ lw_all := lw_g (lw_at lw_m3 71 rfl) rfl
theorem q635 : (Jvm.Cond.soleField "FavourTown$Favour" "holder") ∈ lw_all := lw_g (lw_at lw_m3 73 rfl) rfl
theorem q637 : (Jvm.Cond.soleField "FavourTown$Favour" "hands") ∈ lw_all := lw_g (lw_at lw_m3 75 rfl) rfl
theorem q641 : (Jvm.Cond.declares ({ cls := "FavourTown$Favour", name := "takes", desc := "(LFavourTown$Favour;)LFavourTown$Favour;" } : Jvm.MethodName)) ∈ lw_tbl := lw_at lw_m3 79 rfl
theorem q643 : (Jvm.Cond.instanceMethod ({ cls := "FavourTown$Favour", name := "takes", desc := "(LFavourTown$Favour;)LFavourTown$Favour;" } : Jvm.MethodName)) ∈ lw_all := lw_g (lw_at lw_m3 81 rfl) rfl
theorem q644 : (Jvm.Cond.code ({ cls := "FavourTown$Favour", name := "takes", desc := "(LFavourTown$Favour;)LFavourTown$Favour;" } : Jvm.MethodName) prog_5_method_3_code (2 : Nat) (Option.some (Jvm.ClassFile.FieldType.object "FavourTown$Favour"))) ∈ lw_all := lw_g (lw_at lw_m3 82 rfl) rfl
theorem q645 : (Jvm.Cond.methodLink "FavourTown$Favour" (36 : Nat) ({ cls := "java/lang/System", name := "arraycopy", desc := "(Ljava/lang/Object;ILjava/lang/Object;II)V" } : Jvm.MethodName)) ∈ lw_all := lw_g (lw_at lw_m3 83 rfl) rfl
theorem q646 : (Jvm.Cond.code ({ cls := "FavourTown$Favour", name := "copy", desc := "()LFavourTown$Favour;" } : Jvm.MethodName) prog_5_method_2_code (1 : Nat) (Option.some (Jvm.ClassFile.FieldType.object "FavourTown$Favour"))) ∈ lw_all := lw_g (lw_at lw_m3 84 rfl) rfl
theorem q647 : (Jvm.Cond.classLink "FavourTown$Favour" (10 : Nat) "FavourTown$Favour") ∈ lw_all := lw_g (lw_at lw_m3 85 rfl) rfl
theorem q648 : (Jvm.Cond.instantiable "FavourTown$Favour" (6 : Nat)) ∈ lw_all := lw_g (lw_at lw_m3 86 rfl) rfl
theorem q649 : (Jvm.Cond.methodLink "FavourTown$Favour" (29 : Nat) ({ cls := "FavourTown$Favour", name := "<init>", desc := "(IIIZ)V" } : Jvm.MethodName)) ∈ lw_all := lw_g (lw_at lw_m3 87 rfl) rfl
theorem q650 : (Jvm.Cond.laysFinal "FavourTown$Favour" "FavourTown$Favour" "giver" "I") ∈ lw_all := lw_g (lw_at lw_m3 88 rfl) rfl
theorem q651 : (Jvm.Cond.laysFinal "FavourTown$Favour" "FavourTown$Favour" "amount" "I") ∈ lw_all := lw_g (lw_at lw_m3 89 rfl) rfl
theorem q652 : (Jvm.Cond.laysFinal "FavourTown$Favour" "FavourTown$Favour" "forced" "Z") ∈ lw_all := lw_g (lw_at lw_m3 90 rfl) rfl
theorem q653 : (Jvm.Cond.laysFinal "FavourTown$Favour" "FavourTown$Favour" "row" "[I") ∈ lw_all := lw_g (lw_at lw_m3 91 rfl) rfl
theorem q654 : (Jvm.Cond.lays "FavourTown$Favour" "FavourTown$Favour" "holder" "I") ∈ lw_all := lw_g (lw_at lw_m3 92 rfl) rfl
theorem q655 : (Jvm.Cond.lays "FavourTown$Favour" "FavourTown$Favour" "hands" "I") ∈ lw_all := lw_g (lw_at lw_m3 93 rfl) rfl
theorem q656 : (Jvm.Cond.superclass "FavourTown$Favour" "java/lang/Object") ∈ lw_all := lw_g (lw_at lw_m3 94 rfl) rfl
theorem q657 : (Jvm.Cond.methodLink "FavourTown$Favour" (32 : Nat) ({ cls := "FavourTown$Favour", name := "takes", desc := "(LFavourTown$Favour;)LFavourTown$Favour;" } : Jvm.MethodName)) ∈ lw_all := lw_g (lw_at lw_m3 95 rfl) rfl
theorem q693 : (Jvm.Cond.selects "FavourTown$Favour" ({ cls := "java/lang/Object", name := "getClass", desc := "()Ljava/lang/Class;" } : Jvm.MethodName) ({ cls := "java/lang/Object", name := "getClass", desc := "()Ljava/lang/Class;" } : Jvm.MethodName)) ∈ lw_all := lw_g (lw_at lw_m3 131 rfl) rfl
theorem q1273 : (Jvm.Cond.instanceMethod ({ cls := "FavourTown$Favour", name := "goes", desc := "(I)V" } : Jvm.MethodName)) ∈ lw_all := lw_g (lw_at lw_m5 231 rfl) rfl
theorem q1274 : (Jvm.Cond.selects "FavourTown$Favour" ({ cls := "FavourTown$Favour", name := "goes", desc := "(I)V" } : Jvm.MethodName) ({ cls := "FavourTown$Favour", name := "goes", desc := "(I)V" } : Jvm.MethodName)) ∈ lw_all := lw_g (lw_at lw_m5 232 rfl) rfl
theorem q1275 : (Jvm.Cond.sameMethod "FavourTown$Favour" "FavourTown$Favour" "goes" "(I)V") ∈ lw_all := lw_g (lw_at lw_m5 233 rfl) rfl
theorem q1277 : (Jvm.Cond.code ({ cls := "FavourTown$Favour", name := "goes", desc := "(I)V" } : Jvm.MethodName) prog_5_method_7_code (2 : Nat) (Option.none : Option Jvm.ClassFile.FieldType)) ∈ lw_all := lw_g (lw_at lw_m5 235 rfl) rfl
theorem q2324 : (Jvm.Cond.sameMethod "FavourTown$Favour" "FavourTown$Favour" "takes" "(LFavourTown$Favour;)LFavourTown$Favour;") ∈ lw_all := lw_g (lw_at lw_m10 82 rfl) rfl
theorem q2325 : (Jvm.Cond.selects "FavourTown$Favour" ({ cls := "FavourTown$Favour", name := "takes", desc := "(LFavourTown$Favour;)LFavourTown$Favour;" } : Jvm.MethodName) ({ cls := "FavourTown$Favour", name := "takes", desc := "(LFavourTown$Favour;)LFavourTown$Favour;" } : Jvm.MethodName)) ∈ lw_all := lw_g (lw_at lw_m10 83 rfl) rfl
theorem q2349 : (Jvm.Cond.castable "FavourTown$Favour" "java/lang/Object") ∈ lw_tbl := lw_at lw_m10 107 rfl
theorem in_X8 : ∀ w ∈ wsX80, w ∈ lw_all := lw_in wsX80 [650, 651, 652, 653, 654, 655] (by decide +kernel) (by decide +kernel)
/-! FavourTown$Timed -/
set_option maxRecDepth 100000
def RX9 : String := "FavourTown$Timed"
def TX9 : u_T := fun k => match k with
  | 0 => ("FavourTown$Favour", "giver", "I", true)
  | 1 => ("FavourTown$Favour", "amount", "I", true)
  | 2 => ("FavourTown$Favour", "forced", "Z", true)
  | 3 => ("FavourTown$Favour", "row", "[I", true)
  | 4 => ("FavourTown$Favour", "holder", "I", false)
  | 5 => ("FavourTown$Favour", "hands", "I", false)
  | _ => ("FavourTown$Timed", "end", "I", true)
def tyX9 : Nat → FieldType := fun k => match k with
  | 0 => .int
  | 1 => .int
  | 2 => .boolean
  | 3 => .array .int
  | 4 => .int
  | 5 => .int
  | _ => .int
abbrev wsX90 : List Cond := u_ws RX9 TX9 7
theorem nmX9 : ∀ a, a < 7 → ∀ b, b < 7 → a ≠ b → (TX9 a).2.1 ≠ (TX9 b).2.1 := by decide +kernel
theorem tyX9_ok : ∀ k, k < 7 → parseFieldDescriptor (TX9 k).2.2.1 = some (tyX9 k) := by decide +kernel
abbrev cX9_end : ByteArray := prog_19_method_3_code
def yX9_end : MethodName := ⟨RX9, "end", "()I"⟩
theorem dX9_end_0 : decode cX9_end 0 = .ok (.aload_n 0, 1) := by decide +kernel
theorem dX9_end_1 : decode cX9_end 1 = .ok (.getfield 7, 3) := by decide +kernel
theorem dX9_end_4 : decode cX9_end 4 = .ok (.ireturn, 1) := by decide +kernel
abbrev cX9_copy : ByteArray := prog_19_method_2_code
def yX9_copy : MethodName := ⟨RX9, "copy", "()LFavourTown$Favour;"⟩
def dkwX9_copy_1 : List UInt8 := [180, 0, 7, 183, 0, 27, 182, 0, 30, 176]
abbrev dktX9_copy_1 : List UInt8 := dkwX9_copy_1 ++ []
def dkwX9_copy_0 : List UInt8 := [42, 187, 0, 8, 89, 42, 180, 0, 13, 42, 180, 0, 16, 4, 46, 42, 180, 0, 20, 42, 180, 0, 23, 42]
abbrev dktX9_copy_0 : List UInt8 := dkwX9_copy_0 ++ dktX9_copy_1
theorem dksX9_copy_0 : cX9_copy.data.toList.drop 0 = dktX9_copy_0 := by decide +kernel
theorem dksX9_copy_1 : cX9_copy.data.toList.drop 24 = dktX9_copy_1 := dk_seg dksX9_copy_0 24 rfl rfl
theorem dX9_copy_0 : decode cX9_copy 0 = .ok (.aload_n 0, 1) := dk_42 (dk_at dksX9_copy_0 0 rfl rfl)
theorem dX9_copy_1 : decode cX9_copy 1 = .ok (.new 8, 3) := dk_187 0 8 (dk_at dksX9_copy_0 1 rfl rfl)
theorem dX9_copy_4 : decode cX9_copy 4 = .ok (.dup, 1) := dk_89 (dk_at dksX9_copy_0 4 rfl rfl)
theorem dX9_copy_5 : decode cX9_copy 5 = .ok (.aload_n 0, 1) := dk_42 (dk_at dksX9_copy_0 5 rfl rfl)
theorem dX9_copy_6 : decode cX9_copy 6 = .ok (.getfield 13, 3) := dk_180 0 13 (dk_at dksX9_copy_0 6 rfl rfl)
theorem dX9_copy_9 : decode cX9_copy 9 = .ok (.aload_n 0, 1) := dk_42 (dk_at dksX9_copy_0 9 rfl rfl)
theorem dX9_copy_10 : decode cX9_copy 10 = .ok (.getfield 16, 3) := dk_180 0 16 (dk_at dksX9_copy_0 10 rfl rfl)
theorem dX9_copy_13 : decode cX9_copy 13 = .ok (.iconst 1, 1) := dk_4 (dk_at dksX9_copy_0 13 rfl rfl)
theorem dX9_copy_14 : decode cX9_copy 14 = .ok (.iaload, 1) := dk_46 (dk_at dksX9_copy_0 14 rfl rfl)
theorem dX9_copy_15 : decode cX9_copy 15 = .ok (.aload_n 0, 1) := dk_42 (dk_at dksX9_copy_0 15 rfl rfl)
theorem dX9_copy_16 : decode cX9_copy 16 = .ok (.getfield 20, 3) := dk_180 0 20 (dk_at dksX9_copy_0 16 rfl rfl)
theorem dX9_copy_19 : decode cX9_copy 19 = .ok (.aload_n 0, 1) := dk_42 (dk_at dksX9_copy_0 19 rfl rfl)
theorem dX9_copy_20 : decode cX9_copy 20 = .ok (.getfield 23, 3) := dk_180 0 23 (dk_at dksX9_copy_0 20 rfl rfl)
theorem dX9_copy_23 : decode cX9_copy 23 = .ok (.aload_n 0, 1) := dk_42 (dk_at dksX9_copy_0 23 rfl rfl)
theorem dX9_copy_24 : decode cX9_copy 24 = .ok (.getfield 7, 3) := dk_180 0 7 (dk_at dksX9_copy_1 0 rfl rfl)
theorem dX9_copy_27 : decode cX9_copy 27 = .ok (.invokespecial 27, 3) := dk_183 0 27 (dk_at dksX9_copy_1 3 rfl rfl)
theorem dX9_copy_30 : decode cX9_copy 30 = .ok (.invokevirtual 30, 3) := dk_182 0 30 (dk_at dksX9_copy_1 6 rfl rfl)
theorem dX9_copy_33 : decode cX9_copy 33 = .ok (.areturn, 1) := dk_176 (dk_at dksX9_copy_1 9 rfl rfl)
abbrev cX9_init : ByteArray := prog_19_method_1_code
def yX9_init : MethodName := ⟨RX9, "<init>", "(IIIZI)V"⟩
def dkwX9_init_0 : List UInt8 := [42, 27, 28, 29, 21, 4, 183, 0, 1, 42, 21, 5, 181, 0, 7, 177]
abbrev dktX9_init_0 : List UInt8 := dkwX9_init_0 ++ []
theorem dksX9_init_0 : cX9_init.data.toList.drop 0 = dktX9_init_0 := by decide +kernel
theorem dX9_init_0 : decode cX9_init 0 = .ok (.aload_n 0, 1) := dk_42 (dk_at dksX9_init_0 0 rfl rfl)
theorem dX9_init_1 : decode cX9_init 1 = .ok (.iload_n 1, 1) := dk_27 (dk_at dksX9_init_0 1 rfl rfl)
theorem dX9_init_2 : decode cX9_init 2 = .ok (.iload_n 2, 1) := dk_28 (dk_at dksX9_init_0 2 rfl rfl)
theorem dX9_init_3 : decode cX9_init 3 = .ok (.iload_n 3, 1) := dk_29 (dk_at dksX9_init_0 3 rfl rfl)
theorem dX9_init_4 : decode cX9_init 4 = .ok (.iload 4, 2) := dk_21 4 (dk_at dksX9_init_0 4 rfl rfl)
theorem dX9_init_6 : decode cX9_init 6 = .ok (.invokespecial 1, 3) := dk_183 0 1 (dk_at dksX9_init_0 6 rfl rfl)
theorem dX9_init_9 : decode cX9_init 9 = .ok (.aload_n 0, 1) := dk_42 (dk_at dksX9_init_0 9 rfl rfl)
theorem dX9_init_10 : decode cX9_init 10 = .ok (.iload 5, 2) := dk_21 5 (dk_at dksX9_init_0 10 rfl rfl)
theorem dX9_init_12 : decode cX9_init 12 = .ok (.putfield 7, 3) := dk_181 0 7 (dk_at dksX9_init_0 12 rfl rfl)
theorem dX9_init_15 : decode cX9_init 15 = .ok (.return_, 1) := dk_177 (dk_at dksX9_init_0 15 rfl rfl)
theorem q97 : (Jvm.Cond.initialized "FavourTown$Timed") ∈ lw_all := lw_g (lw_at lw_m1 15 rfl) rfl
theorem q444 : (Jvm.Cond.selects "FavourTown$Timed" ({ cls := "FavourTown$Favour", name := "end", desc := "()I" } : Jvm.MethodName) ({ cls := "FavourTown$Timed", name := "end", desc := "()I" } : Jvm.MethodName)) ∈ lw_all := lw_g (lw_at lw_m2 122 rfl) rfl
theorem q445 : (Jvm.Cond.instanceMethod ({ cls := "FavourTown$Timed", name := "end", desc := "()I" } : Jvm.MethodName)) ∈ lw_all := lw_g (lw_at lw_m2 123 rfl) rfl
theorem q446 : (Jvm.Cond.code ({ cls := "FavourTown$Timed", name := "end", desc := "()I" } : Jvm.MethodName) prog_19_method_3_code (1 : Nat) (Option.some Jvm.ClassFile.FieldType.int)) ∈ lw_all := lw_g (lw_at lw_m2 124 rfl) rfl
theorem q460 : (Jvm.Cond.selects "FavourTown$Timed" ({ cls := "FavourTown$Favour", name := "worthAt", desc := "(I)I" } : Jvm.MethodName) ({ cls := "FavourTown$Favour", name := "worthAt", desc := "(I)I" } : Jvm.MethodName)) ∈ lw_all := lw_g (lw_at lw_m2 138 rfl) rfl
theorem q470 : (Jvm.Cond.selects "FavourTown$Timed" ({ cls := "FavourTown$Favour", name := "wasHeldBy", desc := "(I)Z" } : Jvm.MethodName) ({ cls := "FavourTown$Favour", name := "wasHeldBy", desc := "(I)Z" } : Jvm.MethodName)) ∈ lw_all := lw_g (lw_at lw_m2 148 rfl) rfl
theorem q590 : (Jvm.Cond.selects "FavourTown$Timed" ({ cls := "FavourTown$Favour", name := "copy", desc := "()LFavourTown$Favour;" } : Jvm.MethodName) ({ cls := "FavourTown$Timed", name := "copy", desc := "()LFavourTown$Favour;" } : Jvm.MethodName)) ∈ lw_all := lw_g (lw_at lw_m3 28 rfl) rfl
theorem q591 : (Jvm.Cond.instanceMethod ({ cls := "FavourTown$Timed", name := "copy", desc := "()LFavourTown$Favour;" } : Jvm.MethodName)) ∈ lw_all := lw_g (lw_at lw_m3 29 rfl) rfl
theorem q592 : (Jvm.Cond.code ({ cls := "FavourTown$Timed", name := "copy", desc := "()LFavourTown$Favour;" } : Jvm.MethodName) prog_19_method_2_code (1 : Nat) (Option.some (Jvm.ClassFile.FieldType.object "FavourTown$Favour"))) ∈ lw_all := lw_g (lw_at lw_m3 30 rfl) rfl
theorem q593 : (Jvm.Cond.classLink "FavourTown$Timed" (8 : Nat) "FavourTown$Timed") ∈ lw_all := lw_g (lw_at lw_m3 31 rfl) rfl
theorem q594 : (Jvm.Cond.instantiable "FavourTown$Timed" (7 : Nat)) ∈ lw_all := lw_g (lw_at lw_m3 32 rfl) rfl
theorem q595 : (Jvm.Cond.methodLink "FavourTown$Timed" (27 : Nat) ({ cls := "FavourTown$Timed", name := "<init>", desc := "(IIIZI)V" } : Jvm.MethodName)) ∈ lw_all := lw_g (lw_at lw_m3 33 rfl) rfl
theorem q596 : (Jvm.Cond.instanceMethod ({ cls := "FavourTown$Timed", name := "<init>", desc := "(IIIZI)V" } : Jvm.MethodName)) ∈ lw_all := lw_g (lw_at lw_m3 34 rfl) rfl
theorem q597 : (Jvm.Cond.code ({ cls := "FavourTown$Timed", name := "<init>", desc := "(IIIZI)V" } : Jvm.MethodName) prog_19_method_1_code (6 : Nat) (Option.none : Option Jvm.ClassFile.FieldType)) ∈ lw_all := lw_g (lw_at lw_m3 35 rfl) rfl
theorem q598 : (Jvm.Cond.methodLink "FavourTown$Timed" (1 : Nat) ({ cls := "FavourTown$Favour", name := "<init>", desc := "(IIIZ)V" } : Jvm.MethodName)) ∈ lw_all := lw_g (lw_at lw_m3 36 rfl) rfl
theorem q602 : (Jvm.Cond.fieldLink "FavourTown$Timed" (7 : Nat) "FavourTown$Timed" "end" "I") ∈ lw_all := lw_g (lw_at lw_m3 40 rfl) rfl
theorem q604 : (Jvm.Cond.fieldLinkNest "FavourTown$Timed" (13 : Nat) "FavourTown$Favour" "giver" "I" "FavourTown") ∈ lw_tbl := lw_at lw_m3 42 rfl
theorem q608 : (Jvm.Cond.fieldLinkNest "FavourTown$Timed" (20 : Nat) "FavourTown$Favour" "amount" "I" "FavourTown") ∈ lw_tbl := lw_at lw_m3 46 rfl
theorem q612 : (Jvm.Cond.fieldLinkNest "FavourTown$Timed" (23 : Nat) "FavourTown$Favour" "forced" "Z" "FavourTown") ∈ lw_tbl := lw_at lw_m3 50 rfl
theorem q616 : (Jvm.Cond.fieldLinkNest "FavourTown$Timed" (16 : Nat) "FavourTown$Favour" "row" "[I" "FavourTown") ∈ lw_tbl := lw_at lw_m3 54 rfl
theorem q624 : (Jvm.Cond.laysFinal "FavourTown$Timed" "FavourTown$Timed" "end" "I") ∈ lw_all := lw_g (lw_at lw_m3 62 rfl) rfl
theorem q625 : (Jvm.Cond.soleField "FavourTown$Timed" "end") ∈ lw_all := lw_g (lw_at lw_m3 63 rfl) rfl
theorem q626 : (Jvm.Cond.laysFinal "FavourTown$Timed" "FavourTown$Favour" "giver" "I") ∈ lw_all := lw_g (lw_at lw_m3 64 rfl) rfl
theorem q628 : (Jvm.Cond.laysFinal "FavourTown$Timed" "FavourTown$Favour" "amount" "I") ∈ lw_all := lw_g (lw_at lw_m3 66 rfl) rfl
theorem q630 : (Jvm.Cond.laysFinal "FavourTown$Timed" "FavourTown$Favour" "forced" "Z") ∈ lw_all := lw_g (lw_at lw_m3 68 rfl) rfl
theorem q632 : (Jvm.Cond.laysFinal "FavourTown$Timed" "FavourTown$Favour" "row" "[I") ∈ lw_all := lw_g (lw_at lw_m3 70 rfl) rfl
theorem q634 : (Jvm.Cond.lays "FavourTown$Timed" "FavourTown$Favour" "holder" "I") ∈ lw_all := lw_g (lw_at lw_m3 72 rfl) rfl
theorem q636 : (Jvm.Cond.lays "FavourTown$Timed" "FavourTown$Favour" "hands" "I") ∈ lw_all := lw_g (lw_at lw_m3 74 rfl) rfl
theorem q638 : (Jvm.Cond.superclass "FavourTown$Timed" "FavourTown$Favour") ∈ lw_all := lw_g (lw_at lw_m3 76 rfl) rfl
theorem q639 : (Jvm.Cond.methodLink "FavourTown$Timed" (30 : Nat) ({ cls := "FavourTown$Timed", name := "takes", desc := "(LFavourTown$Favour;)LFavourTown$Favour;" } : Jvm.MethodName)) ∈ lw_all := lw_g (lw_at lw_m3 77 rfl) rfl
theorem q640 : (Jvm.Cond.sameMethod "FavourTown$Timed" "FavourTown$Favour" "takes" "(LFavourTown$Favour;)LFavourTown$Favour;") ∈ lw_all := lw_g (lw_at lw_m3 78 rfl) rfl
theorem q642 : (Jvm.Cond.selects "FavourTown$Timed" ({ cls := "FavourTown$Timed", name := "takes", desc := "(LFavourTown$Favour;)LFavourTown$Favour;" } : Jvm.MethodName) ({ cls := "FavourTown$Favour", name := "takes", desc := "(LFavourTown$Favour;)LFavourTown$Favour;" } : Jvm.MethodName)) ∈ lw_all := lw_g (lw_at lw_m3 80 rfl) rfl
theorem q707 : (Jvm.Cond.selects "FavourTown$Timed" ({ cls := "java/lang/Object", name := "getClass", desc := "()Ljava/lang/Class;" } : Jvm.MethodName) ({ cls := "java/lang/Object", name := "getClass", desc := "()Ljava/lang/Class;" } : Jvm.MethodName)) ∈ lw_all := lw_g (lw_at lw_m3 145 rfl) rfl
theorem q1276 : (Jvm.Cond.selects "FavourTown$Timed" ({ cls := "FavourTown$Favour", name := "goes", desc := "(I)V" } : Jvm.MethodName) ({ cls := "FavourTown$Favour", name := "goes", desc := "(I)V" } : Jvm.MethodName)) ∈ lw_all := lw_g (lw_at lw_m5 234 rfl) rfl
theorem q2326 : (Jvm.Cond.selects "FavourTown$Timed" ({ cls := "FavourTown$Favour", name := "takes", desc := "(LFavourTown$Favour;)LFavourTown$Favour;" } : Jvm.MethodName) ({ cls := "FavourTown$Favour", name := "takes", desc := "(LFavourTown$Favour;)LFavourTown$Favour;" } : Jvm.MethodName)) ∈ lw_all := lw_g (lw_at lw_m10 84 rfl) rfl
theorem q2339 : (Jvm.Cond.castable "FavourTown$Timed" "FavourTown$Favour") ∈ lw_tbl := lw_at lw_m10 97 rfl
theorem q2355 : (Jvm.Cond.castable "FavourTown$Timed" "java/lang/Object") ∈ lw_tbl := lw_at lw_m10 113 rfl
theorem in_X9 : ∀ w ∈ wsX90, w ∈ lw_all := lw_in wsX90 [626, 628, 630, 632, 634, 636, 624] (by decide +kernel) (by decide +kernel)
/-! FavourTown$Wrong -/
set_option maxRecDepth 100000
def RX10 : String := "FavourTown$Wrong"
def TX10 : u_T := fun k => match k with
  | 0 => ("java/lang/Throwable", "cause", "Ljava/lang/Throwable;", false)
  | 1 => ("java/lang/Throwable", "stackTrace", "[Ljava/lang/StackTraceElement;", false)
  | 2 => ("java/lang/Throwable", "suppressedExceptions", "Ljava/util/List;", false)
  | 3 => ("java/lang/Throwable", "detailMessage", "Ljava/lang/String;", false)
  | 4 => ("java/lang/Throwable", "backtrace", "Ljava/lang/Object;", false)
  | _ => ("java/lang/Throwable", "depth", "I", false)
def tyX10 : Nat → FieldType := fun k => match k with
  | 0 => .object "java/lang/Throwable"
  | 1 => .array (.object "java/lang/StackTraceElement")
  | 2 => .object "java/util/List"
  | 3 => .object "java/lang/String"
  | 4 => .object "java/lang/Object"
  | _ => .int
abbrev wsX100 : List Cond := u_ws RX10 TX10 6
theorem nmX10 : ∀ a, a < 6 → ∀ b, b < 6 → a ≠ b → (TX10 a).2.1 ≠ (TX10 b).2.1 := by decide +kernel
theorem tyX10_ok : ∀ k, k < 6 → parseFieldDescriptor (TX10 k).2.2.1 = some (tyX10 k) := by decide +kernel
abbrev cX10_init : ByteArray := prog_21_method_1_code
def yX10_init : MethodName := ⟨RX10, "<init>", "()V"⟩
def dkwX10_init_0 : List UInt8 := [42, 1, 1, 3, 3, 183, 0, 1, 177]
abbrev dktX10_init_0 : List UInt8 := dkwX10_init_0 ++ []
theorem dksX10_init_0 : cX10_init.data.toList.drop 0 = dktX10_init_0 := by decide +kernel
theorem dX10_init_0 : decode cX10_init 0 = .ok (.aload_n 0, 1) := dk_42 (dk_at dksX10_init_0 0 rfl rfl)
theorem dX10_init_1 : decode cX10_init 1 = .ok (.aconst_null, 1) := dk_1 (dk_at dksX10_init_0 1 rfl rfl)
theorem dX10_init_2 : decode cX10_init 2 = .ok (.aconst_null, 1) := dk_1 (dk_at dksX10_init_0 2 rfl rfl)
theorem dX10_init_3 : decode cX10_init 3 = .ok (.iconst 0, 1) := dk_3 (dk_at dksX10_init_0 3 rfl rfl)
theorem dX10_init_4 : decode cX10_init 4 = .ok (.iconst 0, 1) := dk_3 (dk_at dksX10_init_0 4 rfl rfl)
theorem dX10_init_5 : decode cX10_init 5 = .ok (.invokespecial 1, 3) := dk_183 0 1 (dk_at dksX10_init_0 5 rfl rfl)
theorem dX10_init_8 : decode cX10_init 8 = .ok (.return_, 1) := dk_177 (dk_at dksX10_init_0 8 rfl rfl)
theorem q112 : (Jvm.Cond.initialized "FavourTown$Wrong") ∈ lw_all := lw_g (lw_at lw_m1 30 rfl) rfl
theorem q709 : (Jvm.Cond.selects "FavourTown$Wrong" ({ cls := "java/lang/Object", name := "getClass", desc := "()Ljava/lang/Class;" } : Jvm.MethodName) ({ cls := "java/lang/Object", name := "getClass", desc := "()Ljava/lang/Class;" } : Jvm.MethodName)) ∈ lw_all := lw_g (lw_at lw_m3 147 rfl) rfl
theorem q984 : (Jvm.Cond.selects "FavourTown$Wrong" ({ cls := "java/lang/Throwable", name := "fillInStackTrace", desc := "()Ljava/lang/Throwable;" } : Jvm.MethodName) ({ cls := "java/lang/Throwable", name := "fillInStackTrace", desc := "()Ljava/lang/Throwable;" } : Jvm.MethodName)) ∈ lw_all := lw_g (lw_at lw_m4 182 rfl) rfl
theorem q1127 : (Jvm.Cond.instantiable "FavourTown$Wrong" (6 : Nat)) ∈ lw_all := lw_g (lw_at lw_m5 85 rfl) rfl
theorem q1128 : (Jvm.Cond.castable "FavourTown$Wrong" "FavourTown$Wrong") ∈ lw_tbl := lw_at lw_m5 86 rfl
theorem q1129 : (Jvm.Cond.selects "FavourTown$Wrong" ({ cls := "java/lang/Throwable", name := "fillInStackTrace", desc := "(I)Ljava/lang/Throwable;" } : Jvm.MethodName) ({ cls := "java/lang/Throwable", name := "fillInStackTrace", desc := "(I)Ljava/lang/Throwable;" } : Jvm.MethodName)) ∈ lw_all := lw_g (lw_at lw_m5 87 rfl) rfl
theorem q1130 : (Jvm.Cond.lays "FavourTown$Wrong" "java/lang/Throwable" "cause" "Ljava/lang/Throwable;") ∈ lw_all := lw_g (lw_at lw_m5 88 rfl) rfl
theorem q1131 : (Jvm.Cond.lays "FavourTown$Wrong" "java/lang/Throwable" "stackTrace" "[Ljava/lang/StackTraceElement;") ∈ lw_all := lw_g (lw_at lw_m5 89 rfl) rfl
theorem q1132 : (Jvm.Cond.lays "FavourTown$Wrong" "java/lang/Throwable" "suppressedExceptions" "Ljava/util/List;") ∈ lw_all := lw_g (lw_at lw_m5 90 rfl) rfl
theorem q1133 : (Jvm.Cond.lays "FavourTown$Wrong" "java/lang/Throwable" "detailMessage" "Ljava/lang/String;") ∈ lw_all := lw_g (lw_at lw_m5 91 rfl) rfl
theorem q1134 : (Jvm.Cond.lays "FavourTown$Wrong" "java/lang/Throwable" "backtrace" "Ljava/lang/Object;") ∈ lw_all := lw_g (lw_at lw_m5 92 rfl) rfl
theorem q1136 : (Jvm.Cond.instanceMethod ({ cls := "FavourTown$Wrong", name := "<init>", desc := "()V" } : Jvm.MethodName)) ∈ lw_all := lw_g (lw_at lw_m5 94 rfl) rfl
theorem q1137 : (Jvm.Cond.code ({ cls := "FavourTown$Wrong", name := "<init>", desc := "()V" } : Jvm.MethodName) prog_21_method_1_code (1 : Nat) (Option.none : Option Jvm.ClassFile.FieldType)) ∈ lw_all := lw_g (lw_at lw_m5 95 rfl) rfl
theorem q1138 : (Jvm.Cond.methodLink "FavourTown$Wrong" (1 : Nat) ({ cls := "java/lang/Exception", name := "<init>", desc := "(Ljava/lang/String;Ljava/lang/Throwable;ZZ)V" } : Jvm.MethodName)) ∈ lw_all := lw_g (lw_at lw_m5 96 rfl) rfl
theorem q1144 : (Jvm.Cond.lays "FavourTown$Wrong" "java/lang/Throwable" "depth" "I") ∈ lw_all := lw_g (lw_at lw_m5 102 rfl) rfl
theorem q1145 : (Jvm.Cond.superclass "FavourTown$Wrong" "java/lang/Exception") ∈ lw_all := lw_g (lw_at lw_m5 103 rfl) rfl
theorem q2353 : (Jvm.Cond.castable "FavourTown$Wrong" "java/lang/Object") ∈ lw_tbl := lw_at lw_m10 111 rfl
theorem in_X10 : ∀ w ∈ wsX100, w ∈ lw_all := lw_in wsX100 [1130, 1131, 1132, 1133, 1134, 1144] (by decide +kernel) (by decide +kernel)
/-! FavourTown$Need -/
set_option maxRecDepth 100000
def RX11 : String := "FavourTown$Need"
def TX11 : u_T := fun k => match k with
  | 0 => ("FavourTown$Need", "who", "I", true)
  | 1 => ("FavourTown$Need", "of", "I", true)
  | _ => ("FavourTown$Need", "n", "I", true)
def tyX11 : Nat → FieldType := fun k => match k with
  | 0 => .int
  | 1 => .int
  | _ => .int
abbrev wsX110 : List Cond := u_ws RX11 TX11 3
theorem nmX11 : ∀ a, a < 3 → ∀ b, b < 3 → a ≠ b → (TX11 a).2.1 ≠ (TX11 b).2.1 := by decide +kernel
theorem tyX11_ok : ∀ k, k < 3 → parseFieldDescriptor (TX11 k).2.2.1 = some (tyX11 k) := by decide +kernel
abbrev cX11_init : ByteArray := prog_10_method_1_code
def yX11_init : MethodName := ⟨RX11, "<init>", "(III)V"⟩
def dkwX11_init_0 : List UInt8 := [42, 183, 0, 1, 42, 27, 181, 0, 7, 42, 28, 181, 0, 13, 42, 29, 181, 0, 16, 177]
abbrev dktX11_init_0 : List UInt8 := dkwX11_init_0 ++ []
theorem dksX11_init_0 : cX11_init.data.toList.drop 0 = dktX11_init_0 := by decide +kernel
theorem dX11_init_0 : decode cX11_init 0 = .ok (.aload_n 0, 1) := dk_42 (dk_at dksX11_init_0 0 rfl rfl)
theorem dX11_init_1 : decode cX11_init 1 = .ok (.invokespecial 1, 3) := dk_183 0 1 (dk_at dksX11_init_0 1 rfl rfl)
theorem dX11_init_4 : decode cX11_init 4 = .ok (.aload_n 0, 1) := dk_42 (dk_at dksX11_init_0 4 rfl rfl)
theorem dX11_init_5 : decode cX11_init 5 = .ok (.iload_n 1, 1) := dk_27 (dk_at dksX11_init_0 5 rfl rfl)
theorem dX11_init_6 : decode cX11_init 6 = .ok (.putfield 7, 3) := dk_181 0 7 (dk_at dksX11_init_0 6 rfl rfl)
theorem dX11_init_9 : decode cX11_init 9 = .ok (.aload_n 0, 1) := dk_42 (dk_at dksX11_init_0 9 rfl rfl)
theorem dX11_init_10 : decode cX11_init 10 = .ok (.iload_n 2, 1) := dk_28 (dk_at dksX11_init_0 10 rfl rfl)
theorem dX11_init_11 : decode cX11_init 11 = .ok (.putfield 13, 3) := dk_181 0 13 (dk_at dksX11_init_0 11 rfl rfl)
theorem dX11_init_14 : decode cX11_init 14 = .ok (.aload_n 0, 1) := dk_42 (dk_at dksX11_init_0 14 rfl rfl)
theorem dX11_init_15 : decode cX11_init 15 = .ok (.iload_n 3, 1) := dk_29 (dk_at dksX11_init_0 15 rfl rfl)
theorem dX11_init_16 : decode cX11_init 16 = .ok (.putfield 16, 3) := dk_181 0 16 (dk_at dksX11_init_0 16 rfl rfl)
theorem dX11_init_19 : decode cX11_init 19 = .ok (.return_, 1) := dk_177 (dk_at dksX11_init_0 19 rfl rfl)
theorem q115 : (Jvm.Cond.initialized "FavourTown$Need") ∈ lw_all := lw_g (lw_at lw_m1 33 rfl) rfl
theorem q698 : (Jvm.Cond.selects "FavourTown$Need" ({ cls := "java/lang/Object", name := "getClass", desc := "()Ljava/lang/Class;" } : Jvm.MethodName) ({ cls := "java/lang/Object", name := "getClass", desc := "()Ljava/lang/Class;" } : Jvm.MethodName)) ∈ lw_all := lw_g (lw_at lw_m3 136 rfl) rfl
theorem q1284 : (Jvm.Cond.instantiable "FavourTown$Need" (3 : Nat)) ∈ lw_all := lw_g (lw_at lw_m6 2 rfl) rfl
theorem q1286 : (Jvm.Cond.instanceMethod ({ cls := "FavourTown$Need", name := "<init>", desc := "(III)V" } : Jvm.MethodName)) ∈ lw_all := lw_g (lw_at lw_m6 4 rfl) rfl
theorem q1287 : (Jvm.Cond.code ({ cls := "FavourTown$Need", name := "<init>", desc := "(III)V" } : Jvm.MethodName) prog_10_method_1_code (4 : Nat) (Option.none : Option Jvm.ClassFile.FieldType)) ∈ lw_all := lw_g (lw_at lw_m6 5 rfl) rfl
theorem q1288 : (Jvm.Cond.methodLink "FavourTown$Need" (1 : Nat) ({ cls := "java/lang/Object", name := "<init>", desc := "()V" } : Jvm.MethodName)) ∈ lw_all := lw_g (lw_at lw_m6 6 rfl) rfl
theorem q1289 : (Jvm.Cond.fieldLink "FavourTown$Need" (7 : Nat) "FavourTown$Need" "who" "I") ∈ lw_all := lw_g (lw_at lw_m6 7 rfl) rfl
theorem q1292 : (Jvm.Cond.fieldLink "FavourTown$Need" (13 : Nat) "FavourTown$Need" "of" "I") ∈ lw_all := lw_g (lw_at lw_m6 10 rfl) rfl
theorem q1295 : (Jvm.Cond.fieldLink "FavourTown$Need" (16 : Nat) "FavourTown$Need" "n" "I") ∈ lw_all := lw_g (lw_at lw_m6 13 rfl) rfl
theorem q1298 : (Jvm.Cond.laysFinal "FavourTown$Need" "FavourTown$Need" "who" "I") ∈ lw_all := lw_g (lw_at lw_m6 16 rfl) rfl
theorem q1299 : (Jvm.Cond.soleField "FavourTown$Need" "who") ∈ lw_all := lw_g (lw_at lw_m6 17 rfl) rfl
theorem q1300 : (Jvm.Cond.laysFinal "FavourTown$Need" "FavourTown$Need" "of" "I") ∈ lw_all := lw_g (lw_at lw_m6 18 rfl) rfl
theorem q1301 : (Jvm.Cond.soleField "FavourTown$Need" "of") ∈ lw_all := lw_g (lw_at lw_m6 19 rfl) rfl
theorem q1302 : (Jvm.Cond.laysFinal "FavourTown$Need" "FavourTown$Need" "n" "I") ∈ lw_all := lw_g (lw_at lw_m6 20 rfl) rfl
theorem q1303 : (Jvm.Cond.soleField "FavourTown$Need" "n") ∈ lw_all := lw_g (lw_at lw_m6 21 rfl) rfl
theorem q1304 : (Jvm.Cond.superclass "FavourTown$Need" "java/lang/Object") ∈ lw_all := lw_g (lw_at lw_m6 22 rfl) rfl
theorem q2356 : (Jvm.Cond.castable "FavourTown$Need" "java/lang/Object") ∈ lw_tbl := lw_at lw_m10 114 rfl
theorem in_X11 : ∀ w ∈ wsX110, w ∈ lw_all := lw_in wsX110 [1298, 1300, 1302] (by decide +kernel) (by decide +kernel)
/-! FavourTown$Temper -/
set_option maxRecDepth 100000
def RX12 : String := "FavourTown$Temper"
def TX12 : u_T := fun k => match k with
  | _ => ("FavourTown$Temper", "lines", "Ljava/util/ArrayList;", true)
def tyX12 : Nat → FieldType := fun k => match k with
  | _ => .object "java/util/ArrayList"
abbrev wsX120 : List Cond := u_ws RX12 TX12 1
theorem nmX12 : ∀ a, a < 1 → ∀ b, b < 1 → a ≠ b → (TX12 a).2.1 ≠ (TX12 b).2.1 := by decide +kernel
theorem tyX12_ok : ∀ k, k < 1 → parseFieldDescriptor (TX12 k).2.2.1 = some (tyX12 k) := by decide +kernel
abbrev cX12_takes : ByteArray := prog_18_method_2_code
def yX12_takes : MethodName := ⟨RX12, "takes", "(LFavourTown$Scene;)Z"⟩
def dkwX12_takes_2 : List UInt8 := [180, 0, 36, 172, 132, 2, 1, 167, 255, 205, 3, 172]
abbrev dktX12_takes_2 : List UInt8 := dkwX12_takes_2 ++ []
def dkwX12_takes_1 : List UInt8 := [78, 45, 180, 0, 26, 198, 0, 16, 45, 180, 0, 26, 43, 185, 0, 30, 2, 0, 153, 0, 8, 45]
abbrev dktX12_takes_1 : List UInt8 := dkwX12_takes_1 ++ dktX12_takes_2
def dkwX12_takes_0 : List UInt8 := [3, 61, 28, 42, 180, 0, 10, 182, 0, 16, 162, 0, 46, 42, 180, 0, 10, 28, 182, 0, 20, 192, 0, 24]
abbrev dktX12_takes_0 : List UInt8 := dkwX12_takes_0 ++ dktX12_takes_1
theorem dksX12_takes_0 : cX12_takes.data.toList.drop 0 = dktX12_takes_0 := by decide +kernel
theorem dksX12_takes_1 : cX12_takes.data.toList.drop 24 = dktX12_takes_1 := dk_seg dksX12_takes_0 24 rfl rfl
theorem dksX12_takes_2 : cX12_takes.data.toList.drop 46 = dktX12_takes_2 := dk_seg dksX12_takes_1 22 rfl rfl
theorem dX12_takes_0 : decode cX12_takes 0 = .ok (.iconst 0, 1) := dk_3 (dk_at dksX12_takes_0 0 rfl rfl)
theorem dX12_takes_1 : decode cX12_takes 1 = .ok (.istore_n 2, 1) := dk_61 (dk_at dksX12_takes_0 1 rfl rfl)
theorem dX12_takes_2 : decode cX12_takes 2 = .ok (.iload_n 2, 1) := dk_28 (dk_at dksX12_takes_0 2 rfl rfl)
theorem dX12_takes_3 : decode cX12_takes 3 = .ok (.aload_n 0, 1) := dk_42 (dk_at dksX12_takes_0 3 rfl rfl)
theorem dX12_takes_4 : decode cX12_takes 4 = .ok (.getfield 10, 3) := dk_180 0 10 (dk_at dksX12_takes_0 4 rfl rfl)
theorem dX12_takes_7 : decode cX12_takes 7 = .ok (.invokevirtual 16, 3) := dk_182 0 16 (dk_at dksX12_takes_0 7 rfl rfl)
theorem dX12_takes_10 : decode cX12_takes 10 = .ok (.if_icmp .ge 46, 3) := dk_162 0 46 (dk_at dksX12_takes_0 10 rfl rfl)
theorem dX12_takes_13 : decode cX12_takes 13 = .ok (.aload_n 0, 1) := dk_42 (dk_at dksX12_takes_0 13 rfl rfl)
theorem dX12_takes_14 : decode cX12_takes 14 = .ok (.getfield 10, 3) := dk_180 0 10 (dk_at dksX12_takes_0 14 rfl rfl)
theorem dX12_takes_17 : decode cX12_takes 17 = .ok (.iload_n 2, 1) := dk_28 (dk_at dksX12_takes_0 17 rfl rfl)
theorem dX12_takes_18 : decode cX12_takes 18 = .ok (.invokevirtual 20, 3) := dk_182 0 20 (dk_at dksX12_takes_0 18 rfl rfl)
theorem dX12_takes_21 : decode cX12_takes 21 = .ok (.checkcast 24, 3) := dk_192 0 24 (dk_at dksX12_takes_0 21 rfl rfl)
theorem dX12_takes_24 : decode cX12_takes 24 = .ok (.astore_n 3, 1) := dk_78 (dk_at dksX12_takes_1 0 rfl rfl)
theorem dX12_takes_25 : decode cX12_takes 25 = .ok (.aload_n 3, 1) := dk_45 (dk_at dksX12_takes_1 1 rfl rfl)
theorem dX12_takes_26 : decode cX12_takes 26 = .ok (.getfield 26, 3) := dk_180 0 26 (dk_at dksX12_takes_1 2 rfl rfl)
theorem dX12_takes_29 : decode cX12_takes 29 = .ok (.ifnull 16, 3) := dk_198 0 16 (dk_at dksX12_takes_1 5 rfl rfl)
theorem dX12_takes_32 : decode cX12_takes 32 = .ok (.aload_n 3, 1) := dk_45 (dk_at dksX12_takes_1 8 rfl rfl)
theorem dX12_takes_33 : decode cX12_takes 33 = .ok (.getfield 26, 3) := dk_180 0 26 (dk_at dksX12_takes_1 9 rfl rfl)
theorem dX12_takes_36 : decode cX12_takes 36 = .ok (.aload_n 1, 1) := dk_43 (dk_at dksX12_takes_1 12 rfl rfl)
theorem dX12_takes_37 : decode cX12_takes 37 = .ok (.invokeinterface 30 2, 5) := by decide +kernel
theorem dX12_takes_42 : decode cX12_takes 42 = .ok (.ifCond .eq 8, 3) := dk_153 0 8 (dk_at dksX12_takes_1 18 rfl rfl)
theorem dX12_takes_45 : decode cX12_takes 45 = .ok (.aload_n 3, 1) := dk_45 (dk_at dksX12_takes_1 21 rfl rfl)
theorem dX12_takes_46 : decode cX12_takes 46 = .ok (.getfield 36, 3) := dk_180 0 36 (dk_at dksX12_takes_2 0 rfl rfl)
theorem dX12_takes_49 : decode cX12_takes 49 = .ok (.ireturn, 1) := dk_172 (dk_at dksX12_takes_2 3 rfl rfl)
theorem dX12_takes_50 : decode cX12_takes 50 = .ok (.iinc 2 1, 3) := dk_132 2 1 (dk_at dksX12_takes_2 4 rfl rfl)
theorem dX12_takes_53 : decode cX12_takes 53 = .ok (.goto (-51), 3) := dk_167 255 205 (dk_at dksX12_takes_2 7 rfl rfl)
theorem dX12_takes_56 : decode cX12_takes 56 = .ok (.iconst 0, 1) := dk_3 (dk_at dksX12_takes_2 10 rfl rfl)
theorem dX12_takes_57 : decode cX12_takes 57 = .ok (.ireturn, 1) := dk_172 (dk_at dksX12_takes_2 11 rfl rfl)
abbrev cX12_init : ByteArray := prog_18_method_1_code
def yX12_init : MethodName := ⟨RX12, "<init>", "()V"⟩
def dkwX12_init_0 : List UInt8 := [42, 183, 0, 1, 42, 187, 0, 7, 89, 183, 0, 9, 181, 0, 10, 177]
abbrev dktX12_init_0 : List UInt8 := dkwX12_init_0 ++ []
theorem dksX12_init_0 : cX12_init.data.toList.drop 0 = dktX12_init_0 := by decide +kernel
theorem dX12_init_0 : decode cX12_init 0 = .ok (.aload_n 0, 1) := dk_42 (dk_at dksX12_init_0 0 rfl rfl)
theorem dX12_init_1 : decode cX12_init 1 = .ok (.invokespecial 1, 3) := dk_183 0 1 (dk_at dksX12_init_0 1 rfl rfl)
theorem dX12_init_4 : decode cX12_init 4 = .ok (.aload_n 0, 1) := dk_42 (dk_at dksX12_init_0 4 rfl rfl)
theorem dX12_init_5 : decode cX12_init 5 = .ok (.new 7, 3) := dk_187 0 7 (dk_at dksX12_init_0 5 rfl rfl)
theorem dX12_init_8 : decode cX12_init 8 = .ok (.dup, 1) := dk_89 (dk_at dksX12_init_0 8 rfl rfl)
theorem dX12_init_9 : decode cX12_init 9 = .ok (.invokespecial 9, 3) := dk_183 0 9 (dk_at dksX12_init_0 9 rfl rfl)
theorem dX12_init_12 : decode cX12_init 12 = .ok (.putfield 10, 3) := dk_181 0 10 (dk_at dksX12_init_0 12 rfl rfl)
theorem dX12_init_15 : decode cX12_init 15 = .ok (.return_, 1) := dk_177 (dk_at dksX12_init_0 15 rfl rfl)
theorem q117 : (Jvm.Cond.initialized "FavourTown$Temper") ∈ lw_all := lw_g (lw_at lw_m1 35 rfl) rfl
theorem q474 : (Jvm.Cond.instanceMethod ({ cls := "FavourTown$Temper", name := "takes", desc := "(LFavourTown$Scene;)Z" } : Jvm.MethodName)) ∈ lw_all := lw_g (lw_at lw_m2 152 rfl) rfl
theorem q475 : (Jvm.Cond.selects "FavourTown$Temper" ({ cls := "FavourTown$Temper", name := "takes", desc := "(LFavourTown$Scene;)Z" } : Jvm.MethodName) ({ cls := "FavourTown$Temper", name := "takes", desc := "(LFavourTown$Scene;)Z" } : Jvm.MethodName)) ∈ lw_all := lw_g (lw_at lw_m2 153 rfl) rfl
theorem q476 : (Jvm.Cond.code ({ cls := "FavourTown$Temper", name := "takes", desc := "(LFavourTown$Scene;)Z" } : Jvm.MethodName) prog_18_method_2_code (4 : Nat) (Option.some Jvm.ClassFile.FieldType.boolean)) ∈ lw_all := lw_g (lw_at lw_m2 154 rfl) rfl
theorem q477 : (Jvm.Cond.methodLink "FavourTown$Temper" (16 : Nat) ({ cls := "java/util/ArrayList", name := "size", desc := "()I" } : Jvm.MethodName)) ∈ lw_all := lw_g (lw_at lw_m2 155 rfl) rfl
theorem q478 : (Jvm.Cond.methodLink "FavourTown$Temper" (20 : Nat) ({ cls := "java/util/ArrayList", name := "get", desc := "(I)Ljava/lang/Object;" } : Jvm.MethodName)) ∈ lw_all := lw_g (lw_at lw_m2 156 rfl) rfl
theorem q479 : (Jvm.Cond.classLink "FavourTown$Temper" (24 : Nat) "FavourTown$Line") ∈ lw_all := lw_g (lw_at lw_m2 157 rfl) rfl
theorem q480 : (Jvm.Cond.interfaceEntry "FavourTown$Temper" (30 : Nat)) ∈ lw_tbl := lw_at lw_m2 158 rfl
theorem q481 : (Jvm.Cond.methodLink "FavourTown$Temper" (30 : Nat) ({ cls := "FavourTown$Cond", name := "holds", desc := "(LFavourTown$Scene;)Z" } : Jvm.MethodName)) ∈ lw_all := lw_g (lw_at lw_m2 159 rfl) rfl
theorem q706 : (Jvm.Cond.selects "FavourTown$Temper" ({ cls := "java/lang/Object", name := "getClass", desc := "()Ljava/lang/Class;" } : Jvm.MethodName) ({ cls := "java/lang/Object", name := "getClass", desc := "()Ljava/lang/Class;" } : Jvm.MethodName)) ∈ lw_all := lw_g (lw_at lw_m3 144 rfl) rfl
theorem q1356 : (Jvm.Cond.instantiable "FavourTown$Temper" (1 : Nat)) ∈ lw_all := lw_g (lw_at lw_m6 74 rfl) rfl
theorem q1358 : (Jvm.Cond.instanceMethod ({ cls := "FavourTown$Temper", name := "<init>", desc := "()V" } : Jvm.MethodName)) ∈ lw_all := lw_g (lw_at lw_m6 76 rfl) rfl
theorem q1359 : (Jvm.Cond.code ({ cls := "FavourTown$Temper", name := "<init>", desc := "()V" } : Jvm.MethodName) prog_18_method_1_code (1 : Nat) (Option.none : Option Jvm.ClassFile.FieldType)) ∈ lw_all := lw_g (lw_at lw_m6 77 rfl) rfl
theorem q1360 : (Jvm.Cond.methodLink "FavourTown$Temper" (1 : Nat) ({ cls := "java/lang/Object", name := "<init>", desc := "()V" } : Jvm.MethodName)) ∈ lw_all := lw_g (lw_at lw_m6 78 rfl) rfl
theorem q1361 : (Jvm.Cond.classLink "FavourTown$Temper" (7 : Nat) "java/util/ArrayList") ∈ lw_all := lw_g (lw_at lw_m6 79 rfl) rfl
theorem q1362 : (Jvm.Cond.methodLink "FavourTown$Temper" (9 : Nat) ({ cls := "java/util/ArrayList", name := "<init>", desc := "()V" } : Jvm.MethodName)) ∈ lw_all := lw_g (lw_at lw_m6 80 rfl) rfl
theorem q1363 : (Jvm.Cond.fieldLink "FavourTown$Temper" (10 : Nat) "FavourTown$Temper" "lines" "Ljava/util/ArrayList;") ∈ lw_all := lw_g (lw_at lw_m6 81 rfl) rfl
theorem q1365 : (Jvm.Cond.laysFinal "FavourTown$Temper" "FavourTown$Temper" "lines" "Ljava/util/ArrayList;") ∈ lw_all := lw_g (lw_at lw_m6 83 rfl) rfl
theorem q1366 : (Jvm.Cond.soleField "FavourTown$Temper" "lines") ∈ lw_all := lw_g (lw_at lw_m6 84 rfl) rfl
theorem q1367 : (Jvm.Cond.superclass "FavourTown$Temper" "java/lang/Object") ∈ lw_all := lw_g (lw_at lw_m6 85 rfl) rfl
theorem q1513 : (Jvm.Cond.fieldLinkNest "FavourTown$Temper" (36 : Nat) "FavourTown$Line" "takes" "Z" "FavourTown") ∈ lw_tbl := lw_at lw_m6 231 rfl
theorem q1515 : (Jvm.Cond.fieldLinkNest "FavourTown$Temper" (26 : Nat) "FavourTown$Line" "when" "LFavourTown$Cond;" "FavourTown") ∈ lw_tbl := lw_at lw_m6 233 rfl
theorem q2358 : (Jvm.Cond.castable "FavourTown$Temper" "java/lang/Object") ∈ lw_tbl := lw_at lw_m10 116 rfl
theorem in_X12 : ∀ w ∈ wsX120, w ∈ lw_all := lw_in wsX120 [1365] (by decide +kernel) (by decide +kernel)
/-! FavourTown$Line -/
set_option maxRecDepth 100000
def RX13 : String := "FavourTown$Line"
def TX13 : u_T := fun k => match k with
  | 0 => ("FavourTown$Line", "takes", "Z", true)
  | _ => ("FavourTown$Line", "when", "LFavourTown$Cond;", true)
def tyX13 : Nat → FieldType := fun k => match k with
  | 0 => .boolean
  | _ => .object "FavourTown$Cond"
abbrev wsX130 : List Cond := u_ws RX13 TX13 2
theorem nmX13 : ∀ a, a < 2 → ∀ b, b < 2 → a ≠ b → (TX13 a).2.1 ≠ (TX13 b).2.1 := by decide +kernel
theorem tyX13_ok : ∀ k, k < 2 → parseFieldDescriptor (TX13 k).2.2.1 = some (tyX13 k) := by decide +kernel
abbrev cX13_init : ByteArray := prog_9_method_1_code
def yX13_init : MethodName := ⟨RX13, "<init>", "(ZLFavourTown$Cond;)V"⟩
def dkwX13_init_0 : List UInt8 := [42, 183, 0, 1, 42, 27, 181, 0, 7, 42, 44, 181, 0, 13, 177]
abbrev dktX13_init_0 : List UInt8 := dkwX13_init_0 ++ []
theorem dksX13_init_0 : cX13_init.data.toList.drop 0 = dktX13_init_0 := by decide +kernel
theorem dX13_init_0 : decode cX13_init 0 = .ok (.aload_n 0, 1) := dk_42 (dk_at dksX13_init_0 0 rfl rfl)
theorem dX13_init_1 : decode cX13_init 1 = .ok (.invokespecial 1, 3) := dk_183 0 1 (dk_at dksX13_init_0 1 rfl rfl)
theorem dX13_init_4 : decode cX13_init 4 = .ok (.aload_n 0, 1) := dk_42 (dk_at dksX13_init_0 4 rfl rfl)
theorem dX13_init_5 : decode cX13_init 5 = .ok (.iload_n 1, 1) := dk_27 (dk_at dksX13_init_0 5 rfl rfl)
theorem dX13_init_6 : decode cX13_init 6 = .ok (.putfield 7, 3) := dk_181 0 7 (dk_at dksX13_init_0 6 rfl rfl)
theorem dX13_init_9 : decode cX13_init 9 = .ok (.aload_n 0, 1) := dk_42 (dk_at dksX13_init_0 9 rfl rfl)
theorem dX13_init_10 : decode cX13_init 10 = .ok (.aload_n 2, 1) := dk_44 (dk_at dksX13_init_0 10 rfl rfl)
theorem dX13_init_11 : decode cX13_init 11 = .ok (.putfield 13, 3) := dk_181 0 13 (dk_at dksX13_init_0 11 rfl rfl)
theorem dX13_init_14 : decode cX13_init 14 = .ok (.return_, 1) := dk_177 (dk_at dksX13_init_0 14 rfl rfl)
theorem q118 : (Jvm.Cond.initialized "FavourTown$Line") ∈ lw_all := lw_g (lw_at lw_m1 36 rfl) rfl
theorem q697 : (Jvm.Cond.selects "FavourTown$Line" ({ cls := "java/lang/Object", name := "getClass", desc := "()Ljava/lang/Class;" } : Jvm.MethodName) ({ cls := "java/lang/Object", name := "getClass", desc := "()Ljava/lang/Class;" } : Jvm.MethodName)) ∈ lw_all := lw_g (lw_at lw_m3 135 rfl) rfl
theorem q1375 : (Jvm.Cond.instantiable "FavourTown$Line" (2 : Nat)) ∈ lw_all := lw_g (lw_at lw_m6 93 rfl) rfl
theorem q1509 : (Jvm.Cond.instanceMethod ({ cls := "FavourTown$Line", name := "<init>", desc := "(ZLFavourTown$Cond;)V" } : Jvm.MethodName)) ∈ lw_all := lw_g (lw_at lw_m6 227 rfl) rfl
theorem q1510 : (Jvm.Cond.code ({ cls := "FavourTown$Line", name := "<init>", desc := "(ZLFavourTown$Cond;)V" } : Jvm.MethodName) prog_9_method_1_code (3 : Nat) (Option.none : Option Jvm.ClassFile.FieldType)) ∈ lw_all := lw_g (lw_at lw_m6 228 rfl) rfl
theorem q1511 : (Jvm.Cond.methodLink "FavourTown$Line" (1 : Nat) ({ cls := "java/lang/Object", name := "<init>", desc := "()V" } : Jvm.MethodName)) ∈ lw_all := lw_g (lw_at lw_m6 229 rfl) rfl
theorem q1512 : (Jvm.Cond.fieldLink "FavourTown$Line" (7 : Nat) "FavourTown$Line" "takes" "Z") ∈ lw_all := lw_g (lw_at lw_m6 230 rfl) rfl
theorem q1514 : (Jvm.Cond.fieldLink "FavourTown$Line" (13 : Nat) "FavourTown$Line" "when" "LFavourTown$Cond;") ∈ lw_all := lw_g (lw_at lw_m6 232 rfl) rfl
theorem q1516 : (Jvm.Cond.laysFinal "FavourTown$Line" "FavourTown$Line" "takes" "Z") ∈ lw_all := lw_g (lw_at lw_m6 234 rfl) rfl
theorem q1517 : (Jvm.Cond.soleField "FavourTown$Line" "takes") ∈ lw_all := lw_g (lw_at lw_m6 235 rfl) rfl
theorem q1518 : (Jvm.Cond.laysFinal "FavourTown$Line" "FavourTown$Line" "when" "LFavourTown$Cond;") ∈ lw_all := lw_g (lw_at lw_m6 236 rfl) rfl
theorem q1519 : (Jvm.Cond.soleField "FavourTown$Line" "when") ∈ lw_all := lw_g (lw_at lw_m6 237 rfl) rfl
theorem q1520 : (Jvm.Cond.superclass "FavourTown$Line" "java/lang/Object") ∈ lw_all := lw_g (lw_at lw_m6 238 rfl) rfl
theorem q2359 : (Jvm.Cond.castable "FavourTown$Line" "java/lang/Object") ∈ lw_tbl := lw_at lw_m10 117 rfl
theorem in_X13 : ∀ w ∈ wsX130, w ∈ lw_all := lw_in wsX130 [1516, 1518] (by decide +kernel) (by decide +kernel)
/-! FavourTown$Row -/
set_option maxRecDepth 100000
def RX14 : String := "FavourTown$Row"
def TX14 : u_T := fun k => match k with
  | 0 => ("FavourTown$Row", "all", "Z", true)
  | _ => ("FavourTown$Row", "row", "Ljava/util/ArrayList;", true)
def tyX14 : Nat → FieldType := fun k => match k with
  | 0 => .boolean
  | _ => .object "java/util/ArrayList"
abbrev wsX140 : List Cond := u_ws RX14 TX14 2
theorem nmX14 : ∀ a, a < 2 → ∀ b, b < 2 → a ≠ b → (TX14 a).2.1 ≠ (TX14 b).2.1 := by decide +kernel
theorem tyX14_ok : ∀ k, k < 2 → parseFieldDescriptor (TX14 k).2.2.1 = some (tyX14 k) := by decide +kernel
abbrev cX14_holds : ByteArray := prog_14_method_2_code
def yX14_holds : MethodName := ⟨RX14, "holds", "(LFavourTown$Scene;)Z"⟩
def dkwX14_holds_2 : List UInt8 := [3, 172, 132, 2, 1, 167, 255, 205, 42, 180, 0, 16, 172]
abbrev dktX14_holds_2 : List UInt8 := dkwX14_holds_2 ++ []
def dkwX14_holds_1 : List UInt8 := [43, 185, 0, 30, 2, 0, 42, 180, 0, 16, 159, 0, 16, 42, 180, 0, 16, 154, 0, 7, 4, 167, 0, 4]
abbrev dktX14_holds_1 : List UInt8 := dkwX14_holds_1 ++ dktX14_holds_2
def dkwX14_holds_0 : List UInt8 := [3, 61, 28, 42, 180, 0, 10, 182, 0, 20, 162, 0, 46, 42, 180, 0, 10, 28, 182, 0, 24, 192, 0, 28]
abbrev dktX14_holds_0 : List UInt8 := dkwX14_holds_0 ++ dktX14_holds_1
theorem dksX14_holds_0 : cX14_holds.data.toList.drop 0 = dktX14_holds_0 := by decide +kernel
theorem dksX14_holds_1 : cX14_holds.data.toList.drop 24 = dktX14_holds_1 := dk_seg dksX14_holds_0 24 rfl rfl
theorem dksX14_holds_2 : cX14_holds.data.toList.drop 48 = dktX14_holds_2 := dk_seg dksX14_holds_1 24 rfl rfl
theorem dX14_holds_0 : decode cX14_holds 0 = .ok (.iconst 0, 1) := dk_3 (dk_at dksX14_holds_0 0 rfl rfl)
theorem dX14_holds_1 : decode cX14_holds 1 = .ok (.istore_n 2, 1) := dk_61 (dk_at dksX14_holds_0 1 rfl rfl)
theorem dX14_holds_2 : decode cX14_holds 2 = .ok (.iload_n 2, 1) := dk_28 (dk_at dksX14_holds_0 2 rfl rfl)
theorem dX14_holds_3 : decode cX14_holds 3 = .ok (.aload_n 0, 1) := dk_42 (dk_at dksX14_holds_0 3 rfl rfl)
theorem dX14_holds_4 : decode cX14_holds 4 = .ok (.getfield 10, 3) := dk_180 0 10 (dk_at dksX14_holds_0 4 rfl rfl)
theorem dX14_holds_7 : decode cX14_holds 7 = .ok (.invokevirtual 20, 3) := dk_182 0 20 (dk_at dksX14_holds_0 7 rfl rfl)
theorem dX14_holds_10 : decode cX14_holds 10 = .ok (.if_icmp .ge 46, 3) := dk_162 0 46 (dk_at dksX14_holds_0 10 rfl rfl)
theorem dX14_holds_13 : decode cX14_holds 13 = .ok (.aload_n 0, 1) := dk_42 (dk_at dksX14_holds_0 13 rfl rfl)
theorem dX14_holds_14 : decode cX14_holds 14 = .ok (.getfield 10, 3) := dk_180 0 10 (dk_at dksX14_holds_0 14 rfl rfl)
theorem dX14_holds_17 : decode cX14_holds 17 = .ok (.iload_n 2, 1) := dk_28 (dk_at dksX14_holds_0 17 rfl rfl)
theorem dX14_holds_18 : decode cX14_holds 18 = .ok (.invokevirtual 24, 3) := dk_182 0 24 (dk_at dksX14_holds_0 18 rfl rfl)
theorem dX14_holds_21 : decode cX14_holds 21 = .ok (.checkcast 28, 3) := dk_192 0 28 (dk_at dksX14_holds_0 21 rfl rfl)
theorem dX14_holds_24 : decode cX14_holds 24 = .ok (.aload_n 1, 1) := dk_43 (dk_at dksX14_holds_1 0 rfl rfl)
theorem dX14_holds_25 : decode cX14_holds 25 = .ok (.invokeinterface 30 2, 5) := by decide +kernel
theorem dX14_holds_30 : decode cX14_holds 30 = .ok (.aload_n 0, 1) := dk_42 (dk_at dksX14_holds_1 6 rfl rfl)
theorem dX14_holds_31 : decode cX14_holds 31 = .ok (.getfield 16, 3) := dk_180 0 16 (dk_at dksX14_holds_1 7 rfl rfl)
theorem dX14_holds_34 : decode cX14_holds 34 = .ok (.if_icmp .eq 16, 3) := dk_159 0 16 (dk_at dksX14_holds_1 10 rfl rfl)
theorem dX14_holds_37 : decode cX14_holds 37 = .ok (.aload_n 0, 1) := dk_42 (dk_at dksX14_holds_1 13 rfl rfl)
theorem dX14_holds_38 : decode cX14_holds 38 = .ok (.getfield 16, 3) := dk_180 0 16 (dk_at dksX14_holds_1 14 rfl rfl)
theorem dX14_holds_41 : decode cX14_holds 41 = .ok (.ifCond .ne 7, 3) := dk_154 0 7 (dk_at dksX14_holds_1 17 rfl rfl)
theorem dX14_holds_44 : decode cX14_holds 44 = .ok (.iconst 1, 1) := dk_4 (dk_at dksX14_holds_1 20 rfl rfl)
theorem dX14_holds_45 : decode cX14_holds 45 = .ok (.goto 4, 3) := dk_167 0 4 (dk_at dksX14_holds_1 21 rfl rfl)
theorem dX14_holds_48 : decode cX14_holds 48 = .ok (.iconst 0, 1) := dk_3 (dk_at dksX14_holds_2 0 rfl rfl)
theorem dX14_holds_49 : decode cX14_holds 49 = .ok (.ireturn, 1) := dk_172 (dk_at dksX14_holds_2 1 rfl rfl)
theorem dX14_holds_50 : decode cX14_holds 50 = .ok (.iinc 2 1, 3) := dk_132 2 1 (dk_at dksX14_holds_2 2 rfl rfl)
theorem dX14_holds_53 : decode cX14_holds 53 = .ok (.goto (-51), 3) := dk_167 255 205 (dk_at dksX14_holds_2 5 rfl rfl)
theorem dX14_holds_56 : decode cX14_holds 56 = .ok (.aload_n 0, 1) := dk_42 (dk_at dksX14_holds_2 8 rfl rfl)
theorem dX14_holds_57 : decode cX14_holds 57 = .ok (.getfield 16, 3) := dk_180 0 16 (dk_at dksX14_holds_2 9 rfl rfl)
theorem dX14_holds_60 : decode cX14_holds 60 = .ok (.ireturn, 1) := dk_172 (dk_at dksX14_holds_2 12 rfl rfl)
abbrev cX14_init : ByteArray := prog_14_method_1_code
def yX14_init : MethodName := ⟨RX14, "<init>", "(Z)V"⟩
def dkwX14_init_0 : List UInt8 := [42, 183, 0, 1, 42, 187, 0, 7, 89, 183, 0, 9, 181, 0, 10, 42, 27, 181, 0, 16, 177]
abbrev dktX14_init_0 : List UInt8 := dkwX14_init_0 ++ []
theorem dksX14_init_0 : cX14_init.data.toList.drop 0 = dktX14_init_0 := by decide +kernel
theorem dX14_init_0 : decode cX14_init 0 = .ok (.aload_n 0, 1) := dk_42 (dk_at dksX14_init_0 0 rfl rfl)
theorem dX14_init_1 : decode cX14_init 1 = .ok (.invokespecial 1, 3) := dk_183 0 1 (dk_at dksX14_init_0 1 rfl rfl)
theorem dX14_init_4 : decode cX14_init 4 = .ok (.aload_n 0, 1) := dk_42 (dk_at dksX14_init_0 4 rfl rfl)
theorem dX14_init_5 : decode cX14_init 5 = .ok (.new 7, 3) := dk_187 0 7 (dk_at dksX14_init_0 5 rfl rfl)
theorem dX14_init_8 : decode cX14_init 8 = .ok (.dup, 1) := dk_89 (dk_at dksX14_init_0 8 rfl rfl)
theorem dX14_init_9 : decode cX14_init 9 = .ok (.invokespecial 9, 3) := dk_183 0 9 (dk_at dksX14_init_0 9 rfl rfl)
theorem dX14_init_12 : decode cX14_init 12 = .ok (.putfield 10, 3) := dk_181 0 10 (dk_at dksX14_init_0 12 rfl rfl)
theorem dX14_init_15 : decode cX14_init 15 = .ok (.aload_n 0, 1) := dk_42 (dk_at dksX14_init_0 15 rfl rfl)
theorem dX14_init_16 : decode cX14_init 16 = .ok (.iload_n 1, 1) := dk_27 (dk_at dksX14_init_0 16 rfl rfl)
theorem dX14_init_17 : decode cX14_init 17 = .ok (.putfield 16, 3) := dk_181 0 16 (dk_at dksX14_init_0 17 rfl rfl)
theorem dX14_init_20 : decode cX14_init 20 = .ok (.return_, 1) := dk_177 (dk_at dksX14_init_0 20 rfl rfl)
theorem q119 : (Jvm.Cond.initialized "FavourTown$Row") ∈ lw_all := lw_g (lw_at lw_m1 37 rfl) rfl
theorem q533 : (Jvm.Cond.castable "FavourTown$Row" "FavourTown$Cond") ∈ lw_tbl := lw_at lw_m2 211 rfl
theorem q534 : (Jvm.Cond.selects "FavourTown$Row" ({ cls := "FavourTown$Cond", name := "holds", desc := "(LFavourTown$Scene;)Z" } : Jvm.MethodName) ({ cls := "FavourTown$Row", name := "holds", desc := "(LFavourTown$Scene;)Z" } : Jvm.MethodName)) ∈ lw_all := lw_g (lw_at lw_m2 212 rfl) rfl
theorem q535 : (Jvm.Cond.unhidden "FavourTown$Row" "holds" "(LFavourTown$Scene;)Z") ∈ lw_tbl := lw_at lw_m2 213 rfl
theorem q536 : (Jvm.Cond.instanceMethod ({ cls := "FavourTown$Row", name := "holds", desc := "(LFavourTown$Scene;)Z" } : Jvm.MethodName)) ∈ lw_all := lw_g (lw_at lw_m2 214 rfl) rfl
theorem q537 : (Jvm.Cond.publicMethod ({ cls := "FavourTown$Row", name := "holds", desc := "(LFavourTown$Scene;)Z" } : Jvm.MethodName)) ∈ lw_tbl := lw_at lw_m2 215 rfl
theorem q538 : (Jvm.Cond.code ({ cls := "FavourTown$Row", name := "holds", desc := "(LFavourTown$Scene;)Z" } : Jvm.MethodName) prog_14_method_2_code (3 : Nat) (Option.some Jvm.ClassFile.FieldType.boolean)) ∈ lw_all := lw_g (lw_at lw_m2 216 rfl) rfl
theorem q539 : (Jvm.Cond.methodLink "FavourTown$Row" (20 : Nat) ({ cls := "java/util/ArrayList", name := "size", desc := "()I" } : Jvm.MethodName)) ∈ lw_all := lw_g (lw_at lw_m2 217 rfl) rfl
theorem q540 : (Jvm.Cond.methodLink "FavourTown$Row" (24 : Nat) ({ cls := "java/util/ArrayList", name := "get", desc := "(I)Ljava/lang/Object;" } : Jvm.MethodName)) ∈ lw_all := lw_g (lw_at lw_m2 218 rfl) rfl
theorem q541 : (Jvm.Cond.classLink "FavourTown$Row" (28 : Nat) "FavourTown$Cond") ∈ lw_all := lw_g (lw_at lw_m2 219 rfl) rfl
theorem q542 : (Jvm.Cond.interfaceEntry "FavourTown$Row" (30 : Nat)) ∈ lw_tbl := lw_at lw_m2 220 rfl
theorem q543 : (Jvm.Cond.methodLink "FavourTown$Row" (30 : Nat) ({ cls := "FavourTown$Cond", name := "holds", desc := "(LFavourTown$Scene;)Z" } : Jvm.MethodName)) ∈ lw_all := lw_g (lw_at lw_m2 221 rfl) rfl
theorem q702 : (Jvm.Cond.selects "FavourTown$Row" ({ cls := "java/lang/Object", name := "getClass", desc := "()Ljava/lang/Class;" } : Jvm.MethodName) ({ cls := "java/lang/Object", name := "getClass", desc := "()Ljava/lang/Class;" } : Jvm.MethodName)) ∈ lw_all := lw_g (lw_at lw_m3 140 rfl) rfl
theorem q1382 : (Jvm.Cond.instantiable "FavourTown$Row" (2 : Nat)) ∈ lw_all := lw_g (lw_at lw_m6 100 rfl) rfl
theorem q1384 : (Jvm.Cond.instanceMethod ({ cls := "FavourTown$Row", name := "<init>", desc := "(Z)V" } : Jvm.MethodName)) ∈ lw_all := lw_g (lw_at lw_m6 102 rfl) rfl
theorem q1385 : (Jvm.Cond.code ({ cls := "FavourTown$Row", name := "<init>", desc := "(Z)V" } : Jvm.MethodName) prog_14_method_1_code (2 : Nat) (Option.none : Option Jvm.ClassFile.FieldType)) ∈ lw_all := lw_g (lw_at lw_m6 103 rfl) rfl
theorem q1386 : (Jvm.Cond.methodLink "FavourTown$Row" (1 : Nat) ({ cls := "java/lang/Object", name := "<init>", desc := "()V" } : Jvm.MethodName)) ∈ lw_all := lw_g (lw_at lw_m6 104 rfl) rfl
theorem q1387 : (Jvm.Cond.classLink "FavourTown$Row" (7 : Nat) "java/util/ArrayList") ∈ lw_all := lw_g (lw_at lw_m6 105 rfl) rfl
theorem q1388 : (Jvm.Cond.methodLink "FavourTown$Row" (9 : Nat) ({ cls := "java/util/ArrayList", name := "<init>", desc := "()V" } : Jvm.MethodName)) ∈ lw_all := lw_g (lw_at lw_m6 106 rfl) rfl
theorem q1389 : (Jvm.Cond.fieldLink "FavourTown$Row" (16 : Nat) "FavourTown$Row" "all" "Z") ∈ lw_all := lw_g (lw_at lw_m6 107 rfl) rfl
theorem q1390 : (Jvm.Cond.fieldLink "FavourTown$Row" (10 : Nat) "FavourTown$Row" "row" "Ljava/util/ArrayList;") ∈ lw_all := lw_g (lw_at lw_m6 108 rfl) rfl
theorem q1392 : (Jvm.Cond.laysFinal "FavourTown$Row" "FavourTown$Row" "all" "Z") ∈ lw_all := lw_g (lw_at lw_m6 110 rfl) rfl
theorem q1393 : (Jvm.Cond.soleField "FavourTown$Row" "all") ∈ lw_all := lw_g (lw_at lw_m6 111 rfl) rfl
theorem q1394 : (Jvm.Cond.laysFinal "FavourTown$Row" "FavourTown$Row" "row" "Ljava/util/ArrayList;") ∈ lw_all := lw_g (lw_at lw_m6 112 rfl) rfl
theorem q1395 : (Jvm.Cond.soleField "FavourTown$Row" "row") ∈ lw_all := lw_g (lw_at lw_m6 113 rfl) rfl
theorem q1396 : (Jvm.Cond.superclass "FavourTown$Row" "java/lang/Object") ∈ lw_all := lw_g (lw_at lw_m6 114 rfl) rfl
theorem q2360 : (Jvm.Cond.castable "FavourTown$Row" "java/lang/Object") ∈ lw_tbl := lw_at lw_m10 118 rfl
theorem in_X14 : ∀ w ∈ wsX140, w ∈ lw_all := lw_in wsX140 [1392, 1394] (by decide +kernel) (by decide +kernel)
/-! FavourTown$Not -/
set_option maxRecDepth 100000
def RX15 : String := "FavourTown$Not"
def TX15 : u_T := fun k => match k with
  | _ => ("FavourTown$Not", "a", "LFavourTown$Cond;", true)
def tyX15 : Nat → FieldType := fun k => match k with
  | _ => .object "FavourTown$Cond"
abbrev wsX150 : List Cond := u_ws RX15 TX15 1
theorem nmX15 : ∀ a, a < 1 → ∀ b, b < 1 → a ≠ b → (TX15 a).2.1 ≠ (TX15 b).2.1 := by decide +kernel
theorem tyX15_ok : ∀ k, k < 1 → parseFieldDescriptor (TX15 k).2.2.1 = some (tyX15 k) := by decide +kernel
abbrev cX15_holds : ByteArray := prog_11_method_2_code
def yX15_holds : MethodName := ⟨RX15, "holds", "(LFavourTown$Scene;)Z"⟩
def dkwX15_holds_0 : List UInt8 := [42, 180, 0, 7, 43, 185, 0, 13, 2, 0, 154, 0, 7, 4, 167, 0, 4, 3, 172]
abbrev dktX15_holds_0 : List UInt8 := dkwX15_holds_0 ++ []
theorem dksX15_holds_0 : cX15_holds.data.toList.drop 0 = dktX15_holds_0 := by decide +kernel
theorem dX15_holds_0 : decode cX15_holds 0 = .ok (.aload_n 0, 1) := dk_42 (dk_at dksX15_holds_0 0 rfl rfl)
theorem dX15_holds_1 : decode cX15_holds 1 = .ok (.getfield 7, 3) := dk_180 0 7 (dk_at dksX15_holds_0 1 rfl rfl)
theorem dX15_holds_4 : decode cX15_holds 4 = .ok (.aload_n 1, 1) := dk_43 (dk_at dksX15_holds_0 4 rfl rfl)
theorem dX15_holds_5 : decode cX15_holds 5 = .ok (.invokeinterface 13 2, 5) := by decide +kernel
theorem dX15_holds_10 : decode cX15_holds 10 = .ok (.ifCond .ne 7, 3) := dk_154 0 7 (dk_at dksX15_holds_0 10 rfl rfl)
theorem dX15_holds_13 : decode cX15_holds 13 = .ok (.iconst 1, 1) := dk_4 (dk_at dksX15_holds_0 13 rfl rfl)
theorem dX15_holds_14 : decode cX15_holds 14 = .ok (.goto 4, 3) := dk_167 0 4 (dk_at dksX15_holds_0 14 rfl rfl)
theorem dX15_holds_17 : decode cX15_holds 17 = .ok (.iconst 0, 1) := dk_3 (dk_at dksX15_holds_0 17 rfl rfl)
theorem dX15_holds_18 : decode cX15_holds 18 = .ok (.ireturn, 1) := dk_172 (dk_at dksX15_holds_0 18 rfl rfl)
abbrev cX15_init : ByteArray := prog_11_method_1_code
def yX15_init : MethodName := ⟨RX15, "<init>", "(LFavourTown$Cond;)V"⟩
def dkwX15_init_0 : List UInt8 := [42, 183, 0, 1, 42, 43, 181, 0, 7, 177]
abbrev dktX15_init_0 : List UInt8 := dkwX15_init_0 ++ []
theorem dksX15_init_0 : cX15_init.data.toList.drop 0 = dktX15_init_0 := by decide +kernel
theorem dX15_init_0 : decode cX15_init 0 = .ok (.aload_n 0, 1) := dk_42 (dk_at dksX15_init_0 0 rfl rfl)
theorem dX15_init_1 : decode cX15_init 1 = .ok (.invokespecial 1, 3) := dk_183 0 1 (dk_at dksX15_init_0 1 rfl rfl)
theorem dX15_init_4 : decode cX15_init 4 = .ok (.aload_n 0, 1) := dk_42 (dk_at dksX15_init_0 4 rfl rfl)
theorem dX15_init_5 : decode cX15_init 5 = .ok (.aload_n 1, 1) := dk_43 (dk_at dksX15_init_0 5 rfl rfl)
theorem dX15_init_6 : decode cX15_init 6 = .ok (.putfield 7, 3) := dk_181 0 7 (dk_at dksX15_init_0 6 rfl rfl)
theorem dX15_init_9 : decode cX15_init 9 = .ok (.return_, 1) := dk_177 (dk_at dksX15_init_0 9 rfl rfl)
theorem q120 : (Jvm.Cond.initialized "FavourTown$Not") ∈ lw_all := lw_g (lw_at lw_m1 38 rfl) rfl
theorem q525 : (Jvm.Cond.castable "FavourTown$Not" "FavourTown$Cond") ∈ lw_tbl := lw_at lw_m2 203 rfl
theorem q526 : (Jvm.Cond.selects "FavourTown$Not" ({ cls := "FavourTown$Cond", name := "holds", desc := "(LFavourTown$Scene;)Z" } : Jvm.MethodName) ({ cls := "FavourTown$Not", name := "holds", desc := "(LFavourTown$Scene;)Z" } : Jvm.MethodName)) ∈ lw_all := lw_g (lw_at lw_m2 204 rfl) rfl
theorem q527 : (Jvm.Cond.unhidden "FavourTown$Not" "holds" "(LFavourTown$Scene;)Z") ∈ lw_tbl := lw_at lw_m2 205 rfl
theorem q528 : (Jvm.Cond.instanceMethod ({ cls := "FavourTown$Not", name := "holds", desc := "(LFavourTown$Scene;)Z" } : Jvm.MethodName)) ∈ lw_all := lw_g (lw_at lw_m2 206 rfl) rfl
theorem q529 : (Jvm.Cond.publicMethod ({ cls := "FavourTown$Not", name := "holds", desc := "(LFavourTown$Scene;)Z" } : Jvm.MethodName)) ∈ lw_tbl := lw_at lw_m2 207 rfl
theorem q530 : (Jvm.Cond.code ({ cls := "FavourTown$Not", name := "holds", desc := "(LFavourTown$Scene;)Z" } : Jvm.MethodName) prog_11_method_2_code (2 : Nat) (Option.some Jvm.ClassFile.FieldType.boolean)) ∈ lw_all := lw_g (lw_at lw_m2 208 rfl) rfl
theorem q531 : (Jvm.Cond.interfaceEntry "FavourTown$Not" (13 : Nat)) ∈ lw_tbl := lw_at lw_m2 209 rfl
theorem q532 : (Jvm.Cond.methodLink "FavourTown$Not" (13 : Nat) ({ cls := "FavourTown$Cond", name := "holds", desc := "(LFavourTown$Scene;)Z" } : Jvm.MethodName)) ∈ lw_all := lw_g (lw_at lw_m2 210 rfl) rfl
theorem q699 : (Jvm.Cond.selects "FavourTown$Not" ({ cls := "java/lang/Object", name := "getClass", desc := "()Ljava/lang/Class;" } : Jvm.MethodName) ({ cls := "java/lang/Object", name := "getClass", desc := "()Ljava/lang/Class;" } : Jvm.MethodName)) ∈ lw_all := lw_g (lw_at lw_m3 137 rfl) rfl
theorem q1415 : (Jvm.Cond.instantiable "FavourTown$Not" (1 : Nat)) ∈ lw_all := lw_g (lw_at lw_m6 133 rfl) rfl
theorem q1417 : (Jvm.Cond.instanceMethod ({ cls := "FavourTown$Not", name := "<init>", desc := "(LFavourTown$Cond;)V" } : Jvm.MethodName)) ∈ lw_all := lw_g (lw_at lw_m6 135 rfl) rfl
theorem q1418 : (Jvm.Cond.code ({ cls := "FavourTown$Not", name := "<init>", desc := "(LFavourTown$Cond;)V" } : Jvm.MethodName) prog_11_method_1_code (2 : Nat) (Option.none : Option Jvm.ClassFile.FieldType)) ∈ lw_all := lw_g (lw_at lw_m6 136 rfl) rfl
theorem q1419 : (Jvm.Cond.methodLink "FavourTown$Not" (1 : Nat) ({ cls := "java/lang/Object", name := "<init>", desc := "()V" } : Jvm.MethodName)) ∈ lw_all := lw_g (lw_at lw_m6 137 rfl) rfl
theorem q1420 : (Jvm.Cond.fieldLink "FavourTown$Not" (7 : Nat) "FavourTown$Not" "a" "LFavourTown$Cond;") ∈ lw_all := lw_g (lw_at lw_m6 138 rfl) rfl
theorem q1421 : (Jvm.Cond.laysFinal "FavourTown$Not" "FavourTown$Not" "a" "LFavourTown$Cond;") ∈ lw_all := lw_g (lw_at lw_m6 139 rfl) rfl
theorem q1422 : (Jvm.Cond.soleField "FavourTown$Not" "a") ∈ lw_all := lw_g (lw_at lw_m6 140 rfl) rfl
theorem q1423 : (Jvm.Cond.superclass "FavourTown$Not" "java/lang/Object") ∈ lw_all := lw_g (lw_at lw_m6 141 rfl) rfl
theorem q2361 : (Jvm.Cond.castable "FavourTown$Not" "java/lang/Object") ∈ lw_tbl := lw_at lw_m10 119 rfl
theorem in_X15 : ∀ w ∈ wsX150, w ∈ lw_all := lw_in wsX150 [1421] (by decide +kernel) (by decide +kernel)
/-! FavourTown$Is -/
set_option maxRecDepth 100000
def RX16 : String := "FavourTown$Is"
def TX16 : u_T := fun k => match k with
  | _ => ("FavourTown$Is", "tag", "LFavourTown$Tag;", true)
def tyX16 : Nat → FieldType := fun k => match k with
  | _ => .object "FavourTown$Tag"
abbrev wsX160 : List Cond := u_ws RX16 TX16 1
theorem nmX16 : ∀ a, a < 1 → ∀ b, b < 1 → a ≠ b → (TX16 a).2.1 ≠ (TX16 b).2.1 := by decide +kernel
theorem tyX16_ok : ∀ k, k < 1 → parseFieldDescriptor (TX16 k).2.2.1 = some (tyX16 k) := by decide +kernel
abbrev cX16_holds : ByteArray := prog_7_method_2_code
def yX16_holds : MethodName := ⟨RX16, "holds", "(LFavourTown$Scene;)Z"⟩
def dkwX16_holds_0 : List UInt8 := [43, 42, 180, 0, 7, 182, 0, 13, 172]
abbrev dktX16_holds_0 : List UInt8 := dkwX16_holds_0 ++ []
theorem dksX16_holds_0 : cX16_holds.data.toList.drop 0 = dktX16_holds_0 := by decide +kernel
theorem dX16_holds_0 : decode cX16_holds 0 = .ok (.aload_n 1, 1) := dk_43 (dk_at dksX16_holds_0 0 rfl rfl)
theorem dX16_holds_1 : decode cX16_holds 1 = .ok (.aload_n 0, 1) := dk_42 (dk_at dksX16_holds_0 1 rfl rfl)
theorem dX16_holds_2 : decode cX16_holds 2 = .ok (.getfield 7, 3) := dk_180 0 7 (dk_at dksX16_holds_0 2 rfl rfl)
theorem dX16_holds_5 : decode cX16_holds 5 = .ok (.invokevirtual 13, 3) := dk_182 0 13 (dk_at dksX16_holds_0 5 rfl rfl)
theorem dX16_holds_8 : decode cX16_holds 8 = .ok (.ireturn, 1) := dk_172 (dk_at dksX16_holds_0 8 rfl rfl)
abbrev cX16_init : ByteArray := prog_7_method_1_code
def yX16_init : MethodName := ⟨RX16, "<init>", "(LFavourTown$Tag;)V"⟩
def dkwX16_init_0 : List UInt8 := [42, 183, 0, 1, 42, 43, 181, 0, 7, 177]
abbrev dktX16_init_0 : List UInt8 := dkwX16_init_0 ++ []
theorem dksX16_init_0 : cX16_init.data.toList.drop 0 = dktX16_init_0 := by decide +kernel
theorem dX16_init_0 : decode cX16_init 0 = .ok (.aload_n 0, 1) := dk_42 (dk_at dksX16_init_0 0 rfl rfl)
theorem dX16_init_1 : decode cX16_init 1 = .ok (.invokespecial 1, 3) := dk_183 0 1 (dk_at dksX16_init_0 1 rfl rfl)
theorem dX16_init_4 : decode cX16_init 4 = .ok (.aload_n 0, 1) := dk_42 (dk_at dksX16_init_0 4 rfl rfl)
theorem dX16_init_5 : decode cX16_init 5 = .ok (.aload_n 1, 1) := dk_43 (dk_at dksX16_init_0 5 rfl rfl)
theorem dX16_init_6 : decode cX16_init 6 = .ok (.putfield 7, 3) := dk_181 0 7 (dk_at dksX16_init_0 6 rfl rfl)
theorem dX16_init_9 : decode cX16_init 9 = .ok (.return_, 1) := dk_177 (dk_at dksX16_init_0 9 rfl rfl)
theorem q121 : (Jvm.Cond.initialized "FavourTown$Is") ∈ lw_all := lw_g (lw_at lw_m1 39 rfl) rfl
theorem q484 : (Jvm.Cond.castable "FavourTown$Is" "FavourTown$Cond") ∈ lw_tbl := lw_at lw_m2 162 rfl
theorem q485 : (Jvm.Cond.selects "FavourTown$Is" ({ cls := "FavourTown$Cond", name := "holds", desc := "(LFavourTown$Scene;)Z" } : Jvm.MethodName) ({ cls := "FavourTown$Is", name := "holds", desc := "(LFavourTown$Scene;)Z" } : Jvm.MethodName)) ∈ lw_all := lw_g (lw_at lw_m2 163 rfl) rfl
theorem q486 : (Jvm.Cond.unhidden "FavourTown$Is" "holds" "(LFavourTown$Scene;)Z") ∈ lw_tbl := lw_at lw_m2 164 rfl
theorem q487 : (Jvm.Cond.instanceMethod ({ cls := "FavourTown$Is", name := "holds", desc := "(LFavourTown$Scene;)Z" } : Jvm.MethodName)) ∈ lw_all := lw_g (lw_at lw_m2 165 rfl) rfl
theorem q488 : (Jvm.Cond.publicMethod ({ cls := "FavourTown$Is", name := "holds", desc := "(LFavourTown$Scene;)Z" } : Jvm.MethodName)) ∈ lw_tbl := lw_at lw_m2 166 rfl
theorem q489 : (Jvm.Cond.code ({ cls := "FavourTown$Is", name := "holds", desc := "(LFavourTown$Scene;)Z" } : Jvm.MethodName) prog_7_method_2_code (2 : Nat) (Option.some Jvm.ClassFile.FieldType.boolean)) ∈ lw_all := lw_g (lw_at lw_m2 167 rfl) rfl
theorem q490 : (Jvm.Cond.methodLink "FavourTown$Is" (13 : Nat) ({ cls := "FavourTown$Scene", name := "is", desc := "(LFavourTown$Tag;)Z" } : Jvm.MethodName)) ∈ lw_all := lw_g (lw_at lw_m2 168 rfl) rfl
theorem q695 : (Jvm.Cond.selects "FavourTown$Is" ({ cls := "java/lang/Object", name := "getClass", desc := "()Ljava/lang/Class;" } : Jvm.MethodName) ({ cls := "java/lang/Object", name := "getClass", desc := "()Ljava/lang/Class;" } : Jvm.MethodName)) ∈ lw_all := lw_g (lw_at lw_m3 133 rfl) rfl
theorem q1425 : (Jvm.Cond.instantiable "FavourTown$Is" (1 : Nat)) ∈ lw_all := lw_g (lw_at lw_m6 143 rfl) rfl
theorem q1428 : (Jvm.Cond.instanceMethod ({ cls := "FavourTown$Is", name := "<init>", desc := "(LFavourTown$Tag;)V" } : Jvm.MethodName)) ∈ lw_all := lw_g (lw_at lw_m6 146 rfl) rfl
theorem q1429 : (Jvm.Cond.code ({ cls := "FavourTown$Is", name := "<init>", desc := "(LFavourTown$Tag;)V" } : Jvm.MethodName) prog_7_method_1_code (2 : Nat) (Option.none : Option Jvm.ClassFile.FieldType)) ∈ lw_all := lw_g (lw_at lw_m6 147 rfl) rfl
theorem q1430 : (Jvm.Cond.methodLink "FavourTown$Is" (1 : Nat) ({ cls := "java/lang/Object", name := "<init>", desc := "()V" } : Jvm.MethodName)) ∈ lw_all := lw_g (lw_at lw_m6 148 rfl) rfl
theorem q1431 : (Jvm.Cond.fieldLink "FavourTown$Is" (7 : Nat) "FavourTown$Is" "tag" "LFavourTown$Tag;") ∈ lw_all := lw_g (lw_at lw_m6 149 rfl) rfl
theorem q1432 : (Jvm.Cond.laysFinal "FavourTown$Is" "FavourTown$Is" "tag" "LFavourTown$Tag;") ∈ lw_all := lw_g (lw_at lw_m6 150 rfl) rfl
theorem q1433 : (Jvm.Cond.soleField "FavourTown$Is" "tag") ∈ lw_all := lw_g (lw_at lw_m6 151 rfl) rfl
theorem q1434 : (Jvm.Cond.superclass "FavourTown$Is" "java/lang/Object") ∈ lw_all := lw_g (lw_at lw_m6 152 rfl) rfl
theorem q2362 : (Jvm.Cond.castable "FavourTown$Is" "java/lang/Object") ∈ lw_tbl := lw_at lw_m10 120 rfl
theorem in_X16 : ∀ w ∈ wsX160, w ∈ lw_all := lw_in wsX160 [1432] (by decide +kernel) (by decide +kernel)
/-! FavourTown$Sum -/
set_option maxRecDepth 100000
def RX17 : String := "FavourTown$Sum"
def TX17 : u_T := fun k => match k with
  | _ => ("FavourTown$Sum", "parts", "Ljava/util/ArrayList;", true)
def tyX17 : Nat → FieldType := fun k => match k with
  | _ => .object "java/util/ArrayList"
abbrev wsX170 : List Cond := u_ws RX17 TX17 1
theorem nmX17 : ∀ a, a < 1 → ∀ b, b < 1 → a ≠ b → (TX17 a).2.1 ≠ (TX17 b).2.1 := by decide +kernel
theorem tyX17_ok : ∀ k, k < 1 → parseFieldDescriptor (TX17 k).2.2.1 = some (tyX17 k) := by decide +kernel
abbrev cX17_in : ByteArray := prog_16_method_2_code
def yX17_in : MethodName := ⟨RX17, "in", "(LFavourTown$Scene;)I"⟩
def dkwX17_in_1 : List UInt8 := [192, 0, 24, 43, 182, 0, 26, 96, 61, 132, 3, 1, 167, 255, 224, 28, 172]
abbrev dktX17_in_1 : List UInt8 := dkwX17_in_1 ++ []
def dkwX17_in_0 : List UInt8 := [3, 61, 3, 62, 29, 42, 180, 0, 10, 182, 0, 16, 162, 0, 27, 28, 42, 180, 0, 10, 29, 182, 0, 20]
abbrev dktX17_in_0 : List UInt8 := dkwX17_in_0 ++ dktX17_in_1
theorem dksX17_in_0 : cX17_in.data.toList.drop 0 = dktX17_in_0 := by decide +kernel
theorem dksX17_in_1 : cX17_in.data.toList.drop 24 = dktX17_in_1 := dk_seg dksX17_in_0 24 rfl rfl
theorem dX17_in_0 : decode cX17_in 0 = .ok (.iconst 0, 1) := dk_3 (dk_at dksX17_in_0 0 rfl rfl)
theorem dX17_in_1 : decode cX17_in 1 = .ok (.istore_n 2, 1) := dk_61 (dk_at dksX17_in_0 1 rfl rfl)
theorem dX17_in_2 : decode cX17_in 2 = .ok (.iconst 0, 1) := dk_3 (dk_at dksX17_in_0 2 rfl rfl)
theorem dX17_in_3 : decode cX17_in 3 = .ok (.istore_n 3, 1) := dk_62 (dk_at dksX17_in_0 3 rfl rfl)
theorem dX17_in_4 : decode cX17_in 4 = .ok (.iload_n 3, 1) := dk_29 (dk_at dksX17_in_0 4 rfl rfl)
theorem dX17_in_5 : decode cX17_in 5 = .ok (.aload_n 0, 1) := dk_42 (dk_at dksX17_in_0 5 rfl rfl)
theorem dX17_in_6 : decode cX17_in 6 = .ok (.getfield 10, 3) := dk_180 0 10 (dk_at dksX17_in_0 6 rfl rfl)
theorem dX17_in_9 : decode cX17_in 9 = .ok (.invokevirtual 16, 3) := dk_182 0 16 (dk_at dksX17_in_0 9 rfl rfl)
theorem dX17_in_12 : decode cX17_in 12 = .ok (.if_icmp .ge 27, 3) := dk_162 0 27 (dk_at dksX17_in_0 12 rfl rfl)
theorem dX17_in_15 : decode cX17_in 15 = .ok (.iload_n 2, 1) := dk_28 (dk_at dksX17_in_0 15 rfl rfl)
theorem dX17_in_16 : decode cX17_in 16 = .ok (.aload_n 0, 1) := dk_42 (dk_at dksX17_in_0 16 rfl rfl)
theorem dX17_in_17 : decode cX17_in 17 = .ok (.getfield 10, 3) := dk_180 0 10 (dk_at dksX17_in_0 17 rfl rfl)
theorem dX17_in_20 : decode cX17_in 20 = .ok (.iload_n 3, 1) := dk_29 (dk_at dksX17_in_0 20 rfl rfl)
theorem dX17_in_21 : decode cX17_in 21 = .ok (.invokevirtual 20, 3) := dk_182 0 20 (dk_at dksX17_in_0 21 rfl rfl)
theorem dX17_in_24 : decode cX17_in 24 = .ok (.checkcast 24, 3) := dk_192 0 24 (dk_at dksX17_in_1 0 rfl rfl)
theorem dX17_in_27 : decode cX17_in 27 = .ok (.aload_n 1, 1) := dk_43 (dk_at dksX17_in_1 3 rfl rfl)
theorem dX17_in_28 : decode cX17_in 28 = .ok (.invokevirtual 26, 3) := dk_182 0 26 (dk_at dksX17_in_1 4 rfl rfl)
theorem dX17_in_31 : decode cX17_in 31 = .ok (.iadd, 1) := dk_96 (dk_at dksX17_in_1 7 rfl rfl)
theorem dX17_in_32 : decode cX17_in 32 = .ok (.istore_n 2, 1) := dk_61 (dk_at dksX17_in_1 8 rfl rfl)
theorem dX17_in_33 : decode cX17_in 33 = .ok (.iinc 3 1, 3) := dk_132 3 1 (dk_at dksX17_in_1 9 rfl rfl)
theorem dX17_in_36 : decode cX17_in 36 = .ok (.goto (-32), 3) := dk_167 255 224 (dk_at dksX17_in_1 12 rfl rfl)
theorem dX17_in_39 : decode cX17_in 39 = .ok (.iload_n 2, 1) := dk_28 (dk_at dksX17_in_1 15 rfl rfl)
theorem dX17_in_40 : decode cX17_in 40 = .ok (.ireturn, 1) := dk_172 (dk_at dksX17_in_1 16 rfl rfl)
abbrev cX17_init : ByteArray := prog_16_method_1_code
def yX17_init : MethodName := ⟨RX17, "<init>", "()V"⟩
def dkwX17_init_0 : List UInt8 := [42, 183, 0, 1, 42, 187, 0, 7, 89, 183, 0, 9, 181, 0, 10, 177]
abbrev dktX17_init_0 : List UInt8 := dkwX17_init_0 ++ []
theorem dksX17_init_0 : cX17_init.data.toList.drop 0 = dktX17_init_0 := by decide +kernel
theorem dX17_init_0 : decode cX17_init 0 = .ok (.aload_n 0, 1) := dk_42 (dk_at dksX17_init_0 0 rfl rfl)
theorem dX17_init_1 : decode cX17_init 1 = .ok (.invokespecial 1, 3) := dk_183 0 1 (dk_at dksX17_init_0 1 rfl rfl)
theorem dX17_init_4 : decode cX17_init 4 = .ok (.aload_n 0, 1) := dk_42 (dk_at dksX17_init_0 4 rfl rfl)
theorem dX17_init_5 : decode cX17_init 5 = .ok (.new 7, 3) := dk_187 0 7 (dk_at dksX17_init_0 5 rfl rfl)
theorem dX17_init_8 : decode cX17_init 8 = .ok (.dup, 1) := dk_89 (dk_at dksX17_init_0 8 rfl rfl)
theorem dX17_init_9 : decode cX17_init 9 = .ok (.invokespecial 9, 3) := dk_183 0 9 (dk_at dksX17_init_0 9 rfl rfl)
theorem dX17_init_12 : decode cX17_init 12 = .ok (.putfield 10, 3) := dk_181 0 10 (dk_at dksX17_init_0 12 rfl rfl)
theorem dX17_init_15 : decode cX17_init 15 = .ok (.return_, 1) := dk_177 (dk_at dksX17_init_0 15 rfl rfl)
theorem q122 : (Jvm.Cond.initialized "FavourTown$Sum") ∈ lw_all := lw_g (lw_at lw_m1 40 rfl) rfl
theorem q505 : (Jvm.Cond.instanceMethod ({ cls := "FavourTown$Sum", name := "in", desc := "(LFavourTown$Scene;)I" } : Jvm.MethodName)) ∈ lw_all := lw_g (lw_at lw_m2 183 rfl) rfl
theorem q506 : (Jvm.Cond.selects "FavourTown$Sum" ({ cls := "FavourTown$Sum", name := "in", desc := "(LFavourTown$Scene;)I" } : Jvm.MethodName) ({ cls := "FavourTown$Sum", name := "in", desc := "(LFavourTown$Scene;)I" } : Jvm.MethodName)) ∈ lw_all := lw_g (lw_at lw_m2 184 rfl) rfl
theorem q507 : (Jvm.Cond.code ({ cls := "FavourTown$Sum", name := "in", desc := "(LFavourTown$Scene;)I" } : Jvm.MethodName) prog_16_method_2_code (4 : Nat) (Option.some Jvm.ClassFile.FieldType.int)) ∈ lw_all := lw_g (lw_at lw_m2 185 rfl) rfl
theorem q508 : (Jvm.Cond.methodLink "FavourTown$Sum" (16 : Nat) ({ cls := "java/util/ArrayList", name := "size", desc := "()I" } : Jvm.MethodName)) ∈ lw_all := lw_g (lw_at lw_m2 186 rfl) rfl
theorem q509 : (Jvm.Cond.methodLink "FavourTown$Sum" (20 : Nat) ({ cls := "java/util/ArrayList", name := "get", desc := "(I)Ljava/lang/Object;" } : Jvm.MethodName)) ∈ lw_all := lw_g (lw_at lw_m2 187 rfl) rfl
theorem q510 : (Jvm.Cond.classLink "FavourTown$Sum" (24 : Nat) "FavourTown$Part") ∈ lw_all := lw_g (lw_at lw_m2 188 rfl) rfl
theorem q511 : (Jvm.Cond.methodLink "FavourTown$Sum" (26 : Nat) ({ cls := "FavourTown$Part", name := "in", desc := "(LFavourTown$Scene;)I" } : Jvm.MethodName)) ∈ lw_all := lw_g (lw_at lw_m2 189 rfl) rfl
theorem q704 : (Jvm.Cond.selects "FavourTown$Sum" ({ cls := "java/lang/Object", name := "getClass", desc := "()Ljava/lang/Class;" } : Jvm.MethodName) ({ cls := "java/lang/Object", name := "getClass", desc := "()Ljava/lang/Class;" } : Jvm.MethodName)) ∈ lw_all := lw_g (lw_at lw_m3 142 rfl) rfl
theorem q1445 : (Jvm.Cond.instantiable "FavourTown$Sum" (1 : Nat)) ∈ lw_all := lw_g (lw_at lw_m6 163 rfl) rfl
theorem q1447 : (Jvm.Cond.instanceMethod ({ cls := "FavourTown$Sum", name := "<init>", desc := "()V" } : Jvm.MethodName)) ∈ lw_all := lw_g (lw_at lw_m6 165 rfl) rfl
theorem q1448 : (Jvm.Cond.code ({ cls := "FavourTown$Sum", name := "<init>", desc := "()V" } : Jvm.MethodName) prog_16_method_1_code (1 : Nat) (Option.none : Option Jvm.ClassFile.FieldType)) ∈ lw_all := lw_g (lw_at lw_m6 166 rfl) rfl
theorem q1449 : (Jvm.Cond.methodLink "FavourTown$Sum" (1 : Nat) ({ cls := "java/lang/Object", name := "<init>", desc := "()V" } : Jvm.MethodName)) ∈ lw_all := lw_g (lw_at lw_m6 167 rfl) rfl
theorem q1450 : (Jvm.Cond.classLink "FavourTown$Sum" (7 : Nat) "java/util/ArrayList") ∈ lw_all := lw_g (lw_at lw_m6 168 rfl) rfl
theorem q1451 : (Jvm.Cond.methodLink "FavourTown$Sum" (9 : Nat) ({ cls := "java/util/ArrayList", name := "<init>", desc := "()V" } : Jvm.MethodName)) ∈ lw_all := lw_g (lw_at lw_m6 169 rfl) rfl
theorem q1452 : (Jvm.Cond.fieldLink "FavourTown$Sum" (10 : Nat) "FavourTown$Sum" "parts" "Ljava/util/ArrayList;") ∈ lw_all := lw_g (lw_at lw_m6 170 rfl) rfl
theorem q1454 : (Jvm.Cond.laysFinal "FavourTown$Sum" "FavourTown$Sum" "parts" "Ljava/util/ArrayList;") ∈ lw_all := lw_g (lw_at lw_m6 172 rfl) rfl
theorem q1455 : (Jvm.Cond.soleField "FavourTown$Sum" "parts") ∈ lw_all := lw_g (lw_at lw_m6 173 rfl) rfl
theorem q1456 : (Jvm.Cond.superclass "FavourTown$Sum" "java/lang/Object") ∈ lw_all := lw_g (lw_at lw_m6 174 rfl) rfl
theorem q2364 : (Jvm.Cond.castable "FavourTown$Sum" "java/lang/Object") ∈ lw_tbl := lw_at lw_m10 122 rfl
theorem in_X17 : ∀ w ∈ wsX170, w ∈ lw_all := lw_in wsX170 [1454] (by decide +kernel) (by decide +kernel)
/-! FavourTown$Part -/
set_option maxRecDepth 100000
def RX18 : String := "FavourTown$Part"
def TX18 : u_T := fun k => match k with
  | 0 => ("FavourTown$Part", "n", "I", true)
  | _ => ("FavourTown$Part", "fact", "LFavourTown$Fact;", true)
def tyX18 : Nat → FieldType := fun k => match k with
  | 0 => .int
  | _ => .object "FavourTown$Fact"
abbrev wsX180 : List Cond := u_ws RX18 TX18 2
theorem nmX18 : ∀ a, a < 2 → ∀ b, b < 2 → a ≠ b → (TX18 a).2.1 ≠ (TX18 b).2.1 := by decide +kernel
theorem tyX18_ok : ∀ k, k < 2 → parseFieldDescriptor (TX18 k).2.2.1 = some (tyX18 k) := by decide +kernel
abbrev cX18_in : ByteArray := prog_12_method_2_code
def yX18_in : MethodName := ⟨RX18, "in", "(LFavourTown$Scene;)I"⟩
def dkwX18_in_0 : List UInt8 := [42, 180, 0, 13, 199, 0, 10, 42, 180, 0, 7, 167, 0, 11, 43, 42, 180, 0, 13, 182, 0, 17, 172]
abbrev dktX18_in_0 : List UInt8 := dkwX18_in_0 ++ []
theorem dksX18_in_0 : cX18_in.data.toList.drop 0 = dktX18_in_0 := by decide +kernel
theorem dX18_in_0 : decode cX18_in 0 = .ok (.aload_n 0, 1) := dk_42 (dk_at dksX18_in_0 0 rfl rfl)
theorem dX18_in_1 : decode cX18_in 1 = .ok (.getfield 13, 3) := dk_180 0 13 (dk_at dksX18_in_0 1 rfl rfl)
theorem dX18_in_4 : decode cX18_in 4 = .ok (.ifnonnull 10, 3) := dk_199 0 10 (dk_at dksX18_in_0 4 rfl rfl)
theorem dX18_in_7 : decode cX18_in 7 = .ok (.aload_n 0, 1) := dk_42 (dk_at dksX18_in_0 7 rfl rfl)
theorem dX18_in_8 : decode cX18_in 8 = .ok (.getfield 7, 3) := dk_180 0 7 (dk_at dksX18_in_0 8 rfl rfl)
theorem dX18_in_11 : decode cX18_in 11 = .ok (.goto 11, 3) := dk_167 0 11 (dk_at dksX18_in_0 11 rfl rfl)
theorem dX18_in_14 : decode cX18_in 14 = .ok (.aload_n 1, 1) := dk_43 (dk_at dksX18_in_0 14 rfl rfl)
theorem dX18_in_15 : decode cX18_in 15 = .ok (.aload_n 0, 1) := dk_42 (dk_at dksX18_in_0 15 rfl rfl)
theorem dX18_in_16 : decode cX18_in 16 = .ok (.getfield 13, 3) := dk_180 0 13 (dk_at dksX18_in_0 16 rfl rfl)
theorem dX18_in_19 : decode cX18_in 19 = .ok (.invokevirtual 17, 3) := dk_182 0 17 (dk_at dksX18_in_0 19 rfl rfl)
theorem dX18_in_22 : decode cX18_in 22 = .ok (.ireturn, 1) := dk_172 (dk_at dksX18_in_0 22 rfl rfl)
abbrev cX18_init : ByteArray := prog_12_method_1_code
def yX18_init : MethodName := ⟨RX18, "<init>", "(ILFavourTown$Fact;)V"⟩
def dkwX18_init_0 : List UInt8 := [42, 183, 0, 1, 42, 27, 181, 0, 7, 42, 44, 181, 0, 13, 177]
abbrev dktX18_init_0 : List UInt8 := dkwX18_init_0 ++ []
theorem dksX18_init_0 : cX18_init.data.toList.drop 0 = dktX18_init_0 := by decide +kernel
theorem dX18_init_0 : decode cX18_init 0 = .ok (.aload_n 0, 1) := dk_42 (dk_at dksX18_init_0 0 rfl rfl)
theorem dX18_init_1 : decode cX18_init 1 = .ok (.invokespecial 1, 3) := dk_183 0 1 (dk_at dksX18_init_0 1 rfl rfl)
theorem dX18_init_4 : decode cX18_init 4 = .ok (.aload_n 0, 1) := dk_42 (dk_at dksX18_init_0 4 rfl rfl)
theorem dX18_init_5 : decode cX18_init 5 = .ok (.iload_n 1, 1) := dk_27 (dk_at dksX18_init_0 5 rfl rfl)
theorem dX18_init_6 : decode cX18_init 6 = .ok (.putfield 7, 3) := dk_181 0 7 (dk_at dksX18_init_0 6 rfl rfl)
theorem dX18_init_9 : decode cX18_init 9 = .ok (.aload_n 0, 1) := dk_42 (dk_at dksX18_init_0 9 rfl rfl)
theorem dX18_init_10 : decode cX18_init 10 = .ok (.aload_n 2, 1) := dk_44 (dk_at dksX18_init_0 10 rfl rfl)
theorem dX18_init_11 : decode cX18_init 11 = .ok (.putfield 13, 3) := dk_181 0 13 (dk_at dksX18_init_0 11 rfl rfl)
theorem dX18_init_14 : decode cX18_init 14 = .ok (.return_, 1) := dk_177 (dk_at dksX18_init_0 14 rfl rfl)
theorem q123 : (Jvm.Cond.initialized "FavourTown$Part") ∈ lw_all := lw_g (lw_at lw_m1 41 rfl) rfl
theorem q512 : (Jvm.Cond.instanceMethod ({ cls := "FavourTown$Part", name := "in", desc := "(LFavourTown$Scene;)I" } : Jvm.MethodName)) ∈ lw_all := lw_g (lw_at lw_m2 190 rfl) rfl
theorem q513 : (Jvm.Cond.selects "FavourTown$Part" ({ cls := "FavourTown$Part", name := "in", desc := "(LFavourTown$Scene;)I" } : Jvm.MethodName) ({ cls := "FavourTown$Part", name := "in", desc := "(LFavourTown$Scene;)I" } : Jvm.MethodName)) ∈ lw_all := lw_g (lw_at lw_m2 191 rfl) rfl
theorem q514 : (Jvm.Cond.code ({ cls := "FavourTown$Part", name := "in", desc := "(LFavourTown$Scene;)I" } : Jvm.MethodName) prog_12_method_2_code (2 : Nat) (Option.some Jvm.ClassFile.FieldType.int)) ∈ lw_all := lw_g (lw_at lw_m2 192 rfl) rfl
theorem q515 : (Jvm.Cond.methodLink "FavourTown$Part" (17 : Nat) ({ cls := "FavourTown$Scene", name := "of", desc := "(LFavourTown$Fact;)I" } : Jvm.MethodName)) ∈ lw_all := lw_g (lw_at lw_m2 193 rfl) rfl
theorem q700 : (Jvm.Cond.selects "FavourTown$Part" ({ cls := "java/lang/Object", name := "getClass", desc := "()Ljava/lang/Class;" } : Jvm.MethodName) ({ cls := "java/lang/Object", name := "getClass", desc := "()Ljava/lang/Class;" } : Jvm.MethodName)) ∈ lw_all := lw_g (lw_at lw_m3 138 rfl) rfl
theorem q1466 : (Jvm.Cond.instantiable "FavourTown$Part" (2 : Nat)) ∈ lw_all := lw_g (lw_at lw_m6 184 rfl) rfl
theorem q1468 : (Jvm.Cond.instanceMethod ({ cls := "FavourTown$Part", name := "<init>", desc := "(ILFavourTown$Fact;)V" } : Jvm.MethodName)) ∈ lw_all := lw_g (lw_at lw_m6 186 rfl) rfl
theorem q1469 : (Jvm.Cond.code ({ cls := "FavourTown$Part", name := "<init>", desc := "(ILFavourTown$Fact;)V" } : Jvm.MethodName) prog_12_method_1_code (3 : Nat) (Option.none : Option Jvm.ClassFile.FieldType)) ∈ lw_all := lw_g (lw_at lw_m6 187 rfl) rfl
theorem q1470 : (Jvm.Cond.methodLink "FavourTown$Part" (1 : Nat) ({ cls := "java/lang/Object", name := "<init>", desc := "()V" } : Jvm.MethodName)) ∈ lw_all := lw_g (lw_at lw_m6 188 rfl) rfl
theorem q1471 : (Jvm.Cond.fieldLink "FavourTown$Part" (7 : Nat) "FavourTown$Part" "n" "I") ∈ lw_all := lw_g (lw_at lw_m6 189 rfl) rfl
theorem q1472 : (Jvm.Cond.fieldLink "FavourTown$Part" (13 : Nat) "FavourTown$Part" "fact" "LFavourTown$Fact;") ∈ lw_all := lw_g (lw_at lw_m6 190 rfl) rfl
theorem q1473 : (Jvm.Cond.laysFinal "FavourTown$Part" "FavourTown$Part" "n" "I") ∈ lw_all := lw_g (lw_at lw_m6 191 rfl) rfl
theorem q1474 : (Jvm.Cond.soleField "FavourTown$Part" "n") ∈ lw_all := lw_g (lw_at lw_m6 192 rfl) rfl
theorem q1475 : (Jvm.Cond.laysFinal "FavourTown$Part" "FavourTown$Part" "fact" "LFavourTown$Fact;") ∈ lw_all := lw_g (lw_at lw_m6 193 rfl) rfl
theorem q1476 : (Jvm.Cond.soleField "FavourTown$Part" "fact") ∈ lw_all := lw_g (lw_at lw_m6 194 rfl) rfl
theorem q1477 : (Jvm.Cond.superclass "FavourTown$Part" "java/lang/Object") ∈ lw_all := lw_g (lw_at lw_m6 195 rfl) rfl
theorem q2365 : (Jvm.Cond.castable "FavourTown$Part" "java/lang/Object") ∈ lw_tbl := lw_at lw_m10 123 rfl
theorem in_X18 : ∀ w ∈ wsX180, w ∈ lw_all := lw_in wsX180 [1473, 1475] (by decide +kernel) (by decide +kernel)
/-! FavourTown$Fact -/
set_option maxRecDepth 100000
def RX19 : String := "FavourTown$Fact"
abbrev cX19_of : ByteArray := prog_4_method_4_code
def yX19_of : MethodName := ⟨RX19, "of", "(Ljava/lang/String;)LFavourTown$Fact;"⟩
def dkwX19_of_1 : List UInt8 := [42, 182, 0, 49, 153, 0, 6, 25, 4, 176, 132, 3, 1, 167, 255, 228, 1, 176]
abbrev dktX19_of_1 : List UInt8 := dkwX19_of_1 ++ []
def dkwX19_of_0 : List UInt8 := [184, 0, 45, 76, 43, 190, 61, 3, 62, 29, 28, 162, 0, 29, 43, 29, 50, 58, 4, 25, 4, 180, 0, 41]
abbrev dktX19_of_0 : List UInt8 := dkwX19_of_0 ++ dktX19_of_1
theorem dksX19_of_0 : cX19_of.data.toList.drop 0 = dktX19_of_0 := by decide +kernel
theorem dksX19_of_1 : cX19_of.data.toList.drop 24 = dktX19_of_1 := dk_seg dksX19_of_0 24 rfl rfl
theorem dX19_of_0 : decode cX19_of 0 = .ok (.invokestatic 45, 3) := dk_184 0 45 (dk_at dksX19_of_0 0 rfl rfl)
theorem dX19_of_3 : decode cX19_of 3 = .ok (.astore_n 1, 1) := dk_76 (dk_at dksX19_of_0 3 rfl rfl)
theorem dX19_of_4 : decode cX19_of 4 = .ok (.aload_n 1, 1) := dk_43 (dk_at dksX19_of_0 4 rfl rfl)
theorem dX19_of_5 : decode cX19_of 5 = .ok (.arraylength, 1) := dk_190 (dk_at dksX19_of_0 5 rfl rfl)
theorem dX19_of_6 : decode cX19_of 6 = .ok (.istore_n 2, 1) := dk_61 (dk_at dksX19_of_0 6 rfl rfl)
theorem dX19_of_7 : decode cX19_of 7 = .ok (.iconst 0, 1) := dk_3 (dk_at dksX19_of_0 7 rfl rfl)
theorem dX19_of_8 : decode cX19_of 8 = .ok (.istore_n 3, 1) := dk_62 (dk_at dksX19_of_0 8 rfl rfl)
theorem dX19_of_9 : decode cX19_of 9 = .ok (.iload_n 3, 1) := dk_29 (dk_at dksX19_of_0 9 rfl rfl)
theorem dX19_of_10 : decode cX19_of 10 = .ok (.iload_n 2, 1) := dk_28 (dk_at dksX19_of_0 10 rfl rfl)
theorem dX19_of_11 : decode cX19_of 11 = .ok (.if_icmp .ge 29, 3) := dk_162 0 29 (dk_at dksX19_of_0 11 rfl rfl)
theorem dX19_of_14 : decode cX19_of 14 = .ok (.aload_n 1, 1) := dk_43 (dk_at dksX19_of_0 14 rfl rfl)
theorem dX19_of_15 : decode cX19_of 15 = .ok (.iload_n 3, 1) := dk_29 (dk_at dksX19_of_0 15 rfl rfl)
theorem dX19_of_16 : decode cX19_of 16 = .ok (.aaload, 1) := dk_50 (dk_at dksX19_of_0 16 rfl rfl)
theorem dX19_of_17 : decode cX19_of 17 = .ok (.astore 4, 2) := dk_58 4 (dk_at dksX19_of_0 17 rfl rfl)
theorem dX19_of_19 : decode cX19_of 19 = .ok (.aload 4, 2) := dk_25 4 (dk_at dksX19_of_0 19 rfl rfl)
theorem dX19_of_21 : decode cX19_of 21 = .ok (.getfield 41, 3) := dk_180 0 41 (dk_at dksX19_of_0 21 rfl rfl)
theorem dX19_of_24 : decode cX19_of 24 = .ok (.aload_n 0, 1) := dk_42 (dk_at dksX19_of_1 0 rfl rfl)
theorem dX19_of_25 : decode cX19_of 25 = .ok (.invokevirtual 49, 3) := dk_182 0 49 (dk_at dksX19_of_1 1 rfl rfl)
theorem dX19_of_28 : decode cX19_of 28 = .ok (.ifCond .eq 6, 3) := dk_153 0 6 (dk_at dksX19_of_1 4 rfl rfl)
theorem dX19_of_31 : decode cX19_of 31 = .ok (.aload 4, 2) := dk_25 4 (dk_at dksX19_of_1 7 rfl rfl)
theorem dX19_of_33 : decode cX19_of 33 = .ok (.areturn, 1) := dk_176 (dk_at dksX19_of_1 9 rfl rfl)
theorem dX19_of_34 : decode cX19_of 34 = .ok (.iinc 3 1, 3) := dk_132 3 1 (dk_at dksX19_of_1 10 rfl rfl)
theorem dX19_of_37 : decode cX19_of 37 = .ok (.goto (-28), 3) := dk_167 255 228 (dk_at dksX19_of_1 13 rfl rfl)
theorem dX19_of_40 : decode cX19_of 40 = .ok (.aconst_null, 1) := dk_1 (dk_at dksX19_of_1 16 rfl rfl)
theorem dX19_of_41 : decode cX19_of 41 = .ok (.areturn, 1) := dk_176 (dk_at dksX19_of_1 17 rfl rfl)
abbrev cX19_values : ByteArray := prog_4_method_1_code
def yX19_values : MethodName := ⟨RX19, "values", "()[LFavourTown$Fact;"⟩
def dkwX19_values_0 : List UInt8 := [178, 0, 22, 182, 0, 26, 192, 0, 27, 176]
abbrev dktX19_values_0 : List UInt8 := dkwX19_values_0 ++ []
theorem dksX19_values_0 : cX19_values.data.toList.drop 0 = dktX19_values_0 := by decide +kernel
theorem dX19_values_0 : decode cX19_values 0 = .ok (.getstatic 22, 3) := dk_178 0 22 (dk_at dksX19_values_0 0 rfl rfl)
theorem dX19_values_3 : decode cX19_values 3 = .ok (.invokevirtual 26, 3) := dk_182 0 26 (dk_at dksX19_values_0 3 rfl rfl)
theorem dX19_values_6 : decode cX19_values 6 = .ok (.checkcast 27, 3) := dk_192 0 27 (dk_at dksX19_values_0 6 rfl rfl)
theorem dX19_values_9 : decode cX19_values 9 = .ok (.areturn, 1) := dk_176 (dk_at dksX19_values_0 9 rfl rfl)
theorem q124 : (Jvm.Cond.initialized "FavourTown$Fact") ∈ lw_all := lw_g (lw_at lw_m1 42 rfl) rfl
theorem q520 : (Jvm.Cond.sameMethod "FavourTown$Fact" "java/lang/Enum" "ordinal" "()I") ∈ lw_all := lw_g (lw_at lw_m2 198 rfl) rfl
theorem q522 : (Jvm.Cond.selects "FavourTown$Fact" ({ cls := "FavourTown$Fact", name := "ordinal", desc := "()I" } : Jvm.MethodName) ({ cls := "java/lang/Enum", name := "ordinal", desc := "()I" } : Jvm.MethodName)) ∈ lw_all := lw_g (lw_at lw_m2 200 rfl) rfl
theorem q692 : (Jvm.Cond.selects "FavourTown$Fact" ({ cls := "java/lang/Object", name := "getClass", desc := "()Ljava/lang/Class;" } : Jvm.MethodName) ({ cls := "java/lang/Object", name := "getClass", desc := "()Ljava/lang/Class;" } : Jvm.MethodName)) ∈ lw_all := lw_g (lw_at lw_m3 130 rfl) rfl
theorem q1479 : (Jvm.Cond.static ({ cls := "FavourTown$Fact", name := "of", desc := "(Ljava/lang/String;)LFavourTown$Fact;" } : Jvm.MethodName)) ∈ lw_all := lw_g (lw_at lw_m6 197 rfl) rfl
theorem q1480 : (Jvm.Cond.code ({ cls := "FavourTown$Fact", name := "of", desc := "(Ljava/lang/String;)LFavourTown$Fact;" } : Jvm.MethodName) prog_4_method_4_code (5 : Nat) (Option.some (Jvm.ClassFile.FieldType.object "FavourTown$Fact"))) ∈ lw_all := lw_g (lw_at lw_m6 198 rfl) rfl
theorem q1481 : (Jvm.Cond.methodLink "FavourTown$Fact" (45 : Nat) ({ cls := "FavourTown$Fact", name := "values", desc := "()[LFavourTown$Fact;" } : Jvm.MethodName)) ∈ lw_all := lw_g (lw_at lw_m6 199 rfl) rfl
theorem q1482 : (Jvm.Cond.static ({ cls := "FavourTown$Fact", name := "values", desc := "()[LFavourTown$Fact;" } : Jvm.MethodName)) ∈ lw_all := lw_g (lw_at lw_m6 200 rfl) rfl
theorem q1483 : (Jvm.Cond.code ({ cls := "FavourTown$Fact", name := "values", desc := "()[LFavourTown$Fact;" } : Jvm.MethodName) prog_4_method_1_code (0 : Nat) (Option.some (Jvm.ClassFile.FieldType.array (Jvm.ClassFile.FieldType.object "FavourTown$Fact")))) ∈ lw_all := lw_g (lw_at lw_m6 201 rfl) rfl
theorem q1484 : (Jvm.Cond.fieldLink "FavourTown$Fact" (22 : Nat) "FavourTown$Fact" "$VALUES" "[LFavourTown$Fact;") ∈ lw_all := lw_g (lw_at lw_m6 202 rfl) rfl
theorem q1485 : (Jvm.Cond.laysStatic "FavourTown$Fact" "$VALUES" "[LFavourTown$Fact;") ∈ lw_tbl := lw_at lw_m6 203 rfl
theorem q1486 : (Jvm.Cond.methodLink "FavourTown$Fact" (26 : Nat) ({ cls := "[LFavourTown$Fact;", name := "clone", desc := "()Ljava/lang/Object;" } : Jvm.MethodName)) ∈ lw_all := lw_g (lw_at lw_m6 204 rfl) rfl
theorem q1491 : (Jvm.Cond.classLink "FavourTown$Fact" (27 : Nat) "[LFavourTown$Fact;") ∈ lw_all := lw_g (lw_at lw_m6 209 rfl) rfl
theorem q1492 : (Jvm.Cond.methodLink "FavourTown$Fact" (49 : Nat) ({ cls := "java/lang/String", name := "equals", desc := "(Ljava/lang/Object;)Z" } : Jvm.MethodName)) ∈ lw_all := lw_g (lw_at lw_m6 210 rfl) rfl
theorem q2340 : (Jvm.Cond.castable "FavourTown$Fact" "java/lang/Object") ∈ lw_tbl := lw_at lw_m10 98 rfl
theorem q2383 : (Jvm.Cond.fieldLink "FavourTown$Fact" (41 : Nat) "FavourTown$Fact" "told" "Ljava/lang/String;") ∈ lw_all := lw_g (lw_at lw_m10 141 rfl) rfl
theorem q2384 : (Jvm.Cond.laysStatic "FavourTown$Fact" "WORTH" "LFavourTown$Fact;") ∈ lw_tbl := lw_at lw_m10 142 rfl
theorem q2385 : (Jvm.Cond.laysStatic "FavourTown$Fact" "AMOUNT" "LFavourTown$Fact;") ∈ lw_tbl := lw_at lw_m10 143 rfl
theorem q2386 : (Jvm.Cond.laysStatic "FavourTown$Fact" "HANDS" "LFavourTown$Fact;") ∈ lw_tbl := lw_at lw_m10 144 rfl
theorem q2387 : (Jvm.Cond.laysStatic "FavourTown$Fact" "LEFT" "LFavourTown$Fact;") ∈ lw_tbl := lw_at lw_m10 145 rfl
theorem q2388 : (Jvm.Cond.laysStatic "FavourTown$Fact" "OWED" "LFavourTown$Fact;") ∈ lw_tbl := lw_at lw_m10 146 rfl
theorem q2389 : (Jvm.Cond.laysStatic "FavourTown$Fact" "DEBT" "LFavourTown$Fact;") ∈ lw_tbl := lw_at lw_m10 147 rfl
theorem q2390 : (Jvm.Cond.stringRef "FavourTown$Fact" (56 : Nat) "worth") ∈ lw_tbl := lw_at lw_m10 148 rfl
theorem q2391 : (Jvm.Cond.stringRef "FavourTown$Fact" (62 : Nat) "amount") ∈ lw_tbl := lw_at lw_m10 149 rfl
theorem q2392 : (Jvm.Cond.stringRef "FavourTown$Fact" (65 : Nat) "hands") ∈ lw_tbl := lw_at lw_m10 150 rfl
theorem q2393 : (Jvm.Cond.stringRef "FavourTown$Fact" (68 : Nat) "left") ∈ lw_tbl := lw_at lw_m10 151 rfl
theorem q2394 : (Jvm.Cond.stringRef "FavourTown$Fact" (71 : Nat) "owed") ∈ lw_tbl := lw_at lw_m10 152 rfl
theorem q2395 : (Jvm.Cond.stringRef "FavourTown$Fact" (74 : Nat) "debt") ∈ lw_tbl := lw_at lw_m10 153 rfl
/-! FavourTown$Less -/
set_option maxRecDepth 100000
def RX20 : String := "FavourTown$Less"
def TX20 : u_T := fun k => match k with
  | 0 => ("FavourTown$Less", "a", "LFavourTown$Sum;", true)
  | _ => ("FavourTown$Less", "b", "LFavourTown$Sum;", true)
def tyX20 : Nat → FieldType := fun k => match k with
  | 0 => .object "FavourTown$Sum"
  | _ => .object "FavourTown$Sum"
abbrev wsX200 : List Cond := u_ws RX20 TX20 2
theorem nmX20 : ∀ a, a < 2 → ∀ b, b < 2 → a ≠ b → (TX20 a).2.1 ≠ (TX20 b).2.1 := by decide +kernel
theorem tyX20_ok : ∀ k, k < 2 → parseFieldDescriptor (TX20 k).2.2.1 = some (tyX20 k) := by decide +kernel
abbrev cX20_holds : ByteArray := prog_8_method_2_code
def yX20_holds : MethodName := ⟨RX20, "holds", "(LFavourTown$Scene;)Z"⟩
def dkwX20_holds_1 : List UInt8 := [172]
abbrev dktX20_holds_1 : List UInt8 := dkwX20_holds_1 ++ []
def dkwX20_holds_0 : List UInt8 := [42, 180, 0, 7, 43, 182, 0, 16, 42, 180, 0, 13, 43, 182, 0, 16, 162, 0, 7, 4, 167, 0, 4, 3]
abbrev dktX20_holds_0 : List UInt8 := dkwX20_holds_0 ++ dktX20_holds_1
theorem dksX20_holds_0 : cX20_holds.data.toList.drop 0 = dktX20_holds_0 := by decide +kernel
theorem dksX20_holds_1 : cX20_holds.data.toList.drop 24 = dktX20_holds_1 := dk_seg dksX20_holds_0 24 rfl rfl
theorem dX20_holds_0 : decode cX20_holds 0 = .ok (.aload_n 0, 1) := dk_42 (dk_at dksX20_holds_0 0 rfl rfl)
theorem dX20_holds_1 : decode cX20_holds 1 = .ok (.getfield 7, 3) := dk_180 0 7 (dk_at dksX20_holds_0 1 rfl rfl)
theorem dX20_holds_4 : decode cX20_holds 4 = .ok (.aload_n 1, 1) := dk_43 (dk_at dksX20_holds_0 4 rfl rfl)
theorem dX20_holds_5 : decode cX20_holds 5 = .ok (.invokevirtual 16, 3) := dk_182 0 16 (dk_at dksX20_holds_0 5 rfl rfl)
theorem dX20_holds_8 : decode cX20_holds 8 = .ok (.aload_n 0, 1) := dk_42 (dk_at dksX20_holds_0 8 rfl rfl)
theorem dX20_holds_9 : decode cX20_holds 9 = .ok (.getfield 13, 3) := dk_180 0 13 (dk_at dksX20_holds_0 9 rfl rfl)
theorem dX20_holds_12 : decode cX20_holds 12 = .ok (.aload_n 1, 1) := dk_43 (dk_at dksX20_holds_0 12 rfl rfl)
theorem dX20_holds_13 : decode cX20_holds 13 = .ok (.invokevirtual 16, 3) := dk_182 0 16 (dk_at dksX20_holds_0 13 rfl rfl)
theorem dX20_holds_16 : decode cX20_holds 16 = .ok (.if_icmp .ge 7, 3) := dk_162 0 7 (dk_at dksX20_holds_0 16 rfl rfl)
theorem dX20_holds_19 : decode cX20_holds 19 = .ok (.iconst 1, 1) := dk_4 (dk_at dksX20_holds_0 19 rfl rfl)
theorem dX20_holds_20 : decode cX20_holds 20 = .ok (.goto 4, 3) := dk_167 0 4 (dk_at dksX20_holds_0 20 rfl rfl)
theorem dX20_holds_23 : decode cX20_holds 23 = .ok (.iconst 0, 1) := dk_3 (dk_at dksX20_holds_0 23 rfl rfl)
theorem dX20_holds_24 : decode cX20_holds 24 = .ok (.ireturn, 1) := dk_172 (dk_at dksX20_holds_1 0 rfl rfl)
abbrev cX20_init : ByteArray := prog_8_method_1_code
def yX20_init : MethodName := ⟨RX20, "<init>", "(LFavourTown$Sum;LFavourTown$Sum;)V"⟩
def dkwX20_init_0 : List UInt8 := [42, 183, 0, 1, 42, 43, 181, 0, 7, 42, 44, 181, 0, 13, 177]
abbrev dktX20_init_0 : List UInt8 := dkwX20_init_0 ++ []
theorem dksX20_init_0 : cX20_init.data.toList.drop 0 = dktX20_init_0 := by decide +kernel
theorem dX20_init_0 : decode cX20_init 0 = .ok (.aload_n 0, 1) := dk_42 (dk_at dksX20_init_0 0 rfl rfl)
theorem dX20_init_1 : decode cX20_init 1 = .ok (.invokespecial 1, 3) := dk_183 0 1 (dk_at dksX20_init_0 1 rfl rfl)
theorem dX20_init_4 : decode cX20_init 4 = .ok (.aload_n 0, 1) := dk_42 (dk_at dksX20_init_0 4 rfl rfl)
theorem dX20_init_5 : decode cX20_init 5 = .ok (.aload_n 1, 1) := dk_43 (dk_at dksX20_init_0 5 rfl rfl)
theorem dX20_init_6 : decode cX20_init 6 = .ok (.putfield 7, 3) := dk_181 0 7 (dk_at dksX20_init_0 6 rfl rfl)
theorem dX20_init_9 : decode cX20_init 9 = .ok (.aload_n 0, 1) := dk_42 (dk_at dksX20_init_0 9 rfl rfl)
theorem dX20_init_10 : decode cX20_init 10 = .ok (.aload_n 2, 1) := dk_44 (dk_at dksX20_init_0 10 rfl rfl)
theorem dX20_init_11 : decode cX20_init 11 = .ok (.putfield 13, 3) := dk_181 0 13 (dk_at dksX20_init_0 11 rfl rfl)
theorem dX20_init_14 : decode cX20_init 14 = .ok (.return_, 1) := dk_177 (dk_at dksX20_init_0 14 rfl rfl)
theorem q125 : (Jvm.Cond.initialized "FavourTown$Less") ∈ lw_all := lw_g (lw_at lw_m1 43 rfl) rfl
theorem q498 : (Jvm.Cond.castable "FavourTown$Less" "FavourTown$Cond") ∈ lw_tbl := lw_at lw_m2 176 rfl
theorem q499 : (Jvm.Cond.selects "FavourTown$Less" ({ cls := "FavourTown$Cond", name := "holds", desc := "(LFavourTown$Scene;)Z" } : Jvm.MethodName) ({ cls := "FavourTown$Less", name := "holds", desc := "(LFavourTown$Scene;)Z" } : Jvm.MethodName)) ∈ lw_all := lw_g (lw_at lw_m2 177 rfl) rfl
theorem q500 : (Jvm.Cond.unhidden "FavourTown$Less" "holds" "(LFavourTown$Scene;)Z") ∈ lw_tbl := lw_at lw_m2 178 rfl
theorem q501 : (Jvm.Cond.instanceMethod ({ cls := "FavourTown$Less", name := "holds", desc := "(LFavourTown$Scene;)Z" } : Jvm.MethodName)) ∈ lw_all := lw_g (lw_at lw_m2 179 rfl) rfl
theorem q502 : (Jvm.Cond.publicMethod ({ cls := "FavourTown$Less", name := "holds", desc := "(LFavourTown$Scene;)Z" } : Jvm.MethodName)) ∈ lw_tbl := lw_at lw_m2 180 rfl
theorem q503 : (Jvm.Cond.code ({ cls := "FavourTown$Less", name := "holds", desc := "(LFavourTown$Scene;)Z" } : Jvm.MethodName) prog_8_method_2_code (2 : Nat) (Option.some Jvm.ClassFile.FieldType.boolean)) ∈ lw_all := lw_g (lw_at lw_m2 181 rfl) rfl
theorem q504 : (Jvm.Cond.methodLink "FavourTown$Less" (16 : Nat) ({ cls := "FavourTown$Sum", name := "in", desc := "(LFavourTown$Scene;)I" } : Jvm.MethodName)) ∈ lw_all := lw_g (lw_at lw_m2 182 rfl) rfl
theorem q696 : (Jvm.Cond.selects "FavourTown$Less" ({ cls := "java/lang/Object", name := "getClass", desc := "()Ljava/lang/Class;" } : Jvm.MethodName) ({ cls := "java/lang/Object", name := "getClass", desc := "()Ljava/lang/Class;" } : Jvm.MethodName)) ∈ lw_all := lw_g (lw_at lw_m3 134 rfl) rfl
theorem q1494 : (Jvm.Cond.instantiable "FavourTown$Less" (2 : Nat)) ∈ lw_all := lw_g (lw_at lw_m6 212 rfl) rfl
theorem q1496 : (Jvm.Cond.instanceMethod ({ cls := "FavourTown$Less", name := "<init>", desc := "(LFavourTown$Sum;LFavourTown$Sum;)V" } : Jvm.MethodName)) ∈ lw_all := lw_g (lw_at lw_m6 214 rfl) rfl
theorem q1497 : (Jvm.Cond.code ({ cls := "FavourTown$Less", name := "<init>", desc := "(LFavourTown$Sum;LFavourTown$Sum;)V" } : Jvm.MethodName) prog_8_method_1_code (3 : Nat) (Option.none : Option Jvm.ClassFile.FieldType)) ∈ lw_all := lw_g (lw_at lw_m6 215 rfl) rfl
theorem q1498 : (Jvm.Cond.methodLink "FavourTown$Less" (1 : Nat) ({ cls := "java/lang/Object", name := "<init>", desc := "()V" } : Jvm.MethodName)) ∈ lw_all := lw_g (lw_at lw_m6 216 rfl) rfl
theorem q1499 : (Jvm.Cond.fieldLink "FavourTown$Less" (7 : Nat) "FavourTown$Less" "a" "LFavourTown$Sum;") ∈ lw_all := lw_g (lw_at lw_m6 217 rfl) rfl
theorem q1500 : (Jvm.Cond.fieldLink "FavourTown$Less" (13 : Nat) "FavourTown$Less" "b" "LFavourTown$Sum;") ∈ lw_all := lw_g (lw_at lw_m6 218 rfl) rfl
theorem q1501 : (Jvm.Cond.laysFinal "FavourTown$Less" "FavourTown$Less" "a" "LFavourTown$Sum;") ∈ lw_all := lw_g (lw_at lw_m6 219 rfl) rfl
theorem q1502 : (Jvm.Cond.soleField "FavourTown$Less" "a") ∈ lw_all := lw_g (lw_at lw_m6 220 rfl) rfl
theorem q1503 : (Jvm.Cond.laysFinal "FavourTown$Less" "FavourTown$Less" "b" "LFavourTown$Sum;") ∈ lw_all := lw_g (lw_at lw_m6 221 rfl) rfl
theorem q1504 : (Jvm.Cond.soleField "FavourTown$Less" "b") ∈ lw_all := lw_g (lw_at lw_m6 222 rfl) rfl
theorem q1505 : (Jvm.Cond.superclass "FavourTown$Less" "java/lang/Object") ∈ lw_all := lw_g (lw_at lw_m6 223 rfl) rfl
theorem q2366 : (Jvm.Cond.castable "FavourTown$Less" "java/lang/Object") ∈ lw_tbl := lw_at lw_m10 124 rfl
theorem in_X20 : ∀ w ∈ wsX200, w ∈ lw_all := lw_in wsX200 [1501, 1503] (by decide +kernel) (by decide +kernel)
