/-! FavourTownLaw -/
set_option maxRecDepth 100000
def RX0 : String := "FavourTownLaw"
abbrev cX0_town : ByteArray := method_3_code
def yX0_town : MethodName := ⟨RX0, "town", "(LFavourTown;[J)I"⟩
def dkwX0_town_0 : List UInt8 := [43, 3, 42, 182, 0, 7, 133, 80, 167, 0, 9, 77, 4, 172, 77, 5, 172, 3, 172]
abbrev dktX0_town_0 : List UInt8 := dkwX0_town_0 ++ []
theorem dksX0_town_0 : cX0_town.data.toList.drop 0 = dktX0_town_0 := by decide +kernel
theorem dX0_town_0 : decode cX0_town 0 = .ok (.aload_n 1, 1) := dk_43 (dk_at dksX0_town_0 0 rfl rfl)
theorem dX0_town_1 : decode cX0_town 1 = .ok (.iconst 0, 1) := dk_3 (dk_at dksX0_town_0 1 rfl rfl)
theorem dX0_town_2 : decode cX0_town 2 = .ok (.aload_n 0, 1) := dk_42 (dk_at dksX0_town_0 2 rfl rfl)
theorem dX0_town_3 : decode cX0_town 3 = .ok (.invokevirtual 7, 3) := dk_182 0 7 (dk_at dksX0_town_0 3 rfl rfl)
theorem dX0_town_6 : decode cX0_town 6 = .ok (.i2l, 1) := dk_133 (dk_at dksX0_town_0 6 rfl rfl)
theorem dX0_town_7 : decode cX0_town 7 = .ok (.lastore, 1) := dk_80 (dk_at dksX0_town_0 7 rfl rfl)
theorem dX0_town_8 : decode cX0_town 8 = .ok (.goto 9, 3) := dk_167 0 9 (dk_at dksX0_town_0 8 rfl rfl)
theorem dX0_town_11 : decode cX0_town 11 = .ok (.astore_n 2, 1) := dk_77 (dk_at dksX0_town_0 11 rfl rfl)
theorem dX0_town_12 : decode cX0_town 12 = .ok (.iconst 1, 1) := dk_4 (dk_at dksX0_town_0 12 rfl rfl)
theorem dX0_town_13 : decode cX0_town 13 = .ok (.ireturn, 1) := dk_172 (dk_at dksX0_town_0 13 rfl rfl)
theorem dX0_town_14 : decode cX0_town 14 = .ok (.astore_n 2, 1) := dk_77 (dk_at dksX0_town_0 14 rfl rfl)
theorem dX0_town_15 : decode cX0_town 15 = .ok (.iconst 2, 1) := dk_5 (dk_at dksX0_town_0 15 rfl rfl)
theorem dX0_town_16 : decode cX0_town 16 = .ok (.ireturn, 1) := dk_172 (dk_at dksX0_town_0 16 rfl rfl)
theorem dX0_town_17 : decode cX0_town 17 = .ok (.iconst 0, 1) := dk_3 (dk_at dksX0_town_0 17 rfl rfl)
theorem dX0_town_18 : decode cX0_town 18 = .ok (.ireturn, 1) := dk_172 (dk_at dksX0_town_0 18 rfl rfl)
abbrev cX0_temper : ByteArray := method_4_code
def yX0_temper : MethodName := ⟨RX0, "temper", "(LFavourTown;[J)I"⟩
def dkwX0_temper_0 : List UInt8 := [43, 3, 42, 182, 0, 17, 133, 80, 167, 0, 9, 77, 4, 172, 77, 5, 172, 3, 172]
abbrev dktX0_temper_0 : List UInt8 := dkwX0_temper_0 ++ []
theorem dksX0_temper_0 : cX0_temper.data.toList.drop 0 = dktX0_temper_0 := by decide +kernel
theorem dX0_temper_0 : decode cX0_temper 0 = .ok (.aload_n 1, 1) := dk_43 (dk_at dksX0_temper_0 0 rfl rfl)
theorem dX0_temper_1 : decode cX0_temper 1 = .ok (.iconst 0, 1) := dk_3 (dk_at dksX0_temper_0 1 rfl rfl)
theorem dX0_temper_2 : decode cX0_temper 2 = .ok (.aload_n 0, 1) := dk_42 (dk_at dksX0_temper_0 2 rfl rfl)
theorem dX0_temper_3 : decode cX0_temper 3 = .ok (.invokevirtual 17, 3) := dk_182 0 17 (dk_at dksX0_temper_0 3 rfl rfl)
theorem dX0_temper_6 : decode cX0_temper 6 = .ok (.i2l, 1) := dk_133 (dk_at dksX0_temper_0 6 rfl rfl)
theorem dX0_temper_7 : decode cX0_temper 7 = .ok (.lastore, 1) := dk_80 (dk_at dksX0_temper_0 7 rfl rfl)
theorem dX0_temper_8 : decode cX0_temper 8 = .ok (.goto 9, 3) := dk_167 0 9 (dk_at dksX0_temper_0 8 rfl rfl)
theorem dX0_temper_11 : decode cX0_temper 11 = .ok (.astore_n 2, 1) := dk_77 (dk_at dksX0_temper_0 11 rfl rfl)
theorem dX0_temper_12 : decode cX0_temper 12 = .ok (.iconst 1, 1) := dk_4 (dk_at dksX0_temper_0 12 rfl rfl)
theorem dX0_temper_13 : decode cX0_temper 13 = .ok (.ireturn, 1) := dk_172 (dk_at dksX0_temper_0 13 rfl rfl)
theorem dX0_temper_14 : decode cX0_temper 14 = .ok (.astore_n 2, 1) := dk_77 (dk_at dksX0_temper_0 14 rfl rfl)
theorem dX0_temper_15 : decode cX0_temper 15 = .ok (.iconst 2, 1) := dk_5 (dk_at dksX0_temper_0 15 rfl rfl)
theorem dX0_temper_16 : decode cX0_temper 16 = .ok (.ireturn, 1) := dk_172 (dk_at dksX0_temper_0 16 rfl rfl)
theorem dX0_temper_17 : decode cX0_temper 17 = .ok (.iconst 0, 1) := dk_3 (dk_at dksX0_temper_0 17 rfl rfl)
theorem dX0_temper_18 : decode cX0_temper 18 = .ok (.ireturn, 1) := dk_172 (dk_at dksX0_temper_0 18 rfl rfl)
abbrev cX0_has : ByteArray := method_5_code
def yX0_has : MethodName := ⟨RX0, "has", "(LFavourTown;II[J)I"⟩
def dkwX0_has_0 : List UInt8 := [45, 3, 42, 27, 28, 182, 0, 20, 133, 80, 167, 0, 7, 58, 4, 4, 172, 3, 172]
abbrev dktX0_has_0 : List UInt8 := dkwX0_has_0 ++ []
theorem dksX0_has_0 : cX0_has.data.toList.drop 0 = dktX0_has_0 := by decide +kernel
theorem dX0_has_0 : decode cX0_has 0 = .ok (.aload_n 3, 1) := dk_45 (dk_at dksX0_has_0 0 rfl rfl)
theorem dX0_has_1 : decode cX0_has 1 = .ok (.iconst 0, 1) := dk_3 (dk_at dksX0_has_0 1 rfl rfl)
theorem dX0_has_2 : decode cX0_has 2 = .ok (.aload_n 0, 1) := dk_42 (dk_at dksX0_has_0 2 rfl rfl)
theorem dX0_has_3 : decode cX0_has 3 = .ok (.iload_n 1, 1) := dk_27 (dk_at dksX0_has_0 3 rfl rfl)
theorem dX0_has_4 : decode cX0_has 4 = .ok (.iload_n 2, 1) := dk_28 (dk_at dksX0_has_0 4 rfl rfl)
theorem dX0_has_5 : decode cX0_has 5 = .ok (.invokevirtual 20, 3) := dk_182 0 20 (dk_at dksX0_has_0 5 rfl rfl)
theorem dX0_has_8 : decode cX0_has 8 = .ok (.i2l, 1) := dk_133 (dk_at dksX0_has_0 8 rfl rfl)
theorem dX0_has_9 : decode cX0_has 9 = .ok (.lastore, 1) := dk_80 (dk_at dksX0_has_0 9 rfl rfl)
theorem dX0_has_10 : decode cX0_has 10 = .ok (.goto 7, 3) := dk_167 0 7 (dk_at dksX0_has_0 10 rfl rfl)
theorem dX0_has_13 : decode cX0_has 13 = .ok (.astore 4, 2) := dk_58 4 (dk_at dksX0_has_0 13 rfl rfl)
theorem dX0_has_15 : decode cX0_has 15 = .ok (.iconst 1, 1) := dk_4 (dk_at dksX0_has_0 15 rfl rfl)
theorem dX0_has_16 : decode cX0_has 16 = .ok (.ireturn, 1) := dk_172 (dk_at dksX0_has_0 16 rfl rfl)
theorem dX0_has_17 : decode cX0_has 17 = .ok (.iconst 0, 1) := dk_3 (dk_at dksX0_has_0 17 rfl rfl)
theorem dX0_has_18 : decode cX0_has 18 = .ok (.ireturn, 1) := dk_172 (dk_at dksX0_has_0 18 rfl rfl)
abbrev cX0_give : ByteArray := method_6_code
def yX0_give : MethodName := ⟨RX0, "give", "(LFavourTown;IIIIZ[J)I"⟩
def dkwX0_give_1 : List UInt8 := [58, 7, 5, 172, 3, 172]
abbrev dktX0_give_1 : List UInt8 := dkwX0_give_1 ++ []
def dkwX0_give_0 : List UInt8 := [25, 6, 3, 42, 27, 28, 29, 21, 4, 21, 5, 182, 0, 26, 133, 80, 167, 0, 11, 58, 7, 4, 172]
abbrev dktX0_give_0 : List UInt8 := dkwX0_give_0 ++ dktX0_give_1
theorem dksX0_give_0 : cX0_give.data.toList.drop 0 = dktX0_give_0 := by decide +kernel
theorem dksX0_give_1 : cX0_give.data.toList.drop 23 = dktX0_give_1 := dk_seg dksX0_give_0 23 rfl rfl
theorem dX0_give_0 : decode cX0_give 0 = .ok (.aload 6, 2) := dk_25 6 (dk_at dksX0_give_0 0 rfl rfl)
theorem dX0_give_2 : decode cX0_give 2 = .ok (.iconst 0, 1) := dk_3 (dk_at dksX0_give_0 2 rfl rfl)
theorem dX0_give_3 : decode cX0_give 3 = .ok (.aload_n 0, 1) := dk_42 (dk_at dksX0_give_0 3 rfl rfl)
theorem dX0_give_4 : decode cX0_give 4 = .ok (.iload_n 1, 1) := dk_27 (dk_at dksX0_give_0 4 rfl rfl)
theorem dX0_give_5 : decode cX0_give 5 = .ok (.iload_n 2, 1) := dk_28 (dk_at dksX0_give_0 5 rfl rfl)
theorem dX0_give_6 : decode cX0_give 6 = .ok (.iload_n 3, 1) := dk_29 (dk_at dksX0_give_0 6 rfl rfl)
theorem dX0_give_7 : decode cX0_give 7 = .ok (.iload 4, 2) := dk_21 4 (dk_at dksX0_give_0 7 rfl rfl)
theorem dX0_give_9 : decode cX0_give 9 = .ok (.iload 5, 2) := dk_21 5 (dk_at dksX0_give_0 9 rfl rfl)
theorem dX0_give_11 : decode cX0_give 11 = .ok (.invokevirtual 26, 3) := dk_182 0 26 (dk_at dksX0_give_0 11 rfl rfl)
theorem dX0_give_14 : decode cX0_give 14 = .ok (.i2l, 1) := dk_133 (dk_at dksX0_give_0 14 rfl rfl)
theorem dX0_give_15 : decode cX0_give 15 = .ok (.lastore, 1) := dk_80 (dk_at dksX0_give_0 15 rfl rfl)
theorem dX0_give_16 : decode cX0_give 16 = .ok (.goto 11, 3) := dk_167 0 11 (dk_at dksX0_give_0 16 rfl rfl)
theorem dX0_give_19 : decode cX0_give 19 = .ok (.astore 7, 2) := dk_58 7 (dk_at dksX0_give_0 19 rfl rfl)
theorem dX0_give_21 : decode cX0_give 21 = .ok (.iconst 1, 1) := dk_4 (dk_at dksX0_give_0 21 rfl rfl)
theorem dX0_give_22 : decode cX0_give 22 = .ok (.ireturn, 1) := dk_172 (dk_at dksX0_give_0 22 rfl rfl)
theorem dX0_give_23 : decode cX0_give 23 = .ok (.astore 7, 2) := dk_58 7 (dk_at dksX0_give_1 0 rfl rfl)
theorem dX0_give_25 : decode cX0_give 25 = .ok (.iconst 2, 1) := dk_5 (dk_at dksX0_give_1 2 rfl rfl)
theorem dX0_give_26 : decode cX0_give 26 = .ok (.ireturn, 1) := dk_172 (dk_at dksX0_give_1 3 rfl rfl)
theorem dX0_give_27 : decode cX0_give 27 = .ok (.iconst 0, 1) := dk_3 (dk_at dksX0_give_1 4 rfl rfl)
theorem dX0_give_28 : decode cX0_give 28 = .ok (.ireturn, 1) := dk_172 (dk_at dksX0_give_1 5 rfl rfl)
abbrev cX0_pass : ByteArray := method_7_code
def yX0_pass : MethodName := ⟨RX0, "pass", "(LFavourTown;II[J)I"⟩
def dkwX0_pass_0 : List UInt8 := [45, 3, 42, 27, 28, 182, 0, 30, 133, 80, 167, 0, 11, 58, 4, 4, 172, 58, 4, 5, 172, 3, 172]
abbrev dktX0_pass_0 : List UInt8 := dkwX0_pass_0 ++ []
theorem dksX0_pass_0 : cX0_pass.data.toList.drop 0 = dktX0_pass_0 := by decide +kernel
theorem dX0_pass_0 : decode cX0_pass 0 = .ok (.aload_n 3, 1) := dk_45 (dk_at dksX0_pass_0 0 rfl rfl)
theorem dX0_pass_1 : decode cX0_pass 1 = .ok (.iconst 0, 1) := dk_3 (dk_at dksX0_pass_0 1 rfl rfl)
theorem dX0_pass_2 : decode cX0_pass 2 = .ok (.aload_n 0, 1) := dk_42 (dk_at dksX0_pass_0 2 rfl rfl)
theorem dX0_pass_3 : decode cX0_pass 3 = .ok (.iload_n 1, 1) := dk_27 (dk_at dksX0_pass_0 3 rfl rfl)
theorem dX0_pass_4 : decode cX0_pass 4 = .ok (.iload_n 2, 1) := dk_28 (dk_at dksX0_pass_0 4 rfl rfl)
theorem dX0_pass_5 : decode cX0_pass 5 = .ok (.invokevirtual 30, 3) := dk_182 0 30 (dk_at dksX0_pass_0 5 rfl rfl)
theorem dX0_pass_8 : decode cX0_pass 8 = .ok (.i2l, 1) := dk_133 (dk_at dksX0_pass_0 8 rfl rfl)
theorem dX0_pass_9 : decode cX0_pass 9 = .ok (.lastore, 1) := dk_80 (dk_at dksX0_pass_0 9 rfl rfl)
theorem dX0_pass_10 : decode cX0_pass 10 = .ok (.goto 11, 3) := dk_167 0 11 (dk_at dksX0_pass_0 10 rfl rfl)
theorem dX0_pass_13 : decode cX0_pass 13 = .ok (.astore 4, 2) := dk_58 4 (dk_at dksX0_pass_0 13 rfl rfl)
theorem dX0_pass_15 : decode cX0_pass 15 = .ok (.iconst 1, 1) := dk_4 (dk_at dksX0_pass_0 15 rfl rfl)
theorem dX0_pass_16 : decode cX0_pass 16 = .ok (.ireturn, 1) := dk_172 (dk_at dksX0_pass_0 16 rfl rfl)
theorem dX0_pass_17 : decode cX0_pass 17 = .ok (.astore 4, 2) := dk_58 4 (dk_at dksX0_pass_0 17 rfl rfl)
theorem dX0_pass_19 : decode cX0_pass 19 = .ok (.iconst 2, 1) := dk_5 (dk_at dksX0_pass_0 19 rfl rfl)
theorem dX0_pass_20 : decode cX0_pass 20 = .ok (.ireturn, 1) := dk_172 (dk_at dksX0_pass_0 20 rfl rfl)
theorem dX0_pass_21 : decode cX0_pass 21 = .ok (.iconst 0, 1) := dk_3 (dk_at dksX0_pass_0 21 rfl rfl)
theorem dX0_pass_22 : decode cX0_pass 22 = .ok (.ireturn, 1) := dk_172 (dk_at dksX0_pass_0 22 rfl rfl)
abbrev cX0_call : ByteArray := method_8_code
def yX0_call : MethodName := ⟨RX0, "call", "(LFavourTown;I[J)I"⟩
def dkwX0_call_0 : List UInt8 := [44, 3, 42, 27, 182, 0, 33, 133, 80, 167, 0, 6, 78, 4, 172, 3, 172]
abbrev dktX0_call_0 : List UInt8 := dkwX0_call_0 ++ []
theorem dksX0_call_0 : cX0_call.data.toList.drop 0 = dktX0_call_0 := by decide +kernel
theorem dX0_call_0 : decode cX0_call 0 = .ok (.aload_n 2, 1) := dk_44 (dk_at dksX0_call_0 0 rfl rfl)
theorem dX0_call_1 : decode cX0_call 1 = .ok (.iconst 0, 1) := dk_3 (dk_at dksX0_call_0 1 rfl rfl)
theorem dX0_call_2 : decode cX0_call 2 = .ok (.aload_n 0, 1) := dk_42 (dk_at dksX0_call_0 2 rfl rfl)
theorem dX0_call_3 : decode cX0_call 3 = .ok (.iload_n 1, 1) := dk_27 (dk_at dksX0_call_0 3 rfl rfl)
theorem dX0_call_4 : decode cX0_call 4 = .ok (.invokevirtual 33, 3) := dk_182 0 33 (dk_at dksX0_call_0 4 rfl rfl)
theorem dX0_call_7 : decode cX0_call 7 = .ok (.i2l, 1) := dk_133 (dk_at dksX0_call_0 7 rfl rfl)
theorem dX0_call_8 : decode cX0_call 8 = .ok (.lastore, 1) := dk_80 (dk_at dksX0_call_0 8 rfl rfl)
theorem dX0_call_9 : decode cX0_call 9 = .ok (.goto 6, 3) := dk_167 0 6 (dk_at dksX0_call_0 9 rfl rfl)
theorem dX0_call_12 : decode cX0_call 12 = .ok (.astore_n 3, 1) := dk_78 (dk_at dksX0_call_0 12 rfl rfl)
theorem dX0_call_13 : decode cX0_call 13 = .ok (.iconst 1, 1) := dk_4 (dk_at dksX0_call_0 13 rfl rfl)
theorem dX0_call_14 : decode cX0_call 14 = .ok (.ireturn, 1) := dk_172 (dk_at dksX0_call_0 14 rfl rfl)
theorem dX0_call_15 : decode cX0_call 15 = .ok (.iconst 0, 1) := dk_3 (dk_at dksX0_call_0 15 rfl rfl)
theorem dX0_call_16 : decode cX0_call 16 = .ok (.ireturn, 1) := dk_172 (dk_at dksX0_call_0 16 rfl rfl)
abbrev cX0_days : ByteArray := method_9_code
def yX0_days : MethodName := ⟨RX0, "days", "(LFavourTown;I[J)I"⟩
def dkwX0_days_0 : List UInt8 := [44, 3, 42, 27, 182, 0, 37, 133, 80, 167, 0, 6, 78, 4, 172, 3, 172]
abbrev dktX0_days_0 : List UInt8 := dkwX0_days_0 ++ []
theorem dksX0_days_0 : cX0_days.data.toList.drop 0 = dktX0_days_0 := by decide +kernel
theorem dX0_days_0 : decode cX0_days 0 = .ok (.aload_n 2, 1) := dk_44 (dk_at dksX0_days_0 0 rfl rfl)
theorem dX0_days_1 : decode cX0_days 1 = .ok (.iconst 0, 1) := dk_3 (dk_at dksX0_days_0 1 rfl rfl)
theorem dX0_days_2 : decode cX0_days 2 = .ok (.aload_n 0, 1) := dk_42 (dk_at dksX0_days_0 2 rfl rfl)
theorem dX0_days_3 : decode cX0_days 3 = .ok (.iload_n 1, 1) := dk_27 (dk_at dksX0_days_0 3 rfl rfl)
theorem dX0_days_4 : decode cX0_days 4 = .ok (.invokevirtual 37, 3) := dk_182 0 37 (dk_at dksX0_days_0 4 rfl rfl)
theorem dX0_days_7 : decode cX0_days 7 = .ok (.i2l, 1) := dk_133 (dk_at dksX0_days_0 7 rfl rfl)
theorem dX0_days_8 : decode cX0_days 8 = .ok (.lastore, 1) := dk_80 (dk_at dksX0_days_0 8 rfl rfl)
theorem dX0_days_9 : decode cX0_days 9 = .ok (.goto 6, 3) := dk_167 0 6 (dk_at dksX0_days_0 9 rfl rfl)
theorem dX0_days_12 : decode cX0_days 12 = .ok (.astore_n 3, 1) := dk_78 (dk_at dksX0_days_0 12 rfl rfl)
theorem dX0_days_13 : decode cX0_days 13 = .ok (.iconst 1, 1) := dk_4 (dk_at dksX0_days_0 13 rfl rfl)
theorem dX0_days_14 : decode cX0_days 14 = .ok (.ireturn, 1) := dk_172 (dk_at dksX0_days_0 14 rfl rfl)
theorem dX0_days_15 : decode cX0_days 15 = .ok (.iconst 0, 1) := dk_3 (dk_at dksX0_days_0 15 rfl rfl)
theorem dX0_days_16 : decode cX0_days 16 = .ok (.ireturn, 1) := dk_172 (dk_at dksX0_days_0 16 rfl rfl)
abbrev cX0_look : ByteArray := method_10_code
def yX0_look : MethodName := ⟨RX0, "look", "(LFavourTown;II[J)I"⟩
def dkwX0_look_0 : List UInt8 := [45, 3, 42, 27, 28, 182, 0, 40, 133, 80, 167, 0, 11, 58, 4, 4, 172, 58, 4, 5, 172, 3, 172]
abbrev dktX0_look_0 : List UInt8 := dkwX0_look_0 ++ []
theorem dksX0_look_0 : cX0_look.data.toList.drop 0 = dktX0_look_0 := by decide +kernel
theorem dX0_look_0 : decode cX0_look 0 = .ok (.aload_n 3, 1) := dk_45 (dk_at dksX0_look_0 0 rfl rfl)
theorem dX0_look_1 : decode cX0_look 1 = .ok (.iconst 0, 1) := dk_3 (dk_at dksX0_look_0 1 rfl rfl)
theorem dX0_look_2 : decode cX0_look 2 = .ok (.aload_n 0, 1) := dk_42 (dk_at dksX0_look_0 2 rfl rfl)
theorem dX0_look_3 : decode cX0_look 3 = .ok (.iload_n 1, 1) := dk_27 (dk_at dksX0_look_0 3 rfl rfl)
theorem dX0_look_4 : decode cX0_look 4 = .ok (.iload_n 2, 1) := dk_28 (dk_at dksX0_look_0 4 rfl rfl)
theorem dX0_look_5 : decode cX0_look 5 = .ok (.invokevirtual 40, 3) := dk_182 0 40 (dk_at dksX0_look_0 5 rfl rfl)
theorem dX0_look_8 : decode cX0_look 8 = .ok (.i2l, 1) := dk_133 (dk_at dksX0_look_0 8 rfl rfl)
theorem dX0_look_9 : decode cX0_look 9 = .ok (.lastore, 1) := dk_80 (dk_at dksX0_look_0 9 rfl rfl)
theorem dX0_look_10 : decode cX0_look 10 = .ok (.goto 11, 3) := dk_167 0 11 (dk_at dksX0_look_0 10 rfl rfl)
theorem dX0_look_13 : decode cX0_look 13 = .ok (.astore 4, 2) := dk_58 4 (dk_at dksX0_look_0 13 rfl rfl)
theorem dX0_look_15 : decode cX0_look 15 = .ok (.iconst 1, 1) := dk_4 (dk_at dksX0_look_0 15 rfl rfl)
theorem dX0_look_16 : decode cX0_look 16 = .ok (.ireturn, 1) := dk_172 (dk_at dksX0_look_0 16 rfl rfl)
theorem dX0_look_17 : decode cX0_look 17 = .ok (.astore 4, 2) := dk_58 4 (dk_at dksX0_look_0 17 rfl rfl)
theorem dX0_look_19 : decode cX0_look 19 = .ok (.iconst 2, 1) := dk_5 (dk_at dksX0_look_0 19 rfl rfl)
theorem dX0_look_20 : decode cX0_look 20 = .ok (.ireturn, 1) := dk_172 (dk_at dksX0_look_0 20 rfl rfl)
theorem dX0_look_21 : decode cX0_look 21 = .ok (.iconst 0, 1) := dk_3 (dk_at dksX0_look_0 21 rfl rfl)
theorem dX0_look_22 : decode cX0_look 22 = .ok (.ireturn, 1) := dk_172 (dk_at dksX0_look_0 22 rfl rfl)
abbrev cX0_hand : ByteArray := method_11_code
def yX0_hand : MethodName := ⟨RX0, "hand", "(LFavourTown;II[J)I"⟩
def dkwX0_hand_0 : List UInt8 := [45, 3, 42, 27, 28, 182, 0, 45, 133, 80, 167, 0, 7, 58, 4, 4, 172, 3, 172]
abbrev dktX0_hand_0 : List UInt8 := dkwX0_hand_0 ++ []
theorem dksX0_hand_0 : cX0_hand.data.toList.drop 0 = dktX0_hand_0 := by decide +kernel
theorem dX0_hand_0 : decode cX0_hand 0 = .ok (.aload_n 3, 1) := dk_45 (dk_at dksX0_hand_0 0 rfl rfl)
theorem dX0_hand_1 : decode cX0_hand 1 = .ok (.iconst 0, 1) := dk_3 (dk_at dksX0_hand_0 1 rfl rfl)
theorem dX0_hand_2 : decode cX0_hand 2 = .ok (.aload_n 0, 1) := dk_42 (dk_at dksX0_hand_0 2 rfl rfl)
theorem dX0_hand_3 : decode cX0_hand 3 = .ok (.iload_n 1, 1) := dk_27 (dk_at dksX0_hand_0 3 rfl rfl)
theorem dX0_hand_4 : decode cX0_hand 4 = .ok (.iload_n 2, 1) := dk_28 (dk_at dksX0_hand_0 4 rfl rfl)
theorem dX0_hand_5 : decode cX0_hand 5 = .ok (.invokevirtual 45, 3) := dk_182 0 45 (dk_at dksX0_hand_0 5 rfl rfl)
theorem dX0_hand_8 : decode cX0_hand 8 = .ok (.i2l, 1) := dk_133 (dk_at dksX0_hand_0 8 rfl rfl)
theorem dX0_hand_9 : decode cX0_hand 9 = .ok (.lastore, 1) := dk_80 (dk_at dksX0_hand_0 9 rfl rfl)
theorem dX0_hand_10 : decode cX0_hand 10 = .ok (.goto 7, 3) := dk_167 0 7 (dk_at dksX0_hand_0 10 rfl rfl)
theorem dX0_hand_13 : decode cX0_hand 13 = .ok (.astore 4, 2) := dk_58 4 (dk_at dksX0_hand_0 13 rfl rfl)
theorem dX0_hand_15 : decode cX0_hand 15 = .ok (.iconst 1, 1) := dk_4 (dk_at dksX0_hand_0 15 rfl rfl)
theorem dX0_hand_16 : decode cX0_hand 16 = .ok (.ireturn, 1) := dk_172 (dk_at dksX0_hand_0 16 rfl rfl)
theorem dX0_hand_17 : decode cX0_hand 17 = .ok (.iconst 0, 1) := dk_3 (dk_at dksX0_hand_0 17 rfl rfl)
theorem dX0_hand_18 : decode cX0_hand 18 = .ok (.ireturn, 1) := dk_172 (dk_at dksX0_hand_0 18 rfl rfl)
abbrev cX0_takes : ByteArray := method_12_code
def yX0_takes : MethodName := ⟨RX0, "takes", "(LFavourTown;II[J)I"⟩
def dkwX0_takes_1 : List UInt8 := [3, 172]
abbrev dktX0_takes_1 : List UInt8 := dkwX0_takes_1 ++ []
def dkwX0_takes_0 : List UInt8 := [45, 3, 42, 27, 28, 182, 0, 48, 153, 0, 7, 10, 167, 0, 4, 9, 80, 167, 0, 7, 58, 4, 4, 172]
abbrev dktX0_takes_0 : List UInt8 := dkwX0_takes_0 ++ dktX0_takes_1
theorem dksX0_takes_0 : cX0_takes.data.toList.drop 0 = dktX0_takes_0 := by decide +kernel
theorem dksX0_takes_1 : cX0_takes.data.toList.drop 24 = dktX0_takes_1 := dk_seg dksX0_takes_0 24 rfl rfl
theorem dX0_takes_0 : decode cX0_takes 0 = .ok (.aload_n 3, 1) := dk_45 (dk_at dksX0_takes_0 0 rfl rfl)
theorem dX0_takes_1 : decode cX0_takes 1 = .ok (.iconst 0, 1) := dk_3 (dk_at dksX0_takes_0 1 rfl rfl)
theorem dX0_takes_2 : decode cX0_takes 2 = .ok (.aload_n 0, 1) := dk_42 (dk_at dksX0_takes_0 2 rfl rfl)
theorem dX0_takes_3 : decode cX0_takes 3 = .ok (.iload_n 1, 1) := dk_27 (dk_at dksX0_takes_0 3 rfl rfl)
theorem dX0_takes_4 : decode cX0_takes 4 = .ok (.iload_n 2, 1) := dk_28 (dk_at dksX0_takes_0 4 rfl rfl)
theorem dX0_takes_5 : decode cX0_takes 5 = .ok (.invokevirtual 48, 3) := dk_182 0 48 (dk_at dksX0_takes_0 5 rfl rfl)
theorem dX0_takes_8 : decode cX0_takes 8 = .ok (.ifCond .eq 7, 3) := dk_153 0 7 (dk_at dksX0_takes_0 8 rfl rfl)
theorem dX0_takes_11 : decode cX0_takes 11 = .ok (.lconst 1, 1) := dk_10 (dk_at dksX0_takes_0 11 rfl rfl)
theorem dX0_takes_12 : decode cX0_takes 12 = .ok (.goto 4, 3) := dk_167 0 4 (dk_at dksX0_takes_0 12 rfl rfl)
theorem dX0_takes_15 : decode cX0_takes 15 = .ok (.lconst 0, 1) := dk_9 (dk_at dksX0_takes_0 15 rfl rfl)
theorem dX0_takes_16 : decode cX0_takes 16 = .ok (.lastore, 1) := dk_80 (dk_at dksX0_takes_0 16 rfl rfl)
theorem dX0_takes_17 : decode cX0_takes 17 = .ok (.goto 7, 3) := dk_167 0 7 (dk_at dksX0_takes_0 17 rfl rfl)
theorem dX0_takes_20 : decode cX0_takes 20 = .ok (.astore 4, 2) := dk_58 4 (dk_at dksX0_takes_0 20 rfl rfl)
theorem dX0_takes_22 : decode cX0_takes 22 = .ok (.iconst 1, 1) := dk_4 (dk_at dksX0_takes_0 22 rfl rfl)
theorem dX0_takes_23 : decode cX0_takes 23 = .ok (.ireturn, 1) := dk_172 (dk_at dksX0_takes_0 23 rfl rfl)
theorem dX0_takes_24 : decode cX0_takes 24 = .ok (.iconst 0, 1) := dk_3 (dk_at dksX0_takes_1 0 rfl rfl)
theorem dX0_takes_25 : decode cX0_takes 25 = .ok (.ireturn, 1) := dk_172 (dk_at dksX0_takes_1 1 rfl rfl)
abbrev cX0_rich : ByteArray := method_13_code
def yX0_rich : MethodName := ⟨RX0, "rich", "(LFavourTown;I[J)I"⟩
def dkwX0_rich_0 : List UInt8 := [44, 3, 42, 27, 182, 0, 52, 133, 80, 167, 0, 6, 78, 4, 172, 3, 172]
abbrev dktX0_rich_0 : List UInt8 := dkwX0_rich_0 ++ []
theorem dksX0_rich_0 : cX0_rich.data.toList.drop 0 = dktX0_rich_0 := by decide +kernel
theorem dX0_rich_0 : decode cX0_rich 0 = .ok (.aload_n 2, 1) := dk_44 (dk_at dksX0_rich_0 0 rfl rfl)
theorem dX0_rich_1 : decode cX0_rich 1 = .ok (.iconst 0, 1) := dk_3 (dk_at dksX0_rich_0 1 rfl rfl)
theorem dX0_rich_2 : decode cX0_rich 2 = .ok (.aload_n 0, 1) := dk_42 (dk_at dksX0_rich_0 2 rfl rfl)
theorem dX0_rich_3 : decode cX0_rich 3 = .ok (.iload_n 1, 1) := dk_27 (dk_at dksX0_rich_0 3 rfl rfl)
theorem dX0_rich_4 : decode cX0_rich 4 = .ok (.invokevirtual 52, 3) := dk_182 0 52 (dk_at dksX0_rich_0 4 rfl rfl)
theorem dX0_rich_7 : decode cX0_rich 7 = .ok (.i2l, 1) := dk_133 (dk_at dksX0_rich_0 7 rfl rfl)
theorem dX0_rich_8 : decode cX0_rich 8 = .ok (.lastore, 1) := dk_80 (dk_at dksX0_rich_0 8 rfl rfl)
theorem dX0_rich_9 : decode cX0_rich 9 = .ok (.goto 6, 3) := dk_167 0 6 (dk_at dksX0_rich_0 9 rfl rfl)
theorem dX0_rich_12 : decode cX0_rich 12 = .ok (.astore_n 3, 1) := dk_78 (dk_at dksX0_rich_0 12 rfl rfl)
theorem dX0_rich_13 : decode cX0_rich 13 = .ok (.iconst 1, 1) := dk_4 (dk_at dksX0_rich_0 13 rfl rfl)
theorem dX0_rich_14 : decode cX0_rich 14 = .ok (.ireturn, 1) := dk_172 (dk_at dksX0_rich_0 14 rfl rfl)
theorem dX0_rich_15 : decode cX0_rich 15 = .ok (.iconst 0, 1) := dk_3 (dk_at dksX0_rich_0 15 rfl rfl)
theorem dX0_rich_16 : decode cX0_rich 16 = .ok (.ireturn, 1) := dk_172 (dk_at dksX0_rich_0 16 rfl rfl)
abbrev cX0_debt : ByteArray := method_14_code
def yX0_debt : MethodName := ⟨RX0, "debt", "(LFavourTown;I[J)I"⟩
def dkwX0_debt_0 : List UInt8 := [44, 3, 42, 27, 182, 0, 55, 133, 80, 167, 0, 6, 78, 4, 172, 3, 172]
abbrev dktX0_debt_0 : List UInt8 := dkwX0_debt_0 ++ []
theorem dksX0_debt_0 : cX0_debt.data.toList.drop 0 = dktX0_debt_0 := by decide +kernel
theorem dX0_debt_0 : decode cX0_debt 0 = .ok (.aload_n 2, 1) := dk_44 (dk_at dksX0_debt_0 0 rfl rfl)
theorem dX0_debt_1 : decode cX0_debt 1 = .ok (.iconst 0, 1) := dk_3 (dk_at dksX0_debt_0 1 rfl rfl)
theorem dX0_debt_2 : decode cX0_debt 2 = .ok (.aload_n 0, 1) := dk_42 (dk_at dksX0_debt_0 2 rfl rfl)
theorem dX0_debt_3 : decode cX0_debt 3 = .ok (.iload_n 1, 1) := dk_27 (dk_at dksX0_debt_0 3 rfl rfl)
theorem dX0_debt_4 : decode cX0_debt 4 = .ok (.invokevirtual 55, 3) := dk_182 0 55 (dk_at dksX0_debt_0 4 rfl rfl)
theorem dX0_debt_7 : decode cX0_debt 7 = .ok (.i2l, 1) := dk_133 (dk_at dksX0_debt_0 7 rfl rfl)
theorem dX0_debt_8 : decode cX0_debt 8 = .ok (.lastore, 1) := dk_80 (dk_at dksX0_debt_0 8 rfl rfl)
theorem dX0_debt_9 : decode cX0_debt 9 = .ok (.goto 6, 3) := dk_167 0 6 (dk_at dksX0_debt_0 9 rfl rfl)
theorem dX0_debt_12 : decode cX0_debt 12 = .ok (.astore_n 3, 1) := dk_78 (dk_at dksX0_debt_0 12 rfl rfl)
theorem dX0_debt_13 : decode cX0_debt 13 = .ok (.iconst 1, 1) := dk_4 (dk_at dksX0_debt_0 13 rfl rfl)
theorem dX0_debt_14 : decode cX0_debt 14 = .ok (.ireturn, 1) := dk_172 (dk_at dksX0_debt_0 14 rfl rfl)
theorem dX0_debt_15 : decode cX0_debt 15 = .ok (.iconst 0, 1) := dk_3 (dk_at dksX0_debt_0 15 rfl rfl)
theorem dX0_debt_16 : decode cX0_debt 16 = .ok (.ireturn, 1) := dk_172 (dk_at dksX0_debt_0 16 rfl rfl)
abbrev cX0_owes : ByteArray := method_15_code
def yX0_owes : MethodName := ⟨RX0, "owes", "(LFavourTown;II[J)I"⟩
def dkwX0_owes_0 : List UInt8 := [45, 3, 42, 27, 28, 182, 0, 58, 133, 80, 167, 0, 7, 58, 4, 4, 172, 3, 172]
abbrev dktX0_owes_0 : List UInt8 := dkwX0_owes_0 ++ []
theorem dksX0_owes_0 : cX0_owes.data.toList.drop 0 = dktX0_owes_0 := by decide +kernel
theorem dX0_owes_0 : decode cX0_owes 0 = .ok (.aload_n 3, 1) := dk_45 (dk_at dksX0_owes_0 0 rfl rfl)
theorem dX0_owes_1 : decode cX0_owes 1 = .ok (.iconst 0, 1) := dk_3 (dk_at dksX0_owes_0 1 rfl rfl)
theorem dX0_owes_2 : decode cX0_owes 2 = .ok (.aload_n 0, 1) := dk_42 (dk_at dksX0_owes_0 2 rfl rfl)
theorem dX0_owes_3 : decode cX0_owes 3 = .ok (.iload_n 1, 1) := dk_27 (dk_at dksX0_owes_0 3 rfl rfl)
theorem dX0_owes_4 : decode cX0_owes 4 = .ok (.iload_n 2, 1) := dk_28 (dk_at dksX0_owes_0 4 rfl rfl)
theorem dX0_owes_5 : decode cX0_owes 5 = .ok (.invokevirtual 58, 3) := dk_182 0 58 (dk_at dksX0_owes_0 5 rfl rfl)
theorem dX0_owes_8 : decode cX0_owes 8 = .ok (.i2l, 1) := dk_133 (dk_at dksX0_owes_0 8 rfl rfl)
theorem dX0_owes_9 : decode cX0_owes 9 = .ok (.lastore, 1) := dk_80 (dk_at dksX0_owes_0 9 rfl rfl)
theorem dX0_owes_10 : decode cX0_owes 10 = .ok (.goto 7, 3) := dk_167 0 7 (dk_at dksX0_owes_0 10 rfl rfl)
theorem dX0_owes_13 : decode cX0_owes 13 = .ok (.astore 4, 2) := dk_58 4 (dk_at dksX0_owes_0 13 rfl rfl)
theorem dX0_owes_15 : decode cX0_owes 15 = .ok (.iconst 1, 1) := dk_4 (dk_at dksX0_owes_0 15 rfl rfl)
theorem dX0_owes_16 : decode cX0_owes 16 = .ok (.ireturn, 1) := dk_172 (dk_at dksX0_owes_0 16 rfl rfl)
theorem dX0_owes_17 : decode cX0_owes 17 = .ok (.iconst 0, 1) := dk_3 (dk_at dksX0_owes_0 17 rfl rfl)
theorem dX0_owes_18 : decode cX0_owes 18 = .ok (.ireturn, 1) := dk_172 (dk_at dksX0_owes_0 18 rfl rfl)
abbrev cX0_pays : ByteArray := method_16_code
def yX0_pays : MethodName := ⟨RX0, "pays", "(LFavourTown;III[J)I"⟩
def dkwX0_pays_1 : List UInt8 := [172]
abbrev dktX0_pays_1 : List UInt8 := dkwX0_pays_1 ++ []
def dkwX0_pays_0 : List UInt8 := [25, 4, 3, 42, 27, 28, 29, 182, 0, 61, 133, 80, 167, 0, 11, 58, 5, 4, 172, 58, 5, 5, 172, 3]
abbrev dktX0_pays_0 : List UInt8 := dkwX0_pays_0 ++ dktX0_pays_1
theorem dksX0_pays_0 : cX0_pays.data.toList.drop 0 = dktX0_pays_0 := by decide +kernel
theorem dksX0_pays_1 : cX0_pays.data.toList.drop 24 = dktX0_pays_1 := dk_seg dksX0_pays_0 24 rfl rfl
theorem dX0_pays_0 : decode cX0_pays 0 = .ok (.aload 4, 2) := dk_25 4 (dk_at dksX0_pays_0 0 rfl rfl)
theorem dX0_pays_2 : decode cX0_pays 2 = .ok (.iconst 0, 1) := dk_3 (dk_at dksX0_pays_0 2 rfl rfl)
theorem dX0_pays_3 : decode cX0_pays 3 = .ok (.aload_n 0, 1) := dk_42 (dk_at dksX0_pays_0 3 rfl rfl)
theorem dX0_pays_4 : decode cX0_pays 4 = .ok (.iload_n 1, 1) := dk_27 (dk_at dksX0_pays_0 4 rfl rfl)
theorem dX0_pays_5 : decode cX0_pays 5 = .ok (.iload_n 2, 1) := dk_28 (dk_at dksX0_pays_0 5 rfl rfl)
theorem dX0_pays_6 : decode cX0_pays 6 = .ok (.iload_n 3, 1) := dk_29 (dk_at dksX0_pays_0 6 rfl rfl)
theorem dX0_pays_7 : decode cX0_pays 7 = .ok (.invokevirtual 61, 3) := dk_182 0 61 (dk_at dksX0_pays_0 7 rfl rfl)
theorem dX0_pays_10 : decode cX0_pays 10 = .ok (.i2l, 1) := dk_133 (dk_at dksX0_pays_0 10 rfl rfl)
theorem dX0_pays_11 : decode cX0_pays 11 = .ok (.lastore, 1) := dk_80 (dk_at dksX0_pays_0 11 rfl rfl)
theorem dX0_pays_12 : decode cX0_pays 12 = .ok (.goto 11, 3) := dk_167 0 11 (dk_at dksX0_pays_0 12 rfl rfl)
theorem dX0_pays_15 : decode cX0_pays 15 = .ok (.astore 5, 2) := dk_58 5 (dk_at dksX0_pays_0 15 rfl rfl)
theorem dX0_pays_17 : decode cX0_pays 17 = .ok (.iconst 1, 1) := dk_4 (dk_at dksX0_pays_0 17 rfl rfl)
theorem dX0_pays_18 : decode cX0_pays 18 = .ok (.ireturn, 1) := dk_172 (dk_at dksX0_pays_0 18 rfl rfl)
theorem dX0_pays_19 : decode cX0_pays 19 = .ok (.astore 5, 2) := dk_58 5 (dk_at dksX0_pays_0 19 rfl rfl)
theorem dX0_pays_21 : decode cX0_pays 21 = .ok (.iconst 2, 1) := dk_5 (dk_at dksX0_pays_0 21 rfl rfl)
theorem dX0_pays_22 : decode cX0_pays 22 = .ok (.ireturn, 1) := dk_172 (dk_at dksX0_pays_0 22 rfl rfl)
theorem dX0_pays_23 : decode cX0_pays 23 = .ok (.iconst 0, 1) := dk_3 (dk_at dksX0_pays_0 23 rfl rfl)
theorem dX0_pays_24 : decode cX0_pays 24 = .ok (.ireturn, 1) := dk_172 (dk_at dksX0_pays_1 0 rfl rfl)
abbrev cX0_can : ByteArray := method_17_code
def yX0_can : MethodName := ⟨RX0, "can", "(LFavourTown;I[J)I"⟩
def dkwX0_can_0 : List UInt8 := [44, 3, 42, 27, 182, 0, 65, 153, 0, 7, 10, 167, 0, 4, 9, 80, 167, 0, 6, 78, 4, 172, 3, 172]
abbrev dktX0_can_0 : List UInt8 := dkwX0_can_0 ++ []
theorem dksX0_can_0 : cX0_can.data.toList.drop 0 = dktX0_can_0 := by decide +kernel
theorem dX0_can_0 : decode cX0_can 0 = .ok (.aload_n 2, 1) := dk_44 (dk_at dksX0_can_0 0 rfl rfl)
theorem dX0_can_1 : decode cX0_can 1 = .ok (.iconst 0, 1) := dk_3 (dk_at dksX0_can_0 1 rfl rfl)
theorem dX0_can_2 : decode cX0_can 2 = .ok (.aload_n 0, 1) := dk_42 (dk_at dksX0_can_0 2 rfl rfl)
theorem dX0_can_3 : decode cX0_can 3 = .ok (.iload_n 1, 1) := dk_27 (dk_at dksX0_can_0 3 rfl rfl)
theorem dX0_can_4 : decode cX0_can 4 = .ok (.invokevirtual 65, 3) := dk_182 0 65 (dk_at dksX0_can_0 4 rfl rfl)
theorem dX0_can_7 : decode cX0_can 7 = .ok (.ifCond .eq 7, 3) := dk_153 0 7 (dk_at dksX0_can_0 7 rfl rfl)
theorem dX0_can_10 : decode cX0_can 10 = .ok (.lconst 1, 1) := dk_10 (dk_at dksX0_can_0 10 rfl rfl)
theorem dX0_can_11 : decode cX0_can 11 = .ok (.goto 4, 3) := dk_167 0 4 (dk_at dksX0_can_0 11 rfl rfl)
theorem dX0_can_14 : decode cX0_can 14 = .ok (.lconst 0, 1) := dk_9 (dk_at dksX0_can_0 14 rfl rfl)
theorem dX0_can_15 : decode cX0_can 15 = .ok (.lastore, 1) := dk_80 (dk_at dksX0_can_0 15 rfl rfl)
theorem dX0_can_16 : decode cX0_can 16 = .ok (.goto 6, 3) := dk_167 0 6 (dk_at dksX0_can_0 16 rfl rfl)
theorem dX0_can_19 : decode cX0_can 19 = .ok (.astore_n 3, 1) := dk_78 (dk_at dksX0_can_0 19 rfl rfl)
theorem dX0_can_20 : decode cX0_can 20 = .ok (.iconst 1, 1) := dk_4 (dk_at dksX0_can_0 20 rfl rfl)
theorem dX0_can_21 : decode cX0_can 21 = .ok (.ireturn, 1) := dk_172 (dk_at dksX0_can_0 21 rfl rfl)
theorem dX0_can_22 : decode cX0_can 22 = .ok (.iconst 0, 1) := dk_3 (dk_at dksX0_can_0 22 rfl rfl)
theorem dX0_can_23 : decode cX0_can 23 = .ok (.ireturn, 1) := dk_172 (dk_at dksX0_can_0 23 rfl rfl)
abbrev cX0_meet : ByteArray := method_18_code
def yX0_meet : MethodName := ⟨RX0, "meet", "(LFavourTown;I[J)I"⟩
def dkwX0_meet_0 : List UInt8 := [44, 3, 42, 27, 182, 0, 69, 133, 80, 167, 0, 6, 78, 4, 172, 3, 172]
abbrev dktX0_meet_0 : List UInt8 := dkwX0_meet_0 ++ []
theorem dksX0_meet_0 : cX0_meet.data.toList.drop 0 = dktX0_meet_0 := by decide +kernel
theorem dX0_meet_0 : decode cX0_meet 0 = .ok (.aload_n 2, 1) := dk_44 (dk_at dksX0_meet_0 0 rfl rfl)
theorem dX0_meet_1 : decode cX0_meet 1 = .ok (.iconst 0, 1) := dk_3 (dk_at dksX0_meet_0 1 rfl rfl)
theorem dX0_meet_2 : decode cX0_meet 2 = .ok (.aload_n 0, 1) := dk_42 (dk_at dksX0_meet_0 2 rfl rfl)
theorem dX0_meet_3 : decode cX0_meet 3 = .ok (.iload_n 1, 1) := dk_27 (dk_at dksX0_meet_0 3 rfl rfl)
theorem dX0_meet_4 : decode cX0_meet 4 = .ok (.invokevirtual 69, 3) := dk_182 0 69 (dk_at dksX0_meet_0 4 rfl rfl)
theorem dX0_meet_7 : decode cX0_meet 7 = .ok (.i2l, 1) := dk_133 (dk_at dksX0_meet_0 7 rfl rfl)
theorem dX0_meet_8 : decode cX0_meet 8 = .ok (.lastore, 1) := dk_80 (dk_at dksX0_meet_0 8 rfl rfl)
theorem dX0_meet_9 : decode cX0_meet 9 = .ok (.goto 6, 3) := dk_167 0 6 (dk_at dksX0_meet_0 9 rfl rfl)
theorem dX0_meet_12 : decode cX0_meet 12 = .ok (.astore_n 3, 1) := dk_78 (dk_at dksX0_meet_0 12 rfl rfl)
theorem dX0_meet_13 : decode cX0_meet 13 = .ok (.iconst 1, 1) := dk_4 (dk_at dksX0_meet_0 13 rfl rfl)
theorem dX0_meet_14 : decode cX0_meet 14 = .ok (.ireturn, 1) := dk_172 (dk_at dksX0_meet_0 14 rfl rfl)
theorem dX0_meet_15 : decode cX0_meet 15 = .ok (.iconst 0, 1) := dk_3 (dk_at dksX0_meet_0 15 rfl rfl)
theorem dX0_meet_16 : decode cX0_meet 16 = .ok (.ireturn, 1) := dk_172 (dk_at dksX0_meet_0 16 rfl rfl)
abbrev cX0_port : ByteArray := method_19_code
def yX0_port : MethodName := ⟨RX0, "port", "(LFavourTown;II[J)I"⟩
def dkwX0_port_0 : List UInt8 := [45, 3, 42, 27, 28, 182, 0, 72, 133, 80, 167, 0, 11, 58, 4, 4, 172, 58, 4, 5, 172, 3, 172]
abbrev dktX0_port_0 : List UInt8 := dkwX0_port_0 ++ []
theorem dksX0_port_0 : cX0_port.data.toList.drop 0 = dktX0_port_0 := by decide +kernel
theorem dX0_port_0 : decode cX0_port 0 = .ok (.aload_n 3, 1) := dk_45 (dk_at dksX0_port_0 0 rfl rfl)
theorem dX0_port_1 : decode cX0_port 1 = .ok (.iconst 0, 1) := dk_3 (dk_at dksX0_port_0 1 rfl rfl)
theorem dX0_port_2 : decode cX0_port 2 = .ok (.aload_n 0, 1) := dk_42 (dk_at dksX0_port_0 2 rfl rfl)
theorem dX0_port_3 : decode cX0_port 3 = .ok (.iload_n 1, 1) := dk_27 (dk_at dksX0_port_0 3 rfl rfl)
theorem dX0_port_4 : decode cX0_port 4 = .ok (.iload_n 2, 1) := dk_28 (dk_at dksX0_port_0 4 rfl rfl)
theorem dX0_port_5 : decode cX0_port 5 = .ok (.invokevirtual 72, 3) := dk_182 0 72 (dk_at dksX0_port_0 5 rfl rfl)
theorem dX0_port_8 : decode cX0_port 8 = .ok (.i2l, 1) := dk_133 (dk_at dksX0_port_0 8 rfl rfl)
theorem dX0_port_9 : decode cX0_port 9 = .ok (.lastore, 1) := dk_80 (dk_at dksX0_port_0 9 rfl rfl)
theorem dX0_port_10 : decode cX0_port 10 = .ok (.goto 11, 3) := dk_167 0 11 (dk_at dksX0_port_0 10 rfl rfl)
theorem dX0_port_13 : decode cX0_port 13 = .ok (.astore 4, 2) := dk_58 4 (dk_at dksX0_port_0 13 rfl rfl)
theorem dX0_port_15 : decode cX0_port 15 = .ok (.iconst 1, 1) := dk_4 (dk_at dksX0_port_0 15 rfl rfl)
theorem dX0_port_16 : decode cX0_port 16 = .ok (.ireturn, 1) := dk_172 (dk_at dksX0_port_0 16 rfl rfl)
theorem dX0_port_17 : decode cX0_port 17 = .ok (.astore 4, 2) := dk_58 4 (dk_at dksX0_port_0 17 rfl rfl)
theorem dX0_port_19 : decode cX0_port 19 = .ok (.iconst 2, 1) := dk_5 (dk_at dksX0_port_0 19 rfl rfl)
theorem dX0_port_20 : decode cX0_port 20 = .ok (.ireturn, 1) := dk_172 (dk_at dksX0_port_0 20 rfl rfl)
theorem dX0_port_21 : decode cX0_port 21 = .ok (.iconst 0, 1) := dk_3 (dk_at dksX0_port_0 21 rfl rfl)
theorem dX0_port_22 : decode cX0_port 22 = .ok (.ireturn, 1) := dk_172 (dk_at dksX0_port_0 22 rfl rfl)
abbrev cX0_most : ByteArray := method_20_code
def yX0_most : MethodName := ⟨RX0, "most", "(LFavourTown;II[J)I"⟩
def dkwX0_most_0 : List UInt8 := [45, 3, 42, 27, 28, 182, 0, 75, 133, 80, 167, 0, 11, 58, 4, 4, 172, 58, 4, 5, 172, 3, 172]
abbrev dktX0_most_0 : List UInt8 := dkwX0_most_0 ++ []
theorem dksX0_most_0 : cX0_most.data.toList.drop 0 = dktX0_most_0 := by decide +kernel
theorem dX0_most_0 : decode cX0_most 0 = .ok (.aload_n 3, 1) := dk_45 (dk_at dksX0_most_0 0 rfl rfl)
theorem dX0_most_1 : decode cX0_most 1 = .ok (.iconst 0, 1) := dk_3 (dk_at dksX0_most_0 1 rfl rfl)
theorem dX0_most_2 : decode cX0_most 2 = .ok (.aload_n 0, 1) := dk_42 (dk_at dksX0_most_0 2 rfl rfl)
theorem dX0_most_3 : decode cX0_most 3 = .ok (.iload_n 1, 1) := dk_27 (dk_at dksX0_most_0 3 rfl rfl)
theorem dX0_most_4 : decode cX0_most 4 = .ok (.iload_n 2, 1) := dk_28 (dk_at dksX0_most_0 4 rfl rfl)
theorem dX0_most_5 : decode cX0_most 5 = .ok (.invokevirtual 75, 3) := dk_182 0 75 (dk_at dksX0_most_0 5 rfl rfl)
theorem dX0_most_8 : decode cX0_most 8 = .ok (.i2l, 1) := dk_133 (dk_at dksX0_most_0 8 rfl rfl)
theorem dX0_most_9 : decode cX0_most 9 = .ok (.lastore, 1) := dk_80 (dk_at dksX0_most_0 9 rfl rfl)
theorem dX0_most_10 : decode cX0_most 10 = .ok (.goto 11, 3) := dk_167 0 11 (dk_at dksX0_most_0 10 rfl rfl)
theorem dX0_most_13 : decode cX0_most 13 = .ok (.astore 4, 2) := dk_58 4 (dk_at dksX0_most_0 13 rfl rfl)
theorem dX0_most_15 : decode cX0_most 15 = .ok (.iconst 1, 1) := dk_4 (dk_at dksX0_most_0 15 rfl rfl)
theorem dX0_most_16 : decode cX0_most 16 = .ok (.ireturn, 1) := dk_172 (dk_at dksX0_most_0 16 rfl rfl)
theorem dX0_most_17 : decode cX0_most 17 = .ok (.astore 4, 2) := dk_58 4 (dk_at dksX0_most_0 17 rfl rfl)
theorem dX0_most_19 : decode cX0_most 19 = .ok (.iconst 2, 1) := dk_5 (dk_at dksX0_most_0 19 rfl rfl)
theorem dX0_most_20 : decode cX0_most 20 = .ok (.ireturn, 1) := dk_172 (dk_at dksX0_most_0 20 rfl rfl)
theorem dX0_most_21 : decode cX0_most 21 = .ok (.iconst 0, 1) := dk_3 (dk_at dksX0_most_0 21 rfl rfl)
theorem dX0_most_22 : decode cX0_most 22 = .ok (.ireturn, 1) := dk_172 (dk_at dksX0_most_0 22 rfl rfl)
abbrev cX0_cut : ByteArray := method_21_code
def yX0_cut : MethodName := ⟨RX0, "cut", "(LFavourTown;II[J)I"⟩
def dkwX0_cut_0 : List UInt8 := [45, 3, 42, 27, 28, 182, 0, 78, 133, 80, 167, 0, 11, 58, 4, 4, 172, 58, 4, 5, 172, 3, 172]
abbrev dktX0_cut_0 : List UInt8 := dkwX0_cut_0 ++ []
theorem dksX0_cut_0 : cX0_cut.data.toList.drop 0 = dktX0_cut_0 := by decide +kernel
theorem dX0_cut_0 : decode cX0_cut 0 = .ok (.aload_n 3, 1) := dk_45 (dk_at dksX0_cut_0 0 rfl rfl)
theorem dX0_cut_1 : decode cX0_cut 1 = .ok (.iconst 0, 1) := dk_3 (dk_at dksX0_cut_0 1 rfl rfl)
theorem dX0_cut_2 : decode cX0_cut 2 = .ok (.aload_n 0, 1) := dk_42 (dk_at dksX0_cut_0 2 rfl rfl)
theorem dX0_cut_3 : decode cX0_cut 3 = .ok (.iload_n 1, 1) := dk_27 (dk_at dksX0_cut_0 3 rfl rfl)
theorem dX0_cut_4 : decode cX0_cut 4 = .ok (.iload_n 2, 1) := dk_28 (dk_at dksX0_cut_0 4 rfl rfl)
theorem dX0_cut_5 : decode cX0_cut 5 = .ok (.invokevirtual 78, 3) := dk_182 0 78 (dk_at dksX0_cut_0 5 rfl rfl)
theorem dX0_cut_8 : decode cX0_cut 8 = .ok (.i2l, 1) := dk_133 (dk_at dksX0_cut_0 8 rfl rfl)
theorem dX0_cut_9 : decode cX0_cut 9 = .ok (.lastore, 1) := dk_80 (dk_at dksX0_cut_0 9 rfl rfl)
theorem dX0_cut_10 : decode cX0_cut 10 = .ok (.goto 11, 3) := dk_167 0 11 (dk_at dksX0_cut_0 10 rfl rfl)
theorem dX0_cut_13 : decode cX0_cut 13 = .ok (.astore 4, 2) := dk_58 4 (dk_at dksX0_cut_0 13 rfl rfl)
theorem dX0_cut_15 : decode cX0_cut 15 = .ok (.iconst 1, 1) := dk_4 (dk_at dksX0_cut_0 15 rfl rfl)
theorem dX0_cut_16 : decode cX0_cut 16 = .ok (.ireturn, 1) := dk_172 (dk_at dksX0_cut_0 16 rfl rfl)
theorem dX0_cut_17 : decode cX0_cut 17 = .ok (.astore 4, 2) := dk_58 4 (dk_at dksX0_cut_0 17 rfl rfl)
theorem dX0_cut_19 : decode cX0_cut 19 = .ok (.iconst 2, 1) := dk_5 (dk_at dksX0_cut_0 19 rfl rfl)
theorem dX0_cut_20 : decode cX0_cut 20 = .ok (.ireturn, 1) := dk_172 (dk_at dksX0_cut_0 20 rfl rfl)
theorem dX0_cut_21 : decode cX0_cut 21 = .ok (.iconst 0, 1) := dk_3 (dk_at dksX0_cut_0 21 rfl rfl)
theorem dX0_cut_22 : decode cX0_cut 22 = .ok (.ireturn, 1) := dk_172 (dk_at dksX0_cut_0 22 rfl rfl)
abbrev cX0_chain : ByteArray := method_22_code
def yX0_chain : MethodName := ⟨RX0, "chain", "(LFavourTown;IIII[J)I"⟩
def dkwX0_chain_1 : List UInt8 := [172, 3, 172]
abbrev dktX0_chain_1 : List UInt8 := dkwX0_chain_1 ++ []
def dkwX0_chain_0 : List UInt8 := [25, 5, 3, 42, 27, 28, 29, 21, 4, 182, 0, 81, 133, 80, 167, 0, 11, 58, 6, 4, 172, 58, 6, 5]
abbrev dktX0_chain_0 : List UInt8 := dkwX0_chain_0 ++ dktX0_chain_1
theorem dksX0_chain_0 : cX0_chain.data.toList.drop 0 = dktX0_chain_0 := by decide +kernel
theorem dksX0_chain_1 : cX0_chain.data.toList.drop 24 = dktX0_chain_1 := dk_seg dksX0_chain_0 24 rfl rfl
theorem dX0_chain_0 : decode cX0_chain 0 = .ok (.aload 5, 2) := dk_25 5 (dk_at dksX0_chain_0 0 rfl rfl)
theorem dX0_chain_2 : decode cX0_chain 2 = .ok (.iconst 0, 1) := dk_3 (dk_at dksX0_chain_0 2 rfl rfl)
theorem dX0_chain_3 : decode cX0_chain 3 = .ok (.aload_n 0, 1) := dk_42 (dk_at dksX0_chain_0 3 rfl rfl)
theorem dX0_chain_4 : decode cX0_chain 4 = .ok (.iload_n 1, 1) := dk_27 (dk_at dksX0_chain_0 4 rfl rfl)
theorem dX0_chain_5 : decode cX0_chain 5 = .ok (.iload_n 2, 1) := dk_28 (dk_at dksX0_chain_0 5 rfl rfl)
theorem dX0_chain_6 : decode cX0_chain 6 = .ok (.iload_n 3, 1) := dk_29 (dk_at dksX0_chain_0 6 rfl rfl)
theorem dX0_chain_7 : decode cX0_chain 7 = .ok (.iload 4, 2) := dk_21 4 (dk_at dksX0_chain_0 7 rfl rfl)
theorem dX0_chain_9 : decode cX0_chain 9 = .ok (.invokevirtual 81, 3) := dk_182 0 81 (dk_at dksX0_chain_0 9 rfl rfl)
theorem dX0_chain_12 : decode cX0_chain 12 = .ok (.i2l, 1) := dk_133 (dk_at dksX0_chain_0 12 rfl rfl)
theorem dX0_chain_13 : decode cX0_chain 13 = .ok (.lastore, 1) := dk_80 (dk_at dksX0_chain_0 13 rfl rfl)
theorem dX0_chain_14 : decode cX0_chain 14 = .ok (.goto 11, 3) := dk_167 0 11 (dk_at dksX0_chain_0 14 rfl rfl)
theorem dX0_chain_17 : decode cX0_chain 17 = .ok (.astore 6, 2) := dk_58 6 (dk_at dksX0_chain_0 17 rfl rfl)
theorem dX0_chain_19 : decode cX0_chain 19 = .ok (.iconst 1, 1) := dk_4 (dk_at dksX0_chain_0 19 rfl rfl)
theorem dX0_chain_20 : decode cX0_chain 20 = .ok (.ireturn, 1) := dk_172 (dk_at dksX0_chain_0 20 rfl rfl)
theorem dX0_chain_21 : decode cX0_chain 21 = .ok (.astore 6, 2) := dk_58 6 (dk_at dksX0_chain_0 21 rfl rfl)
theorem dX0_chain_23 : decode cX0_chain 23 = .ok (.iconst 2, 1) := dk_5 (dk_at dksX0_chain_0 23 rfl rfl)
theorem dX0_chain_24 : decode cX0_chain 24 = .ok (.ireturn, 1) := dk_172 (dk_at dksX0_chain_1 0 rfl rfl)
theorem dX0_chain_25 : decode cX0_chain 25 = .ok (.iconst 0, 1) := dk_3 (dk_at dksX0_chain_1 1 rfl rfl)
theorem dX0_chain_26 : decode cX0_chain 26 = .ok (.ireturn, 1) := dk_172 (dk_at dksX0_chain_1 2 rfl rfl)
abbrev cX0_ring : ByteArray := method_23_code
def yX0_ring : MethodName := ⟨RX0, "ring", "(LFavourTown;[J)I"⟩
def dkwX0_ring_0 : List UInt8 := [43, 3, 42, 182, 0, 85, 133, 80, 167, 0, 9, 77, 4, 172, 77, 5, 172, 3, 172]
abbrev dktX0_ring_0 : List UInt8 := dkwX0_ring_0 ++ []
theorem dksX0_ring_0 : cX0_ring.data.toList.drop 0 = dktX0_ring_0 := by decide +kernel
theorem dX0_ring_0 : decode cX0_ring 0 = .ok (.aload_n 1, 1) := dk_43 (dk_at dksX0_ring_0 0 rfl rfl)
theorem dX0_ring_1 : decode cX0_ring 1 = .ok (.iconst 0, 1) := dk_3 (dk_at dksX0_ring_0 1 rfl rfl)
theorem dX0_ring_2 : decode cX0_ring 2 = .ok (.aload_n 0, 1) := dk_42 (dk_at dksX0_ring_0 2 rfl rfl)
theorem dX0_ring_3 : decode cX0_ring 3 = .ok (.invokevirtual 85, 3) := dk_182 0 85 (dk_at dksX0_ring_0 3 rfl rfl)
theorem dX0_ring_6 : decode cX0_ring 6 = .ok (.i2l, 1) := dk_133 (dk_at dksX0_ring_0 6 rfl rfl)
theorem dX0_ring_7 : decode cX0_ring 7 = .ok (.lastore, 1) := dk_80 (dk_at dksX0_ring_0 7 rfl rfl)
theorem dX0_ring_8 : decode cX0_ring 8 = .ok (.goto 9, 3) := dk_167 0 9 (dk_at dksX0_ring_0 8 rfl rfl)
theorem dX0_ring_11 : decode cX0_ring 11 = .ok (.astore_n 2, 1) := dk_77 (dk_at dksX0_ring_0 11 rfl rfl)
theorem dX0_ring_12 : decode cX0_ring 12 = .ok (.iconst 1, 1) := dk_4 (dk_at dksX0_ring_0 12 rfl rfl)
theorem dX0_ring_13 : decode cX0_ring 13 = .ok (.ireturn, 1) := dk_172 (dk_at dksX0_ring_0 13 rfl rfl)
theorem dX0_ring_14 : decode cX0_ring 14 = .ok (.astore_n 2, 1) := dk_77 (dk_at dksX0_ring_0 14 rfl rfl)
theorem dX0_ring_15 : decode cX0_ring 15 = .ok (.iconst 2, 1) := dk_5 (dk_at dksX0_ring_0 15 rfl rfl)
theorem dX0_ring_16 : decode cX0_ring 16 = .ok (.ireturn, 1) := dk_172 (dk_at dksX0_ring_0 16 rfl rfl)
theorem dX0_ring_17 : decode cX0_ring 17 = .ok (.iconst 0, 1) := dk_3 (dk_at dksX0_ring_0 17 rfl rfl)
theorem dX0_ring_18 : decode cX0_ring 18 = .ok (.ireturn, 1) := dk_172 (dk_at dksX0_ring_0 18 rfl rfl)
abbrev cX0_clear : ByteArray := method_24_code
def yX0_clear : MethodName := ⟨RX0, "clear", "(LFavourTown;I[J)I"⟩
def dkwX0_clear_0 : List UInt8 := [44, 3, 42, 27, 182, 0, 88, 133, 80, 167, 0, 6, 78, 4, 172, 3, 172]
abbrev dktX0_clear_0 : List UInt8 := dkwX0_clear_0 ++ []
theorem dksX0_clear_0 : cX0_clear.data.toList.drop 0 = dktX0_clear_0 := by decide +kernel
theorem dX0_clear_0 : decode cX0_clear 0 = .ok (.aload_n 2, 1) := dk_44 (dk_at dksX0_clear_0 0 rfl rfl)
theorem dX0_clear_1 : decode cX0_clear 1 = .ok (.iconst 0, 1) := dk_3 (dk_at dksX0_clear_0 1 rfl rfl)
theorem dX0_clear_2 : decode cX0_clear 2 = .ok (.aload_n 0, 1) := dk_42 (dk_at dksX0_clear_0 2 rfl rfl)
theorem dX0_clear_3 : decode cX0_clear 3 = .ok (.iload_n 1, 1) := dk_27 (dk_at dksX0_clear_0 3 rfl rfl)
theorem dX0_clear_4 : decode cX0_clear 4 = .ok (.invokevirtual 88, 3) := dk_182 0 88 (dk_at dksX0_clear_0 4 rfl rfl)
theorem dX0_clear_7 : decode cX0_clear 7 = .ok (.i2l, 1) := dk_133 (dk_at dksX0_clear_0 7 rfl rfl)
theorem dX0_clear_8 : decode cX0_clear 8 = .ok (.lastore, 1) := dk_80 (dk_at dksX0_clear_0 8 rfl rfl)
theorem dX0_clear_9 : decode cX0_clear 9 = .ok (.goto 6, 3) := dk_167 0 6 (dk_at dksX0_clear_0 9 rfl rfl)
theorem dX0_clear_12 : decode cX0_clear 12 = .ok (.astore_n 3, 1) := dk_78 (dk_at dksX0_clear_0 12 rfl rfl)
theorem dX0_clear_13 : decode cX0_clear 13 = .ok (.iconst 1, 1) := dk_4 (dk_at dksX0_clear_0 13 rfl rfl)
theorem dX0_clear_14 : decode cX0_clear 14 = .ok (.ireturn, 1) := dk_172 (dk_at dksX0_clear_0 14 rfl rfl)
theorem dX0_clear_15 : decode cX0_clear 15 = .ok (.iconst 0, 1) := dk_3 (dk_at dksX0_clear_0 15 rfl rfl)
theorem dX0_clear_16 : decode cX0_clear 16 = .ok (.ireturn, 1) := dk_172 (dk_at dksX0_clear_0 16 rfl rfl)
abbrev cX0_loss : ByteArray := method_25_code
def yX0_loss : MethodName := ⟨RX0, "loss", "(LFavourTown;II[J)I"⟩
def dkwX0_loss_0 : List UInt8 := [45, 3, 42, 27, 28, 182, 0, 91, 133, 80, 167, 0, 7, 58, 4, 4, 172, 3, 172]
abbrev dktX0_loss_0 : List UInt8 := dkwX0_loss_0 ++ []
theorem dksX0_loss_0 : cX0_loss.data.toList.drop 0 = dktX0_loss_0 := by decide +kernel
theorem dX0_loss_0 : decode cX0_loss 0 = .ok (.aload_n 3, 1) := dk_45 (dk_at dksX0_loss_0 0 rfl rfl)
theorem dX0_loss_1 : decode cX0_loss 1 = .ok (.iconst 0, 1) := dk_3 (dk_at dksX0_loss_0 1 rfl rfl)
theorem dX0_loss_2 : decode cX0_loss 2 = .ok (.aload_n 0, 1) := dk_42 (dk_at dksX0_loss_0 2 rfl rfl)
theorem dX0_loss_3 : decode cX0_loss 3 = .ok (.iload_n 1, 1) := dk_27 (dk_at dksX0_loss_0 3 rfl rfl)
theorem dX0_loss_4 : decode cX0_loss 4 = .ok (.iload_n 2, 1) := dk_28 (dk_at dksX0_loss_0 4 rfl rfl)
theorem dX0_loss_5 : decode cX0_loss 5 = .ok (.invokevirtual 91, 3) := dk_182 0 91 (dk_at dksX0_loss_0 5 rfl rfl)
theorem dX0_loss_8 : decode cX0_loss 8 = .ok (.i2l, 1) := dk_133 (dk_at dksX0_loss_0 8 rfl rfl)
theorem dX0_loss_9 : decode cX0_loss 9 = .ok (.lastore, 1) := dk_80 (dk_at dksX0_loss_0 9 rfl rfl)
theorem dX0_loss_10 : decode cX0_loss 10 = .ok (.goto 7, 3) := dk_167 0 7 (dk_at dksX0_loss_0 10 rfl rfl)
theorem dX0_loss_13 : decode cX0_loss 13 = .ok (.astore 4, 2) := dk_58 4 (dk_at dksX0_loss_0 13 rfl rfl)
theorem dX0_loss_15 : decode cX0_loss 15 = .ok (.iconst 1, 1) := dk_4 (dk_at dksX0_loss_0 15 rfl rfl)
theorem dX0_loss_16 : decode cX0_loss 16 = .ok (.ireturn, 1) := dk_172 (dk_at dksX0_loss_0 16 rfl rfl)
theorem dX0_loss_17 : decode cX0_loss 17 = .ok (.iconst 0, 1) := dk_3 (dk_at dksX0_loss_0 17 rfl rfl)
theorem dX0_loss_18 : decode cX0_loss 18 = .ok (.ireturn, 1) := dk_172 (dk_at dksX0_loss_0 18 rfl rfl)
abbrev cX0_ruined : ByteArray := method_26_code
def yX0_ruined : MethodName := ⟨RX0, "ruined", "(LFavourTown;I[J)I"⟩
def dkwX0_ruined_0 : List UInt8 := [44, 3, 42, 27, 182, 0, 94, 133, 80, 167, 0, 6, 78, 4, 172, 3, 172]
abbrev dktX0_ruined_0 : List UInt8 := dkwX0_ruined_0 ++ []
theorem dksX0_ruined_0 : cX0_ruined.data.toList.drop 0 = dktX0_ruined_0 := by decide +kernel
theorem dX0_ruined_0 : decode cX0_ruined 0 = .ok (.aload_n 2, 1) := dk_44 (dk_at dksX0_ruined_0 0 rfl rfl)
theorem dX0_ruined_1 : decode cX0_ruined 1 = .ok (.iconst 0, 1) := dk_3 (dk_at dksX0_ruined_0 1 rfl rfl)
theorem dX0_ruined_2 : decode cX0_ruined 2 = .ok (.aload_n 0, 1) := dk_42 (dk_at dksX0_ruined_0 2 rfl rfl)
theorem dX0_ruined_3 : decode cX0_ruined 3 = .ok (.iload_n 1, 1) := dk_27 (dk_at dksX0_ruined_0 3 rfl rfl)
theorem dX0_ruined_4 : decode cX0_ruined 4 = .ok (.invokevirtual 94, 3) := dk_182 0 94 (dk_at dksX0_ruined_0 4 rfl rfl)
theorem dX0_ruined_7 : decode cX0_ruined 7 = .ok (.i2l, 1) := dk_133 (dk_at dksX0_ruined_0 7 rfl rfl)
theorem dX0_ruined_8 : decode cX0_ruined 8 = .ok (.lastore, 1) := dk_80 (dk_at dksX0_ruined_0 8 rfl rfl)
theorem dX0_ruined_9 : decode cX0_ruined 9 = .ok (.goto 6, 3) := dk_167 0 6 (dk_at dksX0_ruined_0 9 rfl rfl)
theorem dX0_ruined_12 : decode cX0_ruined 12 = .ok (.astore_n 3, 1) := dk_78 (dk_at dksX0_ruined_0 12 rfl rfl)
theorem dX0_ruined_13 : decode cX0_ruined 13 = .ok (.iconst 1, 1) := dk_4 (dk_at dksX0_ruined_0 13 rfl rfl)
theorem dX0_ruined_14 : decode cX0_ruined 14 = .ok (.ireturn, 1) := dk_172 (dk_at dksX0_ruined_0 14 rfl rfl)
theorem dX0_ruined_15 : decode cX0_ruined 15 = .ok (.iconst 0, 1) := dk_3 (dk_at dksX0_ruined_0 15 rfl rfl)
theorem dX0_ruined_16 : decode cX0_ruined 16 = .ok (.ireturn, 1) := dk_172 (dk_at dksX0_ruined_0 16 rfl rfl)
abbrev cX0_fits : ByteArray := method_27_code
def yX0_fits : MethodName := ⟨RX0, "fits", "(LFavourTown;I[J)I"⟩
def dkwX0_fits_0 : List UInt8 := [44, 3, 42, 27, 182, 0, 97, 133, 80, 167, 0, 6, 78, 4, 172, 3, 172]
abbrev dktX0_fits_0 : List UInt8 := dkwX0_fits_0 ++ []
theorem dksX0_fits_0 : cX0_fits.data.toList.drop 0 = dktX0_fits_0 := by decide +kernel
theorem dX0_fits_0 : decode cX0_fits 0 = .ok (.aload_n 2, 1) := dk_44 (dk_at dksX0_fits_0 0 rfl rfl)
theorem dX0_fits_1 : decode cX0_fits 1 = .ok (.iconst 0, 1) := dk_3 (dk_at dksX0_fits_0 1 rfl rfl)
theorem dX0_fits_2 : decode cX0_fits 2 = .ok (.aload_n 0, 1) := dk_42 (dk_at dksX0_fits_0 2 rfl rfl)
theorem dX0_fits_3 : decode cX0_fits 3 = .ok (.iload_n 1, 1) := dk_27 (dk_at dksX0_fits_0 3 rfl rfl)
theorem dX0_fits_4 : decode cX0_fits 4 = .ok (.invokevirtual 97, 3) := dk_182 0 97 (dk_at dksX0_fits_0 4 rfl rfl)
theorem dX0_fits_7 : decode cX0_fits 7 = .ok (.i2l, 1) := dk_133 (dk_at dksX0_fits_0 7 rfl rfl)
theorem dX0_fits_8 : decode cX0_fits 8 = .ok (.lastore, 1) := dk_80 (dk_at dksX0_fits_0 8 rfl rfl)
theorem dX0_fits_9 : decode cX0_fits 9 = .ok (.goto 6, 3) := dk_167 0 6 (dk_at dksX0_fits_0 9 rfl rfl)
theorem dX0_fits_12 : decode cX0_fits 12 = .ok (.astore_n 3, 1) := dk_78 (dk_at dksX0_fits_0 12 rfl rfl)
theorem dX0_fits_13 : decode cX0_fits 13 = .ok (.iconst 1, 1) := dk_4 (dk_at dksX0_fits_0 13 rfl rfl)
theorem dX0_fits_14 : decode cX0_fits 14 = .ok (.ireturn, 1) := dk_172 (dk_at dksX0_fits_0 14 rfl rfl)
theorem dX0_fits_15 : decode cX0_fits 15 = .ok (.iconst 0, 1) := dk_3 (dk_at dksX0_fits_0 15 rfl rfl)
theorem dX0_fits_16 : decode cX0_fits 16 = .ok (.ireturn, 1) := dk_172 (dk_at dksX0_fits_0 16 rfl rfl)
abbrev cX0_play : ByteArray := method_28_code
def yX0_play : MethodName := ⟨RX0, "play", "(LFavourTown;III[J)I"⟩
def dkwX0_play_1 : List UInt8 := [172]
abbrev dktX0_play_1 : List UInt8 := dkwX0_play_1 ++ []
def dkwX0_play_0 : List UInt8 := [25, 4, 3, 42, 27, 28, 29, 182, 0, 100, 133, 80, 167, 0, 11, 58, 5, 4, 172, 58, 5, 5, 172, 3]
abbrev dktX0_play_0 : List UInt8 := dkwX0_play_0 ++ dktX0_play_1
theorem dksX0_play_0 : cX0_play.data.toList.drop 0 = dktX0_play_0 := by decide +kernel
theorem dksX0_play_1 : cX0_play.data.toList.drop 24 = dktX0_play_1 := dk_seg dksX0_play_0 24 rfl rfl
theorem dX0_play_0 : decode cX0_play 0 = .ok (.aload 4, 2) := dk_25 4 (dk_at dksX0_play_0 0 rfl rfl)
theorem dX0_play_2 : decode cX0_play 2 = .ok (.iconst 0, 1) := dk_3 (dk_at dksX0_play_0 2 rfl rfl)
theorem dX0_play_3 : decode cX0_play 3 = .ok (.aload_n 0, 1) := dk_42 (dk_at dksX0_play_0 3 rfl rfl)
theorem dX0_play_4 : decode cX0_play 4 = .ok (.iload_n 1, 1) := dk_27 (dk_at dksX0_play_0 4 rfl rfl)
theorem dX0_play_5 : decode cX0_play 5 = .ok (.iload_n 2, 1) := dk_28 (dk_at dksX0_play_0 5 rfl rfl)
theorem dX0_play_6 : decode cX0_play 6 = .ok (.iload_n 3, 1) := dk_29 (dk_at dksX0_play_0 6 rfl rfl)
theorem dX0_play_7 : decode cX0_play 7 = .ok (.invokevirtual 100, 3) := dk_182 0 100 (dk_at dksX0_play_0 7 rfl rfl)
theorem dX0_play_10 : decode cX0_play 10 = .ok (.i2l, 1) := dk_133 (dk_at dksX0_play_0 10 rfl rfl)
theorem dX0_play_11 : decode cX0_play 11 = .ok (.lastore, 1) := dk_80 (dk_at dksX0_play_0 11 rfl rfl)
theorem dX0_play_12 : decode cX0_play 12 = .ok (.goto 11, 3) := dk_167 0 11 (dk_at dksX0_play_0 12 rfl rfl)
theorem dX0_play_15 : decode cX0_play 15 = .ok (.astore 5, 2) := dk_58 5 (dk_at dksX0_play_0 15 rfl rfl)
theorem dX0_play_17 : decode cX0_play 17 = .ok (.iconst 1, 1) := dk_4 (dk_at dksX0_play_0 17 rfl rfl)
theorem dX0_play_18 : decode cX0_play 18 = .ok (.ireturn, 1) := dk_172 (dk_at dksX0_play_0 18 rfl rfl)
theorem dX0_play_19 : decode cX0_play 19 = .ok (.astore 5, 2) := dk_58 5 (dk_at dksX0_play_0 19 rfl rfl)
theorem dX0_play_21 : decode cX0_play 21 = .ok (.iconst 2, 1) := dk_5 (dk_at dksX0_play_0 21 rfl rfl)
theorem dX0_play_22 : decode cX0_play 22 = .ok (.ireturn, 1) := dk_172 (dk_at dksX0_play_0 22 rfl rfl)
theorem dX0_play_23 : decode cX0_play 23 = .ok (.iconst 0, 1) := dk_3 (dk_at dksX0_play_0 23 rfl rfl)
theorem dX0_play_24 : decode cX0_play 24 = .ok (.ireturn, 1) := dk_172 (dk_at dksX0_play_1 0 rfl rfl)
theorem q82 : (Jvm.Cond.initialized "FavourTownLaw") ∈ lw_all := lw_g (lw_at lw_m1 0 rfl) rfl
theorem q129 : (Jvm.Cond.classLink "FavourTownLaw" (8 : Nat) "FavourTown") ∈ lw_all := lw_g (lw_at lw_m1 47 rfl) rfl
theorem q131 : (Jvm.Cond.methodLink "FavourTownLaw" (103 : Nat) ({ cls := "FavourTown", name := "<init>", desc := "()V" } : Jvm.MethodName)) ∈ lw_all := lw_g (lw_at lw_m1 49 rfl) rfl
theorem q372 : (Jvm.Cond.methodLink "FavourTownLaw" (107 : Nat) ({ cls := "FavourTown", name := "feed", desc := "(IIIII)I" } : Jvm.MethodName)) ∈ lw_all := lw_g (lw_at lw_m2 50 rfl) rfl
theorem q380 : (Jvm.Cond.methodLink "FavourTownLaw" (112 : Nat) ({ cls := "FavourTown", name := "end", desc := "(I)Z" } : Jvm.MethodName)) ∈ lw_all := lw_g (lw_at lw_m2 58 rfl) rfl
theorem q388 : (Jvm.Cond.methodLink "FavourTownLaw" (128 : Nat) ({ cls := "FavourTown", name := "fault", desc := "()I" } : Jvm.MethodName)) ∈ lw_all := lw_g (lw_at lw_m2 66 rfl) rfl
theorem q392 : (Jvm.Cond.methodLink "FavourTownLaw" (178 : Nat) ({ cls := "FavourTown", name := "enough", desc := "(I)Z" } : Jvm.MethodName)) ∈ lw_all := lw_g (lw_at lw_m2 70 rfl) rfl
theorem q552 : (Jvm.Cond.methodLink "FavourTownLaw" (182 : Nat) ({ cls := "FavourTown", name := "witness", desc := "(I)I" } : Jvm.MethodName)) ∈ lw_all := lw_g (lw_at lw_m2 230 rfl) rfl
theorem q556 : (Jvm.Cond.methodLink "FavourTownLaw" (186 : Nat) ({ cls := "FavourTown", name := "fewest", desc := "()I" } : Jvm.MethodName)) ∈ lw_all := lw_g (lw_at lw_m2 234 rfl) rfl
theorem q566 : (Jvm.Cond.methodLink "FavourTownLaw" (190 : Nat) ({ cls := "FavourTown", name := "forgive", desc := "(I)I" } : Jvm.MethodName)) ∈ lw_all := lw_g (lw_at lw_m3 4 rfl) rfl
theorem q573 : (Jvm.Cond.methodLink "FavourTownLaw" (225 : Nat) ({ cls := "FavourTown", name := "image", desc := "()V" } : Jvm.MethodName)) ∈ lw_all := lw_g (lw_at lw_m3 11 rfl) rfl
theorem q748 : (Jvm.Cond.methodLink "FavourTownLaw" (229 : Nat) ({ cls := "FavourTown", name := "back", desc := "()Z" } : Jvm.MethodName)) ∈ lw_all := lw_g (lw_at lw_m3 186 rfl) rfl
theorem q752 : (Jvm.Cond.methodLink "FavourTownLaw" (234 : Nat) ({ cls := "FavourTown", name := "count", desc := "(I)I" } : Jvm.MethodName)) ∈ lw_all := lw_g (lw_at lw_m3 190 rfl) rfl
theorem q765 : (Jvm.Cond.methodLink "FavourTownLaw" (116 : Nat) ({ cls := "FavourTownLaw", name := "town", desc := "(LFavourTown;[J)I" } : Jvm.MethodName)) ∈ lw_all := lw_g (lw_at lw_m3 203 rfl) rfl
theorem q766 : (Jvm.Cond.static ({ cls := "FavourTownLaw", name := "town", desc := "(LFavourTown;[J)I" } : Jvm.MethodName)) ∈ lw_all := lw_g (lw_at lw_m3 204 rfl) rfl
theorem q767 : (Jvm.Cond.codeWith ({ cls := "FavourTownLaw", name := "town", desc := "(LFavourTown;[J)I" } : Jvm.MethodName) method_3_code (3 : Nat) (Option.some Jvm.ClassFile.FieldType.int) [((0 : Nat), (8 : Nat), (11 : Nat), (13 : Nat)), ((0 : Nat), (8 : Nat), (14 : Nat), (15 : Nat))]) ∈ lw_all := lw_g (lw_at lw_m3 205 rfl) rfl
theorem q768 : (Jvm.Cond.classLink "FavourTownLaw" (13 : Nat) "java/lang/IllegalArgumentException") ∈ lw_all := lw_g (lw_at lw_m3 206 rfl) rfl
theorem q769 : (Jvm.Cond.classLink "FavourTownLaw" (15 : Nat) "java/lang/UnsupportedOperationException") ∈ lw_all := lw_g (lw_at lw_m3 207 rfl) rfl
theorem q770 : (Jvm.Cond.methodLink "FavourTownLaw" (7 : Nat) ({ cls := "FavourTown", name := "town", desc := "()I" } : Jvm.MethodName)) ∈ lw_all := lw_g (lw_at lw_m3 208 rfl) rfl
theorem q1344 : (Jvm.Cond.methodLink "FavourTownLaw" (125 : Nat) ({ cls := "FavourTownLaw", name := "temper", desc := "(LFavourTown;[J)I" } : Jvm.MethodName)) ∈ lw_all := lw_g (lw_at lw_m6 62 rfl) rfl
theorem q1345 : (Jvm.Cond.static ({ cls := "FavourTownLaw", name := "temper", desc := "(LFavourTown;[J)I" } : Jvm.MethodName)) ∈ lw_all := lw_g (lw_at lw_m6 63 rfl) rfl
theorem q1346 : (Jvm.Cond.codeWith ({ cls := "FavourTownLaw", name := "temper", desc := "(LFavourTown;[J)I" } : Jvm.MethodName) method_4_code (3 : Nat) (Option.some Jvm.ClassFile.FieldType.int) [((0 : Nat), (8 : Nat), (11 : Nat), (13 : Nat)), ((0 : Nat), (8 : Nat), (14 : Nat), (15 : Nat))]) ∈ lw_all := lw_g (lw_at lw_m6 64 rfl) rfl
theorem q1347 : (Jvm.Cond.methodLink "FavourTownLaw" (17 : Nat) ({ cls := "FavourTown", name := "temper", desc := "()I" } : Jvm.MethodName)) ∈ lw_all := lw_g (lw_at lw_m6 65 rfl) rfl
theorem q1521 : (Jvm.Cond.methodLink "FavourTownLaw" (132 : Nat) ({ cls := "FavourTownLaw", name := "has", desc := "(LFavourTown;II[J)I" } : Jvm.MethodName)) ∈ lw_all := lw_g (lw_at lw_m6 239 rfl) rfl
theorem q1522 : (Jvm.Cond.static ({ cls := "FavourTownLaw", name := "has", desc := "(LFavourTown;II[J)I" } : Jvm.MethodName)) ∈ lw_all := lw_g (lw_at lw_m7 0 rfl) rfl
theorem q1523 : (Jvm.Cond.codeWith ({ cls := "FavourTownLaw", name := "has", desc := "(LFavourTown;II[J)I" } : Jvm.MethodName) method_5_code (5 : Nat) (Option.some Jvm.ClassFile.FieldType.int) [((0 : Nat), (10 : Nat), (13 : Nat), (24 : Nat))]) ∈ lw_all := lw_g (lw_at lw_m7 1 rfl) rfl
theorem q1524 : (Jvm.Cond.classLink "FavourTownLaw" (24 : Nat) "java/lang/IndexOutOfBoundsException") ∈ lw_all := lw_g (lw_at lw_m7 2 rfl) rfl
theorem q1543 : (Jvm.Cond.methodLink "FavourTownLaw" (20 : Nat) ({ cls := "FavourTown", name := "has", desc := "(II)I" } : Jvm.MethodName)) ∈ lw_all := lw_g (lw_at lw_m7 21 rfl) rfl
theorem q1570 : (Jvm.Cond.methodLink "FavourTownLaw" (136 : Nat) ({ cls := "FavourTownLaw", name := "give", desc := "(LFavourTown;IIIIZ[J)I" } : Jvm.MethodName)) ∈ lw_all := lw_g (lw_at lw_m7 48 rfl) rfl
theorem q1571 : (Jvm.Cond.static ({ cls := "FavourTownLaw", name := "give", desc := "(LFavourTown;IIIIZ[J)I" } : Jvm.MethodName)) ∈ lw_all := lw_g (lw_at lw_m7 49 rfl) rfl
theorem q1572 : (Jvm.Cond.codeWith ({ cls := "FavourTownLaw", name := "give", desc := "(LFavourTown;IIIIZ[J)I" } : Jvm.MethodName) method_6_code (8 : Nat) (Option.some Jvm.ClassFile.FieldType.int) [((0 : Nat), (16 : Nat), (19 : Nat), (24 : Nat)), ((0 : Nat), (16 : Nat), (23 : Nat), (13 : Nat))]) ∈ lw_all := lw_g (lw_at lw_m7 50 rfl) rfl
theorem q1573 : (Jvm.Cond.methodLink "FavourTownLaw" (26 : Nat) ({ cls := "FavourTown", name := "give", desc := "(IIIIZ)I" } : Jvm.MethodName)) ∈ lw_all := lw_g (lw_at lw_m7 51 rfl) rfl
theorem q1584 : (Jvm.Cond.methodLink "FavourTownLaw" (140 : Nat) ({ cls := "FavourTownLaw", name := "pass", desc := "(LFavourTown;II[J)I" } : Jvm.MethodName)) ∈ lw_all := lw_g (lw_at lw_m7 62 rfl) rfl
theorem q1585 : (Jvm.Cond.static ({ cls := "FavourTownLaw", name := "pass", desc := "(LFavourTown;II[J)I" } : Jvm.MethodName)) ∈ lw_all := lw_g (lw_at lw_m7 63 rfl) rfl
theorem q1586 : (Jvm.Cond.codeWith ({ cls := "FavourTownLaw", name := "pass", desc := "(LFavourTown;II[J)I" } : Jvm.MethodName) method_7_code (5 : Nat) (Option.some Jvm.ClassFile.FieldType.int) [((0 : Nat), (10 : Nat), (13 : Nat), (24 : Nat)), ((0 : Nat), (10 : Nat), (17 : Nat), (13 : Nat))]) ∈ lw_all := lw_g (lw_at lw_m7 64 rfl) rfl
theorem q1587 : (Jvm.Cond.methodLink "FavourTownLaw" (30 : Nat) ({ cls := "FavourTown", name := "pass", desc := "(II)I" } : Jvm.MethodName)) ∈ lw_all := lw_g (lw_at lw_m7 65 rfl) rfl
theorem q1595 : (Jvm.Cond.methodLink "FavourTownLaw" (143 : Nat) ({ cls := "FavourTownLaw", name := "call", desc := "(LFavourTown;I[J)I" } : Jvm.MethodName)) ∈ lw_all := lw_g (lw_at lw_m7 73 rfl) rfl
theorem q1596 : (Jvm.Cond.static ({ cls := "FavourTownLaw", name := "call", desc := "(LFavourTown;I[J)I" } : Jvm.MethodName)) ∈ lw_all := lw_g (lw_at lw_m7 74 rfl) rfl
theorem q1597 : (Jvm.Cond.codeWith ({ cls := "FavourTownLaw", name := "call", desc := "(LFavourTown;I[J)I" } : Jvm.MethodName) method_8_code (4 : Nat) (Option.some Jvm.ClassFile.FieldType.int) [((0 : Nat), (9 : Nat), (12 : Nat), (24 : Nat))]) ∈ lw_all := lw_g (lw_at lw_m7 75 rfl) rfl
theorem q1598 : (Jvm.Cond.methodLink "FavourTownLaw" (33 : Nat) ({ cls := "FavourTown", name := "call", desc := "(I)I" } : Jvm.MethodName)) ∈ lw_all := lw_g (lw_at lw_m7 76 rfl) rfl
theorem q1603 : (Jvm.Cond.methodLink "FavourTownLaw" (147 : Nat) ({ cls := "FavourTownLaw", name := "days", desc := "(LFavourTown;I[J)I" } : Jvm.MethodName)) ∈ lw_all := lw_g (lw_at lw_m7 81 rfl) rfl
theorem q1604 : (Jvm.Cond.static ({ cls := "FavourTownLaw", name := "days", desc := "(LFavourTown;I[J)I" } : Jvm.MethodName)) ∈ lw_all := lw_g (lw_at lw_m7 82 rfl) rfl
theorem q1605 : (Jvm.Cond.codeWith ({ cls := "FavourTownLaw", name := "days", desc := "(LFavourTown;I[J)I" } : Jvm.MethodName) method_9_code (4 : Nat) (Option.some Jvm.ClassFile.FieldType.int) [((0 : Nat), (9 : Nat), (12 : Nat), (13 : Nat))]) ∈ lw_all := lw_g (lw_at lw_m7 83 rfl) rfl
theorem q1606 : (Jvm.Cond.methodLink "FavourTownLaw" (37 : Nat) ({ cls := "FavourTown", name := "days", desc := "(I)I" } : Jvm.MethodName)) ∈ lw_all := lw_g (lw_at lw_m7 84 rfl) rfl
theorem q1610 : (Jvm.Cond.methodLink "FavourTownLaw" (150 : Nat) ({ cls := "FavourTownLaw", name := "look", desc := "(LFavourTown;II[J)I" } : Jvm.MethodName)) ∈ lw_all := lw_g (lw_at lw_m7 88 rfl) rfl
theorem q1611 : (Jvm.Cond.static ({ cls := "FavourTownLaw", name := "look", desc := "(LFavourTown;II[J)I" } : Jvm.MethodName)) ∈ lw_all := lw_g (lw_at lw_m7 89 rfl) rfl
theorem q1612 : (Jvm.Cond.codeWith ({ cls := "FavourTownLaw", name := "look", desc := "(LFavourTown;II[J)I" } : Jvm.MethodName) method_10_code (5 : Nat) (Option.some Jvm.ClassFile.FieldType.int) [((0 : Nat), (10 : Nat), (13 : Nat), (24 : Nat)), ((0 : Nat), (10 : Nat), (17 : Nat), (43 : Nat))]) ∈ lw_all := lw_g (lw_at lw_m7 90 rfl) rfl
theorem q1613 : (Jvm.Cond.classLink "FavourTownLaw" (43 : Nat) "java/util/NoSuchElementException") ∈ lw_all := lw_g (lw_at lw_m7 91 rfl) rfl
theorem q1614 : (Jvm.Cond.methodLink "FavourTownLaw" (40 : Nat) ({ cls := "FavourTown", name := "look", desc := "(II)I" } : Jvm.MethodName)) ∈ lw_all := lw_g (lw_at lw_m7 92 rfl) rfl
theorem q1637 : (Jvm.Cond.methodLink "FavourTownLaw" (153 : Nat) ({ cls := "FavourTownLaw", name := "hand", desc := "(LFavourTown;II[J)I" } : Jvm.MethodName)) ∈ lw_all := lw_g (lw_at lw_m7 115 rfl) rfl
theorem q1638 : (Jvm.Cond.static ({ cls := "FavourTownLaw", name := "hand", desc := "(LFavourTown;II[J)I" } : Jvm.MethodName)) ∈ lw_all := lw_g (lw_at lw_m7 116 rfl) rfl
theorem q1639 : (Jvm.Cond.codeWith ({ cls := "FavourTownLaw", name := "hand", desc := "(LFavourTown;II[J)I" } : Jvm.MethodName) method_11_code (5 : Nat) (Option.some Jvm.ClassFile.FieldType.int) [((0 : Nat), (10 : Nat), (13 : Nat), (24 : Nat))]) ∈ lw_all := lw_g (lw_at lw_m7 117 rfl) rfl
theorem q1640 : (Jvm.Cond.methodLink "FavourTownLaw" (45 : Nat) ({ cls := "FavourTown", name := "hand", desc := "(II)I" } : Jvm.MethodName)) ∈ lw_all := lw_g (lw_at lw_m7 118 rfl) rfl
theorem q1644 : (Jvm.Cond.methodLink "FavourTownLaw" (156 : Nat) ({ cls := "FavourTownLaw", name := "takes", desc := "(LFavourTown;II[J)I" } : Jvm.MethodName)) ∈ lw_all := lw_g (lw_at lw_m7 122 rfl) rfl
theorem q1645 : (Jvm.Cond.static ({ cls := "FavourTownLaw", name := "takes", desc := "(LFavourTown;II[J)I" } : Jvm.MethodName)) ∈ lw_all := lw_g (lw_at lw_m7 123 rfl) rfl
theorem q1646 : (Jvm.Cond.codeWith ({ cls := "FavourTownLaw", name := "takes", desc := "(LFavourTown;II[J)I" } : Jvm.MethodName) method_12_code (5 : Nat) (Option.some Jvm.ClassFile.FieldType.int) [((0 : Nat), (17 : Nat), (20 : Nat), (24 : Nat))]) ∈ lw_all := lw_g (lw_at lw_m7 124 rfl) rfl
theorem q1647 : (Jvm.Cond.methodLink "FavourTownLaw" (48 : Nat) ({ cls := "FavourTown", name := "takes", desc := "(II)Z" } : Jvm.MethodName)) ∈ lw_all := lw_g (lw_at lw_m7 125 rfl) rfl
theorem q1652 : (Jvm.Cond.methodLink "FavourTownLaw" (159 : Nat) ({ cls := "FavourTownLaw", name := "rich", desc := "(LFavourTown;I[J)I" } : Jvm.MethodName)) ∈ lw_all := lw_g (lw_at lw_m7 130 rfl) rfl
theorem q1653 : (Jvm.Cond.static ({ cls := "FavourTownLaw", name := "rich", desc := "(LFavourTown;I[J)I" } : Jvm.MethodName)) ∈ lw_all := lw_g (lw_at lw_m7 131 rfl) rfl
theorem q1654 : (Jvm.Cond.codeWith ({ cls := "FavourTownLaw", name := "rich", desc := "(LFavourTown;I[J)I" } : Jvm.MethodName) method_13_code (4 : Nat) (Option.some Jvm.ClassFile.FieldType.int) [((0 : Nat), (9 : Nat), (12 : Nat), (24 : Nat))]) ∈ lw_all := lw_g (lw_at lw_m7 132 rfl) rfl
theorem q1655 : (Jvm.Cond.methodLink "FavourTownLaw" (52 : Nat) ({ cls := "FavourTown", name := "rich", desc := "(I)I" } : Jvm.MethodName)) ∈ lw_all := lw_g (lw_at lw_m7 133 rfl) rfl
theorem q1660 : (Jvm.Cond.methodLink "FavourTownLaw" (162 : Nat) ({ cls := "FavourTownLaw", name := "debt", desc := "(LFavourTown;I[J)I" } : Jvm.MethodName)) ∈ lw_all := lw_g (lw_at lw_m7 138 rfl) rfl
theorem q1661 : (Jvm.Cond.static ({ cls := "FavourTownLaw", name := "debt", desc := "(LFavourTown;I[J)I" } : Jvm.MethodName)) ∈ lw_all := lw_g (lw_at lw_m7 139 rfl) rfl
theorem q1662 : (Jvm.Cond.codeWith ({ cls := "FavourTownLaw", name := "debt", desc := "(LFavourTown;I[J)I" } : Jvm.MethodName) method_14_code (4 : Nat) (Option.some Jvm.ClassFile.FieldType.int) [((0 : Nat), (9 : Nat), (12 : Nat), (24 : Nat))]) ∈ lw_all := lw_g (lw_at lw_m7 140 rfl) rfl
theorem q1663 : (Jvm.Cond.methodLink "FavourTownLaw" (55 : Nat) ({ cls := "FavourTown", name := "debt", desc := "(I)I" } : Jvm.MethodName)) ∈ lw_all := lw_g (lw_at lw_m7 141 rfl) rfl
theorem q1668 : (Jvm.Cond.methodLink "FavourTownLaw" (165 : Nat) ({ cls := "FavourTownLaw", name := "owes", desc := "(LFavourTown;II[J)I" } : Jvm.MethodName)) ∈ lw_all := lw_g (lw_at lw_m7 146 rfl) rfl
theorem q1669 : (Jvm.Cond.static ({ cls := "FavourTownLaw", name := "owes", desc := "(LFavourTown;II[J)I" } : Jvm.MethodName)) ∈ lw_all := lw_g (lw_at lw_m7 147 rfl) rfl
theorem q1670 : (Jvm.Cond.codeWith ({ cls := "FavourTownLaw", name := "owes", desc := "(LFavourTown;II[J)I" } : Jvm.MethodName) method_15_code (5 : Nat) (Option.some Jvm.ClassFile.FieldType.int) [((0 : Nat), (10 : Nat), (13 : Nat), (24 : Nat))]) ∈ lw_all := lw_g (lw_at lw_m7 148 rfl) rfl
theorem q1671 : (Jvm.Cond.methodLink "FavourTownLaw" (58 : Nat) ({ cls := "FavourTown", name := "owes", desc := "(II)I" } : Jvm.MethodName)) ∈ lw_all := lw_g (lw_at lw_m7 149 rfl) rfl
theorem q1679 : (Jvm.Cond.methodLink "FavourTownLaw" (168 : Nat) ({ cls := "FavourTownLaw", name := "pays", desc := "(LFavourTown;III[J)I" } : Jvm.MethodName)) ∈ lw_all := lw_g (lw_at lw_m7 157 rfl) rfl
theorem q1680 : (Jvm.Cond.static ({ cls := "FavourTownLaw", name := "pays", desc := "(LFavourTown;III[J)I" } : Jvm.MethodName)) ∈ lw_all := lw_g (lw_at lw_m7 158 rfl) rfl
theorem q1681 : (Jvm.Cond.codeWith ({ cls := "FavourTownLaw", name := "pays", desc := "(LFavourTown;III[J)I" } : Jvm.MethodName) method_16_code (6 : Nat) (Option.some Jvm.ClassFile.FieldType.int) [((0 : Nat), (12 : Nat), (15 : Nat), (24 : Nat)), ((0 : Nat), (12 : Nat), (19 : Nat), (13 : Nat))]) ∈ lw_all := lw_g (lw_at lw_m7 159 rfl) rfl
theorem q1682 : (Jvm.Cond.methodLink "FavourTownLaw" (61 : Nat) ({ cls := "FavourTown", name := "pays", desc := "(III)I" } : Jvm.MethodName)) ∈ lw_all := lw_g (lw_at lw_m7 160 rfl) rfl
theorem q1687 : (Jvm.Cond.methodLink "FavourTownLaw" (172 : Nat) ({ cls := "FavourTownLaw", name := "can", desc := "(LFavourTown;I[J)I" } : Jvm.MethodName)) ∈ lw_all := lw_g (lw_at lw_m7 165 rfl) rfl
theorem q1688 : (Jvm.Cond.static ({ cls := "FavourTownLaw", name := "can", desc := "(LFavourTown;I[J)I" } : Jvm.MethodName)) ∈ lw_all := lw_g (lw_at lw_m7 166 rfl) rfl
theorem q1689 : (Jvm.Cond.codeWith ({ cls := "FavourTownLaw", name := "can", desc := "(LFavourTown;I[J)I" } : Jvm.MethodName) method_17_code (4 : Nat) (Option.some Jvm.ClassFile.FieldType.int) [((0 : Nat), (16 : Nat), (19 : Nat), (24 : Nat))]) ∈ lw_all := lw_g (lw_at lw_m7 167 rfl) rfl
theorem q1690 : (Jvm.Cond.methodLink "FavourTownLaw" (65 : Nat) ({ cls := "FavourTown", name := "can", desc := "(I)Z" } : Jvm.MethodName)) ∈ lw_all := lw_g (lw_at lw_m7 168 rfl) rfl
theorem q1699 : (Jvm.Cond.methodLink "FavourTownLaw" (175 : Nat) ({ cls := "FavourTownLaw", name := "meet", desc := "(LFavourTown;I[J)I" } : Jvm.MethodName)) ∈ lw_all := lw_g (lw_at lw_m7 177 rfl) rfl
theorem q1700 : (Jvm.Cond.static ({ cls := "FavourTownLaw", name := "meet", desc := "(LFavourTown;I[J)I" } : Jvm.MethodName)) ∈ lw_all := lw_g (lw_at lw_m7 178 rfl) rfl
theorem q1701 : (Jvm.Cond.codeWith ({ cls := "FavourTownLaw", name := "meet", desc := "(LFavourTown;I[J)I" } : Jvm.MethodName) method_18_code (4 : Nat) (Option.some Jvm.ClassFile.FieldType.int) [((0 : Nat), (9 : Nat), (12 : Nat), (24 : Nat))]) ∈ lw_all := lw_g (lw_at lw_m7 179 rfl) rfl
theorem q1702 : (Jvm.Cond.methodLink "FavourTownLaw" (69 : Nat) ({ cls := "FavourTown", name := "meet", desc := "(I)I" } : Jvm.MethodName)) ∈ lw_all := lw_g (lw_at lw_m7 180 rfl) rfl
theorem q1712 : (Jvm.Cond.methodLink "FavourTownLaw" (194 : Nat) ({ cls := "FavourTownLaw", name := "port", desc := "(LFavourTown;II[J)I" } : Jvm.MethodName)) ∈ lw_all := lw_g (lw_at lw_m7 190 rfl) rfl
theorem q1713 : (Jvm.Cond.static ({ cls := "FavourTownLaw", name := "port", desc := "(LFavourTown;II[J)I" } : Jvm.MethodName)) ∈ lw_all := lw_g (lw_at lw_m7 191 rfl) rfl
theorem q1714 : (Jvm.Cond.codeWith ({ cls := "FavourTownLaw", name := "port", desc := "(LFavourTown;II[J)I" } : Jvm.MethodName) method_19_code (5 : Nat) (Option.some Jvm.ClassFile.FieldType.int) [((0 : Nat), (10 : Nat), (13 : Nat), (24 : Nat)), ((0 : Nat), (10 : Nat), (17 : Nat), (13 : Nat))]) ∈ lw_all := lw_g (lw_at lw_m7 192 rfl) rfl
theorem q1715 : (Jvm.Cond.methodLink "FavourTownLaw" (72 : Nat) ({ cls := "FavourTown", name := "port", desc := "(II)I" } : Jvm.MethodName)) ∈ lw_all := lw_g (lw_at lw_m7 193 rfl) rfl
theorem q1723 : (Jvm.Cond.methodLink "FavourTownLaw" (197 : Nat) ({ cls := "FavourTownLaw", name := "most", desc := "(LFavourTown;II[J)I" } : Jvm.MethodName)) ∈ lw_all := lw_g (lw_at lw_m7 201 rfl) rfl
theorem q1724 : (Jvm.Cond.static ({ cls := "FavourTownLaw", name := "most", desc := "(LFavourTown;II[J)I" } : Jvm.MethodName)) ∈ lw_all := lw_g (lw_at lw_m7 202 rfl) rfl
theorem q1725 : (Jvm.Cond.codeWith ({ cls := "FavourTownLaw", name := "most", desc := "(LFavourTown;II[J)I" } : Jvm.MethodName) method_20_code (5 : Nat) (Option.some Jvm.ClassFile.FieldType.int) [((0 : Nat), (10 : Nat), (13 : Nat), (24 : Nat)), ((0 : Nat), (10 : Nat), (17 : Nat), (13 : Nat))]) ∈ lw_all := lw_g (lw_at lw_m7 203 rfl) rfl
theorem q1726 : (Jvm.Cond.methodLink "FavourTownLaw" (75 : Nat) ({ cls := "FavourTown", name := "most", desc := "(II)I" } : Jvm.MethodName)) ∈ lw_all := lw_g (lw_at lw_m7 204 rfl) rfl
theorem q1745 : (Jvm.Cond.methodLink "FavourTownLaw" (200 : Nat) ({ cls := "FavourTownLaw", name := "cut", desc := "(LFavourTown;II[J)I" } : Jvm.MethodName)) ∈ lw_all := lw_g (lw_at lw_m7 223 rfl) rfl
theorem q1746 : (Jvm.Cond.static ({ cls := "FavourTownLaw", name := "cut", desc := "(LFavourTown;II[J)I" } : Jvm.MethodName)) ∈ lw_all := lw_g (lw_at lw_m7 224 rfl) rfl
theorem q1747 : (Jvm.Cond.codeWith ({ cls := "FavourTownLaw", name := "cut", desc := "(LFavourTown;II[J)I" } : Jvm.MethodName) method_21_code (5 : Nat) (Option.some Jvm.ClassFile.FieldType.int) [((0 : Nat), (10 : Nat), (13 : Nat), (24 : Nat)), ((0 : Nat), (10 : Nat), (17 : Nat), (13 : Nat))]) ∈ lw_all := lw_g (lw_at lw_m7 225 rfl) rfl
theorem q1748 : (Jvm.Cond.methodLink "FavourTownLaw" (78 : Nat) ({ cls := "FavourTown", name := "cut", desc := "(II)I" } : Jvm.MethodName)) ∈ lw_all := lw_g (lw_at lw_m7 226 rfl) rfl
theorem q1753 : (Jvm.Cond.methodLink "FavourTownLaw" (203 : Nat) ({ cls := "FavourTownLaw", name := "chain", desc := "(LFavourTown;IIII[J)I" } : Jvm.MethodName)) ∈ lw_all := lw_g (lw_at lw_m7 231 rfl) rfl
theorem q1754 : (Jvm.Cond.static ({ cls := "FavourTownLaw", name := "chain", desc := "(LFavourTown;IIII[J)I" } : Jvm.MethodName)) ∈ lw_all := lw_g (lw_at lw_m7 232 rfl) rfl
theorem q1755 : (Jvm.Cond.codeWith ({ cls := "FavourTownLaw", name := "chain", desc := "(LFavourTown;IIII[J)I" } : Jvm.MethodName) method_22_code (7 : Nat) (Option.some Jvm.ClassFile.FieldType.int) [((0 : Nat), (14 : Nat), (17 : Nat), (24 : Nat)), ((0 : Nat), (14 : Nat), (21 : Nat), (13 : Nat))]) ∈ lw_all := lw_g (lw_at lw_m7 233 rfl) rfl
theorem q1756 : (Jvm.Cond.methodLink "FavourTownLaw" (81 : Nat) ({ cls := "FavourTown", name := "chain", desc := "(IIII)I" } : Jvm.MethodName)) ∈ lw_all := lw_g (lw_at lw_m7 234 rfl) rfl
theorem q1767 : (Jvm.Cond.methodLink "FavourTownLaw" (207 : Nat) ({ cls := "FavourTownLaw", name := "ring", desc := "(LFavourTown;[J)I" } : Jvm.MethodName)) ∈ lw_all := lw_g (lw_at lw_m8 5 rfl) rfl
theorem q1768 : (Jvm.Cond.static ({ cls := "FavourTownLaw", name := "ring", desc := "(LFavourTown;[J)I" } : Jvm.MethodName)) ∈ lw_all := lw_g (lw_at lw_m8 6 rfl) rfl
theorem q1769 : (Jvm.Cond.codeWith ({ cls := "FavourTownLaw", name := "ring", desc := "(LFavourTown;[J)I" } : Jvm.MethodName) method_23_code (3 : Nat) (Option.some Jvm.ClassFile.FieldType.int) [((0 : Nat), (8 : Nat), (11 : Nat), (13 : Nat)), ((0 : Nat), (8 : Nat), (14 : Nat), (15 : Nat))]) ∈ lw_all := lw_g (lw_at lw_m8 7 rfl) rfl
theorem q1770 : (Jvm.Cond.methodLink "FavourTownLaw" (85 : Nat) ({ cls := "FavourTown", name := "ring", desc := "()I" } : Jvm.MethodName)) ∈ lw_all := lw_g (lw_at lw_m8 8 rfl) rfl
theorem q1774 : (Jvm.Cond.methodLink "FavourTownLaw" (210 : Nat) ({ cls := "FavourTownLaw", name := "clear", desc := "(LFavourTown;I[J)I" } : Jvm.MethodName)) ∈ lw_all := lw_g (lw_at lw_m8 12 rfl) rfl
theorem q1775 : (Jvm.Cond.static ({ cls := "FavourTownLaw", name := "clear", desc := "(LFavourTown;I[J)I" } : Jvm.MethodName)) ∈ lw_all := lw_g (lw_at lw_m8 13 rfl) rfl
theorem q1776 : (Jvm.Cond.codeWith ({ cls := "FavourTownLaw", name := "clear", desc := "(LFavourTown;I[J)I" } : Jvm.MethodName) method_24_code (4 : Nat) (Option.some Jvm.ClassFile.FieldType.int) [((0 : Nat), (9 : Nat), (12 : Nat), (13 : Nat))]) ∈ lw_all := lw_g (lw_at lw_m8 14 rfl) rfl
theorem q1777 : (Jvm.Cond.methodLink "FavourTownLaw" (88 : Nat) ({ cls := "FavourTown", name := "clear", desc := "(I)I" } : Jvm.MethodName)) ∈ lw_all := lw_g (lw_at lw_m8 15 rfl) rfl
theorem q1804 : (Jvm.Cond.methodLink "FavourTownLaw" (213 : Nat) ({ cls := "FavourTownLaw", name := "loss", desc := "(LFavourTown;II[J)I" } : Jvm.MethodName)) ∈ lw_all := lw_g (lw_at lw_m8 42 rfl) rfl
theorem q1805 : (Jvm.Cond.static ({ cls := "FavourTownLaw", name := "loss", desc := "(LFavourTown;II[J)I" } : Jvm.MethodName)) ∈ lw_all := lw_g (lw_at lw_m8 43 rfl) rfl
theorem q1806 : (Jvm.Cond.codeWith ({ cls := "FavourTownLaw", name := "loss", desc := "(LFavourTown;II[J)I" } : Jvm.MethodName) method_25_code (5 : Nat) (Option.some Jvm.ClassFile.FieldType.int) [((0 : Nat), (10 : Nat), (13 : Nat), (24 : Nat))]) ∈ lw_all := lw_g (lw_at lw_m8 44 rfl) rfl
theorem q1807 : (Jvm.Cond.methodLink "FavourTownLaw" (91 : Nat) ({ cls := "FavourTown", name := "loss", desc := "(II)I" } : Jvm.MethodName)) ∈ lw_all := lw_g (lw_at lw_m8 45 rfl) rfl
theorem q1811 : (Jvm.Cond.methodLink "FavourTownLaw" (216 : Nat) ({ cls := "FavourTownLaw", name := "ruined", desc := "(LFavourTown;I[J)I" } : Jvm.MethodName)) ∈ lw_all := lw_g (lw_at lw_m8 49 rfl) rfl
theorem q1812 : (Jvm.Cond.static ({ cls := "FavourTownLaw", name := "ruined", desc := "(LFavourTown;I[J)I" } : Jvm.MethodName)) ∈ lw_all := lw_g (lw_at lw_m8 50 rfl) rfl
theorem q1813 : (Jvm.Cond.codeWith ({ cls := "FavourTownLaw", name := "ruined", desc := "(LFavourTown;I[J)I" } : Jvm.MethodName) method_26_code (4 : Nat) (Option.some Jvm.ClassFile.FieldType.int) [((0 : Nat), (9 : Nat), (12 : Nat), (24 : Nat))]) ∈ lw_all := lw_g (lw_at lw_m8 51 rfl) rfl
theorem q1814 : (Jvm.Cond.methodLink "FavourTownLaw" (94 : Nat) ({ cls := "FavourTown", name := "ruined", desc := "(I)I" } : Jvm.MethodName)) ∈ lw_all := lw_g (lw_at lw_m8 52 rfl) rfl
theorem q1818 : (Jvm.Cond.methodLink "FavourTownLaw" (219 : Nat) ({ cls := "FavourTownLaw", name := "fits", desc := "(LFavourTown;I[J)I" } : Jvm.MethodName)) ∈ lw_all := lw_g (lw_at lw_m8 56 rfl) rfl
theorem q1819 : (Jvm.Cond.static ({ cls := "FavourTownLaw", name := "fits", desc := "(LFavourTown;I[J)I" } : Jvm.MethodName)) ∈ lw_all := lw_g (lw_at lw_m8 57 rfl) rfl
theorem q1820 : (Jvm.Cond.codeWith ({ cls := "FavourTownLaw", name := "fits", desc := "(LFavourTown;I[J)I" } : Jvm.MethodName) method_27_code (4 : Nat) (Option.some Jvm.ClassFile.FieldType.int) [((0 : Nat), (9 : Nat), (12 : Nat), (24 : Nat))]) ∈ lw_all := lw_g (lw_at lw_m8 58 rfl) rfl
theorem q1821 : (Jvm.Cond.methodLink "FavourTownLaw" (97 : Nat) ({ cls := "FavourTown", name := "fits", desc := "(I)I" } : Jvm.MethodName)) ∈ lw_all := lw_g (lw_at lw_m8 59 rfl) rfl
theorem q1825 : (Jvm.Cond.methodLink "FavourTownLaw" (222 : Nat) ({ cls := "FavourTownLaw", name := "play", desc := "(LFavourTown;III[J)I" } : Jvm.MethodName)) ∈ lw_all := lw_g (lw_at lw_m8 63 rfl) rfl
theorem q1826 : (Jvm.Cond.static ({ cls := "FavourTownLaw", name := "play", desc := "(LFavourTown;III[J)I" } : Jvm.MethodName)) ∈ lw_all := lw_g (lw_at lw_m8 64 rfl) rfl
theorem q1827 : (Jvm.Cond.codeWith ({ cls := "FavourTownLaw", name := "play", desc := "(LFavourTown;III[J)I" } : Jvm.MethodName) method_28_code (6 : Nat) (Option.some Jvm.ClassFile.FieldType.int) [((0 : Nat), (12 : Nat), (15 : Nat), (13 : Nat)), ((0 : Nat), (12 : Nat), (19 : Nat), (43 : Nat))]) ∈ lw_all := lw_g (lw_at lw_m8 65 rfl) rfl
theorem q1828 : (Jvm.Cond.methodLink "FavourTownLaw" (100 : Nat) ({ cls := "FavourTown", name := "play", desc := "(III)I" } : Jvm.MethodName)) ∈ lw_all := lw_g (lw_at lw_m8 66 rfl) rfl
theorem q1833 : (Jvm.Cond.classLink "FavourTownLaw" (104 : Nat) "FavourTownModel") ∈ lw_all := lw_g (lw_at lw_m8 71 rfl) rfl
theorem q1835 : (Jvm.Cond.methodLink "FavourTownLaw" (106 : Nat) ({ cls := "FavourTownModel", name := "<init>", desc := "()V" } : Jvm.MethodName)) ∈ lw_all := lw_g (lw_at lw_m8 73 rfl) rfl
theorem q1927 : (Jvm.Cond.methodLink "FavourTownLaw" (122 : Nat) ({ cls := "FavourTownModel", name := "thrown", desc := "()I" } : Jvm.MethodName)) ∈ lw_all := lw_g (lw_at lw_m8 165 rfl) rfl
theorem q1931 : (Jvm.Cond.methodLink "FavourTownLaw" (111 : Nat) ({ cls := "FavourTownModel", name := "feed", desc := "(IIIII)I" } : Jvm.MethodName)) ∈ lw_all := lw_g (lw_at lw_m8 169 rfl) rfl
theorem q1935 : (Jvm.Cond.methodLink "FavourTownLaw" (115 : Nat) ({ cls := "FavourTownModel", name := "end", desc := "(I)Z" } : Jvm.MethodName)) ∈ lw_all := lw_g (lw_at lw_m8 173 rfl) rfl
theorem q1942 : (Jvm.Cond.methodLink "FavourTownLaw" (121 : Nat) ({ cls := "FavourTownModel", name := "town", desc := "()I" } : Jvm.MethodName)) ∈ lw_all := lw_g (lw_at lw_m8 180 rfl) rfl
theorem q2103 : (Jvm.Cond.methodLink "FavourTownLaw" (127 : Nat) ({ cls := "FavourTownModel", name := "temper", desc := "()I" } : Jvm.MethodName)) ∈ lw_all := lw_g (lw_at lw_m9 101 rfl) rfl
theorem q2107 : (Jvm.Cond.methodLink "FavourTownLaw" (131 : Nat) ({ cls := "FavourTownModel", name := "fault", desc := "()I" } : Jvm.MethodName)) ∈ lw_all := lw_g (lw_at lw_m9 105 rfl) rfl
theorem q2111 : (Jvm.Cond.methodLink "FavourTownLaw" (135 : Nat) ({ cls := "FavourTownModel", name := "has", desc := "(II)I" } : Jvm.MethodName)) ∈ lw_all := lw_g (lw_at lw_m9 109 rfl) rfl
theorem q2119 : (Jvm.Cond.methodLink "FavourTownLaw" (139 : Nat) ({ cls := "FavourTownModel", name := "give", desc := "(IIIIZ)I" } : Jvm.MethodName)) ∈ lw_all := lw_g (lw_at lw_m9 117 rfl) rfl
theorem q2123 : (Jvm.Cond.methodLink "FavourTownLaw" (142 : Nat) ({ cls := "FavourTownModel", name := "pass", desc := "(II)I" } : Jvm.MethodName)) ∈ lw_all := lw_g (lw_at lw_m9 121 rfl) rfl
theorem q2131 : (Jvm.Cond.methodLink "FavourTownLaw" (146 : Nat) ({ cls := "FavourTownModel", name := "call", desc := "(I)I" } : Jvm.MethodName)) ∈ lw_all := lw_g (lw_at lw_m9 129 rfl) rfl
theorem q2135 : (Jvm.Cond.methodLink "FavourTownLaw" (149 : Nat) ({ cls := "FavourTownModel", name := "days", desc := "(I)I" } : Jvm.MethodName)) ∈ lw_all := lw_g (lw_at lw_m9 133 rfl) rfl
theorem q2139 : (Jvm.Cond.methodLink "FavourTownLaw" (152 : Nat) ({ cls := "FavourTownModel", name := "look", desc := "(II)I" } : Jvm.MethodName)) ∈ lw_all := lw_g (lw_at lw_m9 137 rfl) rfl
theorem q2143 : (Jvm.Cond.methodLink "FavourTownLaw" (155 : Nat) ({ cls := "FavourTownModel", name := "hand", desc := "(II)I" } : Jvm.MethodName)) ∈ lw_all := lw_g (lw_at lw_m9 141 rfl) rfl
theorem q2147 : (Jvm.Cond.methodLink "FavourTownLaw" (158 : Nat) ({ cls := "FavourTownModel", name := "takes", desc := "(II)Z" } : Jvm.MethodName)) ∈ lw_all := lw_g (lw_at lw_m9 145 rfl) rfl
theorem q2151 : (Jvm.Cond.methodLink "FavourTownLaw" (161 : Nat) ({ cls := "FavourTownModel", name := "rich", desc := "(I)I" } : Jvm.MethodName)) ∈ lw_all := lw_g (lw_at lw_m9 149 rfl) rfl
theorem q2155 : (Jvm.Cond.methodLink "FavourTownLaw" (164 : Nat) ({ cls := "FavourTownModel", name := "debt", desc := "(I)I" } : Jvm.MethodName)) ∈ lw_all := lw_g (lw_at lw_m9 153 rfl) rfl
theorem q2159 : (Jvm.Cond.methodLink "FavourTownLaw" (167 : Nat) ({ cls := "FavourTownModel", name := "owes", desc := "(II)I" } : Jvm.MethodName)) ∈ lw_all := lw_g (lw_at lw_m9 157 rfl) rfl
theorem q2167 : (Jvm.Cond.methodLink "FavourTownLaw" (171 : Nat) ({ cls := "FavourTownModel", name := "pays", desc := "(III)I" } : Jvm.MethodName)) ∈ lw_all := lw_g (lw_at lw_m9 165 rfl) rfl
theorem q2179 : (Jvm.Cond.methodLink "FavourTownLaw" (174 : Nat) ({ cls := "FavourTownModel", name := "can", desc := "(I)Z" } : Jvm.MethodName)) ∈ lw_all := lw_g (lw_at lw_m9 177 rfl) rfl
theorem q2195 : (Jvm.Cond.methodLink "FavourTownLaw" (177 : Nat) ({ cls := "FavourTownModel", name := "meet", desc := "(I)I" } : Jvm.MethodName)) ∈ lw_all := lw_g (lw_at lw_m9 193 rfl) rfl
theorem q2203 : (Jvm.Cond.methodLink "FavourTownLaw" (181 : Nat) ({ cls := "FavourTownModel", name := "enough", desc := "(I)Z" } : Jvm.MethodName)) ∈ lw_all := lw_g (lw_at lw_m9 201 rfl) rfl
theorem q2215 : (Jvm.Cond.methodLink "FavourTownLaw" (185 : Nat) ({ cls := "FavourTownModel", name := "witness", desc := "(I)I" } : Jvm.MethodName)) ∈ lw_all := lw_g (lw_at lw_m9 213 rfl) rfl
theorem q2219 : (Jvm.Cond.methodLink "FavourTownLaw" (189 : Nat) ({ cls := "FavourTownModel", name := "fewest", desc := "()I" } : Jvm.MethodName)) ∈ lw_all := lw_g (lw_at lw_m9 217 rfl) rfl
theorem q2226 : (Jvm.Cond.methodLink "FavourTownLaw" (193 : Nat) ({ cls := "FavourTownModel", name := "forgive", desc := "(I)I" } : Jvm.MethodName)) ∈ lw_all := lw_g (lw_at lw_m9 224 rfl) rfl
theorem q2230 : (Jvm.Cond.methodLink "FavourTownLaw" (196 : Nat) ({ cls := "FavourTownModel", name := "port", desc := "(II)I" } : Jvm.MethodName)) ∈ lw_all := lw_g (lw_at lw_m9 228 rfl) rfl
theorem q2242 : (Jvm.Cond.methodLink "FavourTownLaw" (199 : Nat) ({ cls := "FavourTownModel", name := "most", desc := "(II)I" } : Jvm.MethodName)) ∈ lw_all := lw_g (lw_at lw_m10 0 rfl) rfl
theorem q2258 : (Jvm.Cond.methodLink "FavourTownLaw" (202 : Nat) ({ cls := "FavourTownModel", name := "cut", desc := "(II)I" } : Jvm.MethodName)) ∈ lw_all := lw_g (lw_at lw_m10 16 rfl) rfl
theorem q2262 : (Jvm.Cond.methodLink "FavourTownLaw" (206 : Nat) ({ cls := "FavourTownModel", name := "chain", desc := "(IIII)I" } : Jvm.MethodName)) ∈ lw_all := lw_g (lw_at lw_m10 20 rfl) rfl
theorem q2266 : (Jvm.Cond.methodLink "FavourTownLaw" (209 : Nat) ({ cls := "FavourTownModel", name := "ring", desc := "()I" } : Jvm.MethodName)) ∈ lw_all := lw_g (lw_at lw_m10 24 rfl) rfl
theorem q2270 : (Jvm.Cond.methodLink "FavourTownLaw" (212 : Nat) ({ cls := "FavourTownModel", name := "clear", desc := "(I)I" } : Jvm.MethodName)) ∈ lw_all := lw_g (lw_at lw_m10 28 rfl) rfl
theorem q2286 : (Jvm.Cond.methodLink "FavourTownLaw" (215 : Nat) ({ cls := "FavourTownModel", name := "loss", desc := "(II)I" } : Jvm.MethodName)) ∈ lw_all := lw_g (lw_at lw_m10 44 rfl) rfl
theorem q2294 : (Jvm.Cond.methodLink "FavourTownLaw" (218 : Nat) ({ cls := "FavourTownModel", name := "ruined", desc := "(I)I" } : Jvm.MethodName)) ∈ lw_all := lw_g (lw_at lw_m10 52 rfl) rfl
theorem q2298 : (Jvm.Cond.methodLink "FavourTownLaw" (221 : Nat) ({ cls := "FavourTownModel", name := "fits", desc := "(I)I" } : Jvm.MethodName)) ∈ lw_all := lw_g (lw_at lw_m10 56 rfl) rfl
theorem q2302 : (Jvm.Cond.methodLink "FavourTownLaw" (224 : Nat) ({ cls := "FavourTownModel", name := "play", desc := "(III)I" } : Jvm.MethodName)) ∈ lw_all := lw_g (lw_at lw_m10 60 rfl) rfl
theorem q2311 : (Jvm.Cond.methodLink "FavourTownLaw" (228 : Nat) ({ cls := "FavourTownModel", name := "image", desc := "()V" } : Jvm.MethodName)) ∈ lw_all := lw_g (lw_at lw_m10 69 rfl) rfl
theorem q2315 : (Jvm.Cond.methodLink "FavourTownLaw" (233 : Nat) ({ cls := "FavourTownModel", name := "back", desc := "()Z" } : Jvm.MethodName)) ∈ lw_all := lw_g (lw_at lw_m10 73 rfl) rfl
theorem q2319 : (Jvm.Cond.methodLink "FavourTownLaw" (237 : Nat) ({ cls := "FavourTownModel", name := "count", desc := "(I)I" } : Jvm.MethodName)) ∈ lw_all := lw_g (lw_at lw_m10 77 rfl) rfl
/-! FavourTown -/
set_option maxRecDepth 100000
def RX1 : String := "FavourTown"
def TX1 : u_T := fun k => match k with
  | 0 => ("FavourTown", "world", "LFavourTown$World;", false)
  | 1 => ("FavourTown", "image", "LFavourTown$World;", false)
  | 2 => ("FavourTown", "reader", "LFavourTown$Reader;", true)
  | 3 => ("FavourTown", "flow", "LFavourTown$Flow;", true)
  | 4 => ("FavourTown", "far", "[I", true)
  | _ => ("FavourTown", "clearing", "LFavourTown$Clearing;", true)
def tyX1 : Nat → FieldType := fun k => match k with
  | 0 => .object "FavourTown$World"
  | 1 => .object "FavourTown$World"
  | 2 => .object "FavourTown$Reader"
  | 3 => .object "FavourTown$Flow"
  | 4 => .array .int
  | _ => .object "FavourTown$Clearing"
abbrev wsX10 : List Cond := u_ws RX1 TX1 6
theorem nmX1 : ∀ a, a < 6 → ∀ b, b < 6 → a ≠ b → (TX1 a).2.1 ≠ (TX1 b).2.1 := by decide +kernel
theorem tyX1_ok : ∀ k, k < 6 → parseFieldDescriptor (TX1 k).2.2.1 = some (tyX1 k) := by decide +kernel
abbrev cX1_init : ByteArray := prog_1_method_1_code
def yX1_init : MethodName := ⟨RX1, "<init>", "()V"⟩
def dkwX1_init_2 : List UInt8 := [187, 0, 36, 89, 42, 183, 0, 38, 181, 0, 39, 177]
abbrev dktX1_init_2 : List UInt8 := dkwX1_init_2 ++ []
def dkwX1_init_1 : List UInt8 := [181, 0, 19, 42, 187, 0, 23, 89, 42, 183, 0, 25, 181, 0, 28, 42, 16, 12, 188, 10, 181, 0, 32, 42]
abbrev dktX1_init_1 : List UInt8 := dkwX1_init_1 ++ dktX1_init_2
def dkwX1_init_0 : List UInt8 := [42, 183, 0, 1, 42, 187, 0, 7, 89, 183, 0, 9, 181, 0, 10, 42, 187, 0, 16, 89, 183, 0, 18]
abbrev dktX1_init_0 : List UInt8 := dkwX1_init_0 ++ dktX1_init_1
theorem dksX1_init_0 : cX1_init.data.toList.drop 0 = dktX1_init_0 := by decide +kernel
theorem dksX1_init_1 : cX1_init.data.toList.drop 23 = dktX1_init_1 := dk_seg dksX1_init_0 23 rfl rfl
theorem dksX1_init_2 : cX1_init.data.toList.drop 47 = dktX1_init_2 := dk_seg dksX1_init_1 24 rfl rfl
theorem dX1_init_0 : decode cX1_init 0 = .ok (.aload_n 0, 1) := dk_42 (dk_at dksX1_init_0 0 rfl rfl)
theorem dX1_init_1 : decode cX1_init 1 = .ok (.invokespecial 1, 3) := dk_183 0 1 (dk_at dksX1_init_0 1 rfl rfl)
theorem dX1_init_4 : decode cX1_init 4 = .ok (.aload_n 0, 1) := dk_42 (dk_at dksX1_init_0 4 rfl rfl)
theorem dX1_init_5 : decode cX1_init 5 = .ok (.new 7, 3) := dk_187 0 7 (dk_at dksX1_init_0 5 rfl rfl)
theorem dX1_init_8 : decode cX1_init 8 = .ok (.dup, 1) := dk_89 (dk_at dksX1_init_0 8 rfl rfl)
theorem dX1_init_9 : decode cX1_init 9 = .ok (.invokespecial 9, 3) := dk_183 0 9 (dk_at dksX1_init_0 9 rfl rfl)
theorem dX1_init_12 : decode cX1_init 12 = .ok (.putfield 10, 3) := dk_181 0 10 (dk_at dksX1_init_0 12 rfl rfl)
theorem dX1_init_15 : decode cX1_init 15 = .ok (.aload_n 0, 1) := dk_42 (dk_at dksX1_init_0 15 rfl rfl)
theorem dX1_init_16 : decode cX1_init 16 = .ok (.new 16, 3) := dk_187 0 16 (dk_at dksX1_init_0 16 rfl rfl)
theorem dX1_init_19 : decode cX1_init 19 = .ok (.dup, 1) := dk_89 (dk_at dksX1_init_0 19 rfl rfl)
theorem dX1_init_20 : decode cX1_init 20 = .ok (.invokespecial 18, 3) := dk_183 0 18 (dk_at dksX1_init_0 20 rfl rfl)
theorem dX1_init_23 : decode cX1_init 23 = .ok (.putfield 19, 3) := dk_181 0 19 (dk_at dksX1_init_1 0 rfl rfl)
theorem dX1_init_26 : decode cX1_init 26 = .ok (.aload_n 0, 1) := dk_42 (dk_at dksX1_init_1 3 rfl rfl)
theorem dX1_init_27 : decode cX1_init 27 = .ok (.new 23, 3) := dk_187 0 23 (dk_at dksX1_init_1 4 rfl rfl)
theorem dX1_init_30 : decode cX1_init 30 = .ok (.dup, 1) := dk_89 (dk_at dksX1_init_1 7 rfl rfl)
theorem dX1_init_31 : decode cX1_init 31 = .ok (.aload_n 0, 1) := dk_42 (dk_at dksX1_init_1 8 rfl rfl)
theorem dX1_init_32 : decode cX1_init 32 = .ok (.invokespecial 25, 3) := dk_183 0 25 (dk_at dksX1_init_1 9 rfl rfl)
theorem dX1_init_35 : decode cX1_init 35 = .ok (.putfield 28, 3) := dk_181 0 28 (dk_at dksX1_init_1 12 rfl rfl)
theorem dX1_init_38 : decode cX1_init 38 = .ok (.aload_n 0, 1) := dk_42 (dk_at dksX1_init_1 15 rfl rfl)
theorem dX1_init_39 : decode cX1_init 39 = .ok (.bipush 12, 2) := dk_16 12 (dk_at dksX1_init_1 16 rfl rfl)
theorem dX1_init_41 : decode cX1_init 41 = .ok (.newarray .int, 2) := dk_188_10 (dk_at dksX1_init_1 18 rfl rfl)
theorem dX1_init_43 : decode cX1_init 43 = .ok (.putfield 32, 3) := dk_181 0 32 (dk_at dksX1_init_1 20 rfl rfl)
theorem dX1_init_46 : decode cX1_init 46 = .ok (.aload_n 0, 1) := dk_42 (dk_at dksX1_init_1 23 rfl rfl)
theorem dX1_init_47 : decode cX1_init 47 = .ok (.new 36, 3) := dk_187 0 36 (dk_at dksX1_init_2 0 rfl rfl)
theorem dX1_init_50 : decode cX1_init 50 = .ok (.dup, 1) := dk_89 (dk_at dksX1_init_2 3 rfl rfl)
theorem dX1_init_51 : decode cX1_init 51 = .ok (.aload_n 0, 1) := dk_42 (dk_at dksX1_init_2 4 rfl rfl)
theorem dX1_init_52 : decode cX1_init 52 = .ok (.invokespecial 38, 3) := dk_183 0 38 (dk_at dksX1_init_2 5 rfl rfl)
theorem dX1_init_55 : decode cX1_init 55 = .ok (.putfield 39, 3) := dk_181 0 39 (dk_at dksX1_init_2 8 rfl rfl)
theorem dX1_init_58 : decode cX1_init 58 = .ok (.return_, 1) := dk_177 (dk_at dksX1_init_2 11 rfl rfl)
abbrev cX1_feed : ByteArray := prog_1_method_3_code
def yX1_feed : MethodName := ⟨RX1, "feed", "(IIIII)I"⟩
def dkwX1_feed_1 : List UInt8 := [89, 7, 21, 5, 79, 182, 0, 43, 172]
abbrev dktX1_feed_1 : List UInt8 := dkwX1_feed_1 ++ []
def dkwX1_feed_0 : List UInt8 := [42, 180, 0, 19, 8, 188, 10, 89, 3, 27, 79, 89, 4, 28, 79, 89, 5, 29, 79, 89, 6, 21, 4, 79]
abbrev dktX1_feed_0 : List UInt8 := dkwX1_feed_0 ++ dktX1_feed_1
theorem dksX1_feed_0 : cX1_feed.data.toList.drop 0 = dktX1_feed_0 := by decide +kernel
theorem dksX1_feed_1 : cX1_feed.data.toList.drop 24 = dktX1_feed_1 := dk_seg dksX1_feed_0 24 rfl rfl
theorem dX1_feed_0 : decode cX1_feed 0 = .ok (.aload_n 0, 1) := dk_42 (dk_at dksX1_feed_0 0 rfl rfl)
theorem dX1_feed_1 : decode cX1_feed 1 = .ok (.getfield 19, 3) := dk_180 0 19 (dk_at dksX1_feed_0 1 rfl rfl)
theorem dX1_feed_4 : decode cX1_feed 4 = .ok (.iconst 5, 1) := dk_8 (dk_at dksX1_feed_0 4 rfl rfl)
theorem dX1_feed_5 : decode cX1_feed 5 = .ok (.newarray .int, 2) := dk_188_10 (dk_at dksX1_feed_0 5 rfl rfl)
theorem dX1_feed_7 : decode cX1_feed 7 = .ok (.dup, 1) := dk_89 (dk_at dksX1_feed_0 7 rfl rfl)
theorem dX1_feed_8 : decode cX1_feed 8 = .ok (.iconst 0, 1) := dk_3 (dk_at dksX1_feed_0 8 rfl rfl)
theorem dX1_feed_9 : decode cX1_feed 9 = .ok (.iload_n 1, 1) := dk_27 (dk_at dksX1_feed_0 9 rfl rfl)
theorem dX1_feed_10 : decode cX1_feed 10 = .ok (.iastore, 1) := dk_79 (dk_at dksX1_feed_0 10 rfl rfl)
theorem dX1_feed_11 : decode cX1_feed 11 = .ok (.dup, 1) := dk_89 (dk_at dksX1_feed_0 11 rfl rfl)
theorem dX1_feed_12 : decode cX1_feed 12 = .ok (.iconst 1, 1) := dk_4 (dk_at dksX1_feed_0 12 rfl rfl)
theorem dX1_feed_13 : decode cX1_feed 13 = .ok (.iload_n 2, 1) := dk_28 (dk_at dksX1_feed_0 13 rfl rfl)
theorem dX1_feed_14 : decode cX1_feed 14 = .ok (.iastore, 1) := dk_79 (dk_at dksX1_feed_0 14 rfl rfl)
theorem dX1_feed_15 : decode cX1_feed 15 = .ok (.dup, 1) := dk_89 (dk_at dksX1_feed_0 15 rfl rfl)
theorem dX1_feed_16 : decode cX1_feed 16 = .ok (.iconst 2, 1) := dk_5 (dk_at dksX1_feed_0 16 rfl rfl)
theorem dX1_feed_17 : decode cX1_feed 17 = .ok (.iload_n 3, 1) := dk_29 (dk_at dksX1_feed_0 17 rfl rfl)
theorem dX1_feed_18 : decode cX1_feed 18 = .ok (.iastore, 1) := dk_79 (dk_at dksX1_feed_0 18 rfl rfl)
theorem dX1_feed_19 : decode cX1_feed 19 = .ok (.dup, 1) := dk_89 (dk_at dksX1_feed_0 19 rfl rfl)
theorem dX1_feed_20 : decode cX1_feed 20 = .ok (.iconst 3, 1) := dk_6 (dk_at dksX1_feed_0 20 rfl rfl)
theorem dX1_feed_21 : decode cX1_feed 21 = .ok (.iload 4, 2) := dk_21 4 (dk_at dksX1_feed_0 21 rfl rfl)
theorem dX1_feed_23 : decode cX1_feed 23 = .ok (.iastore, 1) := dk_79 (dk_at dksX1_feed_0 23 rfl rfl)
theorem dX1_feed_24 : decode cX1_feed 24 = .ok (.dup, 1) := dk_89 (dk_at dksX1_feed_1 0 rfl rfl)
theorem dX1_feed_25 : decode cX1_feed 25 = .ok (.iconst 4, 1) := dk_7 (dk_at dksX1_feed_1 1 rfl rfl)
theorem dX1_feed_26 : decode cX1_feed 26 = .ok (.iload 5, 2) := dk_21 5 (dk_at dksX1_feed_1 2 rfl rfl)
theorem dX1_feed_28 : decode cX1_feed 28 = .ok (.iastore, 1) := dk_79 (dk_at dksX1_feed_1 4 rfl rfl)
theorem dX1_feed_29 : decode cX1_feed 29 = .ok (.invokevirtual 43, 3) := dk_182 0 43 (dk_at dksX1_feed_1 5 rfl rfl)
theorem dX1_feed_32 : decode cX1_feed 32 = .ok (.ireturn, 1) := dk_172 (dk_at dksX1_feed_1 8 rfl rfl)
abbrev cX1_end : ByteArray := prog_1_method_4_code
def yX1_end : MethodName := ⟨RX1, "end", "(I)Z"⟩
def dkwX1_end_0 : List UInt8 := [42, 180, 0, 19, 27, 182, 0, 47, 172]
abbrev dktX1_end_0 : List UInt8 := dkwX1_end_0 ++ []
theorem dksX1_end_0 : cX1_end.data.toList.drop 0 = dktX1_end_0 := by decide +kernel
theorem dX1_end_0 : decode cX1_end 0 = .ok (.aload_n 0, 1) := dk_42 (dk_at dksX1_end_0 0 rfl rfl)
theorem dX1_end_1 : decode cX1_end 1 = .ok (.getfield 19, 3) := dk_180 0 19 (dk_at dksX1_end_0 1 rfl rfl)
theorem dX1_end_4 : decode cX1_end 4 = .ok (.iload_n 1, 1) := dk_27 (dk_at dksX1_end_0 4 rfl rfl)
theorem dX1_end_5 : decode cX1_end 5 = .ok (.invokevirtual 47, 3) := dk_182 0 47 (dk_at dksX1_end_0 5 rfl rfl)
theorem dX1_end_8 : decode cX1_end 8 = .ok (.ireturn, 1) := dk_172 (dk_at dksX1_end_0 8 rfl rfl)
abbrev cX1_fault : ByteArray := prog_1_method_5_code
def yX1_fault : MethodName := ⟨RX1, "fault", "()I"⟩
def dkwX1_fault_0 : List UInt8 := [42, 180, 0, 19, 180, 0, 51, 172]
abbrev dktX1_fault_0 : List UInt8 := dkwX1_fault_0 ++ []
theorem dksX1_fault_0 : cX1_fault.data.toList.drop 0 = dktX1_fault_0 := by decide +kernel
theorem dX1_fault_0 : decode cX1_fault 0 = .ok (.aload_n 0, 1) := dk_42 (dk_at dksX1_fault_0 0 rfl rfl)
theorem dX1_fault_1 : decode cX1_fault 1 = .ok (.getfield 19, 3) := dk_180 0 19 (dk_at dksX1_fault_0 1 rfl rfl)
theorem dX1_fault_4 : decode cX1_fault 4 = .ok (.getfield 51, 3) := dk_180 0 51 (dk_at dksX1_fault_0 4 rfl rfl)
theorem dX1_fault_7 : decode cX1_fault 7 = .ok (.ireturn, 1) := dk_172 (dk_at dksX1_fault_0 7 rfl rfl)
abbrev cX1_enough : ByteArray := prog_1_method_46_code
def yX1_enough : MethodName := ⟨RX1, "enough", "(I)Z"⟩
def dkwX1_enough_0 : List UInt8 := [42, 180, 0, 10, 27, 182, 1, 163, 2, 160, 0, 7, 4, 167, 0, 4, 3, 172]
abbrev dktX1_enough_0 : List UInt8 := dkwX1_enough_0 ++ []
theorem dksX1_enough_0 : cX1_enough.data.toList.drop 0 = dktX1_enough_0 := by decide +kernel
theorem dX1_enough_0 : decode cX1_enough 0 = .ok (.aload_n 0, 1) := dk_42 (dk_at dksX1_enough_0 0 rfl rfl)
theorem dX1_enough_1 : decode cX1_enough 1 = .ok (.getfield 10, 3) := dk_180 0 10 (dk_at dksX1_enough_0 1 rfl rfl)
theorem dX1_enough_4 : decode cX1_enough 4 = .ok (.iload_n 1, 1) := dk_27 (dk_at dksX1_enough_0 4 rfl rfl)
theorem dX1_enough_5 : decode cX1_enough 5 = .ok (.invokevirtual 419, 3) := dk_182 1 163 (dk_at dksX1_enough_0 5 rfl rfl)
theorem dX1_enough_8 : decode cX1_enough 8 = .ok (.iconst (-1), 1) := dk_2 (dk_at dksX1_enough_0 8 rfl rfl)
theorem dX1_enough_9 : decode cX1_enough 9 = .ok (.if_icmp .ne 7, 3) := dk_160 0 7 (dk_at dksX1_enough_0 9 rfl rfl)
theorem dX1_enough_12 : decode cX1_enough 12 = .ok (.iconst 1, 1) := dk_4 (dk_at dksX1_enough_0 12 rfl rfl)
theorem dX1_enough_13 : decode cX1_enough 13 = .ok (.goto 4, 3) := dk_167 0 4 (dk_at dksX1_enough_0 13 rfl rfl)
theorem dX1_enough_16 : decode cX1_enough 16 = .ok (.iconst 0, 1) := dk_3 (dk_at dksX1_enough_0 16 rfl rfl)
theorem dX1_enough_17 : decode cX1_enough 17 = .ok (.ireturn, 1) := dk_172 (dk_at dksX1_enough_0 17 rfl rfl)
abbrev cX1_witness : ByteArray := prog_1_method_47_code
def yX1_witness : MethodName := ⟨RX1, "witness", "(I)I"⟩
def dkwX1_witness_0 : List UInt8 := [42, 180, 0, 10, 27, 182, 1, 163, 172]
abbrev dktX1_witness_0 : List UInt8 := dkwX1_witness_0 ++ []
theorem dksX1_witness_0 : cX1_witness.data.toList.drop 0 = dktX1_witness_0 := by decide +kernel
theorem dX1_witness_0 : decode cX1_witness 0 = .ok (.aload_n 0, 1) := dk_42 (dk_at dksX1_witness_0 0 rfl rfl)
theorem dX1_witness_1 : decode cX1_witness 1 = .ok (.getfield 10, 3) := dk_180 0 10 (dk_at dksX1_witness_0 1 rfl rfl)
theorem dX1_witness_4 : decode cX1_witness 4 = .ok (.iload_n 1, 1) := dk_27 (dk_at dksX1_witness_0 4 rfl rfl)
theorem dX1_witness_5 : decode cX1_witness 5 = .ok (.invokevirtual 419, 3) := dk_182 1 163 (dk_at dksX1_witness_0 5 rfl rfl)
theorem dX1_witness_8 : decode cX1_witness 8 = .ok (.ireturn, 1) := dk_172 (dk_at dksX1_witness_0 8 rfl rfl)
abbrev cX1_fewest : ByteArray := prog_1_method_48_code
def yX1_fewest : MethodName := ⟨RX1, "fewest", "()I"⟩
def dkwX1_fewest_2 : List UInt8 := [132, 2, 1, 167, 255, 210, 27, 172]
abbrev dktX1_fewest_2 : List UInt8 := dkwX1_fewest_2 ++ []
def dkwX1_fewest_1 : List UInt8 := [184, 1, 166, 27, 184, 1, 166, 162, 0, 17, 42, 180, 0, 10, 28, 182, 1, 163, 2, 160, 0, 5, 28, 60]
abbrev dktX1_fewest_1 : List UInt8 := dkwX1_fewest_1 ++ dktX1_fewest_2
def dkwX1_fewest_0 : List UInt8 := [2, 60, 3, 61, 28, 4, 42, 180, 0, 10, 180, 0, 55, 120, 162, 0, 39, 27, 2, 159, 0, 14, 28]
abbrev dktX1_fewest_0 : List UInt8 := dkwX1_fewest_0 ++ dktX1_fewest_1
theorem dksX1_fewest_0 : cX1_fewest.data.toList.drop 0 = dktX1_fewest_0 := by decide +kernel
theorem dksX1_fewest_1 : cX1_fewest.data.toList.drop 23 = dktX1_fewest_1 := dk_seg dksX1_fewest_0 23 rfl rfl
theorem dksX1_fewest_2 : cX1_fewest.data.toList.drop 47 = dktX1_fewest_2 := dk_seg dksX1_fewest_1 24 rfl rfl
theorem dX1_fewest_0 : decode cX1_fewest 0 = .ok (.iconst (-1), 1) := dk_2 (dk_at dksX1_fewest_0 0 rfl rfl)
theorem dX1_fewest_1 : decode cX1_fewest 1 = .ok (.istore_n 1, 1) := dk_60 (dk_at dksX1_fewest_0 1 rfl rfl)
theorem dX1_fewest_2 : decode cX1_fewest 2 = .ok (.iconst 0, 1) := dk_3 (dk_at dksX1_fewest_0 2 rfl rfl)
theorem dX1_fewest_3 : decode cX1_fewest 3 = .ok (.istore_n 2, 1) := dk_61 (dk_at dksX1_fewest_0 3 rfl rfl)
theorem dX1_fewest_4 : decode cX1_fewest 4 = .ok (.iload_n 2, 1) := dk_28 (dk_at dksX1_fewest_0 4 rfl rfl)
theorem dX1_fewest_5 : decode cX1_fewest 5 = .ok (.iconst 1, 1) := dk_4 (dk_at dksX1_fewest_0 5 rfl rfl)
theorem dX1_fewest_6 : decode cX1_fewest 6 = .ok (.aload_n 0, 1) := dk_42 (dk_at dksX1_fewest_0 6 rfl rfl)
theorem dX1_fewest_7 : decode cX1_fewest 7 = .ok (.getfield 10, 3) := dk_180 0 10 (dk_at dksX1_fewest_0 7 rfl rfl)
theorem dX1_fewest_10 : decode cX1_fewest 10 = .ok (.getfield 55, 3) := dk_180 0 55 (dk_at dksX1_fewest_0 10 rfl rfl)
theorem dX1_fewest_13 : decode cX1_fewest 13 = .ok (.ishl, 1) := dk_120 (dk_at dksX1_fewest_0 13 rfl rfl)
theorem dX1_fewest_14 : decode cX1_fewest 14 = .ok (.if_icmp .ge 39, 3) := dk_162 0 39 (dk_at dksX1_fewest_0 14 rfl rfl)
theorem dX1_fewest_17 : decode cX1_fewest 17 = .ok (.iload_n 1, 1) := dk_27 (dk_at dksX1_fewest_0 17 rfl rfl)
theorem dX1_fewest_18 : decode cX1_fewest 18 = .ok (.iconst (-1), 1) := dk_2 (dk_at dksX1_fewest_0 18 rfl rfl)
theorem dX1_fewest_19 : decode cX1_fewest 19 = .ok (.if_icmp .eq 14, 3) := dk_159 0 14 (dk_at dksX1_fewest_0 19 rfl rfl)
theorem dX1_fewest_22 : decode cX1_fewest 22 = .ok (.iload_n 2, 1) := dk_28 (dk_at dksX1_fewest_0 22 rfl rfl)
theorem dX1_fewest_23 : decode cX1_fewest 23 = .ok (.invokestatic 422, 3) := dk_184 1 166 (dk_at dksX1_fewest_1 0 rfl rfl)
theorem dX1_fewest_26 : decode cX1_fewest 26 = .ok (.iload_n 1, 1) := dk_27 (dk_at dksX1_fewest_1 3 rfl rfl)
theorem dX1_fewest_27 : decode cX1_fewest 27 = .ok (.invokestatic 422, 3) := dk_184 1 166 (dk_at dksX1_fewest_1 4 rfl rfl)
theorem dX1_fewest_30 : decode cX1_fewest 30 = .ok (.if_icmp .ge 17, 3) := dk_162 0 17 (dk_at dksX1_fewest_1 7 rfl rfl)
theorem dX1_fewest_33 : decode cX1_fewest 33 = .ok (.aload_n 0, 1) := dk_42 (dk_at dksX1_fewest_1 10 rfl rfl)
theorem dX1_fewest_34 : decode cX1_fewest 34 = .ok (.getfield 10, 3) := dk_180 0 10 (dk_at dksX1_fewest_1 11 rfl rfl)
theorem dX1_fewest_37 : decode cX1_fewest 37 = .ok (.iload_n 2, 1) := dk_28 (dk_at dksX1_fewest_1 14 rfl rfl)
theorem dX1_fewest_38 : decode cX1_fewest 38 = .ok (.invokevirtual 419, 3) := dk_182 1 163 (dk_at dksX1_fewest_1 15 rfl rfl)
theorem dX1_fewest_41 : decode cX1_fewest 41 = .ok (.iconst (-1), 1) := dk_2 (dk_at dksX1_fewest_1 18 rfl rfl)
theorem dX1_fewest_42 : decode cX1_fewest 42 = .ok (.if_icmp .ne 5, 3) := dk_160 0 5 (dk_at dksX1_fewest_1 19 rfl rfl)
theorem dX1_fewest_45 : decode cX1_fewest 45 = .ok (.iload_n 2, 1) := dk_28 (dk_at dksX1_fewest_1 22 rfl rfl)
theorem dX1_fewest_46 : decode cX1_fewest 46 = .ok (.istore_n 1, 1) := dk_60 (dk_at dksX1_fewest_1 23 rfl rfl)
theorem dX1_fewest_47 : decode cX1_fewest 47 = .ok (.iinc 2 1, 3) := dk_132 2 1 (dk_at dksX1_fewest_2 0 rfl rfl)
theorem dX1_fewest_50 : decode cX1_fewest 50 = .ok (.goto (-46), 3) := dk_167 255 210 (dk_at dksX1_fewest_2 3 rfl rfl)
theorem dX1_fewest_53 : decode cX1_fewest 53 = .ok (.iload_n 1, 1) := dk_27 (dk_at dksX1_fewest_2 6 rfl rfl)
theorem dX1_fewest_54 : decode cX1_fewest 54 = .ok (.ireturn, 1) := dk_172 (dk_at dksX1_fewest_2 7 rfl rfl)
abbrev cX1_forgive : ByteArray := prog_1_method_49_code
def yX1_forgive : MethodName := ⟨RX1, "forgive", "(I)I"⟩
def dkwX1_forgive_3 : List UInt8 := [167, 255, 190, 28, 172]
abbrev dktX1_forgive_3 : List UInt8 := dkwX1_forgive_3 ++ []
def dkwX1_forgive_2 : List UInt8 := [180, 0, 142, 122, 4, 126, 154, 0, 6, 167, 0, 12, 25, 4, 2, 181, 0, 142, 132, 2, 1, 132, 3, 1]
abbrev dktX1_forgive_2 : List UInt8 := dkwX1_forgive_2 ++ dktX1_forgive_3
def dkwX1_forgive_1 : List UInt8 := [180, 0, 80, 29, 182, 0, 90, 192, 0, 94, 58, 4, 25, 4, 180, 0, 142, 2, 159, 0, 27, 27, 25, 4]
abbrev dktX1_forgive_1 : List UInt8 := dkwX1_forgive_1 ++ dktX1_forgive_2
def dkwX1_forgive_0 : List UInt8 := [3, 61, 3, 62, 29, 42, 180, 0, 10, 180, 0, 80, 182, 0, 84, 162, 0, 58, 42, 180, 0, 10]
abbrev dktX1_forgive_0 : List UInt8 := dkwX1_forgive_0 ++ dktX1_forgive_1
theorem dksX1_forgive_0 : cX1_forgive.data.toList.drop 0 = dktX1_forgive_0 := by decide +kernel
theorem dksX1_forgive_1 : cX1_forgive.data.toList.drop 22 = dktX1_forgive_1 := dk_seg dksX1_forgive_0 22 rfl rfl
theorem dksX1_forgive_2 : cX1_forgive.data.toList.drop 46 = dktX1_forgive_2 := dk_seg dksX1_forgive_1 24 rfl rfl
theorem dksX1_forgive_3 : cX1_forgive.data.toList.drop 70 = dktX1_forgive_3 := dk_seg dksX1_forgive_2 24 rfl rfl
theorem dX1_forgive_0 : decode cX1_forgive 0 = .ok (.iconst 0, 1) := dk_3 (dk_at dksX1_forgive_0 0 rfl rfl)
theorem dX1_forgive_1 : decode cX1_forgive 1 = .ok (.istore_n 2, 1) := dk_61 (dk_at dksX1_forgive_0 1 rfl rfl)
theorem dX1_forgive_2 : decode cX1_forgive 2 = .ok (.iconst 0, 1) := dk_3 (dk_at dksX1_forgive_0 2 rfl rfl)
theorem dX1_forgive_3 : decode cX1_forgive 3 = .ok (.istore_n 3, 1) := dk_62 (dk_at dksX1_forgive_0 3 rfl rfl)
theorem dX1_forgive_4 : decode cX1_forgive 4 = .ok (.iload_n 3, 1) := dk_29 (dk_at dksX1_forgive_0 4 rfl rfl)
theorem dX1_forgive_5 : decode cX1_forgive 5 = .ok (.aload_n 0, 1) := dk_42 (dk_at dksX1_forgive_0 5 rfl rfl)
theorem dX1_forgive_6 : decode cX1_forgive 6 = .ok (.getfield 10, 3) := dk_180 0 10 (dk_at dksX1_forgive_0 6 rfl rfl)
theorem dX1_forgive_9 : decode cX1_forgive 9 = .ok (.getfield 80, 3) := dk_180 0 80 (dk_at dksX1_forgive_0 9 rfl rfl)
theorem dX1_forgive_12 : decode cX1_forgive 12 = .ok (.invokevirtual 84, 3) := dk_182 0 84 (dk_at dksX1_forgive_0 12 rfl rfl)
theorem dX1_forgive_15 : decode cX1_forgive 15 = .ok (.if_icmp .ge 58, 3) := dk_162 0 58 (dk_at dksX1_forgive_0 15 rfl rfl)
theorem dX1_forgive_18 : decode cX1_forgive 18 = .ok (.aload_n 0, 1) := dk_42 (dk_at dksX1_forgive_0 18 rfl rfl)
theorem dX1_forgive_19 : decode cX1_forgive 19 = .ok (.getfield 10, 3) := dk_180 0 10 (dk_at dksX1_forgive_0 19 rfl rfl)
theorem dX1_forgive_22 : decode cX1_forgive 22 = .ok (.getfield 80, 3) := dk_180 0 80 (dk_at dksX1_forgive_1 0 rfl rfl)
theorem dX1_forgive_25 : decode cX1_forgive 25 = .ok (.iload_n 3, 1) := dk_29 (dk_at dksX1_forgive_1 3 rfl rfl)
theorem dX1_forgive_26 : decode cX1_forgive 26 = .ok (.invokevirtual 90, 3) := dk_182 0 90 (dk_at dksX1_forgive_1 4 rfl rfl)
theorem dX1_forgive_29 : decode cX1_forgive 29 = .ok (.checkcast 94, 3) := dk_192 0 94 (dk_at dksX1_forgive_1 7 rfl rfl)
theorem dX1_forgive_32 : decode cX1_forgive 32 = .ok (.astore 4, 2) := dk_58 4 (dk_at dksX1_forgive_1 10 rfl rfl)
theorem dX1_forgive_34 : decode cX1_forgive 34 = .ok (.aload 4, 2) := dk_25 4 (dk_at dksX1_forgive_1 12 rfl rfl)
theorem dX1_forgive_36 : decode cX1_forgive 36 = .ok (.getfield 142, 3) := dk_180 0 142 (dk_at dksX1_forgive_1 14 rfl rfl)
theorem dX1_forgive_39 : decode cX1_forgive 39 = .ok (.iconst (-1), 1) := dk_2 (dk_at dksX1_forgive_1 17 rfl rfl)
theorem dX1_forgive_40 : decode cX1_forgive 40 = .ok (.if_icmp .eq 27, 3) := dk_159 0 27 (dk_at dksX1_forgive_1 18 rfl rfl)
theorem dX1_forgive_43 : decode cX1_forgive 43 = .ok (.iload_n 1, 1) := dk_27 (dk_at dksX1_forgive_1 21 rfl rfl)
theorem dX1_forgive_44 : decode cX1_forgive 44 = .ok (.aload 4, 2) := dk_25 4 (dk_at dksX1_forgive_1 22 rfl rfl)
theorem dX1_forgive_46 : decode cX1_forgive 46 = .ok (.getfield 142, 3) := dk_180 0 142 (dk_at dksX1_forgive_2 0 rfl rfl)
theorem dX1_forgive_49 : decode cX1_forgive 49 = .ok (.ishr, 1) := dk_122 (dk_at dksX1_forgive_2 3 rfl rfl)
theorem dX1_forgive_50 : decode cX1_forgive 50 = .ok (.iconst 1, 1) := dk_4 (dk_at dksX1_forgive_2 4 rfl rfl)
theorem dX1_forgive_51 : decode cX1_forgive 51 = .ok (.iand, 1) := dk_126 (dk_at dksX1_forgive_2 5 rfl rfl)
theorem dX1_forgive_52 : decode cX1_forgive 52 = .ok (.ifCond .ne 6, 3) := dk_154 0 6 (dk_at dksX1_forgive_2 6 rfl rfl)
theorem dX1_forgive_55 : decode cX1_forgive 55 = .ok (.goto 12, 3) := dk_167 0 12 (dk_at dksX1_forgive_2 9 rfl rfl)
theorem dX1_forgive_58 : decode cX1_forgive 58 = .ok (.aload 4, 2) := dk_25 4 (dk_at dksX1_forgive_2 12 rfl rfl)
theorem dX1_forgive_60 : decode cX1_forgive 60 = .ok (.iconst (-1), 1) := dk_2 (dk_at dksX1_forgive_2 14 rfl rfl)
theorem dX1_forgive_61 : decode cX1_forgive 61 = .ok (.putfield 142, 3) := dk_181 0 142 (dk_at dksX1_forgive_2 15 rfl rfl)
theorem dX1_forgive_64 : decode cX1_forgive 64 = .ok (.iinc 2 1, 3) := dk_132 2 1 (dk_at dksX1_forgive_2 18 rfl rfl)
theorem dX1_forgive_67 : decode cX1_forgive 67 = .ok (.iinc 3 1, 3) := dk_132 3 1 (dk_at dksX1_forgive_2 21 rfl rfl)
theorem dX1_forgive_70 : decode cX1_forgive 70 = .ok (.goto (-66), 3) := dk_167 255 190 (dk_at dksX1_forgive_3 0 rfl rfl)
theorem dX1_forgive_73 : decode cX1_forgive 73 = .ok (.iload_n 2, 1) := dk_28 (dk_at dksX1_forgive_3 3 rfl rfl)
theorem dX1_forgive_74 : decode cX1_forgive 74 = .ok (.ireturn, 1) := dk_172 (dk_at dksX1_forgive_3 4 rfl rfl)
abbrev cX1_image : ByteArray := prog_1_method_61_code
def yX1_image : MethodName := ⟨RX1, "image", "()V"⟩
def dkwX1_image_0 : List UInt8 := [42, 42, 180, 0, 10, 182, 0, 201, 181, 1, 218, 177]
abbrev dktX1_image_0 : List UInt8 := dkwX1_image_0 ++ []
theorem dksX1_image_0 : cX1_image.data.toList.drop 0 = dktX1_image_0 := by decide +kernel
theorem dX1_image_0 : decode cX1_image 0 = .ok (.aload_n 0, 1) := dk_42 (dk_at dksX1_image_0 0 rfl rfl)
theorem dX1_image_1 : decode cX1_image 1 = .ok (.aload_n 0, 1) := dk_42 (dk_at dksX1_image_0 1 rfl rfl)
theorem dX1_image_2 : decode cX1_image 2 = .ok (.getfield 10, 3) := dk_180 0 10 (dk_at dksX1_image_0 2 rfl rfl)
theorem dX1_image_5 : decode cX1_image 5 = .ok (.invokevirtual 201, 3) := dk_182 0 201 (dk_at dksX1_image_0 5 rfl rfl)
theorem dX1_image_8 : decode cX1_image 8 = .ok (.putfield 474, 3) := dk_181 1 218 (dk_at dksX1_image_0 8 rfl rfl)
theorem dX1_image_11 : decode cX1_image 11 = .ok (.return_, 1) := dk_177 (dk_at dksX1_image_0 11 rfl rfl)
abbrev cX1_back : ByteArray := prog_1_method_62_code
def yX1_back : MethodName := ⟨RX1, "back", "()Z"⟩
def dkwX1_back_0 : List UInt8 := [42, 180, 1, 218, 199, 0, 5, 3, 172, 42, 42, 180, 1, 218, 182, 0, 201, 181, 0, 10, 4, 172]
abbrev dktX1_back_0 : List UInt8 := dkwX1_back_0 ++ []
theorem dksX1_back_0 : cX1_back.data.toList.drop 0 = dktX1_back_0 := by decide +kernel
theorem dX1_back_0 : decode cX1_back 0 = .ok (.aload_n 0, 1) := dk_42 (dk_at dksX1_back_0 0 rfl rfl)
theorem dX1_back_1 : decode cX1_back 1 = .ok (.getfield 474, 3) := dk_180 1 218 (dk_at dksX1_back_0 1 rfl rfl)
theorem dX1_back_4 : decode cX1_back 4 = .ok (.ifnonnull 5, 3) := dk_199 0 5 (dk_at dksX1_back_0 4 rfl rfl)
theorem dX1_back_7 : decode cX1_back 7 = .ok (.iconst 0, 1) := dk_3 (dk_at dksX1_back_0 7 rfl rfl)
theorem dX1_back_8 : decode cX1_back 8 = .ok (.ireturn, 1) := dk_172 (dk_at dksX1_back_0 8 rfl rfl)
theorem dX1_back_9 : decode cX1_back 9 = .ok (.aload_n 0, 1) := dk_42 (dk_at dksX1_back_0 9 rfl rfl)
theorem dX1_back_10 : decode cX1_back 10 = .ok (.aload_n 0, 1) := dk_42 (dk_at dksX1_back_0 10 rfl rfl)
theorem dX1_back_11 : decode cX1_back 11 = .ok (.getfield 474, 3) := dk_180 1 218 (dk_at dksX1_back_0 11 rfl rfl)
theorem dX1_back_14 : decode cX1_back 14 = .ok (.invokevirtual 201, 3) := dk_182 0 201 (dk_at dksX1_back_0 14 rfl rfl)
theorem dX1_back_17 : decode cX1_back 17 = .ok (.putfield 10, 3) := dk_181 0 10 (dk_at dksX1_back_0 17 rfl rfl)
theorem dX1_back_20 : decode cX1_back 20 = .ok (.iconst 1, 1) := dk_4 (dk_at dksX1_back_0 20 rfl rfl)
theorem dX1_back_21 : decode cX1_back 21 = .ok (.ireturn, 1) := dk_172 (dk_at dksX1_back_0 21 rfl rfl)
abbrev cX1_count : ByteArray := prog_1_method_63_code
def yX1_count : MethodName := ⟨RX1, "count", "(I)I"⟩
def dkwX1_count_6 : List UInt8 := [172]
abbrev dktX1_count_6 : List UInt8 := dkwX1_count_6 ++ []
def dkwX1_count_5 : List UInt8 := [180, 0, 10, 180, 1, 221, 172, 42, 180, 0, 10, 180, 0, 127, 172, 42, 180, 0, 10, 182, 1, 224, 172, 2]
abbrev dktX1_count_5 : List UInt8 := dkwX1_count_5 ++ dktX1_count_6
def dkwX1_count_4 : List UInt8 := [180, 0, 10, 180, 0, 152, 182, 0, 84, 172, 42, 180, 0, 10, 180, 1, 202, 182, 0, 84, 172, 42]
abbrev dktX1_count_4 : List UInt8 := dkwX1_count_4 ++ dktX1_count_5
def dkwX1_count_3 : List UInt8 := [182, 0, 84, 172, 42, 180, 0, 10, 180, 0, 80, 182, 0, 84, 172, 42, 180, 0, 10, 182, 1, 215, 172, 42]
abbrev dktX1_count_3 : List UInt8 := dkwX1_count_3 ++ dktX1_count_4
def dkwX1_count_2 : List UInt8 := [42, 180, 0, 10, 180, 0, 55, 172, 42, 180, 0, 10, 180, 0, 213, 172, 42, 180, 0, 10, 180, 1, 76]
abbrev dktX1_count_2 : List UInt8 := dkwX1_count_2 ++ dktX1_count_3
def dkwX1_count_1 : List UInt8 := [170, 0, 0, 0, 0, 0, 147, 0, 0, 0, 0, 0, 0, 0, 9, 0, 0, 0, 55, 0, 0, 0, 63, 0, 0, 0, 71, 0, 0, 0, 82, 0, 0, 0, 93, 0, 0, 0, 101, 0, 0, 0, 112, 0, 0, 0, 123, 0, 0, 0, 131, 0, 0, 0, 139]
abbrev dktX1_count_1 : List UInt8 := dkwX1_count_1 ++ dktX1_count_2
def dkwX1_count_0 : List UInt8 := [27]
abbrev dktX1_count_0 : List UInt8 := dkwX1_count_0 ++ dktX1_count_1
theorem dksX1_count_0 : cX1_count.data.toList.drop 0 = dktX1_count_0 := by decide +kernel
theorem dksX1_count_1 : cX1_count.data.toList.drop 1 = dktX1_count_1 := dk_seg dksX1_count_0 1 rfl rfl
theorem dksX1_count_2 : cX1_count.data.toList.drop 56 = dktX1_count_2 := dk_seg dksX1_count_1 55 rfl rfl
theorem dksX1_count_3 : cX1_count.data.toList.drop 79 = dktX1_count_3 := dk_seg dksX1_count_2 23 rfl rfl
theorem dksX1_count_4 : cX1_count.data.toList.drop 103 = dktX1_count_4 := dk_seg dksX1_count_3 24 rfl rfl
theorem dksX1_count_5 : cX1_count.data.toList.drop 125 = dktX1_count_5 := dk_seg dksX1_count_4 22 rfl rfl
theorem dksX1_count_6 : cX1_count.data.toList.drop 149 = dktX1_count_6 := dk_seg dksX1_count_5 24 rfl rfl
theorem dX1_count_0 : decode cX1_count 0 = .ok (.iload_n 1, 1) := dk_27 (dk_at dksX1_count_0 0 rfl rfl)
theorem dX1_count_1 : decode cX1_count 1 = .ok (.tableswitch 147 0 9 #[55, 63, 71, 82, 93, 101, 112, 123, 131, 139], 55) := by decide +kernel
theorem dX1_count_56 : decode cX1_count 56 = .ok (.aload_n 0, 1) := dk_42 (dk_at dksX1_count_2 0 rfl rfl)
theorem dX1_count_57 : decode cX1_count 57 = .ok (.getfield 10, 3) := dk_180 0 10 (dk_at dksX1_count_2 1 rfl rfl)
theorem dX1_count_60 : decode cX1_count 60 = .ok (.getfield 55, 3) := dk_180 0 55 (dk_at dksX1_count_2 4 rfl rfl)
theorem dX1_count_63 : decode cX1_count 63 = .ok (.ireturn, 1) := dk_172 (dk_at dksX1_count_2 7 rfl rfl)
theorem dX1_count_64 : decode cX1_count 64 = .ok (.aload_n 0, 1) := dk_42 (dk_at dksX1_count_2 8 rfl rfl)
theorem dX1_count_65 : decode cX1_count 65 = .ok (.getfield 10, 3) := dk_180 0 10 (dk_at dksX1_count_2 9 rfl rfl)
theorem dX1_count_68 : decode cX1_count 68 = .ok (.getfield 213, 3) := dk_180 0 213 (dk_at dksX1_count_2 12 rfl rfl)
theorem dX1_count_71 : decode cX1_count 71 = .ok (.ireturn, 1) := dk_172 (dk_at dksX1_count_2 15 rfl rfl)
theorem dX1_count_72 : decode cX1_count 72 = .ok (.aload_n 0, 1) := dk_42 (dk_at dksX1_count_2 16 rfl rfl)
theorem dX1_count_73 : decode cX1_count 73 = .ok (.getfield 10, 3) := dk_180 0 10 (dk_at dksX1_count_2 17 rfl rfl)
theorem dX1_count_76 : decode cX1_count 76 = .ok (.getfield 332, 3) := dk_180 1 76 (dk_at dksX1_count_2 20 rfl rfl)
theorem dX1_count_79 : decode cX1_count 79 = .ok (.invokevirtual 84, 3) := dk_182 0 84 (dk_at dksX1_count_3 0 rfl rfl)
theorem dX1_count_82 : decode cX1_count 82 = .ok (.ireturn, 1) := dk_172 (dk_at dksX1_count_3 3 rfl rfl)
theorem dX1_count_83 : decode cX1_count 83 = .ok (.aload_n 0, 1) := dk_42 (dk_at dksX1_count_3 4 rfl rfl)
theorem dX1_count_84 : decode cX1_count 84 = .ok (.getfield 10, 3) := dk_180 0 10 (dk_at dksX1_count_3 5 rfl rfl)
theorem dX1_count_87 : decode cX1_count 87 = .ok (.getfield 80, 3) := dk_180 0 80 (dk_at dksX1_count_3 8 rfl rfl)
theorem dX1_count_90 : decode cX1_count 90 = .ok (.invokevirtual 84, 3) := dk_182 0 84 (dk_at dksX1_count_3 11 rfl rfl)
theorem dX1_count_93 : decode cX1_count 93 = .ok (.ireturn, 1) := dk_172 (dk_at dksX1_count_3 14 rfl rfl)
theorem dX1_count_94 : decode cX1_count 94 = .ok (.aload_n 0, 1) := dk_42 (dk_at dksX1_count_3 15 rfl rfl)
theorem dX1_count_95 : decode cX1_count 95 = .ok (.getfield 10, 3) := dk_180 0 10 (dk_at dksX1_count_3 16 rfl rfl)
theorem dX1_count_98 : decode cX1_count 98 = .ok (.invokevirtual 471, 3) := dk_182 1 215 (dk_at dksX1_count_3 19 rfl rfl)
theorem dX1_count_101 : decode cX1_count 101 = .ok (.ireturn, 1) := dk_172 (dk_at dksX1_count_3 22 rfl rfl)
theorem dX1_count_102 : decode cX1_count 102 = .ok (.aload_n 0, 1) := dk_42 (dk_at dksX1_count_3 23 rfl rfl)
theorem dX1_count_103 : decode cX1_count 103 = .ok (.getfield 10, 3) := dk_180 0 10 (dk_at dksX1_count_4 0 rfl rfl)
theorem dX1_count_106 : decode cX1_count 106 = .ok (.getfield 152, 3) := dk_180 0 152 (dk_at dksX1_count_4 3 rfl rfl)
theorem dX1_count_109 : decode cX1_count 109 = .ok (.invokevirtual 84, 3) := dk_182 0 84 (dk_at dksX1_count_4 6 rfl rfl)
theorem dX1_count_112 : decode cX1_count 112 = .ok (.ireturn, 1) := dk_172 (dk_at dksX1_count_4 9 rfl rfl)
theorem dX1_count_113 : decode cX1_count 113 = .ok (.aload_n 0, 1) := dk_42 (dk_at dksX1_count_4 10 rfl rfl)
theorem dX1_count_114 : decode cX1_count 114 = .ok (.getfield 10, 3) := dk_180 0 10 (dk_at dksX1_count_4 11 rfl rfl)
theorem dX1_count_117 : decode cX1_count 117 = .ok (.getfield 458, 3) := dk_180 1 202 (dk_at dksX1_count_4 14 rfl rfl)
theorem dX1_count_120 : decode cX1_count 120 = .ok (.invokevirtual 84, 3) := dk_182 0 84 (dk_at dksX1_count_4 17 rfl rfl)
theorem dX1_count_123 : decode cX1_count 123 = .ok (.ireturn, 1) := dk_172 (dk_at dksX1_count_4 20 rfl rfl)
theorem dX1_count_124 : decode cX1_count 124 = .ok (.aload_n 0, 1) := dk_42 (dk_at dksX1_count_4 21 rfl rfl)
theorem dX1_count_125 : decode cX1_count 125 = .ok (.getfield 10, 3) := dk_180 0 10 (dk_at dksX1_count_5 0 rfl rfl)
theorem dX1_count_128 : decode cX1_count 128 = .ok (.getfield 477, 3) := dk_180 1 221 (dk_at dksX1_count_5 3 rfl rfl)
theorem dX1_count_131 : decode cX1_count 131 = .ok (.ireturn, 1) := dk_172 (dk_at dksX1_count_5 6 rfl rfl)
theorem dX1_count_132 : decode cX1_count 132 = .ok (.aload_n 0, 1) := dk_42 (dk_at dksX1_count_5 7 rfl rfl)
theorem dX1_count_133 : decode cX1_count 133 = .ok (.getfield 10, 3) := dk_180 0 10 (dk_at dksX1_count_5 8 rfl rfl)
theorem dX1_count_136 : decode cX1_count 136 = .ok (.getfield 127, 3) := dk_180 0 127 (dk_at dksX1_count_5 11 rfl rfl)
theorem dX1_count_139 : decode cX1_count 139 = .ok (.ireturn, 1) := dk_172 (dk_at dksX1_count_5 14 rfl rfl)
theorem dX1_count_140 : decode cX1_count 140 = .ok (.aload_n 0, 1) := dk_42 (dk_at dksX1_count_5 15 rfl rfl)
theorem dX1_count_141 : decode cX1_count 141 = .ok (.getfield 10, 3) := dk_180 0 10 (dk_at dksX1_count_5 16 rfl rfl)
theorem dX1_count_144 : decode cX1_count 144 = .ok (.invokevirtual 480, 3) := dk_182 1 224 (dk_at dksX1_count_5 19 rfl rfl)
theorem dX1_count_147 : decode cX1_count 147 = .ok (.ireturn, 1) := dk_172 (dk_at dksX1_count_5 22 rfl rfl)
theorem dX1_count_148 : decode cX1_count 148 = .ok (.iconst (-1), 1) := dk_2 (dk_at dksX1_count_5 23 rfl rfl)
theorem dX1_count_149 : decode cX1_count 149 = .ok (.ireturn, 1) := dk_172 (dk_at dksX1_count_6 0 rfl rfl)
abbrev cX1_town : ByteArray := prog_1_method_16_code
def yX1_town : MethodName := ⟨RX1, "town", "()I"⟩
def dkwX1_town_3 : List UInt8 := [180, 0, 10, 180, 0, 213, 172]
abbrev dktX1_town_3 : List UInt8 := dkwX1_town_3 ++ []
def dkwX1_town_2 : List UInt8 := [187, 0, 216, 89, 183, 0, 218, 191, 43, 89, 180, 0, 213, 4, 96, 181, 0, 213, 42, 43, 181, 0, 10, 42]
abbrev dktX1_town_2 : List UInt8 := dkwX1_town_2 ++ dktX1_town_3
def dkwX1_town_1 : List UInt8 := [2, 181, 0, 51, 167, 0, 8, 77, 42, 182, 0, 210, 42, 180, 0, 10, 180, 0, 213, 16, 10, 160, 0, 11]
abbrev dktX1_town_1 : List UInt8 := dkwX1_town_1 ++ dktX1_town_2
def dkwX1_town_0 : List UInt8 := [42, 180, 0, 19, 182, 0, 198, 42, 180, 0, 10, 182, 0, 201, 76, 42, 43, 182, 0, 205, 42, 180, 0, 19]
abbrev dktX1_town_0 : List UInt8 := dkwX1_town_0 ++ dktX1_town_1
theorem dksX1_town_0 : cX1_town.data.toList.drop 0 = dktX1_town_0 := by decide +kernel
theorem dksX1_town_1 : cX1_town.data.toList.drop 24 = dktX1_town_1 := dk_seg dksX1_town_0 24 rfl rfl
theorem dksX1_town_2 : cX1_town.data.toList.drop 48 = dktX1_town_2 := dk_seg dksX1_town_1 24 rfl rfl
theorem dksX1_town_3 : cX1_town.data.toList.drop 72 = dktX1_town_3 := dk_seg dksX1_town_2 24 rfl rfl
theorem dX1_town_0 : decode cX1_town 0 = .ok (.aload_n 0, 1) := dk_42 (dk_at dksX1_town_0 0 rfl rfl)
theorem dX1_town_1 : decode cX1_town 1 = .ok (.getfield 19, 3) := dk_180 0 19 (dk_at dksX1_town_0 1 rfl rfl)
theorem dX1_town_4 : decode cX1_town 4 = .ok (.invokevirtual 198, 3) := dk_182 0 198 (dk_at dksX1_town_0 4 rfl rfl)
theorem dX1_town_7 : decode cX1_town 7 = .ok (.aload_n 0, 1) := dk_42 (dk_at dksX1_town_0 7 rfl rfl)
theorem dX1_town_8 : decode cX1_town 8 = .ok (.getfield 10, 3) := dk_180 0 10 (dk_at dksX1_town_0 8 rfl rfl)
theorem dX1_town_11 : decode cX1_town 11 = .ok (.invokevirtual 201, 3) := dk_182 0 201 (dk_at dksX1_town_0 11 rfl rfl)
theorem dX1_town_14 : decode cX1_town 14 = .ok (.astore_n 1, 1) := dk_76 (dk_at dksX1_town_0 14 rfl rfl)
theorem dX1_town_15 : decode cX1_town 15 = .ok (.aload_n 0, 1) := dk_42 (dk_at dksX1_town_0 15 rfl rfl)
theorem dX1_town_16 : decode cX1_town 16 = .ok (.aload_n 1, 1) := dk_43 (dk_at dksX1_town_0 16 rfl rfl)
theorem dX1_town_17 : decode cX1_town 17 = .ok (.invokevirtual 205, 3) := dk_182 0 205 (dk_at dksX1_town_0 17 rfl rfl)
theorem dX1_town_20 : decode cX1_town 20 = .ok (.aload_n 0, 1) := dk_42 (dk_at dksX1_town_0 20 rfl rfl)
theorem dX1_town_21 : decode cX1_town 21 = .ok (.getfield 19, 3) := dk_180 0 19 (dk_at dksX1_town_0 21 rfl rfl)
theorem dX1_town_24 : decode cX1_town 24 = .ok (.iconst (-1), 1) := dk_2 (dk_at dksX1_town_1 0 rfl rfl)
theorem dX1_town_25 : decode cX1_town 25 = .ok (.putfield 51, 3) := dk_181 0 51 (dk_at dksX1_town_1 1 rfl rfl)
theorem dX1_town_28 : decode cX1_town 28 = .ok (.goto 8, 3) := dk_167 0 8 (dk_at dksX1_town_1 4 rfl rfl)
theorem dX1_town_31 : decode cX1_town 31 = .ok (.astore_n 2, 1) := dk_77 (dk_at dksX1_town_1 7 rfl rfl)
theorem dX1_town_32 : decode cX1_town 32 = .ok (.aload_n 0, 1) := dk_42 (dk_at dksX1_town_1 8 rfl rfl)
theorem dX1_town_33 : decode cX1_town 33 = .ok (.invokevirtual 210, 3) := dk_182 0 210 (dk_at dksX1_town_1 9 rfl rfl)
theorem dX1_town_36 : decode cX1_town 36 = .ok (.aload_n 0, 1) := dk_42 (dk_at dksX1_town_1 12 rfl rfl)
theorem dX1_town_37 : decode cX1_town 37 = .ok (.getfield 10, 3) := dk_180 0 10 (dk_at dksX1_town_1 13 rfl rfl)
theorem dX1_town_40 : decode cX1_town 40 = .ok (.getfield 213, 3) := dk_180 0 213 (dk_at dksX1_town_1 16 rfl rfl)
theorem dX1_town_43 : decode cX1_town 43 = .ok (.bipush 10, 2) := dk_16 10 (dk_at dksX1_town_1 19 rfl rfl)
theorem dX1_town_45 : decode cX1_town 45 = .ok (.if_icmp .ne 11, 3) := dk_160 0 11 (dk_at dksX1_town_1 21 rfl rfl)
theorem dX1_town_48 : decode cX1_town 48 = .ok (.new 216, 3) := dk_187 0 216 (dk_at dksX1_town_2 0 rfl rfl)
theorem dX1_town_51 : decode cX1_town 51 = .ok (.dup, 1) := dk_89 (dk_at dksX1_town_2 3 rfl rfl)
theorem dX1_town_52 : decode cX1_town 52 = .ok (.invokespecial 218, 3) := dk_183 0 218 (dk_at dksX1_town_2 4 rfl rfl)
theorem dX1_town_55 : decode cX1_town 55 = .ok (.athrow, 1) := dk_191 (dk_at dksX1_town_2 7 rfl rfl)
theorem dX1_town_56 : decode cX1_town 56 = .ok (.aload_n 1, 1) := dk_43 (dk_at dksX1_town_2 8 rfl rfl)
theorem dX1_town_57 : decode cX1_town 57 = .ok (.dup, 1) := dk_89 (dk_at dksX1_town_2 9 rfl rfl)
theorem dX1_town_58 : decode cX1_town 58 = .ok (.getfield 213, 3) := dk_180 0 213 (dk_at dksX1_town_2 10 rfl rfl)
theorem dX1_town_61 : decode cX1_town 61 = .ok (.iconst 1, 1) := dk_4 (dk_at dksX1_town_2 13 rfl rfl)
theorem dX1_town_62 : decode cX1_town 62 = .ok (.iadd, 1) := dk_96 (dk_at dksX1_town_2 14 rfl rfl)
theorem dX1_town_63 : decode cX1_town 63 = .ok (.putfield 213, 3) := dk_181 0 213 (dk_at dksX1_town_2 15 rfl rfl)
theorem dX1_town_66 : decode cX1_town 66 = .ok (.aload_n 0, 1) := dk_42 (dk_at dksX1_town_2 18 rfl rfl)
theorem dX1_town_67 : decode cX1_town 67 = .ok (.aload_n 1, 1) := dk_43 (dk_at dksX1_town_2 19 rfl rfl)
theorem dX1_town_68 : decode cX1_town 68 = .ok (.putfield 10, 3) := dk_181 0 10 (dk_at dksX1_town_2 20 rfl rfl)
theorem dX1_town_71 : decode cX1_town 71 = .ok (.aload_n 0, 1) := dk_42 (dk_at dksX1_town_2 23 rfl rfl)
theorem dX1_town_72 : decode cX1_town 72 = .ok (.getfield 10, 3) := dk_180 0 10 (dk_at dksX1_town_3 0 rfl rfl)
theorem dX1_town_75 : decode cX1_town 75 = .ok (.getfield 213, 3) := dk_180 0 213 (dk_at dksX1_town_3 3 rfl rfl)
theorem dX1_town_78 : decode cX1_town 78 = .ok (.ireturn, 1) := dk_172 (dk_at dksX1_town_3 6 rfl rfl)
abbrev cX1_townText : ByteArray := prog_1_method_12_code
def yX1_townText : MethodName := ⟨RX1, "townText", "(LFavourTown$World;)V"⟩
def dkwX1_townText_1 : List UInt8 := [182, 0, 183, 132, 2, 1, 42, 182, 0, 186, 154, 255, 237, 177]
abbrev dktX1_townText_1 : List UInt8 := dkwX1_townText_1 ++ []
def dkwX1_townText_0 : List UInt8 := [42, 180, 0, 19, 182, 0, 175, 153, 0, 4, 177, 3, 61, 42, 28, 16, 14, 182, 0, 179, 42, 43]
abbrev dktX1_townText_0 : List UInt8 := dkwX1_townText_0 ++ dktX1_townText_1
theorem dksX1_townText_0 : cX1_townText.data.toList.drop 0 = dktX1_townText_0 := by decide +kernel
theorem dksX1_townText_1 : cX1_townText.data.toList.drop 22 = dktX1_townText_1 := dk_seg dksX1_townText_0 22 rfl rfl
theorem dX1_townText_0 : decode cX1_townText 0 = .ok (.aload_n 0, 1) := dk_42 (dk_at dksX1_townText_0 0 rfl rfl)
theorem dX1_townText_1 : decode cX1_townText 1 = .ok (.getfield 19, 3) := dk_180 0 19 (dk_at dksX1_townText_0 1 rfl rfl)
theorem dX1_townText_4 : decode cX1_townText 4 = .ok (.invokevirtual 175, 3) := dk_182 0 175 (dk_at dksX1_townText_0 4 rfl rfl)
theorem dX1_townText_7 : decode cX1_townText 7 = .ok (.ifCond .eq 4, 3) := dk_153 0 4 (dk_at dksX1_townText_0 7 rfl rfl)
theorem dX1_townText_10 : decode cX1_townText 10 = .ok (.return_, 1) := dk_177 (dk_at dksX1_townText_0 10 rfl rfl)
theorem dX1_townText_11 : decode cX1_townText 11 = .ok (.iconst 0, 1) := dk_3 (dk_at dksX1_townText_0 11 rfl rfl)
theorem dX1_townText_12 : decode cX1_townText 12 = .ok (.istore_n 2, 1) := dk_61 (dk_at dksX1_townText_0 12 rfl rfl)
theorem dX1_townText_13 : decode cX1_townText 13 = .ok (.aload_n 0, 1) := dk_42 (dk_at dksX1_townText_0 13 rfl rfl)
theorem dX1_townText_14 : decode cX1_townText 14 = .ok (.iload_n 2, 1) := dk_28 (dk_at dksX1_townText_0 14 rfl rfl)
theorem dX1_townText_15 : decode cX1_townText 15 = .ok (.bipush 14, 2) := dk_16 14 (dk_at dksX1_townText_0 15 rfl rfl)
theorem dX1_townText_17 : decode cX1_townText 17 = .ok (.invokevirtual 179, 3) := dk_182 0 179 (dk_at dksX1_townText_0 17 rfl rfl)
theorem dX1_townText_20 : decode cX1_townText 20 = .ok (.aload_n 0, 1) := dk_42 (dk_at dksX1_townText_0 20 rfl rfl)
theorem dX1_townText_21 : decode cX1_townText 21 = .ok (.aload_n 1, 1) := dk_43 (dk_at dksX1_townText_0 21 rfl rfl)
theorem dX1_townText_22 : decode cX1_townText 22 = .ok (.invokevirtual 183, 3) := dk_182 0 183 (dk_at dksX1_townText_1 0 rfl rfl)
theorem dX1_townText_25 : decode cX1_townText 25 = .ok (.iinc 2 1, 3) := dk_132 2 1 (dk_at dksX1_townText_1 3 rfl rfl)
theorem dX1_townText_28 : decode cX1_townText 28 = .ok (.aload_n 0, 1) := dk_42 (dk_at dksX1_townText_1 6 rfl rfl)
theorem dX1_townText_29 : decode cX1_townText 29 = .ok (.invokevirtual 186, 3) := dk_182 0 186 (dk_at dksX1_townText_1 7 rfl rfl)
theorem dX1_townText_32 : decode cX1_townText 32 = .ok (.ifCond .ne (-19), 3) := dk_154 255 237 (dk_at dksX1_townText_1 10 rfl rfl)
theorem dX1_townText_35 : decode cX1_townText 35 = .ok (.return_, 1) := dk_177 (dk_at dksX1_townText_1 13 rfl rfl)
abbrev cX1_noMore : ByteArray := prog_1_method_13_code
def yX1_noMore : MethodName := ⟨RX1, "noMore", "(II)V"⟩
def dkwX1_noMore_0 : List UInt8 := [27, 28, 162, 0, 4, 177, 42, 180, 0, 19, 182, 0, 70, 87, 42, 180, 0, 19, 182, 0, 66, 191]
abbrev dktX1_noMore_0 : List UInt8 := dkwX1_noMore_0 ++ []
theorem dksX1_noMore_0 : cX1_noMore.data.toList.drop 0 = dktX1_noMore_0 := by decide +kernel
theorem dX1_noMore_0 : decode cX1_noMore 0 = .ok (.iload_n 1, 1) := dk_27 (dk_at dksX1_noMore_0 0 rfl rfl)
theorem dX1_noMore_1 : decode cX1_noMore 1 = .ok (.iload_n 2, 1) := dk_28 (dk_at dksX1_noMore_0 1 rfl rfl)
theorem dX1_noMore_2 : decode cX1_noMore 2 = .ok (.if_icmp .ge 4, 3) := dk_162 0 4 (dk_at dksX1_noMore_0 2 rfl rfl)
theorem dX1_noMore_5 : decode cX1_noMore 5 = .ok (.return_, 1) := dk_177 (dk_at dksX1_noMore_0 5 rfl rfl)
theorem dX1_noMore_6 : decode cX1_noMore 6 = .ok (.aload_n 0, 1) := dk_42 (dk_at dksX1_noMore_0 6 rfl rfl)
theorem dX1_noMore_7 : decode cX1_noMore 7 = .ok (.getfield 19, 3) := dk_180 0 19 (dk_at dksX1_noMore_0 7 rfl rfl)
theorem dX1_noMore_10 : decode cX1_noMore 10 = .ok (.invokevirtual 70, 3) := dk_182 0 70 (dk_at dksX1_noMore_0 10 rfl rfl)
theorem dX1_noMore_13 : decode cX1_noMore 13 = .ok (.pop, 1) := dk_87 (dk_at dksX1_noMore_0 13 rfl rfl)
theorem dX1_noMore_14 : decode cX1_noMore 14 = .ok (.aload_n 0, 1) := dk_42 (dk_at dksX1_noMore_0 14 rfl rfl)
theorem dX1_noMore_15 : decode cX1_noMore 15 = .ok (.getfield 19, 3) := dk_180 0 19 (dk_at dksX1_noMore_0 15 rfl rfl)
theorem dX1_noMore_18 : decode cX1_noMore 18 = .ok (.invokevirtual 66, 3) := dk_182 0 66 (dk_at dksX1_noMore_0 18 rfl rfl)
theorem dX1_noMore_21 : decode cX1_noMore 21 = .ok (.athrow, 1) := dk_191 (dk_at dksX1_noMore_0 21 rfl rfl)
abbrev cX1_in : ByteArray := prog_1_method_2_code
def yX1_in : MethodName := ⟨RX1, "in", "(III)Z"⟩
def dkwX1_in_0 : List UInt8 := [26, 27, 161, 0, 12, 26, 28, 163, 0, 7, 4, 167, 0, 4, 3, 172]
abbrev dktX1_in_0 : List UInt8 := dkwX1_in_0 ++ []
theorem dksX1_in_0 : cX1_in.data.toList.drop 0 = dktX1_in_0 := by decide +kernel
theorem dX1_in_0 : decode cX1_in 0 = .ok (.iload_n 0, 1) := dk_26 (dk_at dksX1_in_0 0 rfl rfl)
theorem dX1_in_1 : decode cX1_in 1 = .ok (.iload_n 1, 1) := dk_27 (dk_at dksX1_in_0 1 rfl rfl)
theorem dX1_in_2 : decode cX1_in 2 = .ok (.if_icmp .lt 12, 3) := dk_161 0 12 (dk_at dksX1_in_0 2 rfl rfl)
theorem dX1_in_5 : decode cX1_in 5 = .ok (.iload_n 0, 1) := dk_26 (dk_at dksX1_in_0 5 rfl rfl)
theorem dX1_in_6 : decode cX1_in 6 = .ok (.iload_n 2, 1) := dk_28 (dk_at dksX1_in_0 6 rfl rfl)
theorem dX1_in_7 : decode cX1_in 7 = .ok (.if_icmp .gt 7, 3) := dk_163 0 7 (dk_at dksX1_in_0 7 rfl rfl)
theorem dX1_in_10 : decode cX1_in 10 = .ok (.iconst 1, 1) := dk_4 (dk_at dksX1_in_0 10 rfl rfl)
theorem dX1_in_11 : decode cX1_in 11 = .ok (.goto 4, 3) := dk_167 0 4 (dk_at dksX1_in_0 11 rfl rfl)
theorem dX1_in_14 : decode cX1_in 14 = .ok (.iconst 0, 1) := dk_3 (dk_at dksX1_in_0 14 rfl rfl)
theorem dX1_in_15 : decode cX1_in 15 = .ok (.ireturn, 1) := dk_172 (dk_at dksX1_in_0 15 rfl rfl)
abbrev cX1_townLine : ByteArray := prog_1_method_10_code
def yX1_townLine : MethodName := ⟨RX1, "townLine", "(LFavourTown$World;)V"⟩
def dkwX1_townLine_19 : List UInt8 := [183, 0, 159, 182, 0, 162, 87, 177, 44, 182, 0, 66, 191]
abbrev dktX1_townLine_19 : List UInt8 := dkwX1_townLine_19 ++ []
def dkwX1_townLine_18 : List UInt8 := [182, 0, 121, 54, 10, 43, 180, 0, 152, 187, 0, 157, 89, 21, 9, 21, 10, 44, 4, 16, 99, 182, 0, 58]
abbrev dktX1_townLine_18 : List UInt8 := dkwX1_townLine_18 ++ dktX1_townLine_19
def dkwX1_townLine_17 : List UInt8 := [44, 182, 0, 66, 191, 42, 43, 182, 0, 62, 54, 9, 42, 18, 155, 182, 0, 139, 42, 43, 21, 9]
abbrev dktX1_townLine_17 : List UInt8 := dkwX1_townLine_17 ++ dktX1_townLine_18
def dkwX1_townLine_16 : List UInt8 := [44, 4, 16, 99, 182, 0, 58, 182, 0, 149, 87, 177, 43, 180, 0, 152, 182, 0, 84, 16, 12, 160, 0, 8]
abbrev dktX1_townLine_16 : List UInt8 := dkwX1_townLine_16 ++ dktX1_townLine_17
def dkwX1_townLine_15 : List UInt8 := [159, 0, 12, 43, 25, 7, 21, 8, 182, 0, 145, 87, 177, 42, 43, 182, 0, 133, 2, 181, 0, 142, 177, 43]
abbrev dktX1_townLine_15 : List UInt8 := dkwX1_townLine_15 ++ dktX1_townLine_16
def dkwX1_townLine_14 : List UInt8 := [58, 7, 42, 18, 137, 182, 0, 139, 42, 43, 182, 0, 62, 54, 8, 25, 7, 180, 0, 142, 21, 8]
abbrev dktX1_townLine_14 : List UInt8 := dkwX1_townLine_14 ++ dktX1_townLine_15
def dkwX1_townLine_13 : List UInt8 := [177, 43, 44, 3, 16, 10, 182, 0, 58, 181, 0, 127, 177, 42, 43, 182, 0, 129, 177, 42, 43, 182, 0, 133]
abbrev dktX1_townLine_13 : List UInt8 := dkwX1_townLine_13 ++ dktX1_townLine_14
def dkwX1_townLine_12 : List UInt8 := [21, 5, 92, 46, 4, 21, 6, 120, 128, 79, 43, 180, 0, 125, 21, 6, 92, 46, 4, 21, 5, 120, 128, 79]
abbrev dktX1_townLine_12 : List UInt8 := dkwX1_townLine_12 ++ dktX1_townLine_13
def dkwX1_townLine_11 : List UInt8 := [181, 0, 55, 177, 42, 43, 182, 0, 62, 54, 5, 42, 43, 21, 5, 182, 0, 121, 54, 6, 43, 180, 0, 125]
abbrev dktX1_townLine_11 : List UInt8 := dkwX1_townLine_11 ++ dktX1_townLine_12
def dkwX1_townLine_10 : List UInt8 := [17, 3, 231, 182, 0, 58, 79, 43, 180, 0, 118, 43, 180, 0, 55, 2, 79, 43, 89, 180, 0, 55, 4, 96]
abbrev dktX1_townLine_10 : List UInt8 := dkwX1_townLine_10 ++ dktX1_townLine_11
def dkwX1_townLine_9 : List UInt8 := [43, 180, 0, 55, 16, 12, 160, 0, 8, 44, 182, 0, 66, 191, 43, 180, 0, 115, 43, 180, 0, 55, 44, 3]
abbrev dktX1_townLine_9 : List UInt8 := dkwX1_townLine_9 ++ dktX1_townLine_10
def dkwX1_townLine_8 : List UInt8 := [170, 0, 0, 0, 0, 1, 35, 0, 0, 0, 0, 0, 0, 0, 7, 0, 0, 0, 47, 0, 0, 0, 99, 0, 0, 0, 144, 0, 0, 0, 156, 0, 0, 0, 162, 0, 0, 0, 202, 0, 0, 0, 212, 0, 0, 0, 225]
abbrev dktX1_townLine_8 : List UInt8 := dkwX1_townLine_8 ++ dktX1_townLine_9
def dkwX1_townLine_7 : List UInt8 := [21, 4]
abbrev dktX1_townLine_7 : List UInt8 := dkwX1_townLine_7 ++ dktX1_townLine_8
def dkwX1_townLine_6 : List UInt8 := [153, 0, 23, 16, 6, 54, 4, 167, 0, 16, 45, 18, 113, 182, 0, 74, 153, 0, 7, 16, 7, 54, 4]
abbrev dktX1_townLine_6 : List UInt8 := dkwX1_townLine_6 ++ dktX1_townLine_7
def dkwX1_townLine_5 : List UInt8 := [167, 0, 47, 45, 18, 109, 182, 0, 74, 153, 0, 38, 8, 54, 4, 167, 0, 32, 45, 18, 111, 182, 0, 74]
abbrev dktX1_townLine_5 : List UInt8 := dkwX1_townLine_5 ++ dktX1_townLine_6
def dkwX1_townLine_4 : List UInt8 := [182, 0, 74, 153, 0, 68, 6, 54, 4, 167, 0, 62, 45, 18, 107, 182, 0, 74, 153, 0, 53, 7, 54, 4]
abbrev dktX1_townLine_4 : List UInt8 := dkwX1_townLine_4 ++ dktX1_townLine_5
def dkwX1_townLine_3 : List UInt8 := [4, 54, 4, 167, 0, 92, 45, 18, 103, 182, 0, 74, 153, 0, 83, 5, 54, 4, 167, 0, 77, 45, 18, 105]
abbrev dktX1_townLine_3 : List UInt8 := dkwX1_townLine_3 ++ dktX1_townLine_4
def dkwX1_townLine_2 : List UInt8 := [45, 18, 99, 182, 0, 74, 153, 0, 113, 3, 54, 4, 167, 0, 107, 45, 18, 101, 182, 0, 74, 153, 0, 98]
abbrev dktX1_townLine_2 : List UInt8 := dkwX1_townLine_2 ++ dktX1_townLine_3
def dkwX1_townLine_1 : List UInt8 := [171, 0, 0, 0, 0, 0, 194, 0, 0, 0, 8, 196, 227, 155, 85, 0, 0, 0, 75, 0, 1, 161, 162, 0, 0, 0, 105, 0, 46, 122, 94, 0, 0, 0, 150, 0, 46, 240, 87, 0, 0, 0, 165, 0, 48, 107, 17, 0, 0, 0, 120, 0, 51, 136, 40, 0, 0, 0, 90, 0, 51, 136, 150, 0, 0, 0, 181, 0, 52, 100, 17, 0, 0, 0, 135]
abbrev dktX1_townLine_1 : List UInt8 := dkwX1_townLine_1 ++ dktX1_townLine_2
def dkwX1_townLine_0 : List UInt8 := [42, 180, 0, 19, 77, 44, 182, 0, 70, 78, 2, 54, 4, 45, 182, 0, 96]
abbrev dktX1_townLine_0 : List UInt8 := dkwX1_townLine_0 ++ dktX1_townLine_1
theorem dksX1_townLine_0 : cX1_townLine.data.toList.drop 0 = dktX1_townLine_0 := by decide +kernel
theorem dksX1_townLine_1 : cX1_townLine.data.toList.drop 17 = dktX1_townLine_1 := dk_seg dksX1_townLine_0 17 rfl rfl
theorem dksX1_townLine_2 : cX1_townLine.data.toList.drop 92 = dktX1_townLine_2 := dk_seg dksX1_townLine_1 75 rfl rfl
theorem dksX1_townLine_3 : cX1_townLine.data.toList.drop 116 = dktX1_townLine_3 := dk_seg dksX1_townLine_2 24 rfl rfl
theorem dksX1_townLine_4 : cX1_townLine.data.toList.drop 140 = dktX1_townLine_4 := dk_seg dksX1_townLine_3 24 rfl rfl
theorem dksX1_townLine_5 : cX1_townLine.data.toList.drop 164 = dktX1_townLine_5 := dk_seg dksX1_townLine_4 24 rfl rfl
theorem dksX1_townLine_6 : cX1_townLine.data.toList.drop 188 = dktX1_townLine_6 := dk_seg dksX1_townLine_5 24 rfl rfl
theorem dksX1_townLine_7 : cX1_townLine.data.toList.drop 211 = dktX1_townLine_7 := dk_seg dksX1_townLine_6 23 rfl rfl
theorem dksX1_townLine_8 : cX1_townLine.data.toList.drop 213 = dktX1_townLine_8 := dk_seg dksX1_townLine_7 2 rfl rfl
theorem dksX1_townLine_9 : cX1_townLine.data.toList.drop 260 = dktX1_townLine_9 := dk_seg dksX1_townLine_8 47 rfl rfl
theorem dksX1_townLine_10 : cX1_townLine.data.toList.drop 284 = dktX1_townLine_10 := dk_seg dksX1_townLine_9 24 rfl rfl
theorem dksX1_townLine_11 : cX1_townLine.data.toList.drop 308 = dktX1_townLine_11 := dk_seg dksX1_townLine_10 24 rfl rfl
theorem dksX1_townLine_12 : cX1_townLine.data.toList.drop 332 = dktX1_townLine_12 := dk_seg dksX1_townLine_11 24 rfl rfl
theorem dksX1_townLine_13 : cX1_townLine.data.toList.drop 356 = dktX1_townLine_13 := dk_seg dksX1_townLine_12 24 rfl rfl
theorem dksX1_townLine_14 : cX1_townLine.data.toList.drop 380 = dktX1_townLine_14 := dk_seg dksX1_townLine_13 24 rfl rfl
theorem dksX1_townLine_15 : cX1_townLine.data.toList.drop 402 = dktX1_townLine_15 := dk_seg dksX1_townLine_14 22 rfl rfl
theorem dksX1_townLine_16 : cX1_townLine.data.toList.drop 426 = dktX1_townLine_16 := dk_seg dksX1_townLine_15 24 rfl rfl
theorem dksX1_townLine_17 : cX1_townLine.data.toList.drop 450 = dktX1_townLine_17 := dk_seg dksX1_townLine_16 24 rfl rfl
theorem dksX1_townLine_18 : cX1_townLine.data.toList.drop 472 = dktX1_townLine_18 := dk_seg dksX1_townLine_17 22 rfl rfl
theorem dksX1_townLine_19 : cX1_townLine.data.toList.drop 496 = dktX1_townLine_19 := dk_seg dksX1_townLine_18 24 rfl rfl
theorem dX1_townLine_0 : decode cX1_townLine 0 = .ok (.aload_n 0, 1) := dk_42 (dk_at dksX1_townLine_0 0 rfl rfl)
theorem dX1_townLine_1 : decode cX1_townLine 1 = .ok (.getfield 19, 3) := dk_180 0 19 (dk_at dksX1_townLine_0 1 rfl rfl)
theorem dX1_townLine_4 : decode cX1_townLine 4 = .ok (.astore_n 2, 1) := dk_77 (dk_at dksX1_townLine_0 4 rfl rfl)
theorem dX1_townLine_5 : decode cX1_townLine 5 = .ok (.aload_n 2, 1) := dk_44 (dk_at dksX1_townLine_0 5 rfl rfl)
theorem dX1_townLine_6 : decode cX1_townLine 6 = .ok (.invokevirtual 70, 3) := dk_182 0 70 (dk_at dksX1_townLine_0 6 rfl rfl)
theorem dX1_townLine_9 : decode cX1_townLine 9 = .ok (.astore_n 3, 1) := dk_78 (dk_at dksX1_townLine_0 9 rfl rfl)
theorem dX1_townLine_10 : decode cX1_townLine 10 = .ok (.iconst (-1), 1) := dk_2 (dk_at dksX1_townLine_0 10 rfl rfl)
theorem dX1_townLine_11 : decode cX1_townLine 11 = .ok (.istore 4, 2) := dk_54 4 (dk_at dksX1_townLine_0 11 rfl rfl)
theorem dX1_townLine_13 : decode cX1_townLine 13 = .ok (.aload_n 3, 1) := dk_45 (dk_at dksX1_townLine_0 13 rfl rfl)
theorem dX1_townLine_14 : decode cX1_townLine 14 = .ok (.invokevirtual 96, 3) := dk_182 0 96 (dk_at dksX1_townLine_0 14 rfl rfl)
theorem dX1_townLine_17 : decode cX1_townLine 17 = .ok (.lookupswitch 194 #[(-991716523, 75), (106914, 105), (3045982, 150), (3076183, 165), (3173137, 120), (3377192, 90), (3377302, 181), (3433489, 135)], 75) := by decide +kernel
theorem dX1_townLine_92 : decode cX1_townLine 92 = .ok (.aload_n 3, 1) := dk_45 (dk_at dksX1_townLine_2 0 rfl rfl)
theorem dX1_townLine_93 : decode cX1_townLine 93 = .ok (.ldc 99, 2) := dk_18 99 (dk_at dksX1_townLine_2 1 rfl rfl)
theorem dX1_townLine_95 : decode cX1_townLine 95 = .ok (.invokevirtual 74, 3) := dk_182 0 74 (dk_at dksX1_townLine_2 3 rfl rfl)
theorem dX1_townLine_98 : decode cX1_townLine 98 = .ok (.ifCond .eq 113, 3) := dk_153 0 113 (dk_at dksX1_townLine_2 6 rfl rfl)
theorem dX1_townLine_101 : decode cX1_townLine 101 = .ok (.iconst 0, 1) := dk_3 (dk_at dksX1_townLine_2 9 rfl rfl)
theorem dX1_townLine_102 : decode cX1_townLine 102 = .ok (.istore 4, 2) := dk_54 4 (dk_at dksX1_townLine_2 10 rfl rfl)
theorem dX1_townLine_104 : decode cX1_townLine 104 = .ok (.goto 107, 3) := dk_167 0 107 (dk_at dksX1_townLine_2 12 rfl rfl)
theorem dX1_townLine_107 : decode cX1_townLine 107 = .ok (.aload_n 3, 1) := dk_45 (dk_at dksX1_townLine_2 15 rfl rfl)
theorem dX1_townLine_108 : decode cX1_townLine 108 = .ok (.ldc 101, 2) := dk_18 101 (dk_at dksX1_townLine_2 16 rfl rfl)
theorem dX1_townLine_110 : decode cX1_townLine 110 = .ok (.invokevirtual 74, 3) := dk_182 0 74 (dk_at dksX1_townLine_2 18 rfl rfl)
theorem dX1_townLine_113 : decode cX1_townLine 113 = .ok (.ifCond .eq 98, 3) := dk_153 0 98 (dk_at dksX1_townLine_2 21 rfl rfl)
theorem dX1_townLine_116 : decode cX1_townLine 116 = .ok (.iconst 1, 1) := dk_4 (dk_at dksX1_townLine_3 0 rfl rfl)
theorem dX1_townLine_117 : decode cX1_townLine 117 = .ok (.istore 4, 2) := dk_54 4 (dk_at dksX1_townLine_3 1 rfl rfl)
theorem dX1_townLine_119 : decode cX1_townLine 119 = .ok (.goto 92, 3) := dk_167 0 92 (dk_at dksX1_townLine_3 3 rfl rfl)
theorem dX1_townLine_122 : decode cX1_townLine 122 = .ok (.aload_n 3, 1) := dk_45 (dk_at dksX1_townLine_3 6 rfl rfl)
theorem dX1_townLine_123 : decode cX1_townLine 123 = .ok (.ldc 103, 2) := dk_18 103 (dk_at dksX1_townLine_3 7 rfl rfl)
theorem dX1_townLine_125 : decode cX1_townLine 125 = .ok (.invokevirtual 74, 3) := dk_182 0 74 (dk_at dksX1_townLine_3 9 rfl rfl)
theorem dX1_townLine_128 : decode cX1_townLine 128 = .ok (.ifCond .eq 83, 3) := dk_153 0 83 (dk_at dksX1_townLine_3 12 rfl rfl)
theorem dX1_townLine_131 : decode cX1_townLine 131 = .ok (.iconst 2, 1) := dk_5 (dk_at dksX1_townLine_3 15 rfl rfl)
theorem dX1_townLine_132 : decode cX1_townLine 132 = .ok (.istore 4, 2) := dk_54 4 (dk_at dksX1_townLine_3 16 rfl rfl)
theorem dX1_townLine_134 : decode cX1_townLine 134 = .ok (.goto 77, 3) := dk_167 0 77 (dk_at dksX1_townLine_3 18 rfl rfl)
theorem dX1_townLine_137 : decode cX1_townLine 137 = .ok (.aload_n 3, 1) := dk_45 (dk_at dksX1_townLine_3 21 rfl rfl)
theorem dX1_townLine_138 : decode cX1_townLine 138 = .ok (.ldc 105, 2) := dk_18 105 (dk_at dksX1_townLine_3 22 rfl rfl)
theorem dX1_townLine_140 : decode cX1_townLine 140 = .ok (.invokevirtual 74, 3) := dk_182 0 74 (dk_at dksX1_townLine_4 0 rfl rfl)
theorem dX1_townLine_143 : decode cX1_townLine 143 = .ok (.ifCond .eq 68, 3) := dk_153 0 68 (dk_at dksX1_townLine_4 3 rfl rfl)
theorem dX1_townLine_146 : decode cX1_townLine 146 = .ok (.iconst 3, 1) := dk_6 (dk_at dksX1_townLine_4 6 rfl rfl)
theorem dX1_townLine_147 : decode cX1_townLine 147 = .ok (.istore 4, 2) := dk_54 4 (dk_at dksX1_townLine_4 7 rfl rfl)
theorem dX1_townLine_149 : decode cX1_townLine 149 = .ok (.goto 62, 3) := dk_167 0 62 (dk_at dksX1_townLine_4 9 rfl rfl)
theorem dX1_townLine_152 : decode cX1_townLine 152 = .ok (.aload_n 3, 1) := dk_45 (dk_at dksX1_townLine_4 12 rfl rfl)
theorem dX1_townLine_153 : decode cX1_townLine 153 = .ok (.ldc 107, 2) := dk_18 107 (dk_at dksX1_townLine_4 13 rfl rfl)
theorem dX1_townLine_155 : decode cX1_townLine 155 = .ok (.invokevirtual 74, 3) := dk_182 0 74 (dk_at dksX1_townLine_4 15 rfl rfl)
theorem dX1_townLine_158 : decode cX1_townLine 158 = .ok (.ifCond .eq 53, 3) := dk_153 0 53 (dk_at dksX1_townLine_4 18 rfl rfl)
theorem dX1_townLine_161 : decode cX1_townLine 161 = .ok (.iconst 4, 1) := dk_7 (dk_at dksX1_townLine_4 21 rfl rfl)
theorem dX1_townLine_162 : decode cX1_townLine 162 = .ok (.istore 4, 2) := dk_54 4 (dk_at dksX1_townLine_4 22 rfl rfl)
theorem dX1_townLine_164 : decode cX1_townLine 164 = .ok (.goto 47, 3) := dk_167 0 47 (dk_at dksX1_townLine_5 0 rfl rfl)
theorem dX1_townLine_167 : decode cX1_townLine 167 = .ok (.aload_n 3, 1) := dk_45 (dk_at dksX1_townLine_5 3 rfl rfl)
theorem dX1_townLine_168 : decode cX1_townLine 168 = .ok (.ldc 109, 2) := dk_18 109 (dk_at dksX1_townLine_5 4 rfl rfl)
theorem dX1_townLine_170 : decode cX1_townLine 170 = .ok (.invokevirtual 74, 3) := dk_182 0 74 (dk_at dksX1_townLine_5 6 rfl rfl)
theorem dX1_townLine_173 : decode cX1_townLine 173 = .ok (.ifCond .eq 38, 3) := dk_153 0 38 (dk_at dksX1_townLine_5 9 rfl rfl)
theorem dX1_townLine_176 : decode cX1_townLine 176 = .ok (.iconst 5, 1) := dk_8 (dk_at dksX1_townLine_5 12 rfl rfl)
theorem dX1_townLine_177 : decode cX1_townLine 177 = .ok (.istore 4, 2) := dk_54 4 (dk_at dksX1_townLine_5 13 rfl rfl)
theorem dX1_townLine_179 : decode cX1_townLine 179 = .ok (.goto 32, 3) := dk_167 0 32 (dk_at dksX1_townLine_5 15 rfl rfl)
theorem dX1_townLine_182 : decode cX1_townLine 182 = .ok (.aload_n 3, 1) := dk_45 (dk_at dksX1_townLine_5 18 rfl rfl)
theorem dX1_townLine_183 : decode cX1_townLine 183 = .ok (.ldc 111, 2) := dk_18 111 (dk_at dksX1_townLine_5 19 rfl rfl)
theorem dX1_townLine_185 : decode cX1_townLine 185 = .ok (.invokevirtual 74, 3) := dk_182 0 74 (dk_at dksX1_townLine_5 21 rfl rfl)
theorem dX1_townLine_188 : decode cX1_townLine 188 = .ok (.ifCond .eq 23, 3) := dk_153 0 23 (dk_at dksX1_townLine_6 0 rfl rfl)
theorem dX1_townLine_191 : decode cX1_townLine 191 = .ok (.bipush 6, 2) := dk_16 6 (dk_at dksX1_townLine_6 3 rfl rfl)
theorem dX1_townLine_193 : decode cX1_townLine 193 = .ok (.istore 4, 2) := dk_54 4 (dk_at dksX1_townLine_6 5 rfl rfl)
theorem dX1_townLine_195 : decode cX1_townLine 195 = .ok (.goto 16, 3) := dk_167 0 16 (dk_at dksX1_townLine_6 7 rfl rfl)
theorem dX1_townLine_198 : decode cX1_townLine 198 = .ok (.aload_n 3, 1) := dk_45 (dk_at dksX1_townLine_6 10 rfl rfl)
theorem dX1_townLine_199 : decode cX1_townLine 199 = .ok (.ldc 113, 2) := dk_18 113 (dk_at dksX1_townLine_6 11 rfl rfl)
theorem dX1_townLine_201 : decode cX1_townLine 201 = .ok (.invokevirtual 74, 3) := dk_182 0 74 (dk_at dksX1_townLine_6 13 rfl rfl)
theorem dX1_townLine_204 : decode cX1_townLine 204 = .ok (.ifCond .eq 7, 3) := dk_153 0 7 (dk_at dksX1_townLine_6 16 rfl rfl)
theorem dX1_townLine_207 : decode cX1_townLine 207 = .ok (.bipush 7, 2) := dk_16 7 (dk_at dksX1_townLine_6 19 rfl rfl)
theorem dX1_townLine_209 : decode cX1_townLine 209 = .ok (.istore 4, 2) := dk_54 4 (dk_at dksX1_townLine_6 21 rfl rfl)
theorem dX1_townLine_211 : decode cX1_townLine 211 = .ok (.iload 4, 2) := dk_21 4 (dk_at dksX1_townLine_7 0 rfl rfl)
theorem dX1_townLine_213 : decode cX1_townLine 213 = .ok (.tableswitch 291 0 7 #[47, 99, 144, 156, 162, 202, 212, 225], 47) := by decide +kernel
theorem dX1_townLine_260 : decode cX1_townLine 260 = .ok (.aload_n 1, 1) := dk_43 (dk_at dksX1_townLine_9 0 rfl rfl)
theorem dX1_townLine_261 : decode cX1_townLine 261 = .ok (.getfield 55, 3) := dk_180 0 55 (dk_at dksX1_townLine_9 1 rfl rfl)
theorem dX1_townLine_264 : decode cX1_townLine 264 = .ok (.bipush 12, 2) := dk_16 12 (dk_at dksX1_townLine_9 4 rfl rfl)
theorem dX1_townLine_266 : decode cX1_townLine 266 = .ok (.if_icmp .ne 8, 3) := dk_160 0 8 (dk_at dksX1_townLine_9 6 rfl rfl)
theorem dX1_townLine_269 : decode cX1_townLine 269 = .ok (.aload_n 2, 1) := dk_44 (dk_at dksX1_townLine_9 9 rfl rfl)
theorem dX1_townLine_270 : decode cX1_townLine 270 = .ok (.invokevirtual 66, 3) := dk_182 0 66 (dk_at dksX1_townLine_9 10 rfl rfl)
theorem dX1_townLine_273 : decode cX1_townLine 273 = .ok (.athrow, 1) := dk_191 (dk_at dksX1_townLine_9 13 rfl rfl)
theorem dX1_townLine_274 : decode cX1_townLine 274 = .ok (.aload_n 1, 1) := dk_43 (dk_at dksX1_townLine_9 14 rfl rfl)
theorem dX1_townLine_275 : decode cX1_townLine 275 = .ok (.getfield 115, 3) := dk_180 0 115 (dk_at dksX1_townLine_9 15 rfl rfl)
theorem dX1_townLine_278 : decode cX1_townLine 278 = .ok (.aload_n 1, 1) := dk_43 (dk_at dksX1_townLine_9 18 rfl rfl)
theorem dX1_townLine_279 : decode cX1_townLine 279 = .ok (.getfield 55, 3) := dk_180 0 55 (dk_at dksX1_townLine_9 19 rfl rfl)
theorem dX1_townLine_282 : decode cX1_townLine 282 = .ok (.aload_n 2, 1) := dk_44 (dk_at dksX1_townLine_9 22 rfl rfl)
theorem dX1_townLine_283 : decode cX1_townLine 283 = .ok (.iconst 0, 1) := dk_3 (dk_at dksX1_townLine_9 23 rfl rfl)
theorem dX1_townLine_284 : decode cX1_townLine 284 = .ok (.sipush 999, 3) := dk_17 3 231 (dk_at dksX1_townLine_10 0 rfl rfl)
theorem dX1_townLine_287 : decode cX1_townLine 287 = .ok (.invokevirtual 58, 3) := dk_182 0 58 (dk_at dksX1_townLine_10 3 rfl rfl)
theorem dX1_townLine_290 : decode cX1_townLine 290 = .ok (.iastore, 1) := dk_79 (dk_at dksX1_townLine_10 6 rfl rfl)
theorem dX1_townLine_291 : decode cX1_townLine 291 = .ok (.aload_n 1, 1) := dk_43 (dk_at dksX1_townLine_10 7 rfl rfl)
theorem dX1_townLine_292 : decode cX1_townLine 292 = .ok (.getfield 118, 3) := dk_180 0 118 (dk_at dksX1_townLine_10 8 rfl rfl)
theorem dX1_townLine_295 : decode cX1_townLine 295 = .ok (.aload_n 1, 1) := dk_43 (dk_at dksX1_townLine_10 11 rfl rfl)
theorem dX1_townLine_296 : decode cX1_townLine 296 = .ok (.getfield 55, 3) := dk_180 0 55 (dk_at dksX1_townLine_10 12 rfl rfl)
theorem dX1_townLine_299 : decode cX1_townLine 299 = .ok (.iconst (-1), 1) := dk_2 (dk_at dksX1_townLine_10 15 rfl rfl)
theorem dX1_townLine_300 : decode cX1_townLine 300 = .ok (.iastore, 1) := dk_79 (dk_at dksX1_townLine_10 16 rfl rfl)
theorem dX1_townLine_301 : decode cX1_townLine 301 = .ok (.aload_n 1, 1) := dk_43 (dk_at dksX1_townLine_10 17 rfl rfl)
theorem dX1_townLine_302 : decode cX1_townLine 302 = .ok (.dup, 1) := dk_89 (dk_at dksX1_townLine_10 18 rfl rfl)
theorem dX1_townLine_303 : decode cX1_townLine 303 = .ok (.getfield 55, 3) := dk_180 0 55 (dk_at dksX1_townLine_10 19 rfl rfl)
theorem dX1_townLine_306 : decode cX1_townLine 306 = .ok (.iconst 1, 1) := dk_4 (dk_at dksX1_townLine_10 22 rfl rfl)
theorem dX1_townLine_307 : decode cX1_townLine 307 = .ok (.iadd, 1) := dk_96 (dk_at dksX1_townLine_10 23 rfl rfl)
theorem dX1_townLine_308 : decode cX1_townLine 308 = .ok (.putfield 55, 3) := dk_181 0 55 (dk_at dksX1_townLine_11 0 rfl rfl)
theorem dX1_townLine_311 : decode cX1_townLine 311 = .ok (.return_, 1) := dk_177 (dk_at dksX1_townLine_11 3 rfl rfl)
theorem dX1_townLine_312 : decode cX1_townLine 312 = .ok (.aload_n 0, 1) := dk_42 (dk_at dksX1_townLine_11 4 rfl rfl)
theorem dX1_townLine_313 : decode cX1_townLine 313 = .ok (.aload_n 1, 1) := dk_43 (dk_at dksX1_townLine_11 5 rfl rfl)
theorem dX1_townLine_314 : decode cX1_townLine 314 = .ok (.invokevirtual 62, 3) := dk_182 0 62 (dk_at dksX1_townLine_11 6 rfl rfl)
theorem dX1_townLine_317 : decode cX1_townLine 317 = .ok (.istore 5, 2) := dk_54 5 (dk_at dksX1_townLine_11 9 rfl rfl)
theorem dX1_townLine_319 : decode cX1_townLine 319 = .ok (.aload_n 0, 1) := dk_42 (dk_at dksX1_townLine_11 11 rfl rfl)
theorem dX1_townLine_320 : decode cX1_townLine 320 = .ok (.aload_n 1, 1) := dk_43 (dk_at dksX1_townLine_11 12 rfl rfl)
theorem dX1_townLine_321 : decode cX1_townLine 321 = .ok (.iload 5, 2) := dk_21 5 (dk_at dksX1_townLine_11 13 rfl rfl)
theorem dX1_townLine_323 : decode cX1_townLine 323 = .ok (.invokevirtual 121, 3) := dk_182 0 121 (dk_at dksX1_townLine_11 15 rfl rfl)
theorem dX1_townLine_326 : decode cX1_townLine 326 = .ok (.istore 6, 2) := dk_54 6 (dk_at dksX1_townLine_11 18 rfl rfl)
theorem dX1_townLine_328 : decode cX1_townLine 328 = .ok (.aload_n 1, 1) := dk_43 (dk_at dksX1_townLine_11 20 rfl rfl)
theorem dX1_townLine_329 : decode cX1_townLine 329 = .ok (.getfield 125, 3) := dk_180 0 125 (dk_at dksX1_townLine_11 21 rfl rfl)
theorem dX1_townLine_332 : decode cX1_townLine 332 = .ok (.iload 5, 2) := dk_21 5 (dk_at dksX1_townLine_12 0 rfl rfl)
theorem dX1_townLine_334 : decode cX1_townLine 334 = .ok (.dup2, 1) := dk_92 (dk_at dksX1_townLine_12 2 rfl rfl)
theorem dX1_townLine_335 : decode cX1_townLine 335 = .ok (.iaload, 1) := dk_46 (dk_at dksX1_townLine_12 3 rfl rfl)
theorem dX1_townLine_336 : decode cX1_townLine 336 = .ok (.iconst 1, 1) := dk_4 (dk_at dksX1_townLine_12 4 rfl rfl)
theorem dX1_townLine_337 : decode cX1_townLine 337 = .ok (.iload 6, 2) := dk_21 6 (dk_at dksX1_townLine_12 5 rfl rfl)
theorem dX1_townLine_339 : decode cX1_townLine 339 = .ok (.ishl, 1) := dk_120 (dk_at dksX1_townLine_12 7 rfl rfl)
theorem dX1_townLine_340 : decode cX1_townLine 340 = .ok (.ior, 1) := dk_128 (dk_at dksX1_townLine_12 8 rfl rfl)
theorem dX1_townLine_341 : decode cX1_townLine 341 = .ok (.iastore, 1) := dk_79 (dk_at dksX1_townLine_12 9 rfl rfl)
theorem dX1_townLine_342 : decode cX1_townLine 342 = .ok (.aload_n 1, 1) := dk_43 (dk_at dksX1_townLine_12 10 rfl rfl)
theorem dX1_townLine_343 : decode cX1_townLine 343 = .ok (.getfield 125, 3) := dk_180 0 125 (dk_at dksX1_townLine_12 11 rfl rfl)
theorem dX1_townLine_346 : decode cX1_townLine 346 = .ok (.iload 6, 2) := dk_21 6 (dk_at dksX1_townLine_12 14 rfl rfl)
theorem dX1_townLine_348 : decode cX1_townLine 348 = .ok (.dup2, 1) := dk_92 (dk_at dksX1_townLine_12 16 rfl rfl)
theorem dX1_townLine_349 : decode cX1_townLine 349 = .ok (.iaload, 1) := dk_46 (dk_at dksX1_townLine_12 17 rfl rfl)
theorem dX1_townLine_350 : decode cX1_townLine 350 = .ok (.iconst 1, 1) := dk_4 (dk_at dksX1_townLine_12 18 rfl rfl)
theorem dX1_townLine_351 : decode cX1_townLine 351 = .ok (.iload 5, 2) := dk_21 5 (dk_at dksX1_townLine_12 19 rfl rfl)
theorem dX1_townLine_353 : decode cX1_townLine 353 = .ok (.ishl, 1) := dk_120 (dk_at dksX1_townLine_12 21 rfl rfl)
theorem dX1_townLine_354 : decode cX1_townLine 354 = .ok (.ior, 1) := dk_128 (dk_at dksX1_townLine_12 22 rfl rfl)
theorem dX1_townLine_355 : decode cX1_townLine 355 = .ok (.iastore, 1) := dk_79 (dk_at dksX1_townLine_12 23 rfl rfl)
theorem dX1_townLine_356 : decode cX1_townLine 356 = .ok (.return_, 1) := dk_177 (dk_at dksX1_townLine_13 0 rfl rfl)
theorem dX1_townLine_357 : decode cX1_townLine 357 = .ok (.aload_n 1, 1) := dk_43 (dk_at dksX1_townLine_13 1 rfl rfl)
theorem dX1_townLine_358 : decode cX1_townLine 358 = .ok (.aload_n 2, 1) := dk_44 (dk_at dksX1_townLine_13 2 rfl rfl)
theorem dX1_townLine_359 : decode cX1_townLine 359 = .ok (.iconst 0, 1) := dk_3 (dk_at dksX1_townLine_13 3 rfl rfl)
theorem dX1_townLine_360 : decode cX1_townLine 360 = .ok (.bipush 10, 2) := dk_16 10 (dk_at dksX1_townLine_13 4 rfl rfl)
theorem dX1_townLine_362 : decode cX1_townLine 362 = .ok (.invokevirtual 58, 3) := dk_182 0 58 (dk_at dksX1_townLine_13 6 rfl rfl)
theorem dX1_townLine_365 : decode cX1_townLine 365 = .ok (.putfield 127, 3) := dk_181 0 127 (dk_at dksX1_townLine_13 9 rfl rfl)
theorem dX1_townLine_368 : decode cX1_townLine 368 = .ok (.return_, 1) := dk_177 (dk_at dksX1_townLine_13 12 rfl rfl)
theorem dX1_townLine_369 : decode cX1_townLine 369 = .ok (.aload_n 0, 1) := dk_42 (dk_at dksX1_townLine_13 13 rfl rfl)
theorem dX1_townLine_370 : decode cX1_townLine 370 = .ok (.aload_n 1, 1) := dk_43 (dk_at dksX1_townLine_13 14 rfl rfl)
theorem dX1_townLine_371 : decode cX1_townLine 371 = .ok (.invokevirtual 129, 3) := dk_182 0 129 (dk_at dksX1_townLine_13 15 rfl rfl)
theorem dX1_townLine_374 : decode cX1_townLine 374 = .ok (.return_, 1) := dk_177 (dk_at dksX1_townLine_13 18 rfl rfl)
theorem dX1_townLine_375 : decode cX1_townLine 375 = .ok (.aload_n 0, 1) := dk_42 (dk_at dksX1_townLine_13 19 rfl rfl)
theorem dX1_townLine_376 : decode cX1_townLine 376 = .ok (.aload_n 1, 1) := dk_43 (dk_at dksX1_townLine_13 20 rfl rfl)
theorem dX1_townLine_377 : decode cX1_townLine 377 = .ok (.invokevirtual 133, 3) := dk_182 0 133 (dk_at dksX1_townLine_13 21 rfl rfl)
theorem dX1_townLine_380 : decode cX1_townLine 380 = .ok (.astore 7, 2) := dk_58 7 (dk_at dksX1_townLine_14 0 rfl rfl)
theorem dX1_townLine_382 : decode cX1_townLine 382 = .ok (.aload_n 0, 1) := dk_42 (dk_at dksX1_townLine_14 2 rfl rfl)
theorem dX1_townLine_383 : decode cX1_townLine 383 = .ok (.ldc 137, 2) := dk_18 137 (dk_at dksX1_townLine_14 3 rfl rfl)
theorem dX1_townLine_385 : decode cX1_townLine 385 = .ok (.invokevirtual 139, 3) := dk_182 0 139 (dk_at dksX1_townLine_14 5 rfl rfl)
theorem dX1_townLine_388 : decode cX1_townLine 388 = .ok (.aload_n 0, 1) := dk_42 (dk_at dksX1_townLine_14 8 rfl rfl)
theorem dX1_townLine_389 : decode cX1_townLine 389 = .ok (.aload_n 1, 1) := dk_43 (dk_at dksX1_townLine_14 9 rfl rfl)
theorem dX1_townLine_390 : decode cX1_townLine 390 = .ok (.invokevirtual 62, 3) := dk_182 0 62 (dk_at dksX1_townLine_14 10 rfl rfl)
theorem dX1_townLine_393 : decode cX1_townLine 393 = .ok (.istore 8, 2) := dk_54 8 (dk_at dksX1_townLine_14 13 rfl rfl)
theorem dX1_townLine_395 : decode cX1_townLine 395 = .ok (.aload 7, 2) := dk_25 7 (dk_at dksX1_townLine_14 15 rfl rfl)
theorem dX1_townLine_397 : decode cX1_townLine 397 = .ok (.getfield 142, 3) := dk_180 0 142 (dk_at dksX1_townLine_14 17 rfl rfl)
theorem dX1_townLine_400 : decode cX1_townLine 400 = .ok (.iload 8, 2) := dk_21 8 (dk_at dksX1_townLine_14 20 rfl rfl)
theorem dX1_townLine_402 : decode cX1_townLine 402 = .ok (.if_icmp .eq 12, 3) := dk_159 0 12 (dk_at dksX1_townLine_15 0 rfl rfl)
theorem dX1_townLine_405 : decode cX1_townLine 405 = .ok (.aload_n 1, 1) := dk_43 (dk_at dksX1_townLine_15 3 rfl rfl)
theorem dX1_townLine_406 : decode cX1_townLine 406 = .ok (.aload 7, 2) := dk_25 7 (dk_at dksX1_townLine_15 4 rfl rfl)
theorem dX1_townLine_408 : decode cX1_townLine 408 = .ok (.iload 8, 2) := dk_21 8 (dk_at dksX1_townLine_15 6 rfl rfl)
theorem dX1_townLine_410 : decode cX1_townLine 410 = .ok (.invokevirtual 145, 3) := dk_182 0 145 (dk_at dksX1_townLine_15 8 rfl rfl)
theorem dX1_townLine_413 : decode cX1_townLine 413 = .ok (.pop, 1) := dk_87 (dk_at dksX1_townLine_15 11 rfl rfl)
theorem dX1_townLine_414 : decode cX1_townLine 414 = .ok (.return_, 1) := dk_177 (dk_at dksX1_townLine_15 12 rfl rfl)
theorem dX1_townLine_415 : decode cX1_townLine 415 = .ok (.aload_n 0, 1) := dk_42 (dk_at dksX1_townLine_15 13 rfl rfl)
theorem dX1_townLine_416 : decode cX1_townLine 416 = .ok (.aload_n 1, 1) := dk_43 (dk_at dksX1_townLine_15 14 rfl rfl)
theorem dX1_townLine_417 : decode cX1_townLine 417 = .ok (.invokevirtual 133, 3) := dk_182 0 133 (dk_at dksX1_townLine_15 15 rfl rfl)
theorem dX1_townLine_420 : decode cX1_townLine 420 = .ok (.iconst (-1), 1) := dk_2 (dk_at dksX1_townLine_15 18 rfl rfl)
theorem dX1_townLine_421 : decode cX1_townLine 421 = .ok (.putfield 142, 3) := dk_181 0 142 (dk_at dksX1_townLine_15 19 rfl rfl)
theorem dX1_townLine_424 : decode cX1_townLine 424 = .ok (.return_, 1) := dk_177 (dk_at dksX1_townLine_15 22 rfl rfl)
theorem dX1_townLine_425 : decode cX1_townLine 425 = .ok (.aload_n 1, 1) := dk_43 (dk_at dksX1_townLine_15 23 rfl rfl)
theorem dX1_townLine_426 : decode cX1_townLine 426 = .ok (.aload_n 2, 1) := dk_44 (dk_at dksX1_townLine_16 0 rfl rfl)
theorem dX1_townLine_427 : decode cX1_townLine 427 = .ok (.iconst 1, 1) := dk_4 (dk_at dksX1_townLine_16 1 rfl rfl)
theorem dX1_townLine_428 : decode cX1_townLine 428 = .ok (.bipush 99, 2) := dk_16 99 (dk_at dksX1_townLine_16 2 rfl rfl)
theorem dX1_townLine_430 : decode cX1_townLine 430 = .ok (.invokevirtual 58, 3) := dk_182 0 58 (dk_at dksX1_townLine_16 4 rfl rfl)
theorem dX1_townLine_433 : decode cX1_townLine 433 = .ok (.invokevirtual 149, 3) := dk_182 0 149 (dk_at dksX1_townLine_16 7 rfl rfl)
theorem dX1_townLine_436 : decode cX1_townLine 436 = .ok (.pop, 1) := dk_87 (dk_at dksX1_townLine_16 10 rfl rfl)
theorem dX1_townLine_437 : decode cX1_townLine 437 = .ok (.return_, 1) := dk_177 (dk_at dksX1_townLine_16 11 rfl rfl)
theorem dX1_townLine_438 : decode cX1_townLine 438 = .ok (.aload_n 1, 1) := dk_43 (dk_at dksX1_townLine_16 12 rfl rfl)
theorem dX1_townLine_439 : decode cX1_townLine 439 = .ok (.getfield 152, 3) := dk_180 0 152 (dk_at dksX1_townLine_16 13 rfl rfl)
theorem dX1_townLine_442 : decode cX1_townLine 442 = .ok (.invokevirtual 84, 3) := dk_182 0 84 (dk_at dksX1_townLine_16 16 rfl rfl)
theorem dX1_townLine_445 : decode cX1_townLine 445 = .ok (.bipush 12, 2) := dk_16 12 (dk_at dksX1_townLine_16 19 rfl rfl)
theorem dX1_townLine_447 : decode cX1_townLine 447 = .ok (.if_icmp .ne 8, 3) := dk_160 0 8 (dk_at dksX1_townLine_16 21 rfl rfl)
theorem dX1_townLine_450 : decode cX1_townLine 450 = .ok (.aload_n 2, 1) := dk_44 (dk_at dksX1_townLine_17 0 rfl rfl)
theorem dX1_townLine_451 : decode cX1_townLine 451 = .ok (.invokevirtual 66, 3) := dk_182 0 66 (dk_at dksX1_townLine_17 1 rfl rfl)
theorem dX1_townLine_454 : decode cX1_townLine 454 = .ok (.athrow, 1) := dk_191 (dk_at dksX1_townLine_17 4 rfl rfl)
theorem dX1_townLine_455 : decode cX1_townLine 455 = .ok (.aload_n 0, 1) := dk_42 (dk_at dksX1_townLine_17 5 rfl rfl)
theorem dX1_townLine_456 : decode cX1_townLine 456 = .ok (.aload_n 1, 1) := dk_43 (dk_at dksX1_townLine_17 6 rfl rfl)
theorem dX1_townLine_457 : decode cX1_townLine 457 = .ok (.invokevirtual 62, 3) := dk_182 0 62 (dk_at dksX1_townLine_17 7 rfl rfl)
theorem dX1_townLine_460 : decode cX1_townLine 460 = .ok (.istore 9, 2) := dk_54 9 (dk_at dksX1_townLine_17 10 rfl rfl)
theorem dX1_townLine_462 : decode cX1_townLine 462 = .ok (.aload_n 0, 1) := dk_42 (dk_at dksX1_townLine_17 12 rfl rfl)
theorem dX1_townLine_463 : decode cX1_townLine 463 = .ok (.ldc 155, 2) := dk_18 155 (dk_at dksX1_townLine_17 13 rfl rfl)
theorem dX1_townLine_465 : decode cX1_townLine 465 = .ok (.invokevirtual 139, 3) := dk_182 0 139 (dk_at dksX1_townLine_17 15 rfl rfl)
theorem dX1_townLine_468 : decode cX1_townLine 468 = .ok (.aload_n 0, 1) := dk_42 (dk_at dksX1_townLine_17 18 rfl rfl)
theorem dX1_townLine_469 : decode cX1_townLine 469 = .ok (.aload_n 1, 1) := dk_43 (dk_at dksX1_townLine_17 19 rfl rfl)
theorem dX1_townLine_470 : decode cX1_townLine 470 = .ok (.iload 9, 2) := dk_21 9 (dk_at dksX1_townLine_17 20 rfl rfl)
theorem dX1_townLine_472 : decode cX1_townLine 472 = .ok (.invokevirtual 121, 3) := dk_182 0 121 (dk_at dksX1_townLine_18 0 rfl rfl)
theorem dX1_townLine_475 : decode cX1_townLine 475 = .ok (.istore 10, 2) := dk_54 10 (dk_at dksX1_townLine_18 3 rfl rfl)
theorem dX1_townLine_477 : decode cX1_townLine 477 = .ok (.aload_n 1, 1) := dk_43 (dk_at dksX1_townLine_18 5 rfl rfl)
theorem dX1_townLine_478 : decode cX1_townLine 478 = .ok (.getfield 152, 3) := dk_180 0 152 (dk_at dksX1_townLine_18 6 rfl rfl)
theorem dX1_townLine_481 : decode cX1_townLine 481 = .ok (.new 157, 3) := dk_187 0 157 (dk_at dksX1_townLine_18 9 rfl rfl)
theorem dX1_townLine_484 : decode cX1_townLine 484 = .ok (.dup, 1) := dk_89 (dk_at dksX1_townLine_18 12 rfl rfl)
theorem dX1_townLine_485 : decode cX1_townLine 485 = .ok (.iload 9, 2) := dk_21 9 (dk_at dksX1_townLine_18 13 rfl rfl)
theorem dX1_townLine_487 : decode cX1_townLine 487 = .ok (.iload 10, 2) := dk_21 10 (dk_at dksX1_townLine_18 15 rfl rfl)
theorem dX1_townLine_489 : decode cX1_townLine 489 = .ok (.aload_n 2, 1) := dk_44 (dk_at dksX1_townLine_18 17 rfl rfl)
theorem dX1_townLine_490 : decode cX1_townLine 490 = .ok (.iconst 1, 1) := dk_4 (dk_at dksX1_townLine_18 18 rfl rfl)
theorem dX1_townLine_491 : decode cX1_townLine 491 = .ok (.bipush 99, 2) := dk_16 99 (dk_at dksX1_townLine_18 19 rfl rfl)
theorem dX1_townLine_493 : decode cX1_townLine 493 = .ok (.invokevirtual 58, 3) := dk_182 0 58 (dk_at dksX1_townLine_18 21 rfl rfl)
theorem dX1_townLine_496 : decode cX1_townLine 496 = .ok (.invokespecial 159, 3) := dk_183 0 159 (dk_at dksX1_townLine_19 0 rfl rfl)
theorem dX1_townLine_499 : decode cX1_townLine 499 = .ok (.invokevirtual 162, 3) := dk_182 0 162 (dk_at dksX1_townLine_19 3 rfl rfl)
theorem dX1_townLine_502 : decode cX1_townLine 502 = .ok (.pop, 1) := dk_87 (dk_at dksX1_townLine_19 6 rfl rfl)
theorem dX1_townLine_503 : decode cX1_townLine 503 = .ok (.return_, 1) := dk_177 (dk_at dksX1_townLine_19 7 rfl rfl)
theorem dX1_townLine_504 : decode cX1_townLine 504 = .ok (.aload_n 2, 1) := dk_44 (dk_at dksX1_townLine_19 8 rfl rfl)
theorem dX1_townLine_505 : decode cX1_townLine 505 = .ok (.invokevirtual 66, 3) := dk_182 0 66 (dk_at dksX1_townLine_19 9 rfl rfl)
theorem dX1_townLine_508 : decode cX1_townLine 508 = .ok (.athrow, 1) := dk_191 (dk_at dksX1_townLine_19 12 rfl rfl)
abbrev cX1_someone : ByteArray := prog_1_method_6_code
def yX1_someone : MethodName := ⟨RX1, "someone", "(LFavourTown$World;)I"⟩
def dkwX1_someone_0 : List UInt8 := [42, 180, 0, 19, 3, 43, 180, 0, 55, 4, 100, 182, 0, 58, 172]
abbrev dktX1_someone_0 : List UInt8 := dkwX1_someone_0 ++ []
theorem dksX1_someone_0 : cX1_someone.data.toList.drop 0 = dktX1_someone_0 := by decide +kernel
theorem dX1_someone_0 : decode cX1_someone 0 = .ok (.aload_n 0, 1) := dk_42 (dk_at dksX1_someone_0 0 rfl rfl)
theorem dX1_someone_1 : decode cX1_someone 1 = .ok (.getfield 19, 3) := dk_180 0 19 (dk_at dksX1_someone_0 1 rfl rfl)
theorem dX1_someone_4 : decode cX1_someone 4 = .ok (.iconst 0, 1) := dk_3 (dk_at dksX1_someone_0 4 rfl rfl)
theorem dX1_someone_5 : decode cX1_someone 5 = .ok (.aload_n 1, 1) := dk_43 (dk_at dksX1_someone_0 5 rfl rfl)
theorem dX1_someone_6 : decode cX1_someone 6 = .ok (.getfield 55, 3) := dk_180 0 55 (dk_at dksX1_someone_0 6 rfl rfl)
theorem dX1_someone_9 : decode cX1_someone 9 = .ok (.iconst 1, 1) := dk_4 (dk_at dksX1_someone_0 9 rfl rfl)
theorem dX1_someone_10 : decode cX1_someone 10 = .ok (.isub, 1) := dk_100 (dk_at dksX1_someone_0 10 rfl rfl)
theorem dX1_someone_11 : decode cX1_someone 11 = .ok (.invokevirtual 58, 3) := dk_182 0 58 (dk_at dksX1_someone_0 11 rfl rfl)
theorem dX1_someone_14 : decode cX1_someone 14 = .ok (.ireturn, 1) := dk_172 (dk_at dksX1_someone_0 14 rfl rfl)
abbrev cX1_another : ByteArray := prog_1_method_7_code
def yX1_another : MethodName := ⟨RX1, "another", "(LFavourTown$World;I)I"⟩
def dkwX1_another_0 : List UInt8 := [42, 43, 182, 0, 62, 62, 29, 28, 160, 0, 11, 42, 180, 0, 19, 182, 0, 66, 191, 29, 172]
abbrev dktX1_another_0 : List UInt8 := dkwX1_another_0 ++ []
theorem dksX1_another_0 : cX1_another.data.toList.drop 0 = dktX1_another_0 := by decide +kernel
theorem dX1_another_0 : decode cX1_another 0 = .ok (.aload_n 0, 1) := dk_42 (dk_at dksX1_another_0 0 rfl rfl)
theorem dX1_another_1 : decode cX1_another 1 = .ok (.aload_n 1, 1) := dk_43 (dk_at dksX1_another_0 1 rfl rfl)
theorem dX1_another_2 : decode cX1_another 2 = .ok (.invokevirtual 62, 3) := dk_182 0 62 (dk_at dksX1_another_0 2 rfl rfl)
theorem dX1_another_5 : decode cX1_another 5 = .ok (.istore_n 3, 1) := dk_62 (dk_at dksX1_another_0 5 rfl rfl)
theorem dX1_another_6 : decode cX1_another 6 = .ok (.iload_n 3, 1) := dk_29 (dk_at dksX1_another_0 6 rfl rfl)
theorem dX1_another_7 : decode cX1_another 7 = .ok (.iload_n 2, 1) := dk_28 (dk_at dksX1_another_0 7 rfl rfl)
theorem dX1_another_8 : decode cX1_another 8 = .ok (.if_icmp .ne 11, 3) := dk_160 0 11 (dk_at dksX1_another_0 8 rfl rfl)
theorem dX1_another_11 : decode cX1_another 11 = .ok (.aload_n 0, 1) := dk_42 (dk_at dksX1_another_0 11 rfl rfl)
theorem dX1_another_12 : decode cX1_another 12 = .ok (.getfield 19, 3) := dk_180 0 19 (dk_at dksX1_another_0 12 rfl rfl)
theorem dX1_another_15 : decode cX1_another 15 = .ok (.invokevirtual 66, 3) := dk_182 0 66 (dk_at dksX1_another_0 15 rfl rfl)
theorem dX1_another_18 : decode cX1_another 18 = .ok (.athrow, 1) := dk_191 (dk_at dksX1_another_0 18 rfl rfl)
theorem dX1_another_19 : decode cX1_another 19 = .ok (.iload_n 3, 1) := dk_29 (dk_at dksX1_another_0 19 rfl rfl)
theorem dX1_another_20 : decode cX1_another 20 = .ok (.ireturn, 1) := dk_172 (dk_at dksX1_another_0 20 rfl rfl)
abbrev cX1_givesTold : ByteArray := prog_1_method_11_code
def yX1_givesTold : MethodName := ⟨RX1, "givesTold", "(LFavourTown$World;)V"⟩
def dkwX1_givesTold_3 : List UInt8 := [182, 0, 166, 182, 0, 171, 87, 177]
abbrev dktX1_givesTold_3 : List UInt8 := dkwX1_givesTold_3 ++ []
def dkwX1_givesTold_2 : List UInt8 := [16, 99, 182, 0, 58, 167, 0, 4, 3, 54, 5, 43, 28, 29, 21, 4, 21, 5, 42, 180, 0, 19, 18, 169]
abbrev dktX1_givesTold_2 : List UInt8 := dkwX1_givesTold_2 ++ dktX1_givesTold_3
def dkwX1_givesTold_1 : List UInt8 := [16, 99, 182, 0, 58, 54, 4, 42, 180, 0, 19, 18, 164, 182, 0, 166, 153, 0, 16, 42, 180, 0, 19, 4]
abbrev dktX1_givesTold_1 : List UInt8 := dkwX1_givesTold_1 ++ dktX1_givesTold_2
def dkwX1_givesTold_0 : List UInt8 := [42, 43, 182, 0, 62, 61, 42, 18, 137, 182, 0, 139, 42, 43, 28, 182, 0, 121, 62, 42, 180, 0, 19, 4]
abbrev dktX1_givesTold_0 : List UInt8 := dkwX1_givesTold_0 ++ dktX1_givesTold_1
theorem dksX1_givesTold_0 : cX1_givesTold.data.toList.drop 0 = dktX1_givesTold_0 := by decide +kernel
theorem dksX1_givesTold_1 : cX1_givesTold.data.toList.drop 24 = dktX1_givesTold_1 := dk_seg dksX1_givesTold_0 24 rfl rfl
theorem dksX1_givesTold_2 : cX1_givesTold.data.toList.drop 48 = dktX1_givesTold_2 := dk_seg dksX1_givesTold_1 24 rfl rfl
theorem dksX1_givesTold_3 : cX1_givesTold.data.toList.drop 72 = dktX1_givesTold_3 := dk_seg dksX1_givesTold_2 24 rfl rfl
theorem dX1_givesTold_0 : decode cX1_givesTold 0 = .ok (.aload_n 0, 1) := dk_42 (dk_at dksX1_givesTold_0 0 rfl rfl)
theorem dX1_givesTold_1 : decode cX1_givesTold 1 = .ok (.aload_n 1, 1) := dk_43 (dk_at dksX1_givesTold_0 1 rfl rfl)
theorem dX1_givesTold_2 : decode cX1_givesTold 2 = .ok (.invokevirtual 62, 3) := dk_182 0 62 (dk_at dksX1_givesTold_0 2 rfl rfl)
theorem dX1_givesTold_5 : decode cX1_givesTold 5 = .ok (.istore_n 2, 1) := dk_61 (dk_at dksX1_givesTold_0 5 rfl rfl)
theorem dX1_givesTold_6 : decode cX1_givesTold 6 = .ok (.aload_n 0, 1) := dk_42 (dk_at dksX1_givesTold_0 6 rfl rfl)
theorem dX1_givesTold_7 : decode cX1_givesTold 7 = .ok (.ldc 137, 2) := dk_18 137 (dk_at dksX1_givesTold_0 7 rfl rfl)
theorem dX1_givesTold_9 : decode cX1_givesTold 9 = .ok (.invokevirtual 139, 3) := dk_182 0 139 (dk_at dksX1_givesTold_0 9 rfl rfl)
theorem dX1_givesTold_12 : decode cX1_givesTold 12 = .ok (.aload_n 0, 1) := dk_42 (dk_at dksX1_givesTold_0 12 rfl rfl)
theorem dX1_givesTold_13 : decode cX1_givesTold 13 = .ok (.aload_n 1, 1) := dk_43 (dk_at dksX1_givesTold_0 13 rfl rfl)
theorem dX1_givesTold_14 : decode cX1_givesTold 14 = .ok (.iload_n 2, 1) := dk_28 (dk_at dksX1_givesTold_0 14 rfl rfl)
theorem dX1_givesTold_15 : decode cX1_givesTold 15 = .ok (.invokevirtual 121, 3) := dk_182 0 121 (dk_at dksX1_givesTold_0 15 rfl rfl)
theorem dX1_givesTold_18 : decode cX1_givesTold 18 = .ok (.istore_n 3, 1) := dk_62 (dk_at dksX1_givesTold_0 18 rfl rfl)
theorem dX1_givesTold_19 : decode cX1_givesTold 19 = .ok (.aload_n 0, 1) := dk_42 (dk_at dksX1_givesTold_0 19 rfl rfl)
theorem dX1_givesTold_20 : decode cX1_givesTold 20 = .ok (.getfield 19, 3) := dk_180 0 19 (dk_at dksX1_givesTold_0 20 rfl rfl)
theorem dX1_givesTold_23 : decode cX1_givesTold 23 = .ok (.iconst 1, 1) := dk_4 (dk_at dksX1_givesTold_0 23 rfl rfl)
theorem dX1_givesTold_24 : decode cX1_givesTold 24 = .ok (.bipush 99, 2) := dk_16 99 (dk_at dksX1_givesTold_1 0 rfl rfl)
theorem dX1_givesTold_26 : decode cX1_givesTold 26 = .ok (.invokevirtual 58, 3) := dk_182 0 58 (dk_at dksX1_givesTold_1 2 rfl rfl)
theorem dX1_givesTold_29 : decode cX1_givesTold 29 = .ok (.istore 4, 2) := dk_54 4 (dk_at dksX1_givesTold_1 5 rfl rfl)
theorem dX1_givesTold_31 : decode cX1_givesTold 31 = .ok (.aload_n 0, 1) := dk_42 (dk_at dksX1_givesTold_1 7 rfl rfl)
theorem dX1_givesTold_32 : decode cX1_givesTold 32 = .ok (.getfield 19, 3) := dk_180 0 19 (dk_at dksX1_givesTold_1 8 rfl rfl)
theorem dX1_givesTold_35 : decode cX1_givesTold 35 = .ok (.ldc 164, 2) := dk_18 164 (dk_at dksX1_givesTold_1 11 rfl rfl)
theorem dX1_givesTold_37 : decode cX1_givesTold 37 = .ok (.invokevirtual 166, 3) := dk_182 0 166 (dk_at dksX1_givesTold_1 13 rfl rfl)
theorem dX1_givesTold_40 : decode cX1_givesTold 40 = .ok (.ifCond .eq 16, 3) := dk_153 0 16 (dk_at dksX1_givesTold_1 16 rfl rfl)
theorem dX1_givesTold_43 : decode cX1_givesTold 43 = .ok (.aload_n 0, 1) := dk_42 (dk_at dksX1_givesTold_1 19 rfl rfl)
theorem dX1_givesTold_44 : decode cX1_givesTold 44 = .ok (.getfield 19, 3) := dk_180 0 19 (dk_at dksX1_givesTold_1 20 rfl rfl)
theorem dX1_givesTold_47 : decode cX1_givesTold 47 = .ok (.iconst 1, 1) := dk_4 (dk_at dksX1_givesTold_1 23 rfl rfl)
theorem dX1_givesTold_48 : decode cX1_givesTold 48 = .ok (.bipush 99, 2) := dk_16 99 (dk_at dksX1_givesTold_2 0 rfl rfl)
theorem dX1_givesTold_50 : decode cX1_givesTold 50 = .ok (.invokevirtual 58, 3) := dk_182 0 58 (dk_at dksX1_givesTold_2 2 rfl rfl)
theorem dX1_givesTold_53 : decode cX1_givesTold 53 = .ok (.goto 4, 3) := dk_167 0 4 (dk_at dksX1_givesTold_2 5 rfl rfl)
theorem dX1_givesTold_56 : decode cX1_givesTold 56 = .ok (.iconst 0, 1) := dk_3 (dk_at dksX1_givesTold_2 8 rfl rfl)
theorem dX1_givesTold_57 : decode cX1_givesTold 57 = .ok (.istore 5, 2) := dk_54 5 (dk_at dksX1_givesTold_2 9 rfl rfl)
theorem dX1_givesTold_59 : decode cX1_givesTold 59 = .ok (.aload_n 1, 1) := dk_43 (dk_at dksX1_givesTold_2 11 rfl rfl)
theorem dX1_givesTold_60 : decode cX1_givesTold 60 = .ok (.iload_n 2, 1) := dk_28 (dk_at dksX1_givesTold_2 12 rfl rfl)
theorem dX1_givesTold_61 : decode cX1_givesTold 61 = .ok (.iload_n 3, 1) := dk_29 (dk_at dksX1_givesTold_2 13 rfl rfl)
theorem dX1_givesTold_62 : decode cX1_givesTold 62 = .ok (.iload 4, 2) := dk_21 4 (dk_at dksX1_givesTold_2 14 rfl rfl)
theorem dX1_givesTold_64 : decode cX1_givesTold 64 = .ok (.iload 5, 2) := dk_21 5 (dk_at dksX1_givesTold_2 16 rfl rfl)
theorem dX1_givesTold_66 : decode cX1_givesTold 66 = .ok (.aload_n 0, 1) := dk_42 (dk_at dksX1_givesTold_2 18 rfl rfl)
theorem dX1_givesTold_67 : decode cX1_givesTold 67 = .ok (.getfield 19, 3) := dk_180 0 19 (dk_at dksX1_givesTold_2 19 rfl rfl)
theorem dX1_givesTold_70 : decode cX1_givesTold 70 = .ok (.ldc 169, 2) := dk_18 169 (dk_at dksX1_givesTold_2 22 rfl rfl)
theorem dX1_givesTold_72 : decode cX1_givesTold 72 = .ok (.invokevirtual 166, 3) := dk_182 0 166 (dk_at dksX1_givesTold_3 0 rfl rfl)
theorem dX1_givesTold_75 : decode cX1_givesTold 75 = .ok (.invokevirtual 171, 3) := dk_182 0 171 (dk_at dksX1_givesTold_3 3 rfl rfl)
theorem dX1_givesTold_78 : decode cX1_givesTold 78 = .ok (.pop, 1) := dk_87 (dk_at dksX1_givesTold_3 6 rfl rfl)
theorem dX1_givesTold_79 : decode cX1_givesTold 79 = .ok (.return_, 1) := dk_177 (dk_at dksX1_givesTold_3 7 rfl rfl)
abbrev cX1_word : ByteArray := prog_1_method_8_code
def yX1_word : MethodName := ⟨RX1, "word", "(Ljava/lang/String;)V"⟩
def dkwX1_word_0 : List UInt8 := [42, 180, 0, 19, 182, 0, 70, 43, 182, 0, 74, 154, 0, 11, 42, 180, 0, 19, 182, 0, 66, 191, 177]
abbrev dktX1_word_0 : List UInt8 := dkwX1_word_0 ++ []
theorem dksX1_word_0 : cX1_word.data.toList.drop 0 = dktX1_word_0 := by decide +kernel
theorem dX1_word_0 : decode cX1_word 0 = .ok (.aload_n 0, 1) := dk_42 (dk_at dksX1_word_0 0 rfl rfl)
theorem dX1_word_1 : decode cX1_word 1 = .ok (.getfield 19, 3) := dk_180 0 19 (dk_at dksX1_word_0 1 rfl rfl)
theorem dX1_word_4 : decode cX1_word 4 = .ok (.invokevirtual 70, 3) := dk_182 0 70 (dk_at dksX1_word_0 4 rfl rfl)
theorem dX1_word_7 : decode cX1_word 7 = .ok (.aload_n 1, 1) := dk_43 (dk_at dksX1_word_0 7 rfl rfl)
theorem dX1_word_8 : decode cX1_word 8 = .ok (.invokevirtual 74, 3) := dk_182 0 74 (dk_at dksX1_word_0 8 rfl rfl)
theorem dX1_word_11 : decode cX1_word 11 = .ok (.ifCond .ne 11, 3) := dk_154 0 11 (dk_at dksX1_word_0 11 rfl rfl)
theorem dX1_word_14 : decode cX1_word 14 = .ok (.aload_n 0, 1) := dk_42 (dk_at dksX1_word_0 14 rfl rfl)
theorem dX1_word_15 : decode cX1_word 15 = .ok (.getfield 19, 3) := dk_180 0 19 (dk_at dksX1_word_0 15 rfl rfl)
theorem dX1_word_18 : decode cX1_word 18 = .ok (.invokevirtual 66, 3) := dk_182 0 66 (dk_at dksX1_word_0 18 rfl rfl)
theorem dX1_word_21 : decode cX1_word 21 = .ok (.athrow, 1) := dk_191 (dk_at dksX1_word_0 21 rfl rfl)
theorem dX1_word_22 : decode cX1_word 22 = .ok (.return_, 1) := dk_177 (dk_at dksX1_word_0 22 rfl rfl)
abbrev cX1_favourTold : ByteArray := prog_1_method_9_code
def yX1_favourTold : MethodName := ⟨RX1, "favourTold", "(LFavourTown$World;)LFavourTown$Favour;"⟩
def dkwX1_favourTold_1 : List UInt8 := [192, 0, 94, 176]
abbrev dktX1_favourTold_1 : List UInt8 := dkwX1_favourTold_1 ++ []
def dkwX1_favourTold_0 : List UInt8 := [43, 180, 0, 80, 42, 180, 0, 19, 3, 43, 180, 0, 80, 182, 0, 84, 4, 100, 182, 0, 58, 182, 0, 90]
abbrev dktX1_favourTold_0 : List UInt8 := dkwX1_favourTold_0 ++ dktX1_favourTold_1
theorem dksX1_favourTold_0 : cX1_favourTold.data.toList.drop 0 = dktX1_favourTold_0 := by decide +kernel
theorem dksX1_favourTold_1 : cX1_favourTold.data.toList.drop 24 = dktX1_favourTold_1 := dk_seg dksX1_favourTold_0 24 rfl rfl
theorem dX1_favourTold_0 : decode cX1_favourTold 0 = .ok (.aload_n 1, 1) := dk_43 (dk_at dksX1_favourTold_0 0 rfl rfl)
theorem dX1_favourTold_1 : decode cX1_favourTold 1 = .ok (.getfield 80, 3) := dk_180 0 80 (dk_at dksX1_favourTold_0 1 rfl rfl)
theorem dX1_favourTold_4 : decode cX1_favourTold 4 = .ok (.aload_n 0, 1) := dk_42 (dk_at dksX1_favourTold_0 4 rfl rfl)
theorem dX1_favourTold_5 : decode cX1_favourTold 5 = .ok (.getfield 19, 3) := dk_180 0 19 (dk_at dksX1_favourTold_0 5 rfl rfl)
theorem dX1_favourTold_8 : decode cX1_favourTold 8 = .ok (.iconst 0, 1) := dk_3 (dk_at dksX1_favourTold_0 8 rfl rfl)
theorem dX1_favourTold_9 : decode cX1_favourTold 9 = .ok (.aload_n 1, 1) := dk_43 (dk_at dksX1_favourTold_0 9 rfl rfl)
theorem dX1_favourTold_10 : decode cX1_favourTold 10 = .ok (.getfield 80, 3) := dk_180 0 80 (dk_at dksX1_favourTold_0 10 rfl rfl)
theorem dX1_favourTold_13 : decode cX1_favourTold 13 = .ok (.invokevirtual 84, 3) := dk_182 0 84 (dk_at dksX1_favourTold_0 13 rfl rfl)
theorem dX1_favourTold_16 : decode cX1_favourTold 16 = .ok (.iconst 1, 1) := dk_4 (dk_at dksX1_favourTold_0 16 rfl rfl)
theorem dX1_favourTold_17 : decode cX1_favourTold 17 = .ok (.isub, 1) := dk_100 (dk_at dksX1_favourTold_0 17 rfl rfl)
theorem dX1_favourTold_18 : decode cX1_favourTold 18 = .ok (.invokevirtual 58, 3) := dk_182 0 58 (dk_at dksX1_favourTold_0 18 rfl rfl)
theorem dX1_favourTold_21 : decode cX1_favourTold 21 = .ok (.invokevirtual 90, 3) := dk_182 0 90 (dk_at dksX1_favourTold_0 21 rfl rfl)
theorem dX1_favourTold_24 : decode cX1_favourTold 24 = .ok (.checkcast 94, 3) := dk_192 0 94 (dk_at dksX1_favourTold_1 0 rfl rfl)
theorem dX1_favourTold_27 : decode cX1_favourTold 27 = .ok (.areturn, 1) := dk_176 (dk_at dksX1_favourTold_1 3 rfl rfl)
abbrev cX1_goesOn : ByteArray := prog_1_method_14_code
def yX1_goesOn : MethodName := ⟨RX1, "goesOn", "()Z"⟩
def dkwX1_goesOn_1 : List UInt8 := [4, 172, 42, 180, 0, 19, 182, 0, 66, 191]
abbrev dktX1_goesOn_1 : List UInt8 := dkwX1_goesOn_1 ++ []
def dkwX1_goesOn_0 : List UInt8 := [42, 180, 0, 19, 182, 0, 175, 153, 0, 5, 3, 172, 42, 180, 0, 19, 16, 59, 182, 0, 189, 153, 0, 5]
abbrev dktX1_goesOn_0 : List UInt8 := dkwX1_goesOn_0 ++ dktX1_goesOn_1
theorem dksX1_goesOn_0 : cX1_goesOn.data.toList.drop 0 = dktX1_goesOn_0 := by decide +kernel
theorem dksX1_goesOn_1 : cX1_goesOn.data.toList.drop 24 = dktX1_goesOn_1 := dk_seg dksX1_goesOn_0 24 rfl rfl
theorem dX1_goesOn_0 : decode cX1_goesOn 0 = .ok (.aload_n 0, 1) := dk_42 (dk_at dksX1_goesOn_0 0 rfl rfl)
theorem dX1_goesOn_1 : decode cX1_goesOn 1 = .ok (.getfield 19, 3) := dk_180 0 19 (dk_at dksX1_goesOn_0 1 rfl rfl)
theorem dX1_goesOn_4 : decode cX1_goesOn 4 = .ok (.invokevirtual 175, 3) := dk_182 0 175 (dk_at dksX1_goesOn_0 4 rfl rfl)
theorem dX1_goesOn_7 : decode cX1_goesOn 7 = .ok (.ifCond .eq 5, 3) := dk_153 0 5 (dk_at dksX1_goesOn_0 7 rfl rfl)
theorem dX1_goesOn_10 : decode cX1_goesOn 10 = .ok (.iconst 0, 1) := dk_3 (dk_at dksX1_goesOn_0 10 rfl rfl)
theorem dX1_goesOn_11 : decode cX1_goesOn 11 = .ok (.ireturn, 1) := dk_172 (dk_at dksX1_goesOn_0 11 rfl rfl)
theorem dX1_goesOn_12 : decode cX1_goesOn 12 = .ok (.aload_n 0, 1) := dk_42 (dk_at dksX1_goesOn_0 12 rfl rfl)
theorem dX1_goesOn_13 : decode cX1_goesOn 13 = .ok (.getfield 19, 3) := dk_180 0 19 (dk_at dksX1_goesOn_0 13 rfl rfl)
theorem dX1_goesOn_16 : decode cX1_goesOn 16 = .ok (.bipush 59, 2) := dk_16 59 (dk_at dksX1_goesOn_0 16 rfl rfl)
theorem dX1_goesOn_18 : decode cX1_goesOn 18 = .ok (.invokevirtual 189, 3) := dk_182 0 189 (dk_at dksX1_goesOn_0 18 rfl rfl)
theorem dX1_goesOn_21 : decode cX1_goesOn 21 = .ok (.ifCond .eq 5, 3) := dk_153 0 5 (dk_at dksX1_goesOn_0 21 rfl rfl)
theorem dX1_goesOn_24 : decode cX1_goesOn 24 = .ok (.iconst 1, 1) := dk_4 (dk_at dksX1_goesOn_1 0 rfl rfl)
theorem dX1_goesOn_25 : decode cX1_goesOn 25 = .ok (.ireturn, 1) := dk_172 (dk_at dksX1_goesOn_1 1 rfl rfl)
theorem dX1_goesOn_26 : decode cX1_goesOn 26 = .ok (.aload_n 0, 1) := dk_42 (dk_at dksX1_goesOn_1 2 rfl rfl)
theorem dX1_goesOn_27 : decode cX1_goesOn 27 = .ok (.getfield 19, 3) := dk_180 0 19 (dk_at dksX1_goesOn_1 3 rfl rfl)
theorem dX1_goesOn_30 : decode cX1_goesOn 30 = .ok (.invokevirtual 66, 3) := dk_182 0 66 (dk_at dksX1_goesOn_1 6 rfl rfl)
theorem dX1_goesOn_33 : decode cX1_goesOn 33 = .ok (.athrow, 1) := dk_191 (dk_at dksX1_goesOn_1 9 rfl rfl)
abbrev cX1_fails : ByteArray := prog_1_method_15_code
def yX1_fails : MethodName := ⟨RX1, "fails", "()V"⟩
def dkwX1_fails_0 : List UInt8 := [42, 180, 0, 19, 42, 180, 0, 19, 180, 0, 192, 181, 0, 51, 187, 0, 195, 89, 183, 0, 197, 191]
abbrev dktX1_fails_0 : List UInt8 := dkwX1_fails_0 ++ []
theorem dksX1_fails_0 : cX1_fails.data.toList.drop 0 = dktX1_fails_0 := by decide +kernel
theorem dX1_fails_0 : decode cX1_fails 0 = .ok (.aload_n 0, 1) := dk_42 (dk_at dksX1_fails_0 0 rfl rfl)
theorem dX1_fails_1 : decode cX1_fails 1 = .ok (.getfield 19, 3) := dk_180 0 19 (dk_at dksX1_fails_0 1 rfl rfl)
theorem dX1_fails_4 : decode cX1_fails 4 = .ok (.aload_n 0, 1) := dk_42 (dk_at dksX1_fails_0 4 rfl rfl)
theorem dX1_fails_5 : decode cX1_fails 5 = .ok (.getfield 19, 3) := dk_180 0 19 (dk_at dksX1_fails_0 5 rfl rfl)
theorem dX1_fails_8 : decode cX1_fails 8 = .ok (.getfield 192, 3) := dk_180 0 192 (dk_at dksX1_fails_0 8 rfl rfl)
theorem dX1_fails_11 : decode cX1_fails 11 = .ok (.putfield 51, 3) := dk_181 0 51 (dk_at dksX1_fails_0 11 rfl rfl)
theorem dX1_fails_14 : decode cX1_fails 14 = .ok (.new 195, 3) := dk_187 0 195 (dk_at dksX1_fails_0 14 rfl rfl)
theorem dX1_fails_17 : decode cX1_fails 17 = .ok (.dup, 1) := dk_89 (dk_at dksX1_fails_0 17 rfl rfl)
theorem dX1_fails_18 : decode cX1_fails 18 = .ok (.invokespecial 197, 3) := dk_183 0 197 (dk_at dksX1_fails_0 18 rfl rfl)
theorem dX1_fails_21 : decode cX1_fails 21 = .ok (.athrow, 1) := dk_191 (dk_at dksX1_fails_0 21 rfl rfl)
abbrev cX1_temper : ByteArray := prog_1_method_24_code
def yX1_temper : MethodName := ⟨RX1, "temper", "()I"⟩
def dkwX1_temper_3 : List UInt8 := [180, 1, 76, 182, 0, 84, 4, 100, 172]
abbrev dktX1_temper_3 : List UInt8 := dkwX1_temper_3 ++ []
def dkwX1_temper_2 : List UInt8 := [187, 0, 216, 89, 183, 0, 218, 191, 42, 180, 0, 10, 180, 1, 76, 43, 182, 0, 162, 87, 42, 180, 0, 10]
abbrev dktX1_temper_2 : List UInt8 := dkwX1_temper_2 ++ dktX1_temper_3
def dkwX1_temper_1 : List UInt8 := [167, 0, 8, 77, 42, 182, 0, 210, 42, 180, 0, 10, 180, 1, 76, 182, 0, 84, 16, 6, 160, 0, 11]
abbrev dktX1_temper_1 : List UInt8 := dkwX1_temper_1 ++ dktX1_temper_2
def dkwX1_temper_0 : List UInt8 := [42, 180, 0, 19, 182, 0, 198, 1, 76, 42, 182, 1, 72, 76, 42, 180, 0, 19, 2, 181, 0, 51]
abbrev dktX1_temper_0 : List UInt8 := dkwX1_temper_0 ++ dktX1_temper_1
theorem dksX1_temper_0 : cX1_temper.data.toList.drop 0 = dktX1_temper_0 := by decide +kernel
theorem dksX1_temper_1 : cX1_temper.data.toList.drop 22 = dktX1_temper_1 := dk_seg dksX1_temper_0 22 rfl rfl
theorem dksX1_temper_2 : cX1_temper.data.toList.drop 45 = dktX1_temper_2 := dk_seg dksX1_temper_1 23 rfl rfl
theorem dksX1_temper_3 : cX1_temper.data.toList.drop 69 = dktX1_temper_3 := dk_seg dksX1_temper_2 24 rfl rfl
theorem dX1_temper_0 : decode cX1_temper 0 = .ok (.aload_n 0, 1) := dk_42 (dk_at dksX1_temper_0 0 rfl rfl)
theorem dX1_temper_1 : decode cX1_temper 1 = .ok (.getfield 19, 3) := dk_180 0 19 (dk_at dksX1_temper_0 1 rfl rfl)
theorem dX1_temper_4 : decode cX1_temper 4 = .ok (.invokevirtual 198, 3) := dk_182 0 198 (dk_at dksX1_temper_0 4 rfl rfl)
theorem dX1_temper_7 : decode cX1_temper 7 = .ok (.aconst_null, 1) := dk_1 (dk_at dksX1_temper_0 7 rfl rfl)
theorem dX1_temper_8 : decode cX1_temper 8 = .ok (.astore_n 1, 1) := dk_76 (dk_at dksX1_temper_0 8 rfl rfl)
theorem dX1_temper_9 : decode cX1_temper 9 = .ok (.aload_n 0, 1) := dk_42 (dk_at dksX1_temper_0 9 rfl rfl)
theorem dX1_temper_10 : decode cX1_temper 10 = .ok (.invokevirtual 328, 3) := dk_182 1 72 (dk_at dksX1_temper_0 10 rfl rfl)
theorem dX1_temper_13 : decode cX1_temper 13 = .ok (.astore_n 1, 1) := dk_76 (dk_at dksX1_temper_0 13 rfl rfl)
theorem dX1_temper_14 : decode cX1_temper 14 = .ok (.aload_n 0, 1) := dk_42 (dk_at dksX1_temper_0 14 rfl rfl)
theorem dX1_temper_15 : decode cX1_temper 15 = .ok (.getfield 19, 3) := dk_180 0 19 (dk_at dksX1_temper_0 15 rfl rfl)
theorem dX1_temper_18 : decode cX1_temper 18 = .ok (.iconst (-1), 1) := dk_2 (dk_at dksX1_temper_0 18 rfl rfl)
theorem dX1_temper_19 : decode cX1_temper 19 = .ok (.putfield 51, 3) := dk_181 0 51 (dk_at dksX1_temper_0 19 rfl rfl)
theorem dX1_temper_22 : decode cX1_temper 22 = .ok (.goto 8, 3) := dk_167 0 8 (dk_at dksX1_temper_1 0 rfl rfl)
theorem dX1_temper_25 : decode cX1_temper 25 = .ok (.astore_n 2, 1) := dk_77 (dk_at dksX1_temper_1 3 rfl rfl)
theorem dX1_temper_26 : decode cX1_temper 26 = .ok (.aload_n 0, 1) := dk_42 (dk_at dksX1_temper_1 4 rfl rfl)
theorem dX1_temper_27 : decode cX1_temper 27 = .ok (.invokevirtual 210, 3) := dk_182 0 210 (dk_at dksX1_temper_1 5 rfl rfl)
theorem dX1_temper_30 : decode cX1_temper 30 = .ok (.aload_n 0, 1) := dk_42 (dk_at dksX1_temper_1 8 rfl rfl)
theorem dX1_temper_31 : decode cX1_temper 31 = .ok (.getfield 10, 3) := dk_180 0 10 (dk_at dksX1_temper_1 9 rfl rfl)
theorem dX1_temper_34 : decode cX1_temper 34 = .ok (.getfield 332, 3) := dk_180 1 76 (dk_at dksX1_temper_1 12 rfl rfl)
theorem dX1_temper_37 : decode cX1_temper 37 = .ok (.invokevirtual 84, 3) := dk_182 0 84 (dk_at dksX1_temper_1 15 rfl rfl)
theorem dX1_temper_40 : decode cX1_temper 40 = .ok (.bipush 6, 2) := dk_16 6 (dk_at dksX1_temper_1 18 rfl rfl)
theorem dX1_temper_42 : decode cX1_temper 42 = .ok (.if_icmp .ne 11, 3) := dk_160 0 11 (dk_at dksX1_temper_1 20 rfl rfl)
theorem dX1_temper_45 : decode cX1_temper 45 = .ok (.new 216, 3) := dk_187 0 216 (dk_at dksX1_temper_2 0 rfl rfl)
theorem dX1_temper_48 : decode cX1_temper 48 = .ok (.dup, 1) := dk_89 (dk_at dksX1_temper_2 3 rfl rfl)
theorem dX1_temper_49 : decode cX1_temper 49 = .ok (.invokespecial 218, 3) := dk_183 0 218 (dk_at dksX1_temper_2 4 rfl rfl)
theorem dX1_temper_52 : decode cX1_temper 52 = .ok (.athrow, 1) := dk_191 (dk_at dksX1_temper_2 7 rfl rfl)
theorem dX1_temper_53 : decode cX1_temper 53 = .ok (.aload_n 0, 1) := dk_42 (dk_at dksX1_temper_2 8 rfl rfl)
theorem dX1_temper_54 : decode cX1_temper 54 = .ok (.getfield 10, 3) := dk_180 0 10 (dk_at dksX1_temper_2 9 rfl rfl)
theorem dX1_temper_57 : decode cX1_temper 57 = .ok (.getfield 332, 3) := dk_180 1 76 (dk_at dksX1_temper_2 12 rfl rfl)
theorem dX1_temper_60 : decode cX1_temper 60 = .ok (.aload_n 1, 1) := dk_43 (dk_at dksX1_temper_2 15 rfl rfl)
theorem dX1_temper_61 : decode cX1_temper 61 = .ok (.invokevirtual 162, 3) := dk_182 0 162 (dk_at dksX1_temper_2 16 rfl rfl)
theorem dX1_temper_64 : decode cX1_temper 64 = .ok (.pop, 1) := dk_87 (dk_at dksX1_temper_2 19 rfl rfl)
theorem dX1_temper_65 : decode cX1_temper 65 = .ok (.aload_n 0, 1) := dk_42 (dk_at dksX1_temper_2 20 rfl rfl)
theorem dX1_temper_66 : decode cX1_temper 66 = .ok (.getfield 10, 3) := dk_180 0 10 (dk_at dksX1_temper_2 21 rfl rfl)
theorem dX1_temper_69 : decode cX1_temper 69 = .ok (.getfield 332, 3) := dk_180 1 76 (dk_at dksX1_temper_3 0 rfl rfl)
theorem dX1_temper_72 : decode cX1_temper 72 = .ok (.invokevirtual 84, 3) := dk_182 0 84 (dk_at dksX1_temper_3 3 rfl rfl)
theorem dX1_temper_75 : decode cX1_temper 75 = .ok (.iconst 1, 1) := dk_4 (dk_at dksX1_temper_3 6 rfl rfl)
theorem dX1_temper_76 : decode cX1_temper 76 = .ok (.isub, 1) := dk_100 (dk_at dksX1_temper_3 7 rfl rfl)
theorem dX1_temper_77 : decode cX1_temper 77 = .ok (.ireturn, 1) := dk_172 (dk_at dksX1_temper_3 8 rfl rfl)
abbrev cX1_temperText : ByteArray := prog_1_method_23_code
def yX1_temperText : MethodName := ⟨RX1, "temperText", "()LFavourTown$Temper;"⟩
def dkwX1_temperText_2 : List UInt8 := [182, 0, 186, 154, 255, 227, 43, 176]
abbrev dktX1_temperText_2 : List UInt8 := dkwX1_temperText_2 ++ []
def dkwX1_temperText_1 : List UInt8 := [180, 1, 65, 182, 0, 84, 16, 12, 182, 0, 179, 43, 180, 1, 65, 42, 182, 1, 68, 182, 0, 162, 87, 42]
abbrev dktX1_temperText_1 : List UInt8 := dkwX1_temperText_1 ++ dktX1_temperText_2
def dkwX1_temperText_0 : List UInt8 := [187, 1, 62, 89, 183, 1, 64, 76, 42, 180, 0, 19, 182, 0, 175, 153, 0, 5, 43, 176, 42, 43]
abbrev dktX1_temperText_0 : List UInt8 := dkwX1_temperText_0 ++ dktX1_temperText_1
theorem dksX1_temperText_0 : cX1_temperText.data.toList.drop 0 = dktX1_temperText_0 := by decide +kernel
theorem dksX1_temperText_1 : cX1_temperText.data.toList.drop 22 = dktX1_temperText_1 := dk_seg dksX1_temperText_0 22 rfl rfl
theorem dksX1_temperText_2 : cX1_temperText.data.toList.drop 46 = dktX1_temperText_2 := dk_seg dksX1_temperText_1 24 rfl rfl
theorem dX1_temperText_0 : decode cX1_temperText 0 = .ok (.new 318, 3) := dk_187 1 62 (dk_at dksX1_temperText_0 0 rfl rfl)
theorem dX1_temperText_3 : decode cX1_temperText 3 = .ok (.dup, 1) := dk_89 (dk_at dksX1_temperText_0 3 rfl rfl)
theorem dX1_temperText_4 : decode cX1_temperText 4 = .ok (.invokespecial 320, 3) := dk_183 1 64 (dk_at dksX1_temperText_0 4 rfl rfl)
theorem dX1_temperText_7 : decode cX1_temperText 7 = .ok (.astore_n 1, 1) := dk_76 (dk_at dksX1_temperText_0 7 rfl rfl)
theorem dX1_temperText_8 : decode cX1_temperText 8 = .ok (.aload_n 0, 1) := dk_42 (dk_at dksX1_temperText_0 8 rfl rfl)
theorem dX1_temperText_9 : decode cX1_temperText 9 = .ok (.getfield 19, 3) := dk_180 0 19 (dk_at dksX1_temperText_0 9 rfl rfl)
theorem dX1_temperText_12 : decode cX1_temperText 12 = .ok (.invokevirtual 175, 3) := dk_182 0 175 (dk_at dksX1_temperText_0 12 rfl rfl)
theorem dX1_temperText_15 : decode cX1_temperText 15 = .ok (.ifCond .eq 5, 3) := dk_153 0 5 (dk_at dksX1_temperText_0 15 rfl rfl)
theorem dX1_temperText_18 : decode cX1_temperText 18 = .ok (.aload_n 1, 1) := dk_43 (dk_at dksX1_temperText_0 18 rfl rfl)
theorem dX1_temperText_19 : decode cX1_temperText 19 = .ok (.areturn, 1) := dk_176 (dk_at dksX1_temperText_0 19 rfl rfl)
theorem dX1_temperText_20 : decode cX1_temperText 20 = .ok (.aload_n 0, 1) := dk_42 (dk_at dksX1_temperText_0 20 rfl rfl)
theorem dX1_temperText_21 : decode cX1_temperText 21 = .ok (.aload_n 1, 1) := dk_43 (dk_at dksX1_temperText_0 21 rfl rfl)
theorem dX1_temperText_22 : decode cX1_temperText 22 = .ok (.getfield 321, 3) := dk_180 1 65 (dk_at dksX1_temperText_1 0 rfl rfl)
theorem dX1_temperText_25 : decode cX1_temperText 25 = .ok (.invokevirtual 84, 3) := dk_182 0 84 (dk_at dksX1_temperText_1 3 rfl rfl)
theorem dX1_temperText_28 : decode cX1_temperText 28 = .ok (.bipush 12, 2) := dk_16 12 (dk_at dksX1_temperText_1 6 rfl rfl)
theorem dX1_temperText_30 : decode cX1_temperText 30 = .ok (.invokevirtual 179, 3) := dk_182 0 179 (dk_at dksX1_temperText_1 8 rfl rfl)
theorem dX1_temperText_33 : decode cX1_temperText 33 = .ok (.aload_n 1, 1) := dk_43 (dk_at dksX1_temperText_1 11 rfl rfl)
theorem dX1_temperText_34 : decode cX1_temperText 34 = .ok (.getfield 321, 3) := dk_180 1 65 (dk_at dksX1_temperText_1 12 rfl rfl)
theorem dX1_temperText_37 : decode cX1_temperText 37 = .ok (.aload_n 0, 1) := dk_42 (dk_at dksX1_temperText_1 15 rfl rfl)
theorem dX1_temperText_38 : decode cX1_temperText 38 = .ok (.invokevirtual 324, 3) := dk_182 1 68 (dk_at dksX1_temperText_1 16 rfl rfl)
theorem dX1_temperText_41 : decode cX1_temperText 41 = .ok (.invokevirtual 162, 3) := dk_182 0 162 (dk_at dksX1_temperText_1 19 rfl rfl)
theorem dX1_temperText_44 : decode cX1_temperText 44 = .ok (.pop, 1) := dk_87 (dk_at dksX1_temperText_1 22 rfl rfl)
theorem dX1_temperText_45 : decode cX1_temperText 45 = .ok (.aload_n 0, 1) := dk_42 (dk_at dksX1_temperText_1 23 rfl rfl)
theorem dX1_temperText_46 : decode cX1_temperText 46 = .ok (.invokevirtual 186, 3) := dk_182 0 186 (dk_at dksX1_temperText_2 0 rfl rfl)
theorem dX1_temperText_49 : decode cX1_temperText 49 = .ok (.ifCond .ne (-29), 3) := dk_154 255 227 (dk_at dksX1_temperText_2 3 rfl rfl)
theorem dX1_temperText_52 : decode cX1_temperText 52 = .ok (.aload_n 1, 1) := dk_43 (dk_at dksX1_temperText_2 6 rfl rfl)
theorem dX1_temperText_53 : decode cX1_temperText 53 = .ok (.areturn, 1) := dk_176 (dk_at dksX1_temperText_2 7 rfl rfl)
abbrev cX1_temperLine : ByteArray := prog_1_method_22_code
def yX1_temperLine : MethodName := ⟨RX1, "temperLine", "()LFavourTown$Line;"⟩
def dkwX1_temperLine_2 : List UInt8 := [19, 1, 57, 182, 0, 166, 153, 0, 10, 42, 182, 0, 245, 167, 0, 4, 1, 183, 1, 59, 176]
abbrev dktX1_temperLine_2 : List UInt8 := dkwX1_temperLine_2 ++ []
def dkwX1_temperLine_1 : List UInt8 := [182, 0, 74, 154, 0, 11, 42, 180, 0, 19, 182, 0, 66, 191, 187, 1, 55, 89, 28, 42, 180, 0, 19]
abbrev dktX1_temperLine_1 : List UInt8 := dkwX1_temperLine_1 ++ dktX1_temperLine_2
def dkwX1_temperLine_0 : List UInt8 := [42, 180, 0, 19, 182, 0, 70, 76, 43, 19, 1, 51, 182, 0, 74, 61, 28, 154, 0, 21, 43, 19, 1, 53]
abbrev dktX1_temperLine_0 : List UInt8 := dkwX1_temperLine_0 ++ dktX1_temperLine_1
theorem dksX1_temperLine_0 : cX1_temperLine.data.toList.drop 0 = dktX1_temperLine_0 := by decide +kernel
theorem dksX1_temperLine_1 : cX1_temperLine.data.toList.drop 24 = dktX1_temperLine_1 := dk_seg dksX1_temperLine_0 24 rfl rfl
theorem dksX1_temperLine_2 : cX1_temperLine.data.toList.drop 47 = dktX1_temperLine_2 := dk_seg dksX1_temperLine_1 23 rfl rfl
theorem dX1_temperLine_0 : decode cX1_temperLine 0 = .ok (.aload_n 0, 1) := dk_42 (dk_at dksX1_temperLine_0 0 rfl rfl)
theorem dX1_temperLine_1 : decode cX1_temperLine 1 = .ok (.getfield 19, 3) := dk_180 0 19 (dk_at dksX1_temperLine_0 1 rfl rfl)
theorem dX1_temperLine_4 : decode cX1_temperLine 4 = .ok (.invokevirtual 70, 3) := dk_182 0 70 (dk_at dksX1_temperLine_0 4 rfl rfl)
theorem dX1_temperLine_7 : decode cX1_temperLine 7 = .ok (.astore_n 1, 1) := dk_76 (dk_at dksX1_temperLine_0 7 rfl rfl)
theorem dX1_temperLine_8 : decode cX1_temperLine 8 = .ok (.aload_n 1, 1) := dk_43 (dk_at dksX1_temperLine_0 8 rfl rfl)
theorem dX1_temperLine_9 : decode cX1_temperLine 9 = .ok (.ldc_w 307, 3) := dk_19 1 51 (dk_at dksX1_temperLine_0 9 rfl rfl)
theorem dX1_temperLine_12 : decode cX1_temperLine 12 = .ok (.invokevirtual 74, 3) := dk_182 0 74 (dk_at dksX1_temperLine_0 12 rfl rfl)
theorem dX1_temperLine_15 : decode cX1_temperLine 15 = .ok (.istore_n 2, 1) := dk_61 (dk_at dksX1_temperLine_0 15 rfl rfl)
theorem dX1_temperLine_16 : decode cX1_temperLine 16 = .ok (.iload_n 2, 1) := dk_28 (dk_at dksX1_temperLine_0 16 rfl rfl)
theorem dX1_temperLine_17 : decode cX1_temperLine 17 = .ok (.ifCond .ne 21, 3) := dk_154 0 21 (dk_at dksX1_temperLine_0 17 rfl rfl)
theorem dX1_temperLine_20 : decode cX1_temperLine 20 = .ok (.aload_n 1, 1) := dk_43 (dk_at dksX1_temperLine_0 20 rfl rfl)
theorem dX1_temperLine_21 : decode cX1_temperLine 21 = .ok (.ldc_w 309, 3) := dk_19 1 53 (dk_at dksX1_temperLine_0 21 rfl rfl)
theorem dX1_temperLine_24 : decode cX1_temperLine 24 = .ok (.invokevirtual 74, 3) := dk_182 0 74 (dk_at dksX1_temperLine_1 0 rfl rfl)
theorem dX1_temperLine_27 : decode cX1_temperLine 27 = .ok (.ifCond .ne 11, 3) := dk_154 0 11 (dk_at dksX1_temperLine_1 3 rfl rfl)
theorem dX1_temperLine_30 : decode cX1_temperLine 30 = .ok (.aload_n 0, 1) := dk_42 (dk_at dksX1_temperLine_1 6 rfl rfl)
theorem dX1_temperLine_31 : decode cX1_temperLine 31 = .ok (.getfield 19, 3) := dk_180 0 19 (dk_at dksX1_temperLine_1 7 rfl rfl)
theorem dX1_temperLine_34 : decode cX1_temperLine 34 = .ok (.invokevirtual 66, 3) := dk_182 0 66 (dk_at dksX1_temperLine_1 10 rfl rfl)
theorem dX1_temperLine_37 : decode cX1_temperLine 37 = .ok (.athrow, 1) := dk_191 (dk_at dksX1_temperLine_1 13 rfl rfl)
theorem dX1_temperLine_38 : decode cX1_temperLine 38 = .ok (.new 311, 3) := dk_187 1 55 (dk_at dksX1_temperLine_1 14 rfl rfl)
theorem dX1_temperLine_41 : decode cX1_temperLine 41 = .ok (.dup, 1) := dk_89 (dk_at dksX1_temperLine_1 17 rfl rfl)
theorem dX1_temperLine_42 : decode cX1_temperLine 42 = .ok (.iload_n 2, 1) := dk_28 (dk_at dksX1_temperLine_1 18 rfl rfl)
theorem dX1_temperLine_43 : decode cX1_temperLine 43 = .ok (.aload_n 0, 1) := dk_42 (dk_at dksX1_temperLine_1 19 rfl rfl)
theorem dX1_temperLine_44 : decode cX1_temperLine 44 = .ok (.getfield 19, 3) := dk_180 0 19 (dk_at dksX1_temperLine_1 20 rfl rfl)
theorem dX1_temperLine_47 : decode cX1_temperLine 47 = .ok (.ldc_w 313, 3) := dk_19 1 57 (dk_at dksX1_temperLine_2 0 rfl rfl)
theorem dX1_temperLine_50 : decode cX1_temperLine 50 = .ok (.invokevirtual 166, 3) := dk_182 0 166 (dk_at dksX1_temperLine_2 3 rfl rfl)
theorem dX1_temperLine_53 : decode cX1_temperLine 53 = .ok (.ifCond .eq 10, 3) := dk_153 0 10 (dk_at dksX1_temperLine_2 6 rfl rfl)
theorem dX1_temperLine_56 : decode cX1_temperLine 56 = .ok (.aload_n 0, 1) := dk_42 (dk_at dksX1_temperLine_2 9 rfl rfl)
theorem dX1_temperLine_57 : decode cX1_temperLine 57 = .ok (.invokevirtual 245, 3) := dk_182 0 245 (dk_at dksX1_temperLine_2 10 rfl rfl)
theorem dX1_temperLine_60 : decode cX1_temperLine 60 = .ok (.goto 4, 3) := dk_167 0 4 (dk_at dksX1_temperLine_2 13 rfl rfl)
theorem dX1_temperLine_63 : decode cX1_temperLine 63 = .ok (.aconst_null, 1) := dk_1 (dk_at dksX1_temperLine_2 16 rfl rfl)
theorem dX1_temperLine_64 : decode cX1_temperLine 64 = .ok (.invokespecial 315, 3) := dk_183 1 59 (dk_at dksX1_temperLine_2 17 rfl rfl)
theorem dX1_temperLine_67 : decode cX1_temperLine 67 = .ok (.areturn, 1) := dk_176 (dk_at dksX1_temperLine_2 20 rfl rfl)
abbrev cX1_cond : ByteArray := prog_1_method_21_code
def yX1_cond : MethodName := ⟨RX1, "cond", "()LFavourTown$Cond;"⟩
def dkwX1_cond_1 : List UInt8 := [180, 0, 19, 19, 1, 49, 182, 0, 166, 154, 255, 234, 43, 176]
abbrev dktX1_cond_1 : List UInt8 := dkwX1_cond_1 ++ []
def dkwX1_cond_0 : List UInt8 := [187, 1, 36, 89, 3, 183, 1, 38, 76, 43, 180, 1, 41, 42, 182, 1, 46, 182, 0, 162, 87, 42]
abbrev dktX1_cond_0 : List UInt8 := dkwX1_cond_0 ++ dktX1_cond_1
theorem dksX1_cond_0 : cX1_cond.data.toList.drop 0 = dktX1_cond_0 := by decide +kernel
theorem dksX1_cond_1 : cX1_cond.data.toList.drop 22 = dktX1_cond_1 := dk_seg dksX1_cond_0 22 rfl rfl
theorem dX1_cond_0 : decode cX1_cond 0 = .ok (.new 292, 3) := dk_187 1 36 (dk_at dksX1_cond_0 0 rfl rfl)
theorem dX1_cond_3 : decode cX1_cond 3 = .ok (.dup, 1) := dk_89 (dk_at dksX1_cond_0 3 rfl rfl)
theorem dX1_cond_4 : decode cX1_cond 4 = .ok (.iconst 0, 1) := dk_3 (dk_at dksX1_cond_0 4 rfl rfl)
theorem dX1_cond_5 : decode cX1_cond 5 = .ok (.invokespecial 294, 3) := dk_183 1 38 (dk_at dksX1_cond_0 5 rfl rfl)
theorem dX1_cond_8 : decode cX1_cond 8 = .ok (.astore_n 1, 1) := dk_76 (dk_at dksX1_cond_0 8 rfl rfl)
theorem dX1_cond_9 : decode cX1_cond 9 = .ok (.aload_n 1, 1) := dk_43 (dk_at dksX1_cond_0 9 rfl rfl)
theorem dX1_cond_10 : decode cX1_cond 10 = .ok (.getfield 297, 3) := dk_180 1 41 (dk_at dksX1_cond_0 10 rfl rfl)
theorem dX1_cond_13 : decode cX1_cond 13 = .ok (.aload_n 0, 1) := dk_42 (dk_at dksX1_cond_0 13 rfl rfl)
theorem dX1_cond_14 : decode cX1_cond 14 = .ok (.invokevirtual 302, 3) := dk_182 1 46 (dk_at dksX1_cond_0 14 rfl rfl)
theorem dX1_cond_17 : decode cX1_cond 17 = .ok (.invokevirtual 162, 3) := dk_182 0 162 (dk_at dksX1_cond_0 17 rfl rfl)
theorem dX1_cond_20 : decode cX1_cond 20 = .ok (.pop, 1) := dk_87 (dk_at dksX1_cond_0 20 rfl rfl)
theorem dX1_cond_21 : decode cX1_cond 21 = .ok (.aload_n 0, 1) := dk_42 (dk_at dksX1_cond_0 21 rfl rfl)
theorem dX1_cond_22 : decode cX1_cond 22 = .ok (.getfield 19, 3) := dk_180 0 19 (dk_at dksX1_cond_1 0 rfl rfl)
theorem dX1_cond_25 : decode cX1_cond 25 = .ok (.ldc_w 305, 3) := dk_19 1 49 (dk_at dksX1_cond_1 3 rfl rfl)
theorem dX1_cond_28 : decode cX1_cond 28 = .ok (.invokevirtual 166, 3) := dk_182 0 166 (dk_at dksX1_cond_1 6 rfl rfl)
theorem dX1_cond_31 : decode cX1_cond 31 = .ok (.ifCond .ne (-22), 3) := dk_154 255 234 (dk_at dksX1_cond_1 9 rfl rfl)
theorem dX1_cond_34 : decode cX1_cond 34 = .ok (.aload_n 1, 1) := dk_43 (dk_at dksX1_cond_1 12 rfl rfl)
theorem dX1_cond_35 : decode cX1_cond 35 = .ok (.areturn, 1) := dk_176 (dk_at dksX1_cond_1 13 rfl rfl)
abbrev cX1_allOf : ByteArray := prog_1_method_20_code
def yX1_allOf : MethodName := ⟨RX1, "allOf", "()LFavourTown$Cond;"⟩
def dkwX1_allOf_1 : List UInt8 := [180, 0, 19, 19, 1, 44, 182, 0, 166, 154, 255, 234, 43, 176]
abbrev dktX1_allOf_1 : List UInt8 := dkwX1_allOf_1 ++ []
def dkwX1_allOf_0 : List UInt8 := [187, 1, 36, 89, 4, 183, 1, 38, 76, 43, 180, 1, 41, 42, 182, 0, 254, 182, 0, 162, 87, 42]
abbrev dktX1_allOf_0 : List UInt8 := dkwX1_allOf_0 ++ dktX1_allOf_1
theorem dksX1_allOf_0 : cX1_allOf.data.toList.drop 0 = dktX1_allOf_0 := by decide +kernel
theorem dksX1_allOf_1 : cX1_allOf.data.toList.drop 22 = dktX1_allOf_1 := dk_seg dksX1_allOf_0 22 rfl rfl
theorem dX1_allOf_0 : decode cX1_allOf 0 = .ok (.new 292, 3) := dk_187 1 36 (dk_at dksX1_allOf_0 0 rfl rfl)
theorem dX1_allOf_3 : decode cX1_allOf 3 = .ok (.dup, 1) := dk_89 (dk_at dksX1_allOf_0 3 rfl rfl)
theorem dX1_allOf_4 : decode cX1_allOf 4 = .ok (.iconst 1, 1) := dk_4 (dk_at dksX1_allOf_0 4 rfl rfl)
theorem dX1_allOf_5 : decode cX1_allOf 5 = .ok (.invokespecial 294, 3) := dk_183 1 38 (dk_at dksX1_allOf_0 5 rfl rfl)
theorem dX1_allOf_8 : decode cX1_allOf 8 = .ok (.astore_n 1, 1) := dk_76 (dk_at dksX1_allOf_0 8 rfl rfl)
theorem dX1_allOf_9 : decode cX1_allOf 9 = .ok (.aload_n 1, 1) := dk_43 (dk_at dksX1_allOf_0 9 rfl rfl)
theorem dX1_allOf_10 : decode cX1_allOf 10 = .ok (.getfield 297, 3) := dk_180 1 41 (dk_at dksX1_allOf_0 10 rfl rfl)
theorem dX1_allOf_13 : decode cX1_allOf 13 = .ok (.aload_n 0, 1) := dk_42 (dk_at dksX1_allOf_0 13 rfl rfl)
theorem dX1_allOf_14 : decode cX1_allOf 14 = .ok (.invokevirtual 254, 3) := dk_182 0 254 (dk_at dksX1_allOf_0 14 rfl rfl)
theorem dX1_allOf_17 : decode cX1_allOf 17 = .ok (.invokevirtual 162, 3) := dk_182 0 162 (dk_at dksX1_allOf_0 17 rfl rfl)
theorem dX1_allOf_20 : decode cX1_allOf 20 = .ok (.pop, 1) := dk_87 (dk_at dksX1_allOf_0 20 rfl rfl)
theorem dX1_allOf_21 : decode cX1_allOf 21 = .ok (.aload_n 0, 1) := dk_42 (dk_at dksX1_allOf_0 21 rfl rfl)
theorem dX1_allOf_22 : decode cX1_allOf 22 = .ok (.getfield 19, 3) := dk_180 0 19 (dk_at dksX1_allOf_1 0 rfl rfl)
theorem dX1_allOf_25 : decode cX1_allOf 25 = .ok (.ldc_w 300, 3) := dk_19 1 44 (dk_at dksX1_allOf_1 3 rfl rfl)
theorem dX1_allOf_28 : decode cX1_allOf 28 = .ok (.invokevirtual 166, 3) := dk_182 0 166 (dk_at dksX1_allOf_1 6 rfl rfl)
theorem dX1_allOf_31 : decode cX1_allOf 31 = .ok (.ifCond .ne (-22), 3) := dk_154 255 234 (dk_at dksX1_allOf_1 9 rfl rfl)
theorem dX1_allOf_34 : decode cX1_allOf 34 = .ok (.aload_n 1, 1) := dk_43 (dk_at dksX1_allOf_1 12 rfl rfl)
theorem dX1_allOf_35 : decode cX1_allOf 35 = .ok (.areturn, 1) := dk_176 (dk_at dksX1_allOf_1 13 rfl rfl)
abbrev cX1_atom : ByteArray := prog_1_method_19_code
def yX1_atom : MethodName := ⟨RX1, "atom", "()LFavourTown$Cond;"⟩
def dkwX1_atom_8 : List UInt8 := [183, 1, 33, 176]
abbrev dktX1_atom_8 : List UInt8 := dkwX1_atom_8 ++ []
def dkwX1_atom_7 : List UInt8 := [16, 62, 182, 0, 189, 154, 0, 8, 43, 182, 0, 66, 191, 187, 1, 31, 89, 42, 182, 1, 27, 44]
abbrev dktX1_atom_7 : List UInt8 := dkwX1_atom_7 ++ dktX1_atom_8
def dkwX1_atom_6 : List UInt8 := [77, 43, 16, 60, 182, 0, 189, 153, 0, 16, 187, 1, 31, 89, 44, 42, 182, 1, 27, 183, 1, 33, 176, 43]
abbrev dktX1_atom_6 : List UInt8 := dkwX1_atom_6 ++ dktX1_atom_7
def dkwX1_atom_5 : List UInt8 := [19, 1, 22, 182, 0, 166, 153, 0, 14, 187, 1, 6, 89, 178, 1, 24, 183, 1, 14, 176, 42, 182, 1, 27]
abbrev dktX1_atom_5 : List UInt8 := dkwX1_atom_5 ++ dktX1_atom_6
def dkwX1_atom_4 : List UInt8 := [43, 19, 1, 17, 182, 0, 166, 153, 0, 14, 187, 1, 6, 89, 178, 1, 19, 183, 1, 14, 176, 43]
abbrev dktX1_atom_4 : List UInt8 := dkwX1_atom_4 ++ dktX1_atom_5
def dkwX1_atom_3 : List UInt8 := [183, 1, 3, 176, 43, 18, 101, 182, 0, 166, 153, 0, 14, 187, 1, 6, 89, 178, 1, 8, 183, 1, 14, 176]
abbrev dktX1_atom_3 : List UInt8 := dkwX1_atom_3 ++ dktX1_atom_4
def dkwX1_atom_2 : List UInt8 := [182, 0, 166, 153, 0, 25, 43, 182, 0, 242, 42, 182, 0, 254, 77, 43, 182, 0, 249, 187, 1, 1, 89, 44]
abbrev dktX1_atom_2 : List UInt8 := dkwX1_atom_2 ++ dktX1_atom_3
def dkwX1_atom_1 : List UInt8 := [182, 0, 249, 43, 16, 41, 182, 0, 189, 154, 0, 8, 43, 182, 0, 66, 191, 44, 176, 43, 18, 252]
abbrev dktX1_atom_1 : List UInt8 := dkwX1_atom_1 ++ dktX1_atom_2
def dkwX1_atom_0 : List UInt8 := [42, 180, 0, 19, 76, 43, 16, 40, 182, 0, 189, 153, 0, 32, 43, 182, 0, 242, 42, 182, 0, 245, 77, 43]
abbrev dktX1_atom_0 : List UInt8 := dkwX1_atom_0 ++ dktX1_atom_1
theorem dksX1_atom_0 : cX1_atom.data.toList.drop 0 = dktX1_atom_0 := by decide +kernel
theorem dksX1_atom_1 : cX1_atom.data.toList.drop 24 = dktX1_atom_1 := dk_seg dksX1_atom_0 24 rfl rfl
theorem dksX1_atom_2 : cX1_atom.data.toList.drop 46 = dktX1_atom_2 := dk_seg dksX1_atom_1 22 rfl rfl
theorem dksX1_atom_3 : cX1_atom.data.toList.drop 70 = dktX1_atom_3 := dk_seg dksX1_atom_2 24 rfl rfl
theorem dksX1_atom_4 : cX1_atom.data.toList.drop 94 = dktX1_atom_4 := dk_seg dksX1_atom_3 24 rfl rfl
theorem dksX1_atom_5 : cX1_atom.data.toList.drop 116 = dktX1_atom_5 := dk_seg dksX1_atom_4 22 rfl rfl
theorem dksX1_atom_6 : cX1_atom.data.toList.drop 140 = dktX1_atom_6 := dk_seg dksX1_atom_5 24 rfl rfl
theorem dksX1_atom_7 : cX1_atom.data.toList.drop 164 = dktX1_atom_7 := dk_seg dksX1_atom_6 24 rfl rfl
theorem dksX1_atom_8 : cX1_atom.data.toList.drop 186 = dktX1_atom_8 := dk_seg dksX1_atom_7 22 rfl rfl
theorem dX1_atom_0 : decode cX1_atom 0 = .ok (.aload_n 0, 1) := dk_42 (dk_at dksX1_atom_0 0 rfl rfl)
theorem dX1_atom_1 : decode cX1_atom 1 = .ok (.getfield 19, 3) := dk_180 0 19 (dk_at dksX1_atom_0 1 rfl rfl)
theorem dX1_atom_4 : decode cX1_atom 4 = .ok (.astore_n 1, 1) := dk_76 (dk_at dksX1_atom_0 4 rfl rfl)
theorem dX1_atom_5 : decode cX1_atom 5 = .ok (.aload_n 1, 1) := dk_43 (dk_at dksX1_atom_0 5 rfl rfl)
theorem dX1_atom_6 : decode cX1_atom 6 = .ok (.bipush 40, 2) := dk_16 40 (dk_at dksX1_atom_0 6 rfl rfl)
theorem dX1_atom_8 : decode cX1_atom 8 = .ok (.invokevirtual 189, 3) := dk_182 0 189 (dk_at dksX1_atom_0 8 rfl rfl)
theorem dX1_atom_11 : decode cX1_atom 11 = .ok (.ifCond .eq 32, 3) := dk_153 0 32 (dk_at dksX1_atom_0 11 rfl rfl)
theorem dX1_atom_14 : decode cX1_atom 14 = .ok (.aload_n 1, 1) := dk_43 (dk_at dksX1_atom_0 14 rfl rfl)
theorem dX1_atom_15 : decode cX1_atom 15 = .ok (.invokevirtual 242, 3) := dk_182 0 242 (dk_at dksX1_atom_0 15 rfl rfl)
theorem dX1_atom_18 : decode cX1_atom 18 = .ok (.aload_n 0, 1) := dk_42 (dk_at dksX1_atom_0 18 rfl rfl)
theorem dX1_atom_19 : decode cX1_atom 19 = .ok (.invokevirtual 245, 3) := dk_182 0 245 (dk_at dksX1_atom_0 19 rfl rfl)
theorem dX1_atom_22 : decode cX1_atom 22 = .ok (.astore_n 2, 1) := dk_77 (dk_at dksX1_atom_0 22 rfl rfl)
theorem dX1_atom_23 : decode cX1_atom 23 = .ok (.aload_n 1, 1) := dk_43 (dk_at dksX1_atom_0 23 rfl rfl)
theorem dX1_atom_24 : decode cX1_atom 24 = .ok (.invokevirtual 249, 3) := dk_182 0 249 (dk_at dksX1_atom_1 0 rfl rfl)
theorem dX1_atom_27 : decode cX1_atom 27 = .ok (.aload_n 1, 1) := dk_43 (dk_at dksX1_atom_1 3 rfl rfl)
theorem dX1_atom_28 : decode cX1_atom 28 = .ok (.bipush 41, 2) := dk_16 41 (dk_at dksX1_atom_1 4 rfl rfl)
theorem dX1_atom_30 : decode cX1_atom 30 = .ok (.invokevirtual 189, 3) := dk_182 0 189 (dk_at dksX1_atom_1 6 rfl rfl)
theorem dX1_atom_33 : decode cX1_atom 33 = .ok (.ifCond .ne 8, 3) := dk_154 0 8 (dk_at dksX1_atom_1 9 rfl rfl)
theorem dX1_atom_36 : decode cX1_atom 36 = .ok (.aload_n 1, 1) := dk_43 (dk_at dksX1_atom_1 12 rfl rfl)
theorem dX1_atom_37 : decode cX1_atom 37 = .ok (.invokevirtual 66, 3) := dk_182 0 66 (dk_at dksX1_atom_1 13 rfl rfl)
theorem dX1_atom_40 : decode cX1_atom 40 = .ok (.athrow, 1) := dk_191 (dk_at dksX1_atom_1 16 rfl rfl)
theorem dX1_atom_41 : decode cX1_atom 41 = .ok (.aload_n 2, 1) := dk_44 (dk_at dksX1_atom_1 17 rfl rfl)
theorem dX1_atom_42 : decode cX1_atom 42 = .ok (.areturn, 1) := dk_176 (dk_at dksX1_atom_1 18 rfl rfl)
theorem dX1_atom_43 : decode cX1_atom 43 = .ok (.aload_n 1, 1) := dk_43 (dk_at dksX1_atom_1 19 rfl rfl)
theorem dX1_atom_44 : decode cX1_atom 44 = .ok (.ldc 252, 2) := dk_18 252 (dk_at dksX1_atom_1 20 rfl rfl)
theorem dX1_atom_46 : decode cX1_atom 46 = .ok (.invokevirtual 166, 3) := dk_182 0 166 (dk_at dksX1_atom_2 0 rfl rfl)
theorem dX1_atom_49 : decode cX1_atom 49 = .ok (.ifCond .eq 25, 3) := dk_153 0 25 (dk_at dksX1_atom_2 3 rfl rfl)
theorem dX1_atom_52 : decode cX1_atom 52 = .ok (.aload_n 1, 1) := dk_43 (dk_at dksX1_atom_2 6 rfl rfl)
theorem dX1_atom_53 : decode cX1_atom 53 = .ok (.invokevirtual 242, 3) := dk_182 0 242 (dk_at dksX1_atom_2 7 rfl rfl)
theorem dX1_atom_56 : decode cX1_atom 56 = .ok (.aload_n 0, 1) := dk_42 (dk_at dksX1_atom_2 10 rfl rfl)
theorem dX1_atom_57 : decode cX1_atom 57 = .ok (.invokevirtual 254, 3) := dk_182 0 254 (dk_at dksX1_atom_2 11 rfl rfl)
theorem dX1_atom_60 : decode cX1_atom 60 = .ok (.astore_n 2, 1) := dk_77 (dk_at dksX1_atom_2 14 rfl rfl)
theorem dX1_atom_61 : decode cX1_atom 61 = .ok (.aload_n 1, 1) := dk_43 (dk_at dksX1_atom_2 15 rfl rfl)
theorem dX1_atom_62 : decode cX1_atom 62 = .ok (.invokevirtual 249, 3) := dk_182 0 249 (dk_at dksX1_atom_2 16 rfl rfl)
theorem dX1_atom_65 : decode cX1_atom 65 = .ok (.new 257, 3) := dk_187 1 1 (dk_at dksX1_atom_2 19 rfl rfl)
theorem dX1_atom_68 : decode cX1_atom 68 = .ok (.dup, 1) := dk_89 (dk_at dksX1_atom_2 22 rfl rfl)
theorem dX1_atom_69 : decode cX1_atom 69 = .ok (.aload_n 2, 1) := dk_44 (dk_at dksX1_atom_2 23 rfl rfl)
theorem dX1_atom_70 : decode cX1_atom 70 = .ok (.invokespecial 259, 3) := dk_183 1 3 (dk_at dksX1_atom_3 0 rfl rfl)
theorem dX1_atom_73 : decode cX1_atom 73 = .ok (.areturn, 1) := dk_176 (dk_at dksX1_atom_3 3 rfl rfl)
theorem dX1_atom_74 : decode cX1_atom 74 = .ok (.aload_n 1, 1) := dk_43 (dk_at dksX1_atom_3 4 rfl rfl)
theorem dX1_atom_75 : decode cX1_atom 75 = .ok (.ldc 101, 2) := dk_18 101 (dk_at dksX1_atom_3 5 rfl rfl)
theorem dX1_atom_77 : decode cX1_atom 77 = .ok (.invokevirtual 166, 3) := dk_182 0 166 (dk_at dksX1_atom_3 7 rfl rfl)
theorem dX1_atom_80 : decode cX1_atom 80 = .ok (.ifCond .eq 14, 3) := dk_153 0 14 (dk_at dksX1_atom_3 10 rfl rfl)
theorem dX1_atom_83 : decode cX1_atom 83 = .ok (.new 262, 3) := dk_187 1 6 (dk_at dksX1_atom_3 13 rfl rfl)
theorem dX1_atom_86 : decode cX1_atom 86 = .ok (.dup, 1) := dk_89 (dk_at dksX1_atom_3 16 rfl rfl)
theorem dX1_atom_87 : decode cX1_atom 87 = .ok (.getstatic 264, 3) := dk_178 1 8 (dk_at dksX1_atom_3 17 rfl rfl)
theorem dX1_atom_90 : decode cX1_atom 90 = .ok (.invokespecial 270, 3) := dk_183 1 14 (dk_at dksX1_atom_3 20 rfl rfl)
theorem dX1_atom_93 : decode cX1_atom 93 = .ok (.areturn, 1) := dk_176 (dk_at dksX1_atom_3 23 rfl rfl)
theorem dX1_atom_94 : decode cX1_atom 94 = .ok (.aload_n 1, 1) := dk_43 (dk_at dksX1_atom_4 0 rfl rfl)
theorem dX1_atom_95 : decode cX1_atom 95 = .ok (.ldc_w 273, 3) := dk_19 1 17 (dk_at dksX1_atom_4 1 rfl rfl)
theorem dX1_atom_98 : decode cX1_atom 98 = .ok (.invokevirtual 166, 3) := dk_182 0 166 (dk_at dksX1_atom_4 4 rfl rfl)
theorem dX1_atom_101 : decode cX1_atom 101 = .ok (.ifCond .eq 14, 3) := dk_153 0 14 (dk_at dksX1_atom_4 7 rfl rfl)
theorem dX1_atom_104 : decode cX1_atom 104 = .ok (.new 262, 3) := dk_187 1 6 (dk_at dksX1_atom_4 10 rfl rfl)
theorem dX1_atom_107 : decode cX1_atom 107 = .ok (.dup, 1) := dk_89 (dk_at dksX1_atom_4 13 rfl rfl)
theorem dX1_atom_108 : decode cX1_atom 108 = .ok (.getstatic 275, 3) := dk_178 1 19 (dk_at dksX1_atom_4 14 rfl rfl)
theorem dX1_atom_111 : decode cX1_atom 111 = .ok (.invokespecial 270, 3) := dk_183 1 14 (dk_at dksX1_atom_4 17 rfl rfl)
theorem dX1_atom_114 : decode cX1_atom 114 = .ok (.areturn, 1) := dk_176 (dk_at dksX1_atom_4 20 rfl rfl)
theorem dX1_atom_115 : decode cX1_atom 115 = .ok (.aload_n 1, 1) := dk_43 (dk_at dksX1_atom_4 21 rfl rfl)
theorem dX1_atom_116 : decode cX1_atom 116 = .ok (.ldc_w 278, 3) := dk_19 1 22 (dk_at dksX1_atom_5 0 rfl rfl)
theorem dX1_atom_119 : decode cX1_atom 119 = .ok (.invokevirtual 166, 3) := dk_182 0 166 (dk_at dksX1_atom_5 3 rfl rfl)
theorem dX1_atom_122 : decode cX1_atom 122 = .ok (.ifCond .eq 14, 3) := dk_153 0 14 (dk_at dksX1_atom_5 6 rfl rfl)
theorem dX1_atom_125 : decode cX1_atom 125 = .ok (.new 262, 3) := dk_187 1 6 (dk_at dksX1_atom_5 9 rfl rfl)
theorem dX1_atom_128 : decode cX1_atom 128 = .ok (.dup, 1) := dk_89 (dk_at dksX1_atom_5 12 rfl rfl)
theorem dX1_atom_129 : decode cX1_atom 129 = .ok (.getstatic 280, 3) := dk_178 1 24 (dk_at dksX1_atom_5 13 rfl rfl)
theorem dX1_atom_132 : decode cX1_atom 132 = .ok (.invokespecial 270, 3) := dk_183 1 14 (dk_at dksX1_atom_5 16 rfl rfl)
theorem dX1_atom_135 : decode cX1_atom 135 = .ok (.areturn, 1) := dk_176 (dk_at dksX1_atom_5 19 rfl rfl)
theorem dX1_atom_136 : decode cX1_atom 136 = .ok (.aload_n 0, 1) := dk_42 (dk_at dksX1_atom_5 20 rfl rfl)
theorem dX1_atom_137 : decode cX1_atom 137 = .ok (.invokevirtual 283, 3) := dk_182 1 27 (dk_at dksX1_atom_5 21 rfl rfl)
theorem dX1_atom_140 : decode cX1_atom 140 = .ok (.astore_n 2, 1) := dk_77 (dk_at dksX1_atom_6 0 rfl rfl)
theorem dX1_atom_141 : decode cX1_atom 141 = .ok (.aload_n 1, 1) := dk_43 (dk_at dksX1_atom_6 1 rfl rfl)
theorem dX1_atom_142 : decode cX1_atom 142 = .ok (.bipush 60, 2) := dk_16 60 (dk_at dksX1_atom_6 2 rfl rfl)
theorem dX1_atom_144 : decode cX1_atom 144 = .ok (.invokevirtual 189, 3) := dk_182 0 189 (dk_at dksX1_atom_6 4 rfl rfl)
theorem dX1_atom_147 : decode cX1_atom 147 = .ok (.ifCond .eq 16, 3) := dk_153 0 16 (dk_at dksX1_atom_6 7 rfl rfl)
theorem dX1_atom_150 : decode cX1_atom 150 = .ok (.new 287, 3) := dk_187 1 31 (dk_at dksX1_atom_6 10 rfl rfl)
theorem dX1_atom_153 : decode cX1_atom 153 = .ok (.dup, 1) := dk_89 (dk_at dksX1_atom_6 13 rfl rfl)
theorem dX1_atom_154 : decode cX1_atom 154 = .ok (.aload_n 2, 1) := dk_44 (dk_at dksX1_atom_6 14 rfl rfl)
theorem dX1_atom_155 : decode cX1_atom 155 = .ok (.aload_n 0, 1) := dk_42 (dk_at dksX1_atom_6 15 rfl rfl)
theorem dX1_atom_156 : decode cX1_atom 156 = .ok (.invokevirtual 283, 3) := dk_182 1 27 (dk_at dksX1_atom_6 16 rfl rfl)
theorem dX1_atom_159 : decode cX1_atom 159 = .ok (.invokespecial 289, 3) := dk_183 1 33 (dk_at dksX1_atom_6 19 rfl rfl)
theorem dX1_atom_162 : decode cX1_atom 162 = .ok (.areturn, 1) := dk_176 (dk_at dksX1_atom_6 22 rfl rfl)
theorem dX1_atom_163 : decode cX1_atom 163 = .ok (.aload_n 1, 1) := dk_43 (dk_at dksX1_atom_6 23 rfl rfl)
theorem dX1_atom_164 : decode cX1_atom 164 = .ok (.bipush 62, 2) := dk_16 62 (dk_at dksX1_atom_7 0 rfl rfl)
theorem dX1_atom_166 : decode cX1_atom 166 = .ok (.invokevirtual 189, 3) := dk_182 0 189 (dk_at dksX1_atom_7 2 rfl rfl)
theorem dX1_atom_169 : decode cX1_atom 169 = .ok (.ifCond .ne 8, 3) := dk_154 0 8 (dk_at dksX1_atom_7 5 rfl rfl)
theorem dX1_atom_172 : decode cX1_atom 172 = .ok (.aload_n 1, 1) := dk_43 (dk_at dksX1_atom_7 8 rfl rfl)
theorem dX1_atom_173 : decode cX1_atom 173 = .ok (.invokevirtual 66, 3) := dk_182 0 66 (dk_at dksX1_atom_7 9 rfl rfl)
theorem dX1_atom_176 : decode cX1_atom 176 = .ok (.athrow, 1) := dk_191 (dk_at dksX1_atom_7 12 rfl rfl)
theorem dX1_atom_177 : decode cX1_atom 177 = .ok (.new 287, 3) := dk_187 1 31 (dk_at dksX1_atom_7 13 rfl rfl)
theorem dX1_atom_180 : decode cX1_atom 180 = .ok (.dup, 1) := dk_89 (dk_at dksX1_atom_7 16 rfl rfl)
theorem dX1_atom_181 : decode cX1_atom 181 = .ok (.aload_n 0, 1) := dk_42 (dk_at dksX1_atom_7 17 rfl rfl)
theorem dX1_atom_182 : decode cX1_atom 182 = .ok (.invokevirtual 283, 3) := dk_182 1 27 (dk_at dksX1_atom_7 18 rfl rfl)
theorem dX1_atom_185 : decode cX1_atom 185 = .ok (.aload_n 2, 1) := dk_44 (dk_at dksX1_atom_7 21 rfl rfl)
theorem dX1_atom_186 : decode cX1_atom 186 = .ok (.invokespecial 289, 3) := dk_183 1 33 (dk_at dksX1_atom_8 0 rfl rfl)
theorem dX1_atom_189 : decode cX1_atom 189 = .ok (.areturn, 1) := dk_176 (dk_at dksX1_atom_8 3 rfl rfl)
abbrev cX1_sum : ByteArray := prog_1_method_18_code
def yX1_sum : MethodName := ⟨RX1, "sum", "()LFavourTown$Sum;"⟩
def dkwX1_sum_1 : List UInt8 := [16, 43, 182, 0, 189, 154, 255, 235, 43, 176]
abbrev dktX1_sum_1 : List UInt8 := dkwX1_sum_1 ++ []
def dkwX1_sum_0 : List UInt8 := [187, 0, 232, 89, 183, 0, 234, 76, 43, 180, 0, 235, 42, 182, 0, 238, 182, 0, 162, 87, 42, 180, 0, 19]
abbrev dktX1_sum_0 : List UInt8 := dkwX1_sum_0 ++ dktX1_sum_1
theorem dksX1_sum_0 : cX1_sum.data.toList.drop 0 = dktX1_sum_0 := by decide +kernel
theorem dksX1_sum_1 : cX1_sum.data.toList.drop 24 = dktX1_sum_1 := dk_seg dksX1_sum_0 24 rfl rfl
theorem dX1_sum_0 : decode cX1_sum 0 = .ok (.new 232, 3) := dk_187 0 232 (dk_at dksX1_sum_0 0 rfl rfl)
theorem dX1_sum_3 : decode cX1_sum 3 = .ok (.dup, 1) := dk_89 (dk_at dksX1_sum_0 3 rfl rfl)
theorem dX1_sum_4 : decode cX1_sum 4 = .ok (.invokespecial 234, 3) := dk_183 0 234 (dk_at dksX1_sum_0 4 rfl rfl)
theorem dX1_sum_7 : decode cX1_sum 7 = .ok (.astore_n 1, 1) := dk_76 (dk_at dksX1_sum_0 7 rfl rfl)
theorem dX1_sum_8 : decode cX1_sum 8 = .ok (.aload_n 1, 1) := dk_43 (dk_at dksX1_sum_0 8 rfl rfl)
theorem dX1_sum_9 : decode cX1_sum 9 = .ok (.getfield 235, 3) := dk_180 0 235 (dk_at dksX1_sum_0 9 rfl rfl)
theorem dX1_sum_12 : decode cX1_sum 12 = .ok (.aload_n 0, 1) := dk_42 (dk_at dksX1_sum_0 12 rfl rfl)
theorem dX1_sum_13 : decode cX1_sum 13 = .ok (.invokevirtual 238, 3) := dk_182 0 238 (dk_at dksX1_sum_0 13 rfl rfl)
theorem dX1_sum_16 : decode cX1_sum 16 = .ok (.invokevirtual 162, 3) := dk_182 0 162 (dk_at dksX1_sum_0 16 rfl rfl)
theorem dX1_sum_19 : decode cX1_sum 19 = .ok (.pop, 1) := dk_87 (dk_at dksX1_sum_0 19 rfl rfl)
theorem dX1_sum_20 : decode cX1_sum 20 = .ok (.aload_n 0, 1) := dk_42 (dk_at dksX1_sum_0 20 rfl rfl)
theorem dX1_sum_21 : decode cX1_sum 21 = .ok (.getfield 19, 3) := dk_180 0 19 (dk_at dksX1_sum_0 21 rfl rfl)
theorem dX1_sum_24 : decode cX1_sum 24 = .ok (.bipush 43, 2) := dk_16 43 (dk_at dksX1_sum_1 0 rfl rfl)
theorem dX1_sum_26 : decode cX1_sum 26 = .ok (.invokevirtual 189, 3) := dk_182 0 189 (dk_at dksX1_sum_1 2 rfl rfl)
theorem dX1_sum_29 : decode cX1_sum 29 = .ok (.ifCond .ne (-21), 3) := dk_154 255 235 (dk_at dksX1_sum_1 5 rfl rfl)
theorem dX1_sum_32 : decode cX1_sum 32 = .ok (.aload_n 1, 1) := dk_43 (dk_at dksX1_sum_1 8 rfl rfl)
theorem dX1_sum_33 : decode cX1_sum 33 = .ok (.areturn, 1) := dk_176 (dk_at dksX1_sum_1 9 rfl rfl)
abbrev cX1_onePart : ByteArray := prog_1_method_17_code
def yX1_onePart : MethodName := ⟨RX1, "onePart", "()LFavourTown$Part;"⟩
def dkwX1_onePart_2 : List UInt8 := [180, 0, 19, 182, 0, 66, 191, 187, 0, 222, 89, 3, 43, 183, 0, 224, 176]
abbrev dktX1_onePart_2 : List UInt8 := dkwX1_onePart_2 ++ []
def dkwX1_onePart_1 : List UInt8 := [182, 0, 58, 1, 183, 0, 224, 176, 42, 180, 0, 19, 182, 0, 70, 184, 0, 227, 76, 43, 199, 0, 11, 42]
abbrev dktX1_onePart_1 : List UInt8 := dkwX1_onePart_1 ++ dktX1_onePart_2
def dkwX1_onePart_0 : List UInt8 := [42, 180, 0, 19, 182, 0, 219, 153, 0, 23, 187, 0, 222, 89, 42, 180, 0, 19, 3, 17, 3, 231]
abbrev dktX1_onePart_0 : List UInt8 := dkwX1_onePart_0 ++ dktX1_onePart_1
theorem dksX1_onePart_0 : cX1_onePart.data.toList.drop 0 = dktX1_onePart_0 := by decide +kernel
theorem dksX1_onePart_1 : cX1_onePart.data.toList.drop 22 = dktX1_onePart_1 := dk_seg dksX1_onePart_0 22 rfl rfl
theorem dksX1_onePart_2 : cX1_onePart.data.toList.drop 46 = dktX1_onePart_2 := dk_seg dksX1_onePart_1 24 rfl rfl
theorem dX1_onePart_0 : decode cX1_onePart 0 = .ok (.aload_n 0, 1) := dk_42 (dk_at dksX1_onePart_0 0 rfl rfl)
theorem dX1_onePart_1 : decode cX1_onePart 1 = .ok (.getfield 19, 3) := dk_180 0 19 (dk_at dksX1_onePart_0 1 rfl rfl)
theorem dX1_onePart_4 : decode cX1_onePart 4 = .ok (.invokevirtual 219, 3) := dk_182 0 219 (dk_at dksX1_onePart_0 4 rfl rfl)
theorem dX1_onePart_7 : decode cX1_onePart 7 = .ok (.ifCond .eq 23, 3) := dk_153 0 23 (dk_at dksX1_onePart_0 7 rfl rfl)
theorem dX1_onePart_10 : decode cX1_onePart 10 = .ok (.new 222, 3) := dk_187 0 222 (dk_at dksX1_onePart_0 10 rfl rfl)
theorem dX1_onePart_13 : decode cX1_onePart 13 = .ok (.dup, 1) := dk_89 (dk_at dksX1_onePart_0 13 rfl rfl)
theorem dX1_onePart_14 : decode cX1_onePart 14 = .ok (.aload_n 0, 1) := dk_42 (dk_at dksX1_onePart_0 14 rfl rfl)
theorem dX1_onePart_15 : decode cX1_onePart 15 = .ok (.getfield 19, 3) := dk_180 0 19 (dk_at dksX1_onePart_0 15 rfl rfl)
theorem dX1_onePart_18 : decode cX1_onePart 18 = .ok (.iconst 0, 1) := dk_3 (dk_at dksX1_onePart_0 18 rfl rfl)
theorem dX1_onePart_19 : decode cX1_onePart 19 = .ok (.sipush 999, 3) := dk_17 3 231 (dk_at dksX1_onePart_0 19 rfl rfl)
theorem dX1_onePart_22 : decode cX1_onePart 22 = .ok (.invokevirtual 58, 3) := dk_182 0 58 (dk_at dksX1_onePart_1 0 rfl rfl)
theorem dX1_onePart_25 : decode cX1_onePart 25 = .ok (.aconst_null, 1) := dk_1 (dk_at dksX1_onePart_1 3 rfl rfl)
theorem dX1_onePart_26 : decode cX1_onePart 26 = .ok (.invokespecial 224, 3) := dk_183 0 224 (dk_at dksX1_onePart_1 4 rfl rfl)
theorem dX1_onePart_29 : decode cX1_onePart 29 = .ok (.areturn, 1) := dk_176 (dk_at dksX1_onePart_1 7 rfl rfl)
theorem dX1_onePart_30 : decode cX1_onePart 30 = .ok (.aload_n 0, 1) := dk_42 (dk_at dksX1_onePart_1 8 rfl rfl)
theorem dX1_onePart_31 : decode cX1_onePart 31 = .ok (.getfield 19, 3) := dk_180 0 19 (dk_at dksX1_onePart_1 9 rfl rfl)
theorem dX1_onePart_34 : decode cX1_onePart 34 = .ok (.invokevirtual 70, 3) := dk_182 0 70 (dk_at dksX1_onePart_1 12 rfl rfl)
theorem dX1_onePart_37 : decode cX1_onePart 37 = .ok (.invokestatic 227, 3) := dk_184 0 227 (dk_at dksX1_onePart_1 15 rfl rfl)
theorem dX1_onePart_40 : decode cX1_onePart 40 = .ok (.astore_n 1, 1) := dk_76 (dk_at dksX1_onePart_1 18 rfl rfl)
theorem dX1_onePart_41 : decode cX1_onePart 41 = .ok (.aload_n 1, 1) := dk_43 (dk_at dksX1_onePart_1 19 rfl rfl)
theorem dX1_onePart_42 : decode cX1_onePart 42 = .ok (.ifnonnull 11, 3) := dk_199 0 11 (dk_at dksX1_onePart_1 20 rfl rfl)
theorem dX1_onePart_45 : decode cX1_onePart 45 = .ok (.aload_n 0, 1) := dk_42 (dk_at dksX1_onePart_1 23 rfl rfl)
theorem dX1_onePart_46 : decode cX1_onePart 46 = .ok (.getfield 19, 3) := dk_180 0 19 (dk_at dksX1_onePart_2 0 rfl rfl)
theorem dX1_onePart_49 : decode cX1_onePart 49 = .ok (.invokevirtual 66, 3) := dk_182 0 66 (dk_at dksX1_onePart_2 3 rfl rfl)
theorem dX1_onePart_52 : decode cX1_onePart 52 = .ok (.athrow, 1) := dk_191 (dk_at dksX1_onePart_2 6 rfl rfl)
theorem dX1_onePart_53 : decode cX1_onePart 53 = .ok (.new 222, 3) := dk_187 0 222 (dk_at dksX1_onePart_2 7 rfl rfl)
theorem dX1_onePart_56 : decode cX1_onePart 56 = .ok (.dup, 1) := dk_89 (dk_at dksX1_onePart_2 10 rfl rfl)
theorem dX1_onePart_57 : decode cX1_onePart 57 = .ok (.iconst 0, 1) := dk_3 (dk_at dksX1_onePart_2 11 rfl rfl)
theorem dX1_onePart_58 : decode cX1_onePart 58 = .ok (.aload_n 1, 1) := dk_43 (dk_at dksX1_onePart_2 12 rfl rfl)
theorem dX1_onePart_59 : decode cX1_onePart 59 = .ok (.invokespecial 224, 3) := dk_183 0 224 (dk_at dksX1_onePart_2 13 rfl rfl)
theorem dX1_onePart_62 : decode cX1_onePart 62 = .ok (.areturn, 1) := dk_176 (dk_at dksX1_onePart_2 16 rfl rfl)
abbrev cX1_has : ByteArray := prog_1_method_31_code
def yX1_has : MethodName := ⟨RX1, "has", "(II)I"⟩
def dkwX1_has_1 : List UInt8 := [42, 180, 0, 10, 180, 0, 118, 27, 46, 62, 42, 180, 0, 10, 180, 0, 118, 27, 28, 79, 29, 172]
abbrev dktX1_has_1 : List UInt8 := dkwX1_has_1 ++ []
def dkwX1_has_0 : List UInt8 := [42, 27, 182, 1, 92, 28, 2, 159, 0, 17, 28, 42, 180, 0, 10, 180, 1, 76, 182, 0, 84, 184, 1, 86]
abbrev dktX1_has_0 : List UInt8 := dkwX1_has_0 ++ dktX1_has_1
theorem dksX1_has_0 : cX1_has.data.toList.drop 0 = dktX1_has_0 := by decide +kernel
theorem dksX1_has_1 : cX1_has.data.toList.drop 24 = dktX1_has_1 := dk_seg dksX1_has_0 24 rfl rfl
theorem dX1_has_0 : decode cX1_has 0 = .ok (.aload_n 0, 1) := dk_42 (dk_at dksX1_has_0 0 rfl rfl)
theorem dX1_has_1 : decode cX1_has 1 = .ok (.iload_n 1, 1) := dk_27 (dk_at dksX1_has_0 1 rfl rfl)
theorem dX1_has_2 : decode cX1_has 2 = .ok (.invokevirtual 348, 3) := dk_182 1 92 (dk_at dksX1_has_0 2 rfl rfl)
theorem dX1_has_5 : decode cX1_has 5 = .ok (.iload_n 2, 1) := dk_28 (dk_at dksX1_has_0 5 rfl rfl)
theorem dX1_has_6 : decode cX1_has 6 = .ok (.iconst (-1), 1) := dk_2 (dk_at dksX1_has_0 6 rfl rfl)
theorem dX1_has_7 : decode cX1_has 7 = .ok (.if_icmp .eq 17, 3) := dk_159 0 17 (dk_at dksX1_has_0 7 rfl rfl)
theorem dX1_has_10 : decode cX1_has 10 = .ok (.iload_n 2, 1) := dk_28 (dk_at dksX1_has_0 10 rfl rfl)
theorem dX1_has_11 : decode cX1_has 11 = .ok (.aload_n 0, 1) := dk_42 (dk_at dksX1_has_0 11 rfl rfl)
theorem dX1_has_12 : decode cX1_has 12 = .ok (.getfield 10, 3) := dk_180 0 10 (dk_at dksX1_has_0 12 rfl rfl)
theorem dX1_has_15 : decode cX1_has 15 = .ok (.getfield 332, 3) := dk_180 1 76 (dk_at dksX1_has_0 15 rfl rfl)
theorem dX1_has_18 : decode cX1_has 18 = .ok (.invokevirtual 84, 3) := dk_182 0 84 (dk_at dksX1_has_0 18 rfl rfl)
theorem dX1_has_21 : decode cX1_has 21 = .ok (.invokestatic 342, 3) := dk_184 1 86 (dk_at dksX1_has_0 21 rfl rfl)
theorem dX1_has_24 : decode cX1_has 24 = .ok (.aload_n 0, 1) := dk_42 (dk_at dksX1_has_1 0 rfl rfl)
theorem dX1_has_25 : decode cX1_has 25 = .ok (.getfield 10, 3) := dk_180 0 10 (dk_at dksX1_has_1 1 rfl rfl)
theorem dX1_has_28 : decode cX1_has 28 = .ok (.getfield 118, 3) := dk_180 0 118 (dk_at dksX1_has_1 4 rfl rfl)
theorem dX1_has_31 : decode cX1_has 31 = .ok (.iload_n 1, 1) := dk_27 (dk_at dksX1_has_1 7 rfl rfl)
theorem dX1_has_32 : decode cX1_has 32 = .ok (.iaload, 1) := dk_46 (dk_at dksX1_has_1 8 rfl rfl)
theorem dX1_has_33 : decode cX1_has 33 = .ok (.istore_n 3, 1) := dk_62 (dk_at dksX1_has_1 9 rfl rfl)
theorem dX1_has_34 : decode cX1_has 34 = .ok (.aload_n 0, 1) := dk_42 (dk_at dksX1_has_1 10 rfl rfl)
theorem dX1_has_35 : decode cX1_has 35 = .ok (.getfield 10, 3) := dk_180 0 10 (dk_at dksX1_has_1 11 rfl rfl)
theorem dX1_has_38 : decode cX1_has 38 = .ok (.getfield 118, 3) := dk_180 0 118 (dk_at dksX1_has_1 14 rfl rfl)
theorem dX1_has_41 : decode cX1_has 41 = .ok (.iload_n 1, 1) := dk_27 (dk_at dksX1_has_1 17 rfl rfl)
theorem dX1_has_42 : decode cX1_has 42 = .ok (.iload_n 2, 1) := dk_28 (dk_at dksX1_has_1 18 rfl rfl)
theorem dX1_has_43 : decode cX1_has 43 = .ok (.iastore, 1) := dk_79 (dk_at dksX1_has_1 19 rfl rfl)
theorem dX1_has_44 : decode cX1_has 44 = .ok (.iload_n 3, 1) := dk_29 (dk_at dksX1_has_1 20 rfl rfl)
theorem dX1_has_45 : decode cX1_has 45 = .ok (.ireturn, 1) := dk_172 (dk_at dksX1_has_1 21 rfl rfl)
abbrev cX1_person : ByteArray := prog_1_method_26_code
def yX1_person : MethodName := ⟨RX1, "person", "(I)V"⟩
def dkwX1_person_0 : List UInt8 := [27, 42, 180, 0, 10, 180, 0, 55, 184, 1, 86, 177]
abbrev dktX1_person_0 : List UInt8 := dkwX1_person_0 ++ []
theorem dksX1_person_0 : cX1_person.data.toList.drop 0 = dktX1_person_0 := by decide +kernel
theorem dX1_person_0 : decode cX1_person 0 = .ok (.iload_n 1, 1) := dk_27 (dk_at dksX1_person_0 0 rfl rfl)
theorem dX1_person_1 : decode cX1_person 1 = .ok (.aload_n 0, 1) := dk_42 (dk_at dksX1_person_0 1 rfl rfl)
theorem dX1_person_2 : decode cX1_person 2 = .ok (.getfield 10, 3) := dk_180 0 10 (dk_at dksX1_person_0 2 rfl rfl)
theorem dX1_person_5 : decode cX1_person 5 = .ok (.getfield 55, 3) := dk_180 0 55 (dk_at dksX1_person_0 5 rfl rfl)
theorem dX1_person_8 : decode cX1_person 8 = .ok (.invokestatic 342, 3) := dk_184 1 86 (dk_at dksX1_person_0 8 rfl rfl)
theorem dX1_person_11 : decode cX1_person 11 = .ok (.return_, 1) := dk_177 (dk_at dksX1_person_0 11 rfl rfl)
abbrev cX1_there : ByteArray := prog_1_method_25_code
def yX1_there : MethodName := ⟨RX1, "there", "(II)V"⟩
def dkwX1_there_0 : List UInt8 := [26, 3, 27, 4, 100, 184, 1, 79, 154, 0, 11, 187, 1, 83, 89, 183, 1, 85, 191, 177]
abbrev dktX1_there_0 : List UInt8 := dkwX1_there_0 ++ []
theorem dksX1_there_0 : cX1_there.data.toList.drop 0 = dktX1_there_0 := by decide +kernel
theorem dX1_there_0 : decode cX1_there 0 = .ok (.iload_n 0, 1) := dk_26 (dk_at dksX1_there_0 0 rfl rfl)
theorem dX1_there_1 : decode cX1_there 1 = .ok (.iconst 0, 1) := dk_3 (dk_at dksX1_there_0 1 rfl rfl)
theorem dX1_there_2 : decode cX1_there 2 = .ok (.iload_n 1, 1) := dk_27 (dk_at dksX1_there_0 2 rfl rfl)
theorem dX1_there_3 : decode cX1_there 3 = .ok (.iconst 1, 1) := dk_4 (dk_at dksX1_there_0 3 rfl rfl)
theorem dX1_there_4 : decode cX1_there 4 = .ok (.isub, 1) := dk_100 (dk_at dksX1_there_0 4 rfl rfl)
theorem dX1_there_5 : decode cX1_there 5 = .ok (.invokestatic 335, 3) := dk_184 1 79 (dk_at dksX1_there_0 5 rfl rfl)
theorem dX1_there_8 : decode cX1_there 8 = .ok (.ifCond .ne 11, 3) := dk_154 0 11 (dk_at dksX1_there_0 8 rfl rfl)
theorem dX1_there_11 : decode cX1_there 11 = .ok (.new 339, 3) := dk_187 1 83 (dk_at dksX1_there_0 11 rfl rfl)
theorem dX1_there_14 : decode cX1_there 14 = .ok (.dup, 1) := dk_89 (dk_at dksX1_there_0 14 rfl rfl)
theorem dX1_there_15 : decode cX1_there 15 = .ok (.invokespecial 341, 3) := dk_183 1 85 (dk_at dksX1_there_0 15 rfl rfl)
theorem dX1_there_18 : decode cX1_there 18 = .ok (.athrow, 1) := dk_191 (dk_at dksX1_there_0 18 rfl rfl)
theorem dX1_there_19 : decode cX1_there 19 = .ok (.return_, 1) := dk_177 (dk_at dksX1_there_0 19 rfl rfl)
abbrev cX1_give : ByteArray := prog_1_method_32_code
def yX1_give : MethodName := ⟨RX1, "give", "(IIIIZ)I"⟩
def dkwX1_give_2 : List UInt8 := [182, 0, 171, 172]
abbrev dktX1_give_2 : List UInt8 := dkwX1_give_2 ++ []
def dkwX1_give_1 : List UInt8 := [153, 0, 7, 4, 167, 0, 4, 3, 184, 1, 95, 42, 180, 0, 10, 27, 28, 29, 21, 4, 21, 5]
abbrev dktX1_give_1 : List UInt8 := dkwX1_give_1 ++ dktX1_give_2
def dkwX1_give_0 : List UInt8 := [42, 27, 28, 182, 1, 98, 29, 4, 16, 99, 184, 1, 79, 153, 0, 18, 21, 4, 3, 16, 99, 184, 1, 79]
abbrev dktX1_give_0 : List UInt8 := dkwX1_give_0 ++ dktX1_give_1
theorem dksX1_give_0 : cX1_give.data.toList.drop 0 = dktX1_give_0 := by decide +kernel
theorem dksX1_give_1 : cX1_give.data.toList.drop 24 = dktX1_give_1 := dk_seg dksX1_give_0 24 rfl rfl
theorem dksX1_give_2 : cX1_give.data.toList.drop 46 = dktX1_give_2 := dk_seg dksX1_give_1 22 rfl rfl
theorem dX1_give_0 : decode cX1_give 0 = .ok (.aload_n 0, 1) := dk_42 (dk_at dksX1_give_0 0 rfl rfl)
theorem dX1_give_1 : decode cX1_give 1 = .ok (.iload_n 1, 1) := dk_27 (dk_at dksX1_give_0 1 rfl rfl)
theorem dX1_give_2 : decode cX1_give 2 = .ok (.iload_n 2, 1) := dk_28 (dk_at dksX1_give_0 2 rfl rfl)
theorem dX1_give_3 : decode cX1_give 3 = .ok (.invokevirtual 354, 3) := dk_182 1 98 (dk_at dksX1_give_0 3 rfl rfl)
theorem dX1_give_6 : decode cX1_give 6 = .ok (.iload_n 3, 1) := dk_29 (dk_at dksX1_give_0 6 rfl rfl)
theorem dX1_give_7 : decode cX1_give 7 = .ok (.iconst 1, 1) := dk_4 (dk_at dksX1_give_0 7 rfl rfl)
theorem dX1_give_8 : decode cX1_give 8 = .ok (.bipush 99, 2) := dk_16 99 (dk_at dksX1_give_0 8 rfl rfl)
theorem dX1_give_10 : decode cX1_give 10 = .ok (.invokestatic 335, 3) := dk_184 1 79 (dk_at dksX1_give_0 10 rfl rfl)
theorem dX1_give_13 : decode cX1_give 13 = .ok (.ifCond .eq 18, 3) := dk_153 0 18 (dk_at dksX1_give_0 13 rfl rfl)
theorem dX1_give_16 : decode cX1_give 16 = .ok (.iload 4, 2) := dk_21 4 (dk_at dksX1_give_0 16 rfl rfl)
theorem dX1_give_18 : decode cX1_give 18 = .ok (.iconst 0, 1) := dk_3 (dk_at dksX1_give_0 18 rfl rfl)
theorem dX1_give_19 : decode cX1_give 19 = .ok (.bipush 99, 2) := dk_16 99 (dk_at dksX1_give_0 19 rfl rfl)
theorem dX1_give_21 : decode cX1_give 21 = .ok (.invokestatic 335, 3) := dk_184 1 79 (dk_at dksX1_give_0 21 rfl rfl)
theorem dX1_give_24 : decode cX1_give 24 = .ok (.ifCond .eq 7, 3) := dk_153 0 7 (dk_at dksX1_give_1 0 rfl rfl)
theorem dX1_give_27 : decode cX1_give 27 = .ok (.iconst 1, 1) := dk_4 (dk_at dksX1_give_1 3 rfl rfl)
theorem dX1_give_28 : decode cX1_give 28 = .ok (.goto 4, 3) := dk_167 0 4 (dk_at dksX1_give_1 4 rfl rfl)
theorem dX1_give_31 : decode cX1_give 31 = .ok (.iconst 0, 1) := dk_3 (dk_at dksX1_give_1 7 rfl rfl)
theorem dX1_give_32 : decode cX1_give 32 = .ok (.invokestatic 351, 3) := dk_184 1 95 (dk_at dksX1_give_1 8 rfl rfl)
theorem dX1_give_35 : decode cX1_give 35 = .ok (.aload_n 0, 1) := dk_42 (dk_at dksX1_give_1 11 rfl rfl)
theorem dX1_give_36 : decode cX1_give 36 = .ok (.getfield 10, 3) := dk_180 0 10 (dk_at dksX1_give_1 12 rfl rfl)
theorem dX1_give_39 : decode cX1_give 39 = .ok (.iload_n 1, 1) := dk_27 (dk_at dksX1_give_1 15 rfl rfl)
theorem dX1_give_40 : decode cX1_give 40 = .ok (.iload_n 2, 1) := dk_28 (dk_at dksX1_give_1 16 rfl rfl)
theorem dX1_give_41 : decode cX1_give 41 = .ok (.iload_n 3, 1) := dk_29 (dk_at dksX1_give_1 17 rfl rfl)
theorem dX1_give_42 : decode cX1_give 42 = .ok (.iload 4, 2) := dk_21 4 (dk_at dksX1_give_1 18 rfl rfl)
theorem dX1_give_44 : decode cX1_give 44 = .ok (.iload 5, 2) := dk_21 5 (dk_at dksX1_give_1 20 rfl rfl)
theorem dX1_give_46 : decode cX1_give 46 = .ok (.invokevirtual 171, 3) := dk_182 0 171 (dk_at dksX1_give_2 0 rfl rfl)
theorem dX1_give_49 : decode cX1_give 49 = .ok (.ireturn, 1) := dk_172 (dk_at dksX1_give_2 3 rfl rfl)
abbrev cX1_two : ByteArray := prog_1_method_30_code
def yX1_two : MethodName := ⟨RX1, "two", "(II)V"⟩
def dkwX1_two_0 : List UInt8 := [42, 27, 182, 1, 92, 42, 28, 182, 1, 92, 27, 28, 159, 0, 7, 4, 167, 0, 4, 3, 184, 1, 95, 177]
abbrev dktX1_two_0 : List UInt8 := dkwX1_two_0 ++ []
theorem dksX1_two_0 : cX1_two.data.toList.drop 0 = dktX1_two_0 := by decide +kernel
theorem dX1_two_0 : decode cX1_two 0 = .ok (.aload_n 0, 1) := dk_42 (dk_at dksX1_two_0 0 rfl rfl)
theorem dX1_two_1 : decode cX1_two 1 = .ok (.iload_n 1, 1) := dk_27 (dk_at dksX1_two_0 1 rfl rfl)
theorem dX1_two_2 : decode cX1_two 2 = .ok (.invokevirtual 348, 3) := dk_182 1 92 (dk_at dksX1_two_0 2 rfl rfl)
theorem dX1_two_5 : decode cX1_two 5 = .ok (.aload_n 0, 1) := dk_42 (dk_at dksX1_two_0 5 rfl rfl)
theorem dX1_two_6 : decode cX1_two 6 = .ok (.iload_n 2, 1) := dk_28 (dk_at dksX1_two_0 6 rfl rfl)
theorem dX1_two_7 : decode cX1_two 7 = .ok (.invokevirtual 348, 3) := dk_182 1 92 (dk_at dksX1_two_0 7 rfl rfl)
theorem dX1_two_10 : decode cX1_two 10 = .ok (.iload_n 1, 1) := dk_27 (dk_at dksX1_two_0 10 rfl rfl)
theorem dX1_two_11 : decode cX1_two 11 = .ok (.iload_n 2, 1) := dk_28 (dk_at dksX1_two_0 11 rfl rfl)
theorem dX1_two_12 : decode cX1_two 12 = .ok (.if_icmp .eq 7, 3) := dk_159 0 7 (dk_at dksX1_two_0 12 rfl rfl)
theorem dX1_two_15 : decode cX1_two 15 = .ok (.iconst 1, 1) := dk_4 (dk_at dksX1_two_0 15 rfl rfl)
theorem dX1_two_16 : decode cX1_two 16 = .ok (.goto 4, 3) := dk_167 0 4 (dk_at dksX1_two_0 16 rfl rfl)
theorem dX1_two_19 : decode cX1_two 19 = .ok (.iconst 0, 1) := dk_3 (dk_at dksX1_two_0 19 rfl rfl)
theorem dX1_two_20 : decode cX1_two 20 = .ok (.invokestatic 351, 3) := dk_184 1 95 (dk_at dksX1_two_0 20 rfl rfl)
theorem dX1_two_23 : decode cX1_two 23 = .ok (.return_, 1) := dk_177 (dk_at dksX1_two_0 23 rfl rfl)
abbrev cX1_demand : ByteArray := prog_1_method_28_code
def yX1_demand : MethodName := ⟨RX1, "demand", "(Z)V"⟩
def dkwX1_demand_0 : List UInt8 := [26, 154, 0, 11, 187, 0, 195, 89, 183, 0, 197, 191, 177]
abbrev dktX1_demand_0 : List UInt8 := dkwX1_demand_0 ++ []
theorem dksX1_demand_0 : cX1_demand.data.toList.drop 0 = dktX1_demand_0 := by decide +kernel
theorem dX1_demand_0 : decode cX1_demand 0 = .ok (.iload_n 0, 1) := dk_26 (dk_at dksX1_demand_0 0 rfl rfl)
theorem dX1_demand_1 : decode cX1_demand 1 = .ok (.ifCond .ne 11, 3) := dk_154 0 11 (dk_at dksX1_demand_0 1 rfl rfl)
theorem dX1_demand_4 : decode cX1_demand 4 = .ok (.new 195, 3) := dk_187 0 195 (dk_at dksX1_demand_0 4 rfl rfl)
theorem dX1_demand_7 : decode cX1_demand 7 = .ok (.dup, 1) := dk_89 (dk_at dksX1_demand_0 7 rfl rfl)
theorem dX1_demand_8 : decode cX1_demand 8 = .ok (.invokespecial 197, 3) := dk_183 0 197 (dk_at dksX1_demand_0 8 rfl rfl)
theorem dX1_demand_11 : decode cX1_demand 11 = .ok (.athrow, 1) := dk_191 (dk_at dksX1_demand_0 11 rfl rfl)
theorem dX1_demand_12 : decode cX1_demand 12 = .ok (.return_, 1) := dk_177 (dk_at dksX1_demand_0 12 rfl rfl)
abbrev cX1_pass : ByteArray := prog_1_method_33_code
def yX1_pass : MethodName := ⟨RX1, "pass", "(II)I"⟩
def dkwX1_pass_1 : List UInt8 := [184, 1, 95, 42, 180, 0, 10, 45, 28, 182, 0, 145, 172]
abbrev dktX1_pass_1 : List UInt8 := dkwX1_pass_1 ++ []
def dkwX1_pass_0 : List UInt8 := [42, 27, 182, 1, 101, 78, 42, 28, 182, 1, 92, 45, 180, 0, 142, 28, 159, 0, 7, 4, 167, 0, 4, 3]
abbrev dktX1_pass_0 : List UInt8 := dkwX1_pass_0 ++ dktX1_pass_1
theorem dksX1_pass_0 : cX1_pass.data.toList.drop 0 = dktX1_pass_0 := by decide +kernel
theorem dksX1_pass_1 : cX1_pass.data.toList.drop 24 = dktX1_pass_1 := dk_seg dksX1_pass_0 24 rfl rfl
theorem dX1_pass_0 : decode cX1_pass 0 = .ok (.aload_n 0, 1) := dk_42 (dk_at dksX1_pass_0 0 rfl rfl)
theorem dX1_pass_1 : decode cX1_pass 1 = .ok (.iload_n 1, 1) := dk_27 (dk_at dksX1_pass_0 1 rfl rfl)
theorem dX1_pass_2 : decode cX1_pass 2 = .ok (.invokevirtual 357, 3) := dk_182 1 101 (dk_at dksX1_pass_0 2 rfl rfl)
theorem dX1_pass_5 : decode cX1_pass 5 = .ok (.astore_n 3, 1) := dk_78 (dk_at dksX1_pass_0 5 rfl rfl)
theorem dX1_pass_6 : decode cX1_pass 6 = .ok (.aload_n 0, 1) := dk_42 (dk_at dksX1_pass_0 6 rfl rfl)
theorem dX1_pass_7 : decode cX1_pass 7 = .ok (.iload_n 2, 1) := dk_28 (dk_at dksX1_pass_0 7 rfl rfl)
theorem dX1_pass_8 : decode cX1_pass 8 = .ok (.invokevirtual 348, 3) := dk_182 1 92 (dk_at dksX1_pass_0 8 rfl rfl)
theorem dX1_pass_11 : decode cX1_pass 11 = .ok (.aload_n 3, 1) := dk_45 (dk_at dksX1_pass_0 11 rfl rfl)
theorem dX1_pass_12 : decode cX1_pass 12 = .ok (.getfield 142, 3) := dk_180 0 142 (dk_at dksX1_pass_0 12 rfl rfl)
theorem dX1_pass_15 : decode cX1_pass 15 = .ok (.iload_n 2, 1) := dk_28 (dk_at dksX1_pass_0 15 rfl rfl)
theorem dX1_pass_16 : decode cX1_pass 16 = .ok (.if_icmp .eq 7, 3) := dk_159 0 7 (dk_at dksX1_pass_0 16 rfl rfl)
theorem dX1_pass_19 : decode cX1_pass 19 = .ok (.iconst 1, 1) := dk_4 (dk_at dksX1_pass_0 19 rfl rfl)
theorem dX1_pass_20 : decode cX1_pass 20 = .ok (.goto 4, 3) := dk_167 0 4 (dk_at dksX1_pass_0 20 rfl rfl)
theorem dX1_pass_23 : decode cX1_pass 23 = .ok (.iconst 0, 1) := dk_3 (dk_at dksX1_pass_0 23 rfl rfl)
theorem dX1_pass_24 : decode cX1_pass 24 = .ok (.invokestatic 351, 3) := dk_184 1 95 (dk_at dksX1_pass_1 0 rfl rfl)
theorem dX1_pass_27 : decode cX1_pass 27 = .ok (.aload_n 0, 1) := dk_42 (dk_at dksX1_pass_1 3 rfl rfl)
theorem dX1_pass_28 : decode cX1_pass 28 = .ok (.getfield 10, 3) := dk_180 0 10 (dk_at dksX1_pass_1 4 rfl rfl)
theorem dX1_pass_31 : decode cX1_pass 31 = .ok (.aload_n 3, 1) := dk_45 (dk_at dksX1_pass_1 7 rfl rfl)
theorem dX1_pass_32 : decode cX1_pass 32 = .ok (.iload_n 2, 1) := dk_28 (dk_at dksX1_pass_1 8 rfl rfl)
theorem dX1_pass_33 : decode cX1_pass 33 = .ok (.invokevirtual 145, 3) := dk_182 0 145 (dk_at dksX1_pass_1 9 rfl rfl)
theorem dX1_pass_36 : decode cX1_pass 36 = .ok (.ireturn, 1) := dk_172 (dk_at dksX1_pass_1 12 rfl rfl)
abbrev cX1_favourAt : ByteArray := prog_1_method_27_code
def yX1_favourAt : MethodName := ⟨RX1, "favourAt", "(I)LFavourTown$Favour;"⟩
def dkwX1_favourAt_1 : List UInt8 := [182, 0, 90, 192, 0, 94, 176]
abbrev dktX1_favourAt_1 : List UInt8 := dkwX1_favourAt_1 ++ []
def dkwX1_favourAt_0 : List UInt8 := [27, 42, 180, 0, 10, 180, 0, 80, 182, 0, 84, 184, 1, 86, 42, 180, 0, 10, 180, 0, 80, 27]
abbrev dktX1_favourAt_0 : List UInt8 := dkwX1_favourAt_0 ++ dktX1_favourAt_1
theorem dksX1_favourAt_0 : cX1_favourAt.data.toList.drop 0 = dktX1_favourAt_0 := by decide +kernel
theorem dksX1_favourAt_1 : cX1_favourAt.data.toList.drop 22 = dktX1_favourAt_1 := dk_seg dksX1_favourAt_0 22 rfl rfl
theorem dX1_favourAt_0 : decode cX1_favourAt 0 = .ok (.iload_n 1, 1) := dk_27 (dk_at dksX1_favourAt_0 0 rfl rfl)
theorem dX1_favourAt_1 : decode cX1_favourAt 1 = .ok (.aload_n 0, 1) := dk_42 (dk_at dksX1_favourAt_0 1 rfl rfl)
theorem dX1_favourAt_2 : decode cX1_favourAt 2 = .ok (.getfield 10, 3) := dk_180 0 10 (dk_at dksX1_favourAt_0 2 rfl rfl)
theorem dX1_favourAt_5 : decode cX1_favourAt 5 = .ok (.getfield 80, 3) := dk_180 0 80 (dk_at dksX1_favourAt_0 5 rfl rfl)
theorem dX1_favourAt_8 : decode cX1_favourAt 8 = .ok (.invokevirtual 84, 3) := dk_182 0 84 (dk_at dksX1_favourAt_0 8 rfl rfl)
theorem dX1_favourAt_11 : decode cX1_favourAt 11 = .ok (.invokestatic 342, 3) := dk_184 1 86 (dk_at dksX1_favourAt_0 11 rfl rfl)
theorem dX1_favourAt_14 : decode cX1_favourAt 14 = .ok (.aload_n 0, 1) := dk_42 (dk_at dksX1_favourAt_0 14 rfl rfl)
theorem dX1_favourAt_15 : decode cX1_favourAt 15 = .ok (.getfield 10, 3) := dk_180 0 10 (dk_at dksX1_favourAt_0 15 rfl rfl)
theorem dX1_favourAt_18 : decode cX1_favourAt 18 = .ok (.getfield 80, 3) := dk_180 0 80 (dk_at dksX1_favourAt_0 18 rfl rfl)
theorem dX1_favourAt_21 : decode cX1_favourAt 21 = .ok (.iload_n 1, 1) := dk_27 (dk_at dksX1_favourAt_0 21 rfl rfl)
theorem dX1_favourAt_22 : decode cX1_favourAt 22 = .ok (.invokevirtual 90, 3) := dk_182 0 90 (dk_at dksX1_favourAt_1 0 rfl rfl)
theorem dX1_favourAt_25 : decode cX1_favourAt 25 = .ok (.checkcast 94, 3) := dk_192 0 94 (dk_at dksX1_favourAt_1 3 rfl rfl)
theorem dX1_favourAt_28 : decode cX1_favourAt 28 = .ok (.areturn, 1) := dk_176 (dk_at dksX1_favourAt_1 6 rfl rfl)
abbrev cX1_call : ByteArray := prog_1_method_34_code
def yX1_call : MethodName := ⟨RX1, "call", "(I)I"⟩
def dkwX1_call_1 : List UInt8 := [180, 1, 105, 182, 1, 108, 172]
abbrev dktX1_call_1 : List UInt8 := dkwX1_call_1 ++ []
def dkwX1_call_0 : List UInt8 := [42, 27, 182, 1, 101, 77, 44, 180, 0, 142, 2, 160, 0, 5, 2, 172, 44, 2, 181, 0, 142, 44, 44]
abbrev dktX1_call_0 : List UInt8 := dkwX1_call_0 ++ dktX1_call_1
theorem dksX1_call_0 : cX1_call.data.toList.drop 0 = dktX1_call_0 := by decide +kernel
theorem dksX1_call_1 : cX1_call.data.toList.drop 23 = dktX1_call_1 := dk_seg dksX1_call_0 23 rfl rfl
theorem dX1_call_0 : decode cX1_call 0 = .ok (.aload_n 0, 1) := dk_42 (dk_at dksX1_call_0 0 rfl rfl)
theorem dX1_call_1 : decode cX1_call 1 = .ok (.iload_n 1, 1) := dk_27 (dk_at dksX1_call_0 1 rfl rfl)
theorem dX1_call_2 : decode cX1_call 2 = .ok (.invokevirtual 357, 3) := dk_182 1 101 (dk_at dksX1_call_0 2 rfl rfl)
theorem dX1_call_5 : decode cX1_call 5 = .ok (.astore_n 2, 1) := dk_77 (dk_at dksX1_call_0 5 rfl rfl)
theorem dX1_call_6 : decode cX1_call 6 = .ok (.aload_n 2, 1) := dk_44 (dk_at dksX1_call_0 6 rfl rfl)
theorem dX1_call_7 : decode cX1_call 7 = .ok (.getfield 142, 3) := dk_180 0 142 (dk_at dksX1_call_0 7 rfl rfl)
theorem dX1_call_10 : decode cX1_call 10 = .ok (.iconst (-1), 1) := dk_2 (dk_at dksX1_call_0 10 rfl rfl)
theorem dX1_call_11 : decode cX1_call 11 = .ok (.if_icmp .ne 5, 3) := dk_160 0 5 (dk_at dksX1_call_0 11 rfl rfl)
theorem dX1_call_14 : decode cX1_call 14 = .ok (.iconst (-1), 1) := dk_2 (dk_at dksX1_call_0 14 rfl rfl)
theorem dX1_call_15 : decode cX1_call 15 = .ok (.ireturn, 1) := dk_172 (dk_at dksX1_call_0 15 rfl rfl)
theorem dX1_call_16 : decode cX1_call 16 = .ok (.aload_n 2, 1) := dk_44 (dk_at dksX1_call_0 16 rfl rfl)
theorem dX1_call_17 : decode cX1_call 17 = .ok (.iconst (-1), 1) := dk_2 (dk_at dksX1_call_0 17 rfl rfl)
theorem dX1_call_18 : decode cX1_call 18 = .ok (.putfield 142, 3) := dk_181 0 142 (dk_at dksX1_call_0 18 rfl rfl)
theorem dX1_call_21 : decode cX1_call 21 = .ok (.aload_n 2, 1) := dk_44 (dk_at dksX1_call_0 21 rfl rfl)
theorem dX1_call_22 : decode cX1_call 22 = .ok (.aload_n 2, 1) := dk_44 (dk_at dksX1_call_0 22 rfl rfl)
theorem dX1_call_23 : decode cX1_call 23 = .ok (.getfield 361, 3) := dk_180 1 105 (dk_at dksX1_call_1 0 rfl rfl)
theorem dX1_call_26 : decode cX1_call 26 = .ok (.invokevirtual 364, 3) := dk_182 1 108 (dk_at dksX1_call_1 3 rfl rfl)
theorem dX1_call_29 : decode cX1_call 29 = .ok (.ireturn, 1) := dk_172 (dk_at dksX1_call_1 6 rfl rfl)
abbrev cX1_days : ByteArray := prog_1_method_35_code
def yX1_days : MethodName := ⟨RX1, "days", "(I)I"⟩
def dkwX1_days_0 : List UInt8 := [27, 4, 16, 99, 184, 1, 79, 184, 1, 95, 42, 180, 0, 10, 27, 182, 0, 149, 172]
abbrev dktX1_days_0 : List UInt8 := dkwX1_days_0 ++ []
theorem dksX1_days_0 : cX1_days.data.toList.drop 0 = dktX1_days_0 := by decide +kernel
theorem dX1_days_0 : decode cX1_days 0 = .ok (.iload_n 1, 1) := dk_27 (dk_at dksX1_days_0 0 rfl rfl)
theorem dX1_days_1 : decode cX1_days 1 = .ok (.iconst 1, 1) := dk_4 (dk_at dksX1_days_0 1 rfl rfl)
theorem dX1_days_2 : decode cX1_days 2 = .ok (.bipush 99, 2) := dk_16 99 (dk_at dksX1_days_0 2 rfl rfl)
theorem dX1_days_4 : decode cX1_days 4 = .ok (.invokestatic 335, 3) := dk_184 1 79 (dk_at dksX1_days_0 4 rfl rfl)
theorem dX1_days_7 : decode cX1_days 7 = .ok (.invokestatic 351, 3) := dk_184 1 95 (dk_at dksX1_days_0 7 rfl rfl)
theorem dX1_days_10 : decode cX1_days 10 = .ok (.aload_n 0, 1) := dk_42 (dk_at dksX1_days_0 10 rfl rfl)
theorem dX1_days_11 : decode cX1_days 11 = .ok (.getfield 10, 3) := dk_180 0 10 (dk_at dksX1_days_0 11 rfl rfl)
theorem dX1_days_14 : decode cX1_days 14 = .ok (.iload_n 1, 1) := dk_27 (dk_at dksX1_days_0 14 rfl rfl)
theorem dX1_days_15 : decode cX1_days 15 = .ok (.invokevirtual 149, 3) := dk_182 0 149 (dk_at dksX1_days_0 15 rfl rfl)
theorem dX1_days_18 : decode cX1_days 18 = .ok (.ireturn, 1) := dk_172 (dk_at dksX1_days_0 18 rfl rfl)
abbrev cX1_look : ByteArray := prog_1_method_36_code
def yX1_look : MethodName := ⟨RX1, "look", "(II)I"⟩
def dkwX1_look_4 : List UInt8 := [180, 1, 123, 153, 0, 7, 4, 167, 0, 4, 3, 172]
abbrev dktX1_look_4 : List UInt8 := dkwX1_look_4 ++ []
def dkwX1_look_3 : List UInt8 := [2, 160, 0, 7, 3, 167, 0, 11, 45, 45, 180, 1, 105, 182, 1, 108, 172, 45, 182, 1, 120, 172, 45]
abbrev dktX1_look_3 : List UInt8 := dkwX1_look_3 ++ dktX1_look_4
def dkwX1_look_2 : List UInt8 := [45, 180, 1, 114, 172, 45, 180, 0, 142, 172, 45, 180, 1, 117, 172, 45, 180, 1, 105, 172, 45, 180, 0, 142]
abbrev dktX1_look_2 : List UInt8 := dkwX1_look_2 ++ dktX1_look_3
def dkwX1_look_1 : List UInt8 := [170, 0, 0, 0, 0, 0, 85, 0, 0, 0, 0, 0, 0, 0, 5, 0, 0, 0, 39, 0, 0, 0, 44, 0, 0, 0, 49, 0, 0, 0, 54, 0, 0, 0, 59, 0, 0, 0, 80]
abbrev dktX1_look_1 : List UInt8 := dkwX1_look_1 ++ dktX1_look_2
def dkwX1_look_0 : List UInt8 := [42, 27, 182, 1, 101, 78, 28, 16, 6, 184, 1, 111, 28]
abbrev dktX1_look_0 : List UInt8 := dkwX1_look_0 ++ dktX1_look_1
theorem dksX1_look_0 : cX1_look.data.toList.drop 0 = dktX1_look_0 := by decide +kernel
theorem dksX1_look_1 : cX1_look.data.toList.drop 13 = dktX1_look_1 := dk_seg dksX1_look_0 13 rfl rfl
theorem dksX1_look_2 : cX1_look.data.toList.drop 52 = dktX1_look_2 := dk_seg dksX1_look_1 39 rfl rfl
theorem dksX1_look_3 : cX1_look.data.toList.drop 76 = dktX1_look_3 := dk_seg dksX1_look_2 24 rfl rfl
theorem dksX1_look_4 : cX1_look.data.toList.drop 99 = dktX1_look_4 := dk_seg dksX1_look_3 23 rfl rfl
theorem dX1_look_0 : decode cX1_look 0 = .ok (.aload_n 0, 1) := dk_42 (dk_at dksX1_look_0 0 rfl rfl)
theorem dX1_look_1 : decode cX1_look 1 = .ok (.iload_n 1, 1) := dk_27 (dk_at dksX1_look_0 1 rfl rfl)
theorem dX1_look_2 : decode cX1_look 2 = .ok (.invokevirtual 357, 3) := dk_182 1 101 (dk_at dksX1_look_0 2 rfl rfl)
theorem dX1_look_5 : decode cX1_look 5 = .ok (.astore_n 3, 1) := dk_78 (dk_at dksX1_look_0 5 rfl rfl)
theorem dX1_look_6 : decode cX1_look 6 = .ok (.iload_n 2, 1) := dk_28 (dk_at dksX1_look_0 6 rfl rfl)
theorem dX1_look_7 : decode cX1_look 7 = .ok (.bipush 6, 2) := dk_16 6 (dk_at dksX1_look_0 7 rfl rfl)
theorem dX1_look_9 : decode cX1_look 9 = .ok (.invokestatic 367, 3) := dk_184 1 111 (dk_at dksX1_look_0 9 rfl rfl)
theorem dX1_look_12 : decode cX1_look 12 = .ok (.iload_n 2, 1) := dk_28 (dk_at dksX1_look_0 12 rfl rfl)
theorem dX1_look_13 : decode cX1_look 13 = .ok (.tableswitch 85 0 5 #[39, 44, 49, 54, 59, 80], 39) := by decide +kernel
theorem dX1_look_52 : decode cX1_look 52 = .ok (.aload_n 3, 1) := dk_45 (dk_at dksX1_look_2 0 rfl rfl)
theorem dX1_look_53 : decode cX1_look 53 = .ok (.getfield 370, 3) := dk_180 1 114 (dk_at dksX1_look_2 1 rfl rfl)
theorem dX1_look_56 : decode cX1_look 56 = .ok (.ireturn, 1) := dk_172 (dk_at dksX1_look_2 4 rfl rfl)
theorem dX1_look_57 : decode cX1_look 57 = .ok (.aload_n 3, 1) := dk_45 (dk_at dksX1_look_2 5 rfl rfl)
theorem dX1_look_58 : decode cX1_look 58 = .ok (.getfield 142, 3) := dk_180 0 142 (dk_at dksX1_look_2 6 rfl rfl)
theorem dX1_look_61 : decode cX1_look 61 = .ok (.ireturn, 1) := dk_172 (dk_at dksX1_look_2 9 rfl rfl)
theorem dX1_look_62 : decode cX1_look 62 = .ok (.aload_n 3, 1) := dk_45 (dk_at dksX1_look_2 10 rfl rfl)
theorem dX1_look_63 : decode cX1_look 63 = .ok (.getfield 373, 3) := dk_180 1 117 (dk_at dksX1_look_2 11 rfl rfl)
theorem dX1_look_66 : decode cX1_look 66 = .ok (.ireturn, 1) := dk_172 (dk_at dksX1_look_2 14 rfl rfl)
theorem dX1_look_67 : decode cX1_look 67 = .ok (.aload_n 3, 1) := dk_45 (dk_at dksX1_look_2 15 rfl rfl)
theorem dX1_look_68 : decode cX1_look 68 = .ok (.getfield 361, 3) := dk_180 1 105 (dk_at dksX1_look_2 16 rfl rfl)
theorem dX1_look_71 : decode cX1_look 71 = .ok (.ireturn, 1) := dk_172 (dk_at dksX1_look_2 19 rfl rfl)
theorem dX1_look_72 : decode cX1_look 72 = .ok (.aload_n 3, 1) := dk_45 (dk_at dksX1_look_2 20 rfl rfl)
theorem dX1_look_73 : decode cX1_look 73 = .ok (.getfield 142, 3) := dk_180 0 142 (dk_at dksX1_look_2 21 rfl rfl)
theorem dX1_look_76 : decode cX1_look 76 = .ok (.iconst (-1), 1) := dk_2 (dk_at dksX1_look_3 0 rfl rfl)
theorem dX1_look_77 : decode cX1_look 77 = .ok (.if_icmp .ne 7, 3) := dk_160 0 7 (dk_at dksX1_look_3 1 rfl rfl)
theorem dX1_look_80 : decode cX1_look 80 = .ok (.iconst 0, 1) := dk_3 (dk_at dksX1_look_3 4 rfl rfl)
theorem dX1_look_81 : decode cX1_look 81 = .ok (.goto 11, 3) := dk_167 0 11 (dk_at dksX1_look_3 5 rfl rfl)
theorem dX1_look_84 : decode cX1_look 84 = .ok (.aload_n 3, 1) := dk_45 (dk_at dksX1_look_3 8 rfl rfl)
theorem dX1_look_85 : decode cX1_look 85 = .ok (.aload_n 3, 1) := dk_45 (dk_at dksX1_look_3 9 rfl rfl)
theorem dX1_look_86 : decode cX1_look 86 = .ok (.getfield 361, 3) := dk_180 1 105 (dk_at dksX1_look_3 10 rfl rfl)
theorem dX1_look_89 : decode cX1_look 89 = .ok (.invokevirtual 364, 3) := dk_182 1 108 (dk_at dksX1_look_3 13 rfl rfl)
theorem dX1_look_92 : decode cX1_look 92 = .ok (.ireturn, 1) := dk_172 (dk_at dksX1_look_3 16 rfl rfl)
theorem dX1_look_93 : decode cX1_look 93 = .ok (.aload_n 3, 1) := dk_45 (dk_at dksX1_look_3 17 rfl rfl)
theorem dX1_look_94 : decode cX1_look 94 = .ok (.invokevirtual 376, 3) := dk_182 1 120 (dk_at dksX1_look_3 18 rfl rfl)
theorem dX1_look_97 : decode cX1_look 97 = .ok (.ireturn, 1) := dk_172 (dk_at dksX1_look_3 21 rfl rfl)
theorem dX1_look_98 : decode cX1_look 98 = .ok (.aload_n 3, 1) := dk_45 (dk_at dksX1_look_3 22 rfl rfl)
theorem dX1_look_99 : decode cX1_look 99 = .ok (.getfield 379, 3) := dk_180 1 123 (dk_at dksX1_look_4 0 rfl rfl)
theorem dX1_look_102 : decode cX1_look 102 = .ok (.ifCond .eq 7, 3) := dk_153 0 7 (dk_at dksX1_look_4 3 rfl rfl)
theorem dX1_look_105 : decode cX1_look 105 = .ok (.iconst 1, 1) := dk_4 (dk_at dksX1_look_4 6 rfl rfl)
theorem dX1_look_106 : decode cX1_look 106 = .ok (.goto 4, 3) := dk_167 0 4 (dk_at dksX1_look_4 7 rfl rfl)
theorem dX1_look_109 : decode cX1_look 109 = .ok (.iconst 0, 1) := dk_3 (dk_at dksX1_look_4 10 rfl rfl)
theorem dX1_look_110 : decode cX1_look 110 = .ok (.ireturn, 1) := dk_172 (dk_at dksX1_look_4 11 rfl rfl)
abbrev cX1_asked : ByteArray := prog_1_method_29_code
def yX1_asked : MethodName := ⟨RX1, "asked", "(II)V"⟩
def dkwX1_asked_0 : List UInt8 := [26, 3, 27, 184, 1, 79, 154, 0, 11, 187, 1, 89, 89, 183, 1, 91, 191, 177]
abbrev dktX1_asked_0 : List UInt8 := dkwX1_asked_0 ++ []
theorem dksX1_asked_0 : cX1_asked.data.toList.drop 0 = dktX1_asked_0 := by decide +kernel
theorem dX1_asked_0 : decode cX1_asked 0 = .ok (.iload_n 0, 1) := dk_26 (dk_at dksX1_asked_0 0 rfl rfl)
theorem dX1_asked_1 : decode cX1_asked 1 = .ok (.iconst 0, 1) := dk_3 (dk_at dksX1_asked_0 1 rfl rfl)
theorem dX1_asked_2 : decode cX1_asked 2 = .ok (.iload_n 1, 1) := dk_27 (dk_at dksX1_asked_0 2 rfl rfl)
theorem dX1_asked_3 : decode cX1_asked 3 = .ok (.invokestatic 335, 3) := dk_184 1 79 (dk_at dksX1_asked_0 3 rfl rfl)
theorem dX1_asked_6 : decode cX1_asked 6 = .ok (.ifCond .ne 11, 3) := dk_154 0 11 (dk_at dksX1_asked_0 6 rfl rfl)
theorem dX1_asked_9 : decode cX1_asked 9 = .ok (.new 345, 3) := dk_187 1 89 (dk_at dksX1_asked_0 9 rfl rfl)
theorem dX1_asked_12 : decode cX1_asked 12 = .ok (.dup, 1) := dk_89 (dk_at dksX1_asked_0 12 rfl rfl)
theorem dX1_asked_13 : decode cX1_asked 13 = .ok (.invokespecial 347, 3) := dk_183 1 91 (dk_at dksX1_asked_0 13 rfl rfl)
theorem dX1_asked_16 : decode cX1_asked 16 = .ok (.athrow, 1) := dk_191 (dk_at dksX1_asked_0 16 rfl rfl)
theorem dX1_asked_17 : decode cX1_asked 17 = .ok (.return_, 1) := dk_177 (dk_at dksX1_asked_0 17 rfl rfl)
abbrev cX1_hand : ByteArray := prog_1_method_37_code
def yX1_hand : MethodName := ⟨RX1, "hand", "(II)I"⟩
def dkwX1_hand_1 : List UInt8 := [28, 46, 167, 0, 4, 2, 172]
abbrev dktX1_hand_1 : List UInt8 := dkwX1_hand_1 ++ []
def dkwX1_hand_0 : List UInt8 := [42, 27, 182, 1, 101, 78, 28, 3, 45, 180, 1, 105, 4, 96, 184, 1, 79, 153, 0, 12, 45, 180, 1, 126]
abbrev dktX1_hand_0 : List UInt8 := dkwX1_hand_0 ++ dktX1_hand_1
theorem dksX1_hand_0 : cX1_hand.data.toList.drop 0 = dktX1_hand_0 := by decide +kernel
theorem dksX1_hand_1 : cX1_hand.data.toList.drop 24 = dktX1_hand_1 := dk_seg dksX1_hand_0 24 rfl rfl
theorem dX1_hand_0 : decode cX1_hand 0 = .ok (.aload_n 0, 1) := dk_42 (dk_at dksX1_hand_0 0 rfl rfl)
theorem dX1_hand_1 : decode cX1_hand 1 = .ok (.iload_n 1, 1) := dk_27 (dk_at dksX1_hand_0 1 rfl rfl)
theorem dX1_hand_2 : decode cX1_hand 2 = .ok (.invokevirtual 357, 3) := dk_182 1 101 (dk_at dksX1_hand_0 2 rfl rfl)
theorem dX1_hand_5 : decode cX1_hand 5 = .ok (.astore_n 3, 1) := dk_78 (dk_at dksX1_hand_0 5 rfl rfl)
theorem dX1_hand_6 : decode cX1_hand 6 = .ok (.iload_n 2, 1) := dk_28 (dk_at dksX1_hand_0 6 rfl rfl)
theorem dX1_hand_7 : decode cX1_hand 7 = .ok (.iconst 0, 1) := dk_3 (dk_at dksX1_hand_0 7 rfl rfl)
theorem dX1_hand_8 : decode cX1_hand 8 = .ok (.aload_n 3, 1) := dk_45 (dk_at dksX1_hand_0 8 rfl rfl)
theorem dX1_hand_9 : decode cX1_hand 9 = .ok (.getfield 361, 3) := dk_180 1 105 (dk_at dksX1_hand_0 9 rfl rfl)
theorem dX1_hand_12 : decode cX1_hand 12 = .ok (.iconst 1, 1) := dk_4 (dk_at dksX1_hand_0 12 rfl rfl)
theorem dX1_hand_13 : decode cX1_hand 13 = .ok (.iadd, 1) := dk_96 (dk_at dksX1_hand_0 13 rfl rfl)
theorem dX1_hand_14 : decode cX1_hand 14 = .ok (.invokestatic 335, 3) := dk_184 1 79 (dk_at dksX1_hand_0 14 rfl rfl)
theorem dX1_hand_17 : decode cX1_hand 17 = .ok (.ifCond .eq 12, 3) := dk_153 0 12 (dk_at dksX1_hand_0 17 rfl rfl)
theorem dX1_hand_20 : decode cX1_hand 20 = .ok (.aload_n 3, 1) := dk_45 (dk_at dksX1_hand_0 20 rfl rfl)
theorem dX1_hand_21 : decode cX1_hand 21 = .ok (.getfield 382, 3) := dk_180 1 126 (dk_at dksX1_hand_0 21 rfl rfl)
theorem dX1_hand_24 : decode cX1_hand 24 = .ok (.iload_n 2, 1) := dk_28 (dk_at dksX1_hand_1 0 rfl rfl)
theorem dX1_hand_25 : decode cX1_hand 25 = .ok (.iaload, 1) := dk_46 (dk_at dksX1_hand_1 1 rfl rfl)
theorem dX1_hand_26 : decode cX1_hand 26 = .ok (.goto 4, 3) := dk_167 0 4 (dk_at dksX1_hand_1 2 rfl rfl)
theorem dX1_hand_29 : decode cX1_hand 29 = .ok (.iconst (-1), 1) := dk_2 (dk_at dksX1_hand_1 5 rfl rfl)
theorem dX1_hand_30 : decode cX1_hand 30 = .ok (.ireturn, 1) := dk_172 (dk_at dksX1_hand_1 6 rfl rfl)
abbrev cX1_takes : ByteArray := prog_1_method_38_code
def yX1_takes : MethodName := ⟨RX1, "takes", "(II)Z"⟩
def dkwX1_takes_0 : List UInt8 := [42, 27, 182, 1, 92, 42, 28, 182, 1, 101, 78, 42, 180, 0, 10, 27, 45, 182, 1, 128, 172]
abbrev dktX1_takes_0 : List UInt8 := dkwX1_takes_0 ++ []
theorem dksX1_takes_0 : cX1_takes.data.toList.drop 0 = dktX1_takes_0 := by decide +kernel
theorem dX1_takes_0 : decode cX1_takes 0 = .ok (.aload_n 0, 1) := dk_42 (dk_at dksX1_takes_0 0 rfl rfl)
theorem dX1_takes_1 : decode cX1_takes 1 = .ok (.iload_n 1, 1) := dk_27 (dk_at dksX1_takes_0 1 rfl rfl)
theorem dX1_takes_2 : decode cX1_takes 2 = .ok (.invokevirtual 348, 3) := dk_182 1 92 (dk_at dksX1_takes_0 2 rfl rfl)
theorem dX1_takes_5 : decode cX1_takes 5 = .ok (.aload_n 0, 1) := dk_42 (dk_at dksX1_takes_0 5 rfl rfl)
theorem dX1_takes_6 : decode cX1_takes 6 = .ok (.iload_n 2, 1) := dk_28 (dk_at dksX1_takes_0 6 rfl rfl)
theorem dX1_takes_7 : decode cX1_takes 7 = .ok (.invokevirtual 357, 3) := dk_182 1 101 (dk_at dksX1_takes_0 7 rfl rfl)
theorem dX1_takes_10 : decode cX1_takes 10 = .ok (.astore_n 3, 1) := dk_78 (dk_at dksX1_takes_0 10 rfl rfl)
theorem dX1_takes_11 : decode cX1_takes 11 = .ok (.aload_n 0, 1) := dk_42 (dk_at dksX1_takes_0 11 rfl rfl)
theorem dX1_takes_12 : decode cX1_takes 12 = .ok (.getfield 10, 3) := dk_180 0 10 (dk_at dksX1_takes_0 12 rfl rfl)
theorem dX1_takes_15 : decode cX1_takes 15 = .ok (.iload_n 1, 1) := dk_27 (dk_at dksX1_takes_0 15 rfl rfl)
theorem dX1_takes_16 : decode cX1_takes 16 = .ok (.aload_n 3, 1) := dk_45 (dk_at dksX1_takes_0 16 rfl rfl)
theorem dX1_takes_17 : decode cX1_takes 17 = .ok (.invokevirtual 384, 3) := dk_182 1 128 (dk_at dksX1_takes_0 17 rfl rfl)
theorem dX1_takes_20 : decode cX1_takes 20 = .ok (.ireturn, 1) := dk_172 (dk_at dksX1_takes_0 20 rfl rfl)
abbrev cX1_rich : ByteArray := prog_1_method_39_code
def yX1_rich : MethodName := ⟨RX1, "rich", "(I)I"⟩
def dkwX1_rich_0 : List UInt8 := [42, 27, 182, 1, 92, 42, 180, 0, 10, 27, 182, 1, 132, 172]
abbrev dktX1_rich_0 : List UInt8 := dkwX1_rich_0 ++ []
theorem dksX1_rich_0 : cX1_rich.data.toList.drop 0 = dktX1_rich_0 := by decide +kernel
theorem dX1_rich_0 : decode cX1_rich 0 = .ok (.aload_n 0, 1) := dk_42 (dk_at dksX1_rich_0 0 rfl rfl)
theorem dX1_rich_1 : decode cX1_rich 1 = .ok (.iload_n 1, 1) := dk_27 (dk_at dksX1_rich_0 1 rfl rfl)
theorem dX1_rich_2 : decode cX1_rich 2 = .ok (.invokevirtual 348, 3) := dk_182 1 92 (dk_at dksX1_rich_0 2 rfl rfl)
theorem dX1_rich_5 : decode cX1_rich 5 = .ok (.aload_n 0, 1) := dk_42 (dk_at dksX1_rich_0 5 rfl rfl)
theorem dX1_rich_6 : decode cX1_rich 6 = .ok (.getfield 10, 3) := dk_180 0 10 (dk_at dksX1_rich_0 6 rfl rfl)
theorem dX1_rich_9 : decode cX1_rich 9 = .ok (.iload_n 1, 1) := dk_27 (dk_at dksX1_rich_0 9 rfl rfl)
theorem dX1_rich_10 : decode cX1_rich 10 = .ok (.invokevirtual 388, 3) := dk_182 1 132 (dk_at dksX1_rich_0 10 rfl rfl)
theorem dX1_rich_13 : decode cX1_rich 13 = .ok (.ireturn, 1) := dk_172 (dk_at dksX1_rich_0 13 rfl rfl)
abbrev cX1_debt : ByteArray := prog_1_method_40_code
def yX1_debt : MethodName := ⟨RX1, "debt", "(I)I"⟩
def dkwX1_debt_0 : List UInt8 := [42, 27, 182, 1, 92, 42, 180, 0, 10, 27, 182, 1, 135, 172]
abbrev dktX1_debt_0 : List UInt8 := dkwX1_debt_0 ++ []
theorem dksX1_debt_0 : cX1_debt.data.toList.drop 0 = dktX1_debt_0 := by decide +kernel
theorem dX1_debt_0 : decode cX1_debt 0 = .ok (.aload_n 0, 1) := dk_42 (dk_at dksX1_debt_0 0 rfl rfl)
theorem dX1_debt_1 : decode cX1_debt 1 = .ok (.iload_n 1, 1) := dk_27 (dk_at dksX1_debt_0 1 rfl rfl)
theorem dX1_debt_2 : decode cX1_debt 2 = .ok (.invokevirtual 348, 3) := dk_182 1 92 (dk_at dksX1_debt_0 2 rfl rfl)
theorem dX1_debt_5 : decode cX1_debt 5 = .ok (.aload_n 0, 1) := dk_42 (dk_at dksX1_debt_0 5 rfl rfl)
theorem dX1_debt_6 : decode cX1_debt 6 = .ok (.getfield 10, 3) := dk_180 0 10 (dk_at dksX1_debt_0 6 rfl rfl)
theorem dX1_debt_9 : decode cX1_debt 9 = .ok (.iload_n 1, 1) := dk_27 (dk_at dksX1_debt_0 9 rfl rfl)
theorem dX1_debt_10 : decode cX1_debt 10 = .ok (.invokevirtual 391, 3) := dk_182 1 135 (dk_at dksX1_debt_0 10 rfl rfl)
theorem dX1_debt_13 : decode cX1_debt 13 = .ok (.ireturn, 1) := dk_172 (dk_at dksX1_debt_0 13 rfl rfl)
abbrev cX1_owes : ByteArray := prog_1_method_41_code
def yX1_owes : MethodName := ⟨RX1, "owes", "(II)I"⟩
def dkwX1_owes_0 : List UInt8 := [42, 27, 182, 1, 92, 42, 28, 182, 1, 92, 42, 180, 0, 10, 27, 28, 182, 1, 138, 172]
abbrev dktX1_owes_0 : List UInt8 := dkwX1_owes_0 ++ []
theorem dksX1_owes_0 : cX1_owes.data.toList.drop 0 = dktX1_owes_0 := by decide +kernel
theorem dX1_owes_0 : decode cX1_owes 0 = .ok (.aload_n 0, 1) := dk_42 (dk_at dksX1_owes_0 0 rfl rfl)
theorem dX1_owes_1 : decode cX1_owes 1 = .ok (.iload_n 1, 1) := dk_27 (dk_at dksX1_owes_0 1 rfl rfl)
theorem dX1_owes_2 : decode cX1_owes 2 = .ok (.invokevirtual 348, 3) := dk_182 1 92 (dk_at dksX1_owes_0 2 rfl rfl)
theorem dX1_owes_5 : decode cX1_owes 5 = .ok (.aload_n 0, 1) := dk_42 (dk_at dksX1_owes_0 5 rfl rfl)
theorem dX1_owes_6 : decode cX1_owes 6 = .ok (.iload_n 2, 1) := dk_28 (dk_at dksX1_owes_0 6 rfl rfl)
theorem dX1_owes_7 : decode cX1_owes 7 = .ok (.invokevirtual 348, 3) := dk_182 1 92 (dk_at dksX1_owes_0 7 rfl rfl)
theorem dX1_owes_10 : decode cX1_owes 10 = .ok (.aload_n 0, 1) := dk_42 (dk_at dksX1_owes_0 10 rfl rfl)
theorem dX1_owes_11 : decode cX1_owes 11 = .ok (.getfield 10, 3) := dk_180 0 10 (dk_at dksX1_owes_0 11 rfl rfl)
theorem dX1_owes_14 : decode cX1_owes 14 = .ok (.iload_n 1, 1) := dk_27 (dk_at dksX1_owes_0 14 rfl rfl)
theorem dX1_owes_15 : decode cX1_owes 15 = .ok (.iload_n 2, 1) := dk_28 (dk_at dksX1_owes_0 15 rfl rfl)
theorem dX1_owes_16 : decode cX1_owes 16 = .ok (.invokevirtual 394, 3) := dk_182 1 138 (dk_at dksX1_owes_0 16 rfl rfl)
theorem dX1_owes_19 : decode cX1_owes 19 = .ok (.ireturn, 1) := dk_172 (dk_at dksX1_owes_0 19 rfl rfl)
abbrev cX1_pays : ByteArray := prog_1_method_42_code
def yX1_pays : MethodName := ⟨RX1, "pays", "(III)I"⟩
def dkwX1_pays_1 : List UInt8 := [182, 1, 141, 172]
abbrev dktX1_pays_1 : List UInt8 := dkwX1_pays_1 ++ []
def dkwX1_pays_0 : List UInt8 := [42, 27, 28, 182, 1, 98, 29, 4, 16, 99, 184, 1, 79, 184, 1, 95, 42, 180, 0, 10, 27, 28, 29]
abbrev dktX1_pays_0 : List UInt8 := dkwX1_pays_0 ++ dktX1_pays_1
theorem dksX1_pays_0 : cX1_pays.data.toList.drop 0 = dktX1_pays_0 := by decide +kernel
theorem dksX1_pays_1 : cX1_pays.data.toList.drop 23 = dktX1_pays_1 := dk_seg dksX1_pays_0 23 rfl rfl
theorem dX1_pays_0 : decode cX1_pays 0 = .ok (.aload_n 0, 1) := dk_42 (dk_at dksX1_pays_0 0 rfl rfl)
theorem dX1_pays_1 : decode cX1_pays 1 = .ok (.iload_n 1, 1) := dk_27 (dk_at dksX1_pays_0 1 rfl rfl)
theorem dX1_pays_2 : decode cX1_pays 2 = .ok (.iload_n 2, 1) := dk_28 (dk_at dksX1_pays_0 2 rfl rfl)
theorem dX1_pays_3 : decode cX1_pays 3 = .ok (.invokevirtual 354, 3) := dk_182 1 98 (dk_at dksX1_pays_0 3 rfl rfl)
theorem dX1_pays_6 : decode cX1_pays 6 = .ok (.iload_n 3, 1) := dk_29 (dk_at dksX1_pays_0 6 rfl rfl)
theorem dX1_pays_7 : decode cX1_pays 7 = .ok (.iconst 1, 1) := dk_4 (dk_at dksX1_pays_0 7 rfl rfl)
theorem dX1_pays_8 : decode cX1_pays 8 = .ok (.bipush 99, 2) := dk_16 99 (dk_at dksX1_pays_0 8 rfl rfl)
theorem dX1_pays_10 : decode cX1_pays 10 = .ok (.invokestatic 335, 3) := dk_184 1 79 (dk_at dksX1_pays_0 10 rfl rfl)
theorem dX1_pays_13 : decode cX1_pays 13 = .ok (.invokestatic 351, 3) := dk_184 1 95 (dk_at dksX1_pays_0 13 rfl rfl)
theorem dX1_pays_16 : decode cX1_pays 16 = .ok (.aload_n 0, 1) := dk_42 (dk_at dksX1_pays_0 16 rfl rfl)
theorem dX1_pays_17 : decode cX1_pays 17 = .ok (.getfield 10, 3) := dk_180 0 10 (dk_at dksX1_pays_0 17 rfl rfl)
theorem dX1_pays_20 : decode cX1_pays 20 = .ok (.iload_n 1, 1) := dk_27 (dk_at dksX1_pays_0 20 rfl rfl)
theorem dX1_pays_21 : decode cX1_pays 21 = .ok (.iload_n 2, 1) := dk_28 (dk_at dksX1_pays_0 21 rfl rfl)
theorem dX1_pays_22 : decode cX1_pays 22 = .ok (.iload_n 3, 1) := dk_29 (dk_at dksX1_pays_0 22 rfl rfl)
theorem dX1_pays_23 : decode cX1_pays 23 = .ok (.invokevirtual 397, 3) := dk_182 1 141 (dk_at dksX1_pays_1 0 rfl rfl)
theorem dX1_pays_26 : decode cX1_pays 26 = .ok (.ireturn, 1) := dk_172 (dk_at dksX1_pays_1 3 rfl rfl)
abbrev cX1_can : ByteArray := prog_1_method_44_code
def yX1_can : MethodName := ⟨RX1, "can", "(I)Z"⟩
def dkwX1_can_1 : List UInt8 := [182, 1, 157, 172]
abbrev dktX1_can_1 : List UInt8 := dkwX1_can_1 ++ []
def dkwX1_can_0 : List UInt8 := [42, 27, 182, 1, 145, 77, 42, 180, 0, 10, 44, 180, 1, 149, 44, 180, 1, 152, 44, 180, 1, 154]
abbrev dktX1_can_0 : List UInt8 := dkwX1_can_0 ++ dktX1_can_1
theorem dksX1_can_0 : cX1_can.data.toList.drop 0 = dktX1_can_0 := by decide +kernel
theorem dksX1_can_1 : cX1_can.data.toList.drop 22 = dktX1_can_1 := dk_seg dksX1_can_0 22 rfl rfl
theorem dX1_can_0 : decode cX1_can 0 = .ok (.aload_n 0, 1) := dk_42 (dk_at dksX1_can_0 0 rfl rfl)
theorem dX1_can_1 : decode cX1_can 1 = .ok (.iload_n 1, 1) := dk_27 (dk_at dksX1_can_0 1 rfl rfl)
theorem dX1_can_2 : decode cX1_can 2 = .ok (.invokevirtual 401, 3) := dk_182 1 145 (dk_at dksX1_can_0 2 rfl rfl)
theorem dX1_can_5 : decode cX1_can 5 = .ok (.astore_n 2, 1) := dk_77 (dk_at dksX1_can_0 5 rfl rfl)
theorem dX1_can_6 : decode cX1_can 6 = .ok (.aload_n 0, 1) := dk_42 (dk_at dksX1_can_0 6 rfl rfl)
theorem dX1_can_7 : decode cX1_can 7 = .ok (.getfield 10, 3) := dk_180 0 10 (dk_at dksX1_can_0 7 rfl rfl)
theorem dX1_can_10 : decode cX1_can 10 = .ok (.aload_n 2, 1) := dk_44 (dk_at dksX1_can_0 10 rfl rfl)
theorem dX1_can_11 : decode cX1_can 11 = .ok (.getfield 405, 3) := dk_180 1 149 (dk_at dksX1_can_0 11 rfl rfl)
theorem dX1_can_14 : decode cX1_can 14 = .ok (.aload_n 2, 1) := dk_44 (dk_at dksX1_can_0 14 rfl rfl)
theorem dX1_can_15 : decode cX1_can 15 = .ok (.getfield 408, 3) := dk_180 1 152 (dk_at dksX1_can_0 15 rfl rfl)
theorem dX1_can_18 : decode cX1_can 18 = .ok (.aload_n 2, 1) := dk_44 (dk_at dksX1_can_0 18 rfl rfl)
theorem dX1_can_19 : decode cX1_can 19 = .ok (.getfield 410, 3) := dk_180 1 154 (dk_at dksX1_can_0 19 rfl rfl)
theorem dX1_can_22 : decode cX1_can 22 = .ok (.invokevirtual 413, 3) := dk_182 1 157 (dk_at dksX1_can_1 0 rfl rfl)
theorem dX1_can_25 : decode cX1_can 25 = .ok (.ireturn, 1) := dk_172 (dk_at dksX1_can_1 3 rfl rfl)
abbrev cX1_needAt : ByteArray := prog_1_method_43_code
def yX1_needAt : MethodName := ⟨RX1, "needAt", "(I)LFavourTown$Need;"⟩
def dkwX1_needAt_1 : List UInt8 := [182, 0, 90, 192, 0, 157, 176]
abbrev dktX1_needAt_1 : List UInt8 := dkwX1_needAt_1 ++ []
def dkwX1_needAt_0 : List UInt8 := [27, 42, 180, 0, 10, 180, 0, 152, 182, 0, 84, 184, 1, 86, 42, 180, 0, 10, 180, 0, 152, 27]
abbrev dktX1_needAt_0 : List UInt8 := dkwX1_needAt_0 ++ dktX1_needAt_1
theorem dksX1_needAt_0 : cX1_needAt.data.toList.drop 0 = dktX1_needAt_0 := by decide +kernel
theorem dksX1_needAt_1 : cX1_needAt.data.toList.drop 22 = dktX1_needAt_1 := dk_seg dksX1_needAt_0 22 rfl rfl
theorem dX1_needAt_0 : decode cX1_needAt 0 = .ok (.iload_n 1, 1) := dk_27 (dk_at dksX1_needAt_0 0 rfl rfl)
theorem dX1_needAt_1 : decode cX1_needAt 1 = .ok (.aload_n 0, 1) := dk_42 (dk_at dksX1_needAt_0 1 rfl rfl)
theorem dX1_needAt_2 : decode cX1_needAt 2 = .ok (.getfield 10, 3) := dk_180 0 10 (dk_at dksX1_needAt_0 2 rfl rfl)
theorem dX1_needAt_5 : decode cX1_needAt 5 = .ok (.getfield 152, 3) := dk_180 0 152 (dk_at dksX1_needAt_0 5 rfl rfl)
theorem dX1_needAt_8 : decode cX1_needAt 8 = .ok (.invokevirtual 84, 3) := dk_182 0 84 (dk_at dksX1_needAt_0 8 rfl rfl)
theorem dX1_needAt_11 : decode cX1_needAt 11 = .ok (.invokestatic 342, 3) := dk_184 1 86 (dk_at dksX1_needAt_0 11 rfl rfl)
theorem dX1_needAt_14 : decode cX1_needAt 14 = .ok (.aload_n 0, 1) := dk_42 (dk_at dksX1_needAt_0 14 rfl rfl)
theorem dX1_needAt_15 : decode cX1_needAt 15 = .ok (.getfield 10, 3) := dk_180 0 10 (dk_at dksX1_needAt_0 15 rfl rfl)
theorem dX1_needAt_18 : decode cX1_needAt 18 = .ok (.getfield 152, 3) := dk_180 0 152 (dk_at dksX1_needAt_0 18 rfl rfl)
theorem dX1_needAt_21 : decode cX1_needAt 21 = .ok (.iload_n 1, 1) := dk_27 (dk_at dksX1_needAt_0 21 rfl rfl)
theorem dX1_needAt_22 : decode cX1_needAt 22 = .ok (.invokevirtual 90, 3) := dk_182 0 90 (dk_at dksX1_needAt_1 0 rfl rfl)
theorem dX1_needAt_25 : decode cX1_needAt 25 = .ok (.checkcast 157, 3) := dk_192 0 157 (dk_at dksX1_needAt_1 3 rfl rfl)
theorem dX1_needAt_28 : decode cX1_needAt 28 = .ok (.areturn, 1) := dk_176 (dk_at dksX1_needAt_1 6 rfl rfl)
abbrev cX1_meet : ByteArray := prog_1_method_45_code
def yX1_meet : MethodName := ⟨RX1, "meet", "(I)I"⟩
def dkwX1_meet_1 : List UInt8 := [182, 1, 160, 172]
abbrev dktX1_meet_1 : List UInt8 := dkwX1_meet_1 ++ []
def dkwX1_meet_0 : List UInt8 := [42, 27, 182, 1, 145, 77, 42, 180, 0, 10, 44, 180, 1, 149, 44, 180, 1, 152, 44, 180, 1, 154]
abbrev dktX1_meet_0 : List UInt8 := dkwX1_meet_0 ++ dktX1_meet_1
theorem dksX1_meet_0 : cX1_meet.data.toList.drop 0 = dktX1_meet_0 := by decide +kernel
theorem dksX1_meet_1 : cX1_meet.data.toList.drop 22 = dktX1_meet_1 := dk_seg dksX1_meet_0 22 rfl rfl
theorem dX1_meet_0 : decode cX1_meet 0 = .ok (.aload_n 0, 1) := dk_42 (dk_at dksX1_meet_0 0 rfl rfl)
theorem dX1_meet_1 : decode cX1_meet 1 = .ok (.iload_n 1, 1) := dk_27 (dk_at dksX1_meet_0 1 rfl rfl)
theorem dX1_meet_2 : decode cX1_meet 2 = .ok (.invokevirtual 401, 3) := dk_182 1 145 (dk_at dksX1_meet_0 2 rfl rfl)
theorem dX1_meet_5 : decode cX1_meet 5 = .ok (.astore_n 2, 1) := dk_77 (dk_at dksX1_meet_0 5 rfl rfl)
theorem dX1_meet_6 : decode cX1_meet 6 = .ok (.aload_n 0, 1) := dk_42 (dk_at dksX1_meet_0 6 rfl rfl)
theorem dX1_meet_7 : decode cX1_meet 7 = .ok (.getfield 10, 3) := dk_180 0 10 (dk_at dksX1_meet_0 7 rfl rfl)
theorem dX1_meet_10 : decode cX1_meet 10 = .ok (.aload_n 2, 1) := dk_44 (dk_at dksX1_meet_0 10 rfl rfl)
theorem dX1_meet_11 : decode cX1_meet 11 = .ok (.getfield 405, 3) := dk_180 1 149 (dk_at dksX1_meet_0 11 rfl rfl)
theorem dX1_meet_14 : decode cX1_meet 14 = .ok (.aload_n 2, 1) := dk_44 (dk_at dksX1_meet_0 14 rfl rfl)
theorem dX1_meet_15 : decode cX1_meet 15 = .ok (.getfield 408, 3) := dk_180 1 152 (dk_at dksX1_meet_0 15 rfl rfl)
theorem dX1_meet_18 : decode cX1_meet 18 = .ok (.aload_n 2, 1) := dk_44 (dk_at dksX1_meet_0 18 rfl rfl)
theorem dX1_meet_19 : decode cX1_meet 19 = .ok (.getfield 410, 3) := dk_180 1 154 (dk_at dksX1_meet_0 19 rfl rfl)
theorem dX1_meet_22 : decode cX1_meet 22 = .ok (.invokevirtual 416, 3) := dk_182 1 160 (dk_at dksX1_meet_1 0 rfl rfl)
theorem dX1_meet_25 : decode cX1_meet 25 = .ok (.ireturn, 1) := dk_172 (dk_at dksX1_meet_1 3 rfl rfl)
abbrev cX1_port : ByteArray := prog_1_method_50_code
def yX1_port : MethodName := ⟨RX1, "port", "(II)I"⟩
def dkwX1_port_0 : List UInt8 := [42, 27, 28, 182, 1, 98, 42, 180, 0, 10, 27, 28, 182, 1, 171, 172]
abbrev dktX1_port_0 : List UInt8 := dkwX1_port_0 ++ []
theorem dksX1_port_0 : cX1_port.data.toList.drop 0 = dktX1_port_0 := by decide +kernel
theorem dX1_port_0 : decode cX1_port 0 = .ok (.aload_n 0, 1) := dk_42 (dk_at dksX1_port_0 0 rfl rfl)
theorem dX1_port_1 : decode cX1_port 1 = .ok (.iload_n 1, 1) := dk_27 (dk_at dksX1_port_0 1 rfl rfl)
theorem dX1_port_2 : decode cX1_port 2 = .ok (.iload_n 2, 1) := dk_28 (dk_at dksX1_port_0 2 rfl rfl)
theorem dX1_port_3 : decode cX1_port 3 = .ok (.invokevirtual 354, 3) := dk_182 1 98 (dk_at dksX1_port_0 3 rfl rfl)
theorem dX1_port_6 : decode cX1_port 6 = .ok (.aload_n 0, 1) := dk_42 (dk_at dksX1_port_0 6 rfl rfl)
theorem dX1_port_7 : decode cX1_port 7 = .ok (.getfield 10, 3) := dk_180 0 10 (dk_at dksX1_port_0 7 rfl rfl)
theorem dX1_port_10 : decode cX1_port 10 = .ok (.iload_n 1, 1) := dk_27 (dk_at dksX1_port_0 10 rfl rfl)
theorem dX1_port_11 : decode cX1_port 11 = .ok (.iload_n 2, 1) := dk_28 (dk_at dksX1_port_0 11 rfl rfl)
theorem dX1_port_12 : decode cX1_port 12 = .ok (.invokevirtual 427, 3) := dk_182 1 171 (dk_at dksX1_port_0 12 rfl rfl)
theorem dX1_port_15 : decode cX1_port 15 = .ok (.ireturn, 1) := dk_172 (dk_at dksX1_port_0 15 rfl rfl)
abbrev cX1_most : ByteArray := prog_1_method_51_code
def yX1_most : MethodName := ⟨RX1, "most", "(II)I"⟩
def dkwX1_most_0 : List UInt8 := [42, 27, 28, 182, 1, 98, 42, 180, 0, 28, 182, 1, 174, 27, 28, 182, 1, 177, 172]
abbrev dktX1_most_0 : List UInt8 := dkwX1_most_0 ++ []
theorem dksX1_most_0 : cX1_most.data.toList.drop 0 = dktX1_most_0 := by decide +kernel
theorem dX1_most_0 : decode cX1_most 0 = .ok (.aload_n 0, 1) := dk_42 (dk_at dksX1_most_0 0 rfl rfl)
theorem dX1_most_1 : decode cX1_most 1 = .ok (.iload_n 1, 1) := dk_27 (dk_at dksX1_most_0 1 rfl rfl)
theorem dX1_most_2 : decode cX1_most 2 = .ok (.iload_n 2, 1) := dk_28 (dk_at dksX1_most_0 2 rfl rfl)
theorem dX1_most_3 : decode cX1_most 3 = .ok (.invokevirtual 354, 3) := dk_182 1 98 (dk_at dksX1_most_0 3 rfl rfl)
theorem dX1_most_6 : decode cX1_most 6 = .ok (.aload_n 0, 1) := dk_42 (dk_at dksX1_most_0 6 rfl rfl)
theorem dX1_most_7 : decode cX1_most 7 = .ok (.getfield 28, 3) := dk_180 0 28 (dk_at dksX1_most_0 7 rfl rfl)
theorem dX1_most_10 : decode cX1_most 10 = .ok (.invokevirtual 430, 3) := dk_182 1 174 (dk_at dksX1_most_0 10 rfl rfl)
theorem dX1_most_13 : decode cX1_most 13 = .ok (.iload_n 1, 1) := dk_27 (dk_at dksX1_most_0 13 rfl rfl)
theorem dX1_most_14 : decode cX1_most 14 = .ok (.iload_n 2, 1) := dk_28 (dk_at dksX1_most_0 14 rfl rfl)
theorem dX1_most_15 : decode cX1_most 15 = .ok (.invokevirtual 433, 3) := dk_182 1 177 (dk_at dksX1_most_0 15 rfl rfl)
theorem dX1_most_18 : decode cX1_most 18 = .ok (.ireturn, 1) := dk_172 (dk_at dksX1_most_0 18 rfl rfl)
abbrev cX1_cut : ByteArray := prog_1_method_52_code
def yX1_cut : MethodName := ⟨RX1, "cut", "(II)I"⟩
def dkwX1_cut_1 : List UInt8 := [182, 1, 180, 172]
abbrev dktX1_cut_1 : List UInt8 := dkwX1_cut_1 ++ []
def dkwX1_cut_0 : List UInt8 := [42, 27, 28, 182, 1, 98, 42, 180, 0, 28, 182, 1, 174, 27, 28, 182, 1, 177, 87, 42, 180, 0, 28, 27]
abbrev dktX1_cut_0 : List UInt8 := dkwX1_cut_0 ++ dktX1_cut_1
theorem dksX1_cut_0 : cX1_cut.data.toList.drop 0 = dktX1_cut_0 := by decide +kernel
theorem dksX1_cut_1 : cX1_cut.data.toList.drop 24 = dktX1_cut_1 := dk_seg dksX1_cut_0 24 rfl rfl
theorem dX1_cut_0 : decode cX1_cut 0 = .ok (.aload_n 0, 1) := dk_42 (dk_at dksX1_cut_0 0 rfl rfl)
theorem dX1_cut_1 : decode cX1_cut 1 = .ok (.iload_n 1, 1) := dk_27 (dk_at dksX1_cut_0 1 rfl rfl)
theorem dX1_cut_2 : decode cX1_cut 2 = .ok (.iload_n 2, 1) := dk_28 (dk_at dksX1_cut_0 2 rfl rfl)
theorem dX1_cut_3 : decode cX1_cut 3 = .ok (.invokevirtual 354, 3) := dk_182 1 98 (dk_at dksX1_cut_0 3 rfl rfl)
theorem dX1_cut_6 : decode cX1_cut 6 = .ok (.aload_n 0, 1) := dk_42 (dk_at dksX1_cut_0 6 rfl rfl)
theorem dX1_cut_7 : decode cX1_cut 7 = .ok (.getfield 28, 3) := dk_180 0 28 (dk_at dksX1_cut_0 7 rfl rfl)
theorem dX1_cut_10 : decode cX1_cut 10 = .ok (.invokevirtual 430, 3) := dk_182 1 174 (dk_at dksX1_cut_0 10 rfl rfl)
theorem dX1_cut_13 : decode cX1_cut 13 = .ok (.iload_n 1, 1) := dk_27 (dk_at dksX1_cut_0 13 rfl rfl)
theorem dX1_cut_14 : decode cX1_cut 14 = .ok (.iload_n 2, 1) := dk_28 (dk_at dksX1_cut_0 14 rfl rfl)
theorem dX1_cut_15 : decode cX1_cut 15 = .ok (.invokevirtual 433, 3) := dk_182 1 177 (dk_at dksX1_cut_0 15 rfl rfl)
theorem dX1_cut_18 : decode cX1_cut 18 = .ok (.pop, 1) := dk_87 (dk_at dksX1_cut_0 18 rfl rfl)
theorem dX1_cut_19 : decode cX1_cut 19 = .ok (.aload_n 0, 1) := dk_42 (dk_at dksX1_cut_0 19 rfl rfl)
theorem dX1_cut_20 : decode cX1_cut 20 = .ok (.getfield 28, 3) := dk_180 0 28 (dk_at dksX1_cut_0 20 rfl rfl)
theorem dX1_cut_23 : decode cX1_cut 23 = .ok (.iload_n 1, 1) := dk_27 (dk_at dksX1_cut_0 23 rfl rfl)
theorem dX1_cut_24 : decode cX1_cut 24 = .ok (.invokevirtual 436, 3) := dk_182 1 180 (dk_at dksX1_cut_1 0 rfl rfl)
theorem dX1_cut_27 : decode cX1_cut 27 = .ok (.ireturn, 1) := dk_172 (dk_at dksX1_cut_1 3 rfl rfl)
abbrev cX1_chain : ByteArray := prog_1_method_54_code
def yX1_chain : MethodName := ⟨RX1, "chain", "(IIII)I"⟩
def dkwX1_chain_6 : List UInt8 := [132, 7, 1, 167, 255, 217, 21, 7, 54, 5, 132, 6, 1, 167, 255, 197, 21, 5, 172]
abbrev dktX1_chain_6 : List UInt8 := dkwX1_chain_6 ++ []
def dkwX1_chain_5 : List UInt8 := [4, 100, 160, 0, 20, 42, 180, 0, 28, 180, 1, 189, 21, 5, 50, 21, 7, 46, 29, 162, 0, 9]
abbrev dktX1_chain_5 : List UInt8 := dkwX1_chain_5 ++ dktX1_chain_6
def dkwX1_chain_4 : List UInt8 := [21, 6, 21, 4, 162, 0, 58, 3, 54, 7, 42, 180, 0, 32, 21, 7, 46, 42, 180, 0, 32, 21, 5, 46]
abbrev dktX1_chain_4 : List UInt8 := dkwX1_chain_4 ++ dktX1_chain_5
def dkwX1_chain_3 : List UInt8 := [21, 4, 2, 160, 0, 12, 42, 180, 0, 32, 27, 46, 167, 0, 4, 2, 172, 27, 54, 5, 3, 54, 6]
abbrev dktX1_chain_3 : List UInt8 := dkwX1_chain_3 ++ dktX1_chain_4
def dkwX1_chain_2 : List UInt8 := [159, 0, 24, 42, 180, 0, 32, 27, 46, 2, 159, 0, 14, 21, 4, 42, 180, 0, 32, 27, 46, 164, 0, 20]
abbrev dktX1_chain_2 : List UInt8 := dkwX1_chain_2 ++ dktX1_chain_3
def dkwX1_chain_1 : List UInt8 := [167, 0, 4, 3, 184, 1, 95, 42, 180, 0, 28, 182, 1, 174, 87, 42, 28, 29, 182, 1, 193, 21, 4, 2]
abbrev dktX1_chain_1 : List UInt8 := dkwX1_chain_1 ++ dktX1_chain_2
def dkwX1_chain_0 : List UInt8 := [42, 27, 28, 182, 1, 98, 29, 4, 16, 99, 184, 1, 79, 153, 0, 13, 21, 4, 2, 161, 0, 7, 4]
abbrev dktX1_chain_0 : List UInt8 := dkwX1_chain_0 ++ dktX1_chain_1
theorem dksX1_chain_0 : cX1_chain.data.toList.drop 0 = dktX1_chain_0 := by decide +kernel
theorem dksX1_chain_1 : cX1_chain.data.toList.drop 23 = dktX1_chain_1 := dk_seg dksX1_chain_0 23 rfl rfl
theorem dksX1_chain_2 : cX1_chain.data.toList.drop 47 = dktX1_chain_2 := dk_seg dksX1_chain_1 24 rfl rfl
theorem dksX1_chain_3 : cX1_chain.data.toList.drop 71 = dktX1_chain_3 := dk_seg dksX1_chain_2 24 rfl rfl
theorem dksX1_chain_4 : cX1_chain.data.toList.drop 94 = dktX1_chain_4 := dk_seg dksX1_chain_3 23 rfl rfl
theorem dksX1_chain_5 : cX1_chain.data.toList.drop 118 = dktX1_chain_5 := dk_seg dksX1_chain_4 24 rfl rfl
theorem dksX1_chain_6 : cX1_chain.data.toList.drop 140 = dktX1_chain_6 := dk_seg dksX1_chain_5 22 rfl rfl
theorem dX1_chain_0 : decode cX1_chain 0 = .ok (.aload_n 0, 1) := dk_42 (dk_at dksX1_chain_0 0 rfl rfl)
theorem dX1_chain_1 : decode cX1_chain 1 = .ok (.iload_n 1, 1) := dk_27 (dk_at dksX1_chain_0 1 rfl rfl)
theorem dX1_chain_2 : decode cX1_chain 2 = .ok (.iload_n 2, 1) := dk_28 (dk_at dksX1_chain_0 2 rfl rfl)
theorem dX1_chain_3 : decode cX1_chain 3 = .ok (.invokevirtual 354, 3) := dk_182 1 98 (dk_at dksX1_chain_0 3 rfl rfl)
theorem dX1_chain_6 : decode cX1_chain 6 = .ok (.iload_n 3, 1) := dk_29 (dk_at dksX1_chain_0 6 rfl rfl)
theorem dX1_chain_7 : decode cX1_chain 7 = .ok (.iconst 1, 1) := dk_4 (dk_at dksX1_chain_0 7 rfl rfl)
theorem dX1_chain_8 : decode cX1_chain 8 = .ok (.bipush 99, 2) := dk_16 99 (dk_at dksX1_chain_0 8 rfl rfl)
theorem dX1_chain_10 : decode cX1_chain 10 = .ok (.invokestatic 335, 3) := dk_184 1 79 (dk_at dksX1_chain_0 10 rfl rfl)
theorem dX1_chain_13 : decode cX1_chain 13 = .ok (.ifCond .eq 13, 3) := dk_153 0 13 (dk_at dksX1_chain_0 13 rfl rfl)
theorem dX1_chain_16 : decode cX1_chain 16 = .ok (.iload 4, 2) := dk_21 4 (dk_at dksX1_chain_0 16 rfl rfl)
theorem dX1_chain_18 : decode cX1_chain 18 = .ok (.iconst (-1), 1) := dk_2 (dk_at dksX1_chain_0 18 rfl rfl)
theorem dX1_chain_19 : decode cX1_chain 19 = .ok (.if_icmp .lt 7, 3) := dk_161 0 7 (dk_at dksX1_chain_0 19 rfl rfl)
theorem dX1_chain_22 : decode cX1_chain 22 = .ok (.iconst 1, 1) := dk_4 (dk_at dksX1_chain_0 22 rfl rfl)
theorem dX1_chain_23 : decode cX1_chain 23 = .ok (.goto 4, 3) := dk_167 0 4 (dk_at dksX1_chain_1 0 rfl rfl)
theorem dX1_chain_26 : decode cX1_chain 26 = .ok (.iconst 0, 1) := dk_3 (dk_at dksX1_chain_1 3 rfl rfl)
theorem dX1_chain_27 : decode cX1_chain 27 = .ok (.invokestatic 351, 3) := dk_184 1 95 (dk_at dksX1_chain_1 4 rfl rfl)
theorem dX1_chain_30 : decode cX1_chain 30 = .ok (.aload_n 0, 1) := dk_42 (dk_at dksX1_chain_1 7 rfl rfl)
theorem dX1_chain_31 : decode cX1_chain 31 = .ok (.getfield 28, 3) := dk_180 0 28 (dk_at dksX1_chain_1 8 rfl rfl)
theorem dX1_chain_34 : decode cX1_chain 34 = .ok (.invokevirtual 430, 3) := dk_182 1 174 (dk_at dksX1_chain_1 11 rfl rfl)
theorem dX1_chain_37 : decode cX1_chain 37 = .ok (.pop, 1) := dk_87 (dk_at dksX1_chain_1 14 rfl rfl)
theorem dX1_chain_38 : decode cX1_chain 38 = .ok (.aload_n 0, 1) := dk_42 (dk_at dksX1_chain_1 15 rfl rfl)
theorem dX1_chain_39 : decode cX1_chain 39 = .ok (.iload_n 2, 1) := dk_28 (dk_at dksX1_chain_1 16 rfl rfl)
theorem dX1_chain_40 : decode cX1_chain 40 = .ok (.iload_n 3, 1) := dk_29 (dk_at dksX1_chain_1 17 rfl rfl)
theorem dX1_chain_41 : decode cX1_chain 41 = .ok (.invokevirtual 449, 3) := dk_182 1 193 (dk_at dksX1_chain_1 18 rfl rfl)
theorem dX1_chain_44 : decode cX1_chain 44 = .ok (.iload 4, 2) := dk_21 4 (dk_at dksX1_chain_1 21 rfl rfl)
theorem dX1_chain_46 : decode cX1_chain 46 = .ok (.iconst (-1), 1) := dk_2 (dk_at dksX1_chain_1 23 rfl rfl)
theorem dX1_chain_47 : decode cX1_chain 47 = .ok (.if_icmp .eq 24, 3) := dk_159 0 24 (dk_at dksX1_chain_2 0 rfl rfl)
theorem dX1_chain_50 : decode cX1_chain 50 = .ok (.aload_n 0, 1) := dk_42 (dk_at dksX1_chain_2 3 rfl rfl)
theorem dX1_chain_51 : decode cX1_chain 51 = .ok (.getfield 32, 3) := dk_180 0 32 (dk_at dksX1_chain_2 4 rfl rfl)
theorem dX1_chain_54 : decode cX1_chain 54 = .ok (.iload_n 1, 1) := dk_27 (dk_at dksX1_chain_2 7 rfl rfl)
theorem dX1_chain_55 : decode cX1_chain 55 = .ok (.iaload, 1) := dk_46 (dk_at dksX1_chain_2 8 rfl rfl)
theorem dX1_chain_56 : decode cX1_chain 56 = .ok (.iconst (-1), 1) := dk_2 (dk_at dksX1_chain_2 9 rfl rfl)
theorem dX1_chain_57 : decode cX1_chain 57 = .ok (.if_icmp .eq 14, 3) := dk_159 0 14 (dk_at dksX1_chain_2 10 rfl rfl)
theorem dX1_chain_60 : decode cX1_chain 60 = .ok (.iload 4, 2) := dk_21 4 (dk_at dksX1_chain_2 13 rfl rfl)
theorem dX1_chain_62 : decode cX1_chain 62 = .ok (.aload_n 0, 1) := dk_42 (dk_at dksX1_chain_2 15 rfl rfl)
theorem dX1_chain_63 : decode cX1_chain 63 = .ok (.getfield 32, 3) := dk_180 0 32 (dk_at dksX1_chain_2 16 rfl rfl)
theorem dX1_chain_66 : decode cX1_chain 66 = .ok (.iload_n 1, 1) := dk_27 (dk_at dksX1_chain_2 19 rfl rfl)
theorem dX1_chain_67 : decode cX1_chain 67 = .ok (.iaload, 1) := dk_46 (dk_at dksX1_chain_2 20 rfl rfl)
theorem dX1_chain_68 : decode cX1_chain 68 = .ok (.if_icmp .le 20, 3) := dk_164 0 20 (dk_at dksX1_chain_2 21 rfl rfl)
theorem dX1_chain_71 : decode cX1_chain 71 = .ok (.iload 4, 2) := dk_21 4 (dk_at dksX1_chain_3 0 rfl rfl)
theorem dX1_chain_73 : decode cX1_chain 73 = .ok (.iconst (-1), 1) := dk_2 (dk_at dksX1_chain_3 2 rfl rfl)
theorem dX1_chain_74 : decode cX1_chain 74 = .ok (.if_icmp .ne 12, 3) := dk_160 0 12 (dk_at dksX1_chain_3 3 rfl rfl)
theorem dX1_chain_77 : decode cX1_chain 77 = .ok (.aload_n 0, 1) := dk_42 (dk_at dksX1_chain_3 6 rfl rfl)
theorem dX1_chain_78 : decode cX1_chain 78 = .ok (.getfield 32, 3) := dk_180 0 32 (dk_at dksX1_chain_3 7 rfl rfl)
theorem dX1_chain_81 : decode cX1_chain 81 = .ok (.iload_n 1, 1) := dk_27 (dk_at dksX1_chain_3 10 rfl rfl)
theorem dX1_chain_82 : decode cX1_chain 82 = .ok (.iaload, 1) := dk_46 (dk_at dksX1_chain_3 11 rfl rfl)
theorem dX1_chain_83 : decode cX1_chain 83 = .ok (.goto 4, 3) := dk_167 0 4 (dk_at dksX1_chain_3 12 rfl rfl)
theorem dX1_chain_86 : decode cX1_chain 86 = .ok (.iconst (-1), 1) := dk_2 (dk_at dksX1_chain_3 15 rfl rfl)
theorem dX1_chain_87 : decode cX1_chain 87 = .ok (.ireturn, 1) := dk_172 (dk_at dksX1_chain_3 16 rfl rfl)
theorem dX1_chain_88 : decode cX1_chain 88 = .ok (.iload_n 1, 1) := dk_27 (dk_at dksX1_chain_3 17 rfl rfl)
theorem dX1_chain_89 : decode cX1_chain 89 = .ok (.istore 5, 2) := dk_54 5 (dk_at dksX1_chain_3 18 rfl rfl)
theorem dX1_chain_91 : decode cX1_chain 91 = .ok (.iconst 0, 1) := dk_3 (dk_at dksX1_chain_3 20 rfl rfl)
theorem dX1_chain_92 : decode cX1_chain 92 = .ok (.istore 6, 2) := dk_54 6 (dk_at dksX1_chain_3 21 rfl rfl)
theorem dX1_chain_94 : decode cX1_chain 94 = .ok (.iload 6, 2) := dk_21 6 (dk_at dksX1_chain_4 0 rfl rfl)
theorem dX1_chain_96 : decode cX1_chain 96 = .ok (.iload 4, 2) := dk_21 4 (dk_at dksX1_chain_4 2 rfl rfl)
theorem dX1_chain_98 : decode cX1_chain 98 = .ok (.if_icmp .ge 58, 3) := dk_162 0 58 (dk_at dksX1_chain_4 4 rfl rfl)
theorem dX1_chain_101 : decode cX1_chain 101 = .ok (.iconst 0, 1) := dk_3 (dk_at dksX1_chain_4 7 rfl rfl)
theorem dX1_chain_102 : decode cX1_chain 102 = .ok (.istore 7, 2) := dk_54 7 (dk_at dksX1_chain_4 8 rfl rfl)
theorem dX1_chain_104 : decode cX1_chain 104 = .ok (.aload_n 0, 1) := dk_42 (dk_at dksX1_chain_4 10 rfl rfl)
theorem dX1_chain_105 : decode cX1_chain 105 = .ok (.getfield 32, 3) := dk_180 0 32 (dk_at dksX1_chain_4 11 rfl rfl)
theorem dX1_chain_108 : decode cX1_chain 108 = .ok (.iload 7, 2) := dk_21 7 (dk_at dksX1_chain_4 14 rfl rfl)
theorem dX1_chain_110 : decode cX1_chain 110 = .ok (.iaload, 1) := dk_46 (dk_at dksX1_chain_4 16 rfl rfl)
theorem dX1_chain_111 : decode cX1_chain 111 = .ok (.aload_n 0, 1) := dk_42 (dk_at dksX1_chain_4 17 rfl rfl)
theorem dX1_chain_112 : decode cX1_chain 112 = .ok (.getfield 32, 3) := dk_180 0 32 (dk_at dksX1_chain_4 18 rfl rfl)
theorem dX1_chain_115 : decode cX1_chain 115 = .ok (.iload 5, 2) := dk_21 5 (dk_at dksX1_chain_4 21 rfl rfl)
theorem dX1_chain_117 : decode cX1_chain 117 = .ok (.iaload, 1) := dk_46 (dk_at dksX1_chain_4 23 rfl rfl)
theorem dX1_chain_118 : decode cX1_chain 118 = .ok (.iconst 1, 1) := dk_4 (dk_at dksX1_chain_5 0 rfl rfl)
theorem dX1_chain_119 : decode cX1_chain 119 = .ok (.isub, 1) := dk_100 (dk_at dksX1_chain_5 1 rfl rfl)
theorem dX1_chain_120 : decode cX1_chain 120 = .ok (.if_icmp .ne 20, 3) := dk_160 0 20 (dk_at dksX1_chain_5 2 rfl rfl)
theorem dX1_chain_123 : decode cX1_chain 123 = .ok (.aload_n 0, 1) := dk_42 (dk_at dksX1_chain_5 5 rfl rfl)
theorem dX1_chain_124 : decode cX1_chain 124 = .ok (.getfield 28, 3) := dk_180 0 28 (dk_at dksX1_chain_5 6 rfl rfl)
theorem dX1_chain_127 : decode cX1_chain 127 = .ok (.getfield 445, 3) := dk_180 1 189 (dk_at dksX1_chain_5 9 rfl rfl)
theorem dX1_chain_130 : decode cX1_chain 130 = .ok (.iload 5, 2) := dk_21 5 (dk_at dksX1_chain_5 12 rfl rfl)
theorem dX1_chain_132 : decode cX1_chain 132 = .ok (.aaload, 1) := dk_50 (dk_at dksX1_chain_5 14 rfl rfl)
theorem dX1_chain_133 : decode cX1_chain 133 = .ok (.iload 7, 2) := dk_21 7 (dk_at dksX1_chain_5 15 rfl rfl)
theorem dX1_chain_135 : decode cX1_chain 135 = .ok (.iaload, 1) := dk_46 (dk_at dksX1_chain_5 17 rfl rfl)
theorem dX1_chain_136 : decode cX1_chain 136 = .ok (.iload_n 3, 1) := dk_29 (dk_at dksX1_chain_5 18 rfl rfl)
theorem dX1_chain_137 : decode cX1_chain 137 = .ok (.if_icmp .ge 9, 3) := dk_162 0 9 (dk_at dksX1_chain_5 19 rfl rfl)
theorem dX1_chain_140 : decode cX1_chain 140 = .ok (.iinc 7 1, 3) := dk_132 7 1 (dk_at dksX1_chain_6 0 rfl rfl)
theorem dX1_chain_143 : decode cX1_chain 143 = .ok (.goto (-39), 3) := dk_167 255 217 (dk_at dksX1_chain_6 3 rfl rfl)
theorem dX1_chain_146 : decode cX1_chain 146 = .ok (.iload 7, 2) := dk_21 7 (dk_at dksX1_chain_6 6 rfl rfl)
theorem dX1_chain_148 : decode cX1_chain 148 = .ok (.istore 5, 2) := dk_54 5 (dk_at dksX1_chain_6 8 rfl rfl)
theorem dX1_chain_150 : decode cX1_chain 150 = .ok (.iinc 6 1, 3) := dk_132 6 1 (dk_at dksX1_chain_6 10 rfl rfl)
theorem dX1_chain_153 : decode cX1_chain 153 = .ok (.goto (-59), 3) := dk_167 255 197 (dk_at dksX1_chain_6 13 rfl rfl)
theorem dX1_chain_156 : decode cX1_chain 156 = .ok (.iload 5, 2) := dk_21 5 (dk_at dksX1_chain_6 16 rfl rfl)
theorem dX1_chain_158 : decode cX1_chain 158 = .ok (.ireturn, 1) := dk_172 (dk_at dksX1_chain_6 18 rfl rfl)
abbrev cX1_steps : ByteArray := prog_1_method_53_code
def yX1_steps : MethodName := ⟨RX1, "steps", "(II)V"⟩
def dkwX1_steps_5 : List UInt8 := [167, 255, 203, 132, 4, 1, 167, 255, 168, 132, 3, 1, 167, 255, 148, 177]
abbrev dktX1_steps_5 : List UInt8 := dkwX1_steps_5 ++ []
def dkwX1_steps_4 : List UInt8 := [21, 4, 50, 21, 5, 46, 28, 161, 0, 13, 42, 180, 0, 32, 21, 4, 29, 4, 96, 79, 132, 5, 1]
abbrev dktX1_steps_4 : List UInt8 := dkwX1_steps_4 ++ dktX1_steps_5
def dkwX1_steps_3 : List UInt8 := [180, 0, 55, 162, 0, 47, 42, 180, 0, 32, 21, 5, 46, 29, 160, 0, 30, 42, 180, 0, 28, 180, 1, 189]
abbrev dktX1_steps_3 : List UInt8 := dkwX1_steps_3 ++ dktX1_steps_4
def dkwX1_steps_2 : List UInt8 := [180, 0, 32, 21, 4, 46, 2, 159, 0, 6, 167, 0, 62, 3, 54, 5, 21, 5, 42, 180, 0, 10]
abbrev dktX1_steps_2 : List UInt8 := dkwX1_steps_2 ++ dktX1_steps_3
def dkwX1_steps_1 : List UInt8 := [180, 0, 55, 162, 0, 103, 3, 54, 4, 21, 4, 42, 180, 0, 10, 180, 0, 55, 162, 0, 82, 42]
abbrev dktX1_steps_1 : List UInt8 := dkwX1_steps_1 ++ dktX1_steps_2
def dkwX1_steps_0 : List UInt8 := [42, 180, 0, 32, 2, 184, 1, 183, 42, 180, 0, 32, 27, 3, 79, 3, 62, 29, 42, 180, 0, 10]
abbrev dktX1_steps_0 : List UInt8 := dkwX1_steps_0 ++ dktX1_steps_1
theorem dksX1_steps_0 : cX1_steps.data.toList.drop 0 = dktX1_steps_0 := by decide +kernel
theorem dksX1_steps_1 : cX1_steps.data.toList.drop 22 = dktX1_steps_1 := dk_seg dksX1_steps_0 22 rfl rfl
theorem dksX1_steps_2 : cX1_steps.data.toList.drop 44 = dktX1_steps_2 := dk_seg dksX1_steps_1 22 rfl rfl
theorem dksX1_steps_3 : cX1_steps.data.toList.drop 66 = dktX1_steps_3 := dk_seg dksX1_steps_2 22 rfl rfl
theorem dksX1_steps_4 : cX1_steps.data.toList.drop 90 = dktX1_steps_4 := dk_seg dksX1_steps_3 24 rfl rfl
theorem dksX1_steps_5 : cX1_steps.data.toList.drop 113 = dktX1_steps_5 := dk_seg dksX1_steps_4 23 rfl rfl
theorem dX1_steps_0 : decode cX1_steps 0 = .ok (.aload_n 0, 1) := dk_42 (dk_at dksX1_steps_0 0 rfl rfl)
theorem dX1_steps_1 : decode cX1_steps 1 = .ok (.getfield 32, 3) := dk_180 0 32 (dk_at dksX1_steps_0 1 rfl rfl)
theorem dX1_steps_4 : decode cX1_steps 4 = .ok (.iconst (-1), 1) := dk_2 (dk_at dksX1_steps_0 4 rfl rfl)
theorem dX1_steps_5 : decode cX1_steps 5 = .ok (.invokestatic 439, 3) := dk_184 1 183 (dk_at dksX1_steps_0 5 rfl rfl)
theorem dX1_steps_8 : decode cX1_steps 8 = .ok (.aload_n 0, 1) := dk_42 (dk_at dksX1_steps_0 8 rfl rfl)
theorem dX1_steps_9 : decode cX1_steps 9 = .ok (.getfield 32, 3) := dk_180 0 32 (dk_at dksX1_steps_0 9 rfl rfl)
theorem dX1_steps_12 : decode cX1_steps 12 = .ok (.iload_n 1, 1) := dk_27 (dk_at dksX1_steps_0 12 rfl rfl)
theorem dX1_steps_13 : decode cX1_steps 13 = .ok (.iconst 0, 1) := dk_3 (dk_at dksX1_steps_0 13 rfl rfl)
theorem dX1_steps_14 : decode cX1_steps 14 = .ok (.iastore, 1) := dk_79 (dk_at dksX1_steps_0 14 rfl rfl)
theorem dX1_steps_15 : decode cX1_steps 15 = .ok (.iconst 0, 1) := dk_3 (dk_at dksX1_steps_0 15 rfl rfl)
theorem dX1_steps_16 : decode cX1_steps 16 = .ok (.istore_n 3, 1) := dk_62 (dk_at dksX1_steps_0 16 rfl rfl)
theorem dX1_steps_17 : decode cX1_steps 17 = .ok (.iload_n 3, 1) := dk_29 (dk_at dksX1_steps_0 17 rfl rfl)
theorem dX1_steps_18 : decode cX1_steps 18 = .ok (.aload_n 0, 1) := dk_42 (dk_at dksX1_steps_0 18 rfl rfl)
theorem dX1_steps_19 : decode cX1_steps 19 = .ok (.getfield 10, 3) := dk_180 0 10 (dk_at dksX1_steps_0 19 rfl rfl)
theorem dX1_steps_22 : decode cX1_steps 22 = .ok (.getfield 55, 3) := dk_180 0 55 (dk_at dksX1_steps_1 0 rfl rfl)
theorem dX1_steps_25 : decode cX1_steps 25 = .ok (.if_icmp .ge 103, 3) := dk_162 0 103 (dk_at dksX1_steps_1 3 rfl rfl)
theorem dX1_steps_28 : decode cX1_steps 28 = .ok (.iconst 0, 1) := dk_3 (dk_at dksX1_steps_1 6 rfl rfl)
theorem dX1_steps_29 : decode cX1_steps 29 = .ok (.istore 4, 2) := dk_54 4 (dk_at dksX1_steps_1 7 rfl rfl)
theorem dX1_steps_31 : decode cX1_steps 31 = .ok (.iload 4, 2) := dk_21 4 (dk_at dksX1_steps_1 9 rfl rfl)
theorem dX1_steps_33 : decode cX1_steps 33 = .ok (.aload_n 0, 1) := dk_42 (dk_at dksX1_steps_1 11 rfl rfl)
theorem dX1_steps_34 : decode cX1_steps 34 = .ok (.getfield 10, 3) := dk_180 0 10 (dk_at dksX1_steps_1 12 rfl rfl)
theorem dX1_steps_37 : decode cX1_steps 37 = .ok (.getfield 55, 3) := dk_180 0 55 (dk_at dksX1_steps_1 15 rfl rfl)
theorem dX1_steps_40 : decode cX1_steps 40 = .ok (.if_icmp .ge 82, 3) := dk_162 0 82 (dk_at dksX1_steps_1 18 rfl rfl)
theorem dX1_steps_43 : decode cX1_steps 43 = .ok (.aload_n 0, 1) := dk_42 (dk_at dksX1_steps_1 21 rfl rfl)
theorem dX1_steps_44 : decode cX1_steps 44 = .ok (.getfield 32, 3) := dk_180 0 32 (dk_at dksX1_steps_2 0 rfl rfl)
theorem dX1_steps_47 : decode cX1_steps 47 = .ok (.iload 4, 2) := dk_21 4 (dk_at dksX1_steps_2 3 rfl rfl)
theorem dX1_steps_49 : decode cX1_steps 49 = .ok (.iaload, 1) := dk_46 (dk_at dksX1_steps_2 5 rfl rfl)
theorem dX1_steps_50 : decode cX1_steps 50 = .ok (.iconst (-1), 1) := dk_2 (dk_at dksX1_steps_2 6 rfl rfl)
theorem dX1_steps_51 : decode cX1_steps 51 = .ok (.if_icmp .eq 6, 3) := dk_159 0 6 (dk_at dksX1_steps_2 7 rfl rfl)
theorem dX1_steps_54 : decode cX1_steps 54 = .ok (.goto 62, 3) := dk_167 0 62 (dk_at dksX1_steps_2 10 rfl rfl)
theorem dX1_steps_57 : decode cX1_steps 57 = .ok (.iconst 0, 1) := dk_3 (dk_at dksX1_steps_2 13 rfl rfl)
theorem dX1_steps_58 : decode cX1_steps 58 = .ok (.istore 5, 2) := dk_54 5 (dk_at dksX1_steps_2 14 rfl rfl)
theorem dX1_steps_60 : decode cX1_steps 60 = .ok (.iload 5, 2) := dk_21 5 (dk_at dksX1_steps_2 16 rfl rfl)
theorem dX1_steps_62 : decode cX1_steps 62 = .ok (.aload_n 0, 1) := dk_42 (dk_at dksX1_steps_2 18 rfl rfl)
theorem dX1_steps_63 : decode cX1_steps 63 = .ok (.getfield 10, 3) := dk_180 0 10 (dk_at dksX1_steps_2 19 rfl rfl)
theorem dX1_steps_66 : decode cX1_steps 66 = .ok (.getfield 55, 3) := dk_180 0 55 (dk_at dksX1_steps_3 0 rfl rfl)
theorem dX1_steps_69 : decode cX1_steps 69 = .ok (.if_icmp .ge 47, 3) := dk_162 0 47 (dk_at dksX1_steps_3 3 rfl rfl)
theorem dX1_steps_72 : decode cX1_steps 72 = .ok (.aload_n 0, 1) := dk_42 (dk_at dksX1_steps_3 6 rfl rfl)
theorem dX1_steps_73 : decode cX1_steps 73 = .ok (.getfield 32, 3) := dk_180 0 32 (dk_at dksX1_steps_3 7 rfl rfl)
theorem dX1_steps_76 : decode cX1_steps 76 = .ok (.iload 5, 2) := dk_21 5 (dk_at dksX1_steps_3 10 rfl rfl)
theorem dX1_steps_78 : decode cX1_steps 78 = .ok (.iaload, 1) := dk_46 (dk_at dksX1_steps_3 12 rfl rfl)
theorem dX1_steps_79 : decode cX1_steps 79 = .ok (.iload_n 3, 1) := dk_29 (dk_at dksX1_steps_3 13 rfl rfl)
theorem dX1_steps_80 : decode cX1_steps 80 = .ok (.if_icmp .ne 30, 3) := dk_160 0 30 (dk_at dksX1_steps_3 14 rfl rfl)
theorem dX1_steps_83 : decode cX1_steps 83 = .ok (.aload_n 0, 1) := dk_42 (dk_at dksX1_steps_3 17 rfl rfl)
theorem dX1_steps_84 : decode cX1_steps 84 = .ok (.getfield 28, 3) := dk_180 0 28 (dk_at dksX1_steps_3 18 rfl rfl)
theorem dX1_steps_87 : decode cX1_steps 87 = .ok (.getfield 445, 3) := dk_180 1 189 (dk_at dksX1_steps_3 21 rfl rfl)
theorem dX1_steps_90 : decode cX1_steps 90 = .ok (.iload 4, 2) := dk_21 4 (dk_at dksX1_steps_4 0 rfl rfl)
theorem dX1_steps_92 : decode cX1_steps 92 = .ok (.aaload, 1) := dk_50 (dk_at dksX1_steps_4 2 rfl rfl)
theorem dX1_steps_93 : decode cX1_steps 93 = .ok (.iload 5, 2) := dk_21 5 (dk_at dksX1_steps_4 3 rfl rfl)
theorem dX1_steps_95 : decode cX1_steps 95 = .ok (.iaload, 1) := dk_46 (dk_at dksX1_steps_4 5 rfl rfl)
theorem dX1_steps_96 : decode cX1_steps 96 = .ok (.iload_n 2, 1) := dk_28 (dk_at dksX1_steps_4 6 rfl rfl)
theorem dX1_steps_97 : decode cX1_steps 97 = .ok (.if_icmp .lt 13, 3) := dk_161 0 13 (dk_at dksX1_steps_4 7 rfl rfl)
theorem dX1_steps_100 : decode cX1_steps 100 = .ok (.aload_n 0, 1) := dk_42 (dk_at dksX1_steps_4 10 rfl rfl)
theorem dX1_steps_101 : decode cX1_steps 101 = .ok (.getfield 32, 3) := dk_180 0 32 (dk_at dksX1_steps_4 11 rfl rfl)
theorem dX1_steps_104 : decode cX1_steps 104 = .ok (.iload 4, 2) := dk_21 4 (dk_at dksX1_steps_4 14 rfl rfl)
theorem dX1_steps_106 : decode cX1_steps 106 = .ok (.iload_n 3, 1) := dk_29 (dk_at dksX1_steps_4 16 rfl rfl)
theorem dX1_steps_107 : decode cX1_steps 107 = .ok (.iconst 1, 1) := dk_4 (dk_at dksX1_steps_4 17 rfl rfl)
theorem dX1_steps_108 : decode cX1_steps 108 = .ok (.iadd, 1) := dk_96 (dk_at dksX1_steps_4 18 rfl rfl)
theorem dX1_steps_109 : decode cX1_steps 109 = .ok (.iastore, 1) := dk_79 (dk_at dksX1_steps_4 19 rfl rfl)
theorem dX1_steps_110 : decode cX1_steps 110 = .ok (.iinc 5 1, 3) := dk_132 5 1 (dk_at dksX1_steps_4 20 rfl rfl)
theorem dX1_steps_113 : decode cX1_steps 113 = .ok (.goto (-53), 3) := dk_167 255 203 (dk_at dksX1_steps_5 0 rfl rfl)
theorem dX1_steps_116 : decode cX1_steps 116 = .ok (.iinc 4 1, 3) := dk_132 4 1 (dk_at dksX1_steps_5 3 rfl rfl)
theorem dX1_steps_119 : decode cX1_steps 119 = .ok (.goto (-88), 3) := dk_167 255 168 (dk_at dksX1_steps_5 6 rfl rfl)
theorem dX1_steps_122 : decode cX1_steps 122 = .ok (.iinc 3 1, 3) := dk_132 3 1 (dk_at dksX1_steps_5 9 rfl rfl)
theorem dX1_steps_125 : decode cX1_steps 125 = .ok (.goto (-108), 3) := dk_167 255 148 (dk_at dksX1_steps_5 12 rfl rfl)
theorem dX1_steps_128 : decode cX1_steps 128 = .ok (.return_, 1) := dk_177 (dk_at dksX1_steps_5 15 rfl rfl)
abbrev cX1_ring : ByteArray := prog_1_method_55_code
def yX1_ring : MethodName := ⟨RX1, "ring", "()I"⟩
def dkwX1_ring_6 : List UInt8 := [180, 1, 202, 44, 182, 0, 162, 87, 42, 180, 0, 10, 180, 1, 202, 182, 0, 84, 4, 100, 172]
abbrev dktX1_ring_6 : List UInt8 := dkwX1_ring_6 ++ []
def dkwX1_ring_5 : List UInt8 := [180, 1, 202, 182, 0, 84, 16, 8, 160, 0, 11, 187, 0, 216, 89, 183, 0, 218, 191, 42, 180, 0, 10]
abbrev dktX1_ring_5 : List UInt8 := dkwX1_ring_5 ++ dktX1_ring_6
def dkwX1_ring_4 : List UInt8 := [184, 1, 95, 29, 4, 44, 21, 4, 46, 120, 128, 62, 132, 4, 1, 167, 255, 184, 42, 180, 0, 10]
abbrev dktX1_ring_4 : List UInt8 := dkwX1_ring_4 ++ dktX1_ring_5
def dkwX1_ring_3 : List UInt8 := [184, 1, 79, 153, 0, 18, 29, 44, 21, 4, 46, 122, 4, 126, 154, 0, 7, 4, 167, 0, 4, 3]
abbrev dktX1_ring_3 : List UInt8 := dkwX1_ring_3 ++ dktX1_ring_4
def dkwX1_ring_2 : List UInt8 := [180, 1, 198, 21, 4, 51, 16, 97, 100, 79, 44, 21, 4, 46, 3, 42, 180, 0, 10, 180, 0, 55, 4, 100]
abbrev dktX1_ring_2 : List UInt8 := dkwX1_ring_2 ++ dktX1_ring_3
def dkwX1_ring_1 : List UInt8 := [180, 1, 196, 188, 10, 77, 3, 62, 3, 54, 4, 21, 4, 44, 190, 162, 0, 71, 44, 21, 4, 43]
abbrev dktX1_ring_1 : List UInt8 := dkwX1_ring_1 ++ dktX1_ring_2
def dkwX1_ring_0 : List UInt8 := [42, 180, 0, 19, 76, 43, 182, 0, 198, 43, 180, 1, 196, 5, 16, 6, 184, 1, 79, 184, 1, 95, 43]
abbrev dktX1_ring_0 : List UInt8 := dkwX1_ring_0 ++ dktX1_ring_1
theorem dksX1_ring_0 : cX1_ring.data.toList.drop 0 = dktX1_ring_0 := by decide +kernel
theorem dksX1_ring_1 : cX1_ring.data.toList.drop 23 = dktX1_ring_1 := dk_seg dksX1_ring_0 23 rfl rfl
theorem dksX1_ring_2 : cX1_ring.data.toList.drop 45 = dktX1_ring_2 := dk_seg dksX1_ring_1 22 rfl rfl
theorem dksX1_ring_3 : cX1_ring.data.toList.drop 69 = dktX1_ring_3 := dk_seg dksX1_ring_2 24 rfl rfl
theorem dksX1_ring_4 : cX1_ring.data.toList.drop 91 = dktX1_ring_4 := dk_seg dksX1_ring_3 22 rfl rfl
theorem dksX1_ring_5 : cX1_ring.data.toList.drop 113 = dktX1_ring_5 := dk_seg dksX1_ring_4 22 rfl rfl
theorem dksX1_ring_6 : cX1_ring.data.toList.drop 136 = dktX1_ring_6 := dk_seg dksX1_ring_5 23 rfl rfl
theorem dX1_ring_0 : decode cX1_ring 0 = .ok (.aload_n 0, 1) := dk_42 (dk_at dksX1_ring_0 0 rfl rfl)
theorem dX1_ring_1 : decode cX1_ring 1 = .ok (.getfield 19, 3) := dk_180 0 19 (dk_at dksX1_ring_0 1 rfl rfl)
theorem dX1_ring_4 : decode cX1_ring 4 = .ok (.astore_n 1, 1) := dk_76 (dk_at dksX1_ring_0 4 rfl rfl)
theorem dX1_ring_5 : decode cX1_ring 5 = .ok (.aload_n 1, 1) := dk_43 (dk_at dksX1_ring_0 5 rfl rfl)
theorem dX1_ring_6 : decode cX1_ring 6 = .ok (.invokevirtual 198, 3) := dk_182 0 198 (dk_at dksX1_ring_0 6 rfl rfl)
theorem dX1_ring_9 : decode cX1_ring 9 = .ok (.aload_n 1, 1) := dk_43 (dk_at dksX1_ring_0 9 rfl rfl)
theorem dX1_ring_10 : decode cX1_ring 10 = .ok (.getfield 452, 3) := dk_180 1 196 (dk_at dksX1_ring_0 10 rfl rfl)
theorem dX1_ring_13 : decode cX1_ring 13 = .ok (.iconst 2, 1) := dk_5 (dk_at dksX1_ring_0 13 rfl rfl)
theorem dX1_ring_14 : decode cX1_ring 14 = .ok (.bipush 6, 2) := dk_16 6 (dk_at dksX1_ring_0 14 rfl rfl)
theorem dX1_ring_16 : decode cX1_ring 16 = .ok (.invokestatic 335, 3) := dk_184 1 79 (dk_at dksX1_ring_0 16 rfl rfl)
theorem dX1_ring_19 : decode cX1_ring 19 = .ok (.invokestatic 351, 3) := dk_184 1 95 (dk_at dksX1_ring_0 19 rfl rfl)
theorem dX1_ring_22 : decode cX1_ring 22 = .ok (.aload_n 1, 1) := dk_43 (dk_at dksX1_ring_0 22 rfl rfl)
theorem dX1_ring_23 : decode cX1_ring 23 = .ok (.getfield 452, 3) := dk_180 1 196 (dk_at dksX1_ring_1 0 rfl rfl)
theorem dX1_ring_26 : decode cX1_ring 26 = .ok (.newarray .int, 2) := dk_188_10 (dk_at dksX1_ring_1 3 rfl rfl)
theorem dX1_ring_28 : decode cX1_ring 28 = .ok (.astore_n 2, 1) := dk_77 (dk_at dksX1_ring_1 5 rfl rfl)
theorem dX1_ring_29 : decode cX1_ring 29 = .ok (.iconst 0, 1) := dk_3 (dk_at dksX1_ring_1 6 rfl rfl)
theorem dX1_ring_30 : decode cX1_ring 30 = .ok (.istore_n 3, 1) := dk_62 (dk_at dksX1_ring_1 7 rfl rfl)
theorem dX1_ring_31 : decode cX1_ring 31 = .ok (.iconst 0, 1) := dk_3 (dk_at dksX1_ring_1 8 rfl rfl)
theorem dX1_ring_32 : decode cX1_ring 32 = .ok (.istore 4, 2) := dk_54 4 (dk_at dksX1_ring_1 9 rfl rfl)
theorem dX1_ring_34 : decode cX1_ring 34 = .ok (.iload 4, 2) := dk_21 4 (dk_at dksX1_ring_1 11 rfl rfl)
theorem dX1_ring_36 : decode cX1_ring 36 = .ok (.aload_n 2, 1) := dk_44 (dk_at dksX1_ring_1 13 rfl rfl)
theorem dX1_ring_37 : decode cX1_ring 37 = .ok (.arraylength, 1) := dk_190 (dk_at dksX1_ring_1 14 rfl rfl)
theorem dX1_ring_38 : decode cX1_ring 38 = .ok (.if_icmp .ge 71, 3) := dk_162 0 71 (dk_at dksX1_ring_1 15 rfl rfl)
theorem dX1_ring_41 : decode cX1_ring 41 = .ok (.aload_n 2, 1) := dk_44 (dk_at dksX1_ring_1 18 rfl rfl)
theorem dX1_ring_42 : decode cX1_ring 42 = .ok (.iload 4, 2) := dk_21 4 (dk_at dksX1_ring_1 19 rfl rfl)
theorem dX1_ring_44 : decode cX1_ring 44 = .ok (.aload_n 1, 1) := dk_43 (dk_at dksX1_ring_1 21 rfl rfl)
theorem dX1_ring_45 : decode cX1_ring 45 = .ok (.getfield 454, 3) := dk_180 1 198 (dk_at dksX1_ring_2 0 rfl rfl)
theorem dX1_ring_48 : decode cX1_ring 48 = .ok (.iload 4, 2) := dk_21 4 (dk_at dksX1_ring_2 3 rfl rfl)
theorem dX1_ring_50 : decode cX1_ring 50 = .ok (.baload, 1) := dk_51 (dk_at dksX1_ring_2 5 rfl rfl)
theorem dX1_ring_51 : decode cX1_ring 51 = .ok (.bipush 97, 2) := dk_16 97 (dk_at dksX1_ring_2 6 rfl rfl)
theorem dX1_ring_53 : decode cX1_ring 53 = .ok (.isub, 1) := dk_100 (dk_at dksX1_ring_2 8 rfl rfl)
theorem dX1_ring_54 : decode cX1_ring 54 = .ok (.iastore, 1) := dk_79 (dk_at dksX1_ring_2 9 rfl rfl)
theorem dX1_ring_55 : decode cX1_ring 55 = .ok (.aload_n 2, 1) := dk_44 (dk_at dksX1_ring_2 10 rfl rfl)
theorem dX1_ring_56 : decode cX1_ring 56 = .ok (.iload 4, 2) := dk_21 4 (dk_at dksX1_ring_2 11 rfl rfl)
theorem dX1_ring_58 : decode cX1_ring 58 = .ok (.iaload, 1) := dk_46 (dk_at dksX1_ring_2 13 rfl rfl)
theorem dX1_ring_59 : decode cX1_ring 59 = .ok (.iconst 0, 1) := dk_3 (dk_at dksX1_ring_2 14 rfl rfl)
theorem dX1_ring_60 : decode cX1_ring 60 = .ok (.aload_n 0, 1) := dk_42 (dk_at dksX1_ring_2 15 rfl rfl)
theorem dX1_ring_61 : decode cX1_ring 61 = .ok (.getfield 10, 3) := dk_180 0 10 (dk_at dksX1_ring_2 16 rfl rfl)
theorem dX1_ring_64 : decode cX1_ring 64 = .ok (.getfield 55, 3) := dk_180 0 55 (dk_at dksX1_ring_2 19 rfl rfl)
theorem dX1_ring_67 : decode cX1_ring 67 = .ok (.iconst 1, 1) := dk_4 (dk_at dksX1_ring_2 22 rfl rfl)
theorem dX1_ring_68 : decode cX1_ring 68 = .ok (.isub, 1) := dk_100 (dk_at dksX1_ring_2 23 rfl rfl)
theorem dX1_ring_69 : decode cX1_ring 69 = .ok (.invokestatic 335, 3) := dk_184 1 79 (dk_at dksX1_ring_3 0 rfl rfl)
theorem dX1_ring_72 : decode cX1_ring 72 = .ok (.ifCond .eq 18, 3) := dk_153 0 18 (dk_at dksX1_ring_3 3 rfl rfl)
theorem dX1_ring_75 : decode cX1_ring 75 = .ok (.iload_n 3, 1) := dk_29 (dk_at dksX1_ring_3 6 rfl rfl)
theorem dX1_ring_76 : decode cX1_ring 76 = .ok (.aload_n 2, 1) := dk_44 (dk_at dksX1_ring_3 7 rfl rfl)
theorem dX1_ring_77 : decode cX1_ring 77 = .ok (.iload 4, 2) := dk_21 4 (dk_at dksX1_ring_3 8 rfl rfl)
theorem dX1_ring_79 : decode cX1_ring 79 = .ok (.iaload, 1) := dk_46 (dk_at dksX1_ring_3 10 rfl rfl)
theorem dX1_ring_80 : decode cX1_ring 80 = .ok (.ishr, 1) := dk_122 (dk_at dksX1_ring_3 11 rfl rfl)
theorem dX1_ring_81 : decode cX1_ring 81 = .ok (.iconst 1, 1) := dk_4 (dk_at dksX1_ring_3 12 rfl rfl)
theorem dX1_ring_82 : decode cX1_ring 82 = .ok (.iand, 1) := dk_126 (dk_at dksX1_ring_3 13 rfl rfl)
theorem dX1_ring_83 : decode cX1_ring 83 = .ok (.ifCond .ne 7, 3) := dk_154 0 7 (dk_at dksX1_ring_3 14 rfl rfl)
theorem dX1_ring_86 : decode cX1_ring 86 = .ok (.iconst 1, 1) := dk_4 (dk_at dksX1_ring_3 17 rfl rfl)
theorem dX1_ring_87 : decode cX1_ring 87 = .ok (.goto 4, 3) := dk_167 0 4 (dk_at dksX1_ring_3 18 rfl rfl)
theorem dX1_ring_90 : decode cX1_ring 90 = .ok (.iconst 0, 1) := dk_3 (dk_at dksX1_ring_3 21 rfl rfl)
theorem dX1_ring_91 : decode cX1_ring 91 = .ok (.invokestatic 351, 3) := dk_184 1 95 (dk_at dksX1_ring_4 0 rfl rfl)
theorem dX1_ring_94 : decode cX1_ring 94 = .ok (.iload_n 3, 1) := dk_29 (dk_at dksX1_ring_4 3 rfl rfl)
theorem dX1_ring_95 : decode cX1_ring 95 = .ok (.iconst 1, 1) := dk_4 (dk_at dksX1_ring_4 4 rfl rfl)
theorem dX1_ring_96 : decode cX1_ring 96 = .ok (.aload_n 2, 1) := dk_44 (dk_at dksX1_ring_4 5 rfl rfl)
theorem dX1_ring_97 : decode cX1_ring 97 = .ok (.iload 4, 2) := dk_21 4 (dk_at dksX1_ring_4 6 rfl rfl)
theorem dX1_ring_99 : decode cX1_ring 99 = .ok (.iaload, 1) := dk_46 (dk_at dksX1_ring_4 8 rfl rfl)
theorem dX1_ring_100 : decode cX1_ring 100 = .ok (.ishl, 1) := dk_120 (dk_at dksX1_ring_4 9 rfl rfl)
theorem dX1_ring_101 : decode cX1_ring 101 = .ok (.ior, 1) := dk_128 (dk_at dksX1_ring_4 10 rfl rfl)
theorem dX1_ring_102 : decode cX1_ring 102 = .ok (.istore_n 3, 1) := dk_62 (dk_at dksX1_ring_4 11 rfl rfl)
theorem dX1_ring_103 : decode cX1_ring 103 = .ok (.iinc 4 1, 3) := dk_132 4 1 (dk_at dksX1_ring_4 12 rfl rfl)
theorem dX1_ring_106 : decode cX1_ring 106 = .ok (.goto (-72), 3) := dk_167 255 184 (dk_at dksX1_ring_4 15 rfl rfl)
theorem dX1_ring_109 : decode cX1_ring 109 = .ok (.aload_n 0, 1) := dk_42 (dk_at dksX1_ring_4 18 rfl rfl)
theorem dX1_ring_110 : decode cX1_ring 110 = .ok (.getfield 10, 3) := dk_180 0 10 (dk_at dksX1_ring_4 19 rfl rfl)
theorem dX1_ring_113 : decode cX1_ring 113 = .ok (.getfield 458, 3) := dk_180 1 202 (dk_at dksX1_ring_5 0 rfl rfl)
theorem dX1_ring_116 : decode cX1_ring 116 = .ok (.invokevirtual 84, 3) := dk_182 0 84 (dk_at dksX1_ring_5 3 rfl rfl)
theorem dX1_ring_119 : decode cX1_ring 119 = .ok (.bipush 8, 2) := dk_16 8 (dk_at dksX1_ring_5 6 rfl rfl)
theorem dX1_ring_121 : decode cX1_ring 121 = .ok (.if_icmp .ne 11, 3) := dk_160 0 11 (dk_at dksX1_ring_5 8 rfl rfl)
theorem dX1_ring_124 : decode cX1_ring 124 = .ok (.new 216, 3) := dk_187 0 216 (dk_at dksX1_ring_5 11 rfl rfl)
theorem dX1_ring_127 : decode cX1_ring 127 = .ok (.dup, 1) := dk_89 (dk_at dksX1_ring_5 14 rfl rfl)
theorem dX1_ring_128 : decode cX1_ring 128 = .ok (.invokespecial 218, 3) := dk_183 0 218 (dk_at dksX1_ring_5 15 rfl rfl)
theorem dX1_ring_131 : decode cX1_ring 131 = .ok (.athrow, 1) := dk_191 (dk_at dksX1_ring_5 18 rfl rfl)
theorem dX1_ring_132 : decode cX1_ring 132 = .ok (.aload_n 0, 1) := dk_42 (dk_at dksX1_ring_5 19 rfl rfl)
theorem dX1_ring_133 : decode cX1_ring 133 = .ok (.getfield 10, 3) := dk_180 0 10 (dk_at dksX1_ring_5 20 rfl rfl)
theorem dX1_ring_136 : decode cX1_ring 136 = .ok (.getfield 458, 3) := dk_180 1 202 (dk_at dksX1_ring_6 0 rfl rfl)
theorem dX1_ring_139 : decode cX1_ring 139 = .ok (.aload_n 2, 1) := dk_44 (dk_at dksX1_ring_6 3 rfl rfl)
theorem dX1_ring_140 : decode cX1_ring 140 = .ok (.invokevirtual 162, 3) := dk_182 0 162 (dk_at dksX1_ring_6 4 rfl rfl)
theorem dX1_ring_143 : decode cX1_ring 143 = .ok (.pop, 1) := dk_87 (dk_at dksX1_ring_6 7 rfl rfl)
theorem dX1_ring_144 : decode cX1_ring 144 = .ok (.aload_n 0, 1) := dk_42 (dk_at dksX1_ring_6 8 rfl rfl)
theorem dX1_ring_145 : decode cX1_ring 145 = .ok (.getfield 10, 3) := dk_180 0 10 (dk_at dksX1_ring_6 9 rfl rfl)
theorem dX1_ring_148 : decode cX1_ring 148 = .ok (.getfield 458, 3) := dk_180 1 202 (dk_at dksX1_ring_6 12 rfl rfl)
theorem dX1_ring_151 : decode cX1_ring 151 = .ok (.invokevirtual 84, 3) := dk_182 0 84 (dk_at dksX1_ring_6 15 rfl rfl)
theorem dX1_ring_154 : decode cX1_ring 154 = .ok (.iconst 1, 1) := dk_4 (dk_at dksX1_ring_6 18 rfl rfl)
theorem dX1_ring_155 : decode cX1_ring 155 = .ok (.isub, 1) := dk_100 (dk_at dksX1_ring_6 19 rfl rfl)
theorem dX1_ring_156 : decode cX1_ring 156 = .ok (.ireturn, 1) := dk_172 (dk_at dksX1_ring_6 20 rfl rfl)
abbrev cX1_clear : ByteArray := prog_1_method_56_code
def yX1_clear : MethodName := ⟨RX1, "clear", "(I)I"⟩
def dkwX1_clear_2 : List UInt8 := [180, 0, 39, 180, 1, 208, 27, 46, 167, 0, 4, 2, 172]
abbrev dktX1_clear_2 : List UInt8 := dkwX1_clear_2 ++ []
def dkwX1_clear_1 : List UInt8 := [160, 0, 7, 28, 167, 0, 30, 27, 42, 180, 0, 10, 180, 1, 202, 182, 0, 84, 162, 0, 15, 42]
abbrev dktX1_clear_1 : List UInt8 := dkwX1_clear_1 ++ dktX1_clear_2
def dkwX1_clear_0 : List UInt8 := [27, 2, 161, 0, 7, 4, 167, 0, 4, 3, 184, 1, 95, 42, 180, 0, 39, 182, 1, 205, 61, 27, 2]
abbrev dktX1_clear_0 : List UInt8 := dkwX1_clear_0 ++ dktX1_clear_1
theorem dksX1_clear_0 : cX1_clear.data.toList.drop 0 = dktX1_clear_0 := by decide +kernel
theorem dksX1_clear_1 : cX1_clear.data.toList.drop 23 = dktX1_clear_1 := dk_seg dksX1_clear_0 23 rfl rfl
theorem dksX1_clear_2 : cX1_clear.data.toList.drop 45 = dktX1_clear_2 := dk_seg dksX1_clear_1 22 rfl rfl
theorem dX1_clear_0 : decode cX1_clear 0 = .ok (.iload_n 1, 1) := dk_27 (dk_at dksX1_clear_0 0 rfl rfl)
theorem dX1_clear_1 : decode cX1_clear 1 = .ok (.iconst (-1), 1) := dk_2 (dk_at dksX1_clear_0 1 rfl rfl)
theorem dX1_clear_2 : decode cX1_clear 2 = .ok (.if_icmp .lt 7, 3) := dk_161 0 7 (dk_at dksX1_clear_0 2 rfl rfl)
theorem dX1_clear_5 : decode cX1_clear 5 = .ok (.iconst 1, 1) := dk_4 (dk_at dksX1_clear_0 5 rfl rfl)
theorem dX1_clear_6 : decode cX1_clear 6 = .ok (.goto 4, 3) := dk_167 0 4 (dk_at dksX1_clear_0 6 rfl rfl)
theorem dX1_clear_9 : decode cX1_clear 9 = .ok (.iconst 0, 1) := dk_3 (dk_at dksX1_clear_0 9 rfl rfl)
theorem dX1_clear_10 : decode cX1_clear 10 = .ok (.invokestatic 351, 3) := dk_184 1 95 (dk_at dksX1_clear_0 10 rfl rfl)
theorem dX1_clear_13 : decode cX1_clear 13 = .ok (.aload_n 0, 1) := dk_42 (dk_at dksX1_clear_0 13 rfl rfl)
theorem dX1_clear_14 : decode cX1_clear 14 = .ok (.getfield 39, 3) := dk_180 0 39 (dk_at dksX1_clear_0 14 rfl rfl)
theorem dX1_clear_17 : decode cX1_clear 17 = .ok (.invokevirtual 461, 3) := dk_182 1 205 (dk_at dksX1_clear_0 17 rfl rfl)
theorem dX1_clear_20 : decode cX1_clear 20 = .ok (.istore_n 2, 1) := dk_61 (dk_at dksX1_clear_0 20 rfl rfl)
theorem dX1_clear_21 : decode cX1_clear 21 = .ok (.iload_n 1, 1) := dk_27 (dk_at dksX1_clear_0 21 rfl rfl)
theorem dX1_clear_22 : decode cX1_clear 22 = .ok (.iconst (-1), 1) := dk_2 (dk_at dksX1_clear_0 22 rfl rfl)
theorem dX1_clear_23 : decode cX1_clear 23 = .ok (.if_icmp .ne 7, 3) := dk_160 0 7 (dk_at dksX1_clear_1 0 rfl rfl)
theorem dX1_clear_26 : decode cX1_clear 26 = .ok (.iload_n 2, 1) := dk_28 (dk_at dksX1_clear_1 3 rfl rfl)
theorem dX1_clear_27 : decode cX1_clear 27 = .ok (.goto 30, 3) := dk_167 0 30 (dk_at dksX1_clear_1 4 rfl rfl)
theorem dX1_clear_30 : decode cX1_clear 30 = .ok (.iload_n 1, 1) := dk_27 (dk_at dksX1_clear_1 7 rfl rfl)
theorem dX1_clear_31 : decode cX1_clear 31 = .ok (.aload_n 0, 1) := dk_42 (dk_at dksX1_clear_1 8 rfl rfl)
theorem dX1_clear_32 : decode cX1_clear 32 = .ok (.getfield 10, 3) := dk_180 0 10 (dk_at dksX1_clear_1 9 rfl rfl)
theorem dX1_clear_35 : decode cX1_clear 35 = .ok (.getfield 458, 3) := dk_180 1 202 (dk_at dksX1_clear_1 12 rfl rfl)
theorem dX1_clear_38 : decode cX1_clear 38 = .ok (.invokevirtual 84, 3) := dk_182 0 84 (dk_at dksX1_clear_1 15 rfl rfl)
theorem dX1_clear_41 : decode cX1_clear 41 = .ok (.if_icmp .ge 15, 3) := dk_162 0 15 (dk_at dksX1_clear_1 18 rfl rfl)
theorem dX1_clear_44 : decode cX1_clear 44 = .ok (.aload_n 0, 1) := dk_42 (dk_at dksX1_clear_1 21 rfl rfl)
theorem dX1_clear_45 : decode cX1_clear 45 = .ok (.getfield 39, 3) := dk_180 0 39 (dk_at dksX1_clear_2 0 rfl rfl)
theorem dX1_clear_48 : decode cX1_clear 48 = .ok (.getfield 464, 3) := dk_180 1 208 (dk_at dksX1_clear_2 3 rfl rfl)
theorem dX1_clear_51 : decode cX1_clear 51 = .ok (.iload_n 1, 1) := dk_27 (dk_at dksX1_clear_2 6 rfl rfl)
theorem dX1_clear_52 : decode cX1_clear 52 = .ok (.iaload, 1) := dk_46 (dk_at dksX1_clear_2 7 rfl rfl)
theorem dX1_clear_53 : decode cX1_clear 53 = .ok (.goto 4, 3) := dk_167 0 4 (dk_at dksX1_clear_2 8 rfl rfl)
theorem dX1_clear_56 : decode cX1_clear 56 = .ok (.iconst (-1), 1) := dk_2 (dk_at dksX1_clear_2 11 rfl rfl)
theorem dX1_clear_57 : decode cX1_clear 57 = .ok (.ireturn, 1) := dk_172 (dk_at dksX1_clear_2 12 rfl rfl)
abbrev cX1_loss : ByteArray := prog_1_method_57_code
def yX1_loss : MethodName := ⟨RX1, "loss", "(II)I"⟩
def dkwX1_loss_0 : List UInt8 := [42, 27, 182, 1, 92, 42, 28, 182, 1, 92, 42, 180, 0, 10, 180, 1, 211, 27, 50, 28, 46, 172]
abbrev dktX1_loss_0 : List UInt8 := dkwX1_loss_0 ++ []
theorem dksX1_loss_0 : cX1_loss.data.toList.drop 0 = dktX1_loss_0 := by decide +kernel
theorem dX1_loss_0 : decode cX1_loss 0 = .ok (.aload_n 0, 1) := dk_42 (dk_at dksX1_loss_0 0 rfl rfl)
theorem dX1_loss_1 : decode cX1_loss 1 = .ok (.iload_n 1, 1) := dk_27 (dk_at dksX1_loss_0 1 rfl rfl)
theorem dX1_loss_2 : decode cX1_loss 2 = .ok (.invokevirtual 348, 3) := dk_182 1 92 (dk_at dksX1_loss_0 2 rfl rfl)
theorem dX1_loss_5 : decode cX1_loss 5 = .ok (.aload_n 0, 1) := dk_42 (dk_at dksX1_loss_0 5 rfl rfl)
theorem dX1_loss_6 : decode cX1_loss 6 = .ok (.iload_n 2, 1) := dk_28 (dk_at dksX1_loss_0 6 rfl rfl)
theorem dX1_loss_7 : decode cX1_loss 7 = .ok (.invokevirtual 348, 3) := dk_182 1 92 (dk_at dksX1_loss_0 7 rfl rfl)
theorem dX1_loss_10 : decode cX1_loss 10 = .ok (.aload_n 0, 1) := dk_42 (dk_at dksX1_loss_0 10 rfl rfl)
theorem dX1_loss_11 : decode cX1_loss 11 = .ok (.getfield 10, 3) := dk_180 0 10 (dk_at dksX1_loss_0 11 rfl rfl)
theorem dX1_loss_14 : decode cX1_loss 14 = .ok (.getfield 467, 3) := dk_180 1 211 (dk_at dksX1_loss_0 14 rfl rfl)
theorem dX1_loss_17 : decode cX1_loss 17 = .ok (.iload_n 1, 1) := dk_27 (dk_at dksX1_loss_0 17 rfl rfl)
theorem dX1_loss_18 : decode cX1_loss 18 = .ok (.aaload, 1) := dk_50 (dk_at dksX1_loss_0 18 rfl rfl)
theorem dX1_loss_19 : decode cX1_loss 19 = .ok (.iload_n 2, 1) := dk_28 (dk_at dksX1_loss_0 19 rfl rfl)
theorem dX1_loss_20 : decode cX1_loss 20 = .ok (.iaload, 1) := dk_46 (dk_at dksX1_loss_0 20 rfl rfl)
theorem dX1_loss_21 : decode cX1_loss 21 = .ok (.ireturn, 1) := dk_172 (dk_at dksX1_loss_0 21 rfl rfl)
abbrev cX1_ruined : ByteArray := prog_1_method_58_code
def yX1_ruined : MethodName := ⟨RX1, "ruined", "(I)I"⟩
def dkwX1_ruined_2 : List UInt8 := [50, 28, 46, 164, 0, 5, 29, 61, 132, 3, 1, 167, 255, 206, 28, 172]
abbrev dktX1_ruined_2 : List UInt8 := dkwX1_ruined_2 ++ []
def dkwX1_ruined_1 : List UInt8 := [180, 1, 211, 27, 50, 29, 46, 28, 2, 160, 0, 7, 3, 167, 0, 14, 42, 180, 0, 10, 180, 1, 211, 27]
abbrev dktX1_ruined_1 : List UInt8 := dkwX1_ruined_1 ++ dktX1_ruined_2
def dkwX1_ruined_0 : List UInt8 := [42, 27, 182, 1, 92, 2, 61, 3, 62, 29, 42, 180, 0, 10, 180, 0, 55, 162, 0, 45, 42, 180, 0, 10]
abbrev dktX1_ruined_0 : List UInt8 := dkwX1_ruined_0 ++ dktX1_ruined_1
theorem dksX1_ruined_0 : cX1_ruined.data.toList.drop 0 = dktX1_ruined_0 := by decide +kernel
theorem dksX1_ruined_1 : cX1_ruined.data.toList.drop 24 = dktX1_ruined_1 := dk_seg dksX1_ruined_0 24 rfl rfl
theorem dksX1_ruined_2 : cX1_ruined.data.toList.drop 48 = dktX1_ruined_2 := dk_seg dksX1_ruined_1 24 rfl rfl
theorem dX1_ruined_0 : decode cX1_ruined 0 = .ok (.aload_n 0, 1) := dk_42 (dk_at dksX1_ruined_0 0 rfl rfl)
theorem dX1_ruined_1 : decode cX1_ruined 1 = .ok (.iload_n 1, 1) := dk_27 (dk_at dksX1_ruined_0 1 rfl rfl)
theorem dX1_ruined_2 : decode cX1_ruined 2 = .ok (.invokevirtual 348, 3) := dk_182 1 92 (dk_at dksX1_ruined_0 2 rfl rfl)
theorem dX1_ruined_5 : decode cX1_ruined 5 = .ok (.iconst (-1), 1) := dk_2 (dk_at dksX1_ruined_0 5 rfl rfl)
theorem dX1_ruined_6 : decode cX1_ruined 6 = .ok (.istore_n 2, 1) := dk_61 (dk_at dksX1_ruined_0 6 rfl rfl)
theorem dX1_ruined_7 : decode cX1_ruined 7 = .ok (.iconst 0, 1) := dk_3 (dk_at dksX1_ruined_0 7 rfl rfl)
theorem dX1_ruined_8 : decode cX1_ruined 8 = .ok (.istore_n 3, 1) := dk_62 (dk_at dksX1_ruined_0 8 rfl rfl)
theorem dX1_ruined_9 : decode cX1_ruined 9 = .ok (.iload_n 3, 1) := dk_29 (dk_at dksX1_ruined_0 9 rfl rfl)
theorem dX1_ruined_10 : decode cX1_ruined 10 = .ok (.aload_n 0, 1) := dk_42 (dk_at dksX1_ruined_0 10 rfl rfl)
theorem dX1_ruined_11 : decode cX1_ruined 11 = .ok (.getfield 10, 3) := dk_180 0 10 (dk_at dksX1_ruined_0 11 rfl rfl)
theorem dX1_ruined_14 : decode cX1_ruined 14 = .ok (.getfield 55, 3) := dk_180 0 55 (dk_at dksX1_ruined_0 14 rfl rfl)
theorem dX1_ruined_17 : decode cX1_ruined 17 = .ok (.if_icmp .ge 45, 3) := dk_162 0 45 (dk_at dksX1_ruined_0 17 rfl rfl)
theorem dX1_ruined_20 : decode cX1_ruined 20 = .ok (.aload_n 0, 1) := dk_42 (dk_at dksX1_ruined_0 20 rfl rfl)
theorem dX1_ruined_21 : decode cX1_ruined 21 = .ok (.getfield 10, 3) := dk_180 0 10 (dk_at dksX1_ruined_0 21 rfl rfl)
theorem dX1_ruined_24 : decode cX1_ruined 24 = .ok (.getfield 467, 3) := dk_180 1 211 (dk_at dksX1_ruined_1 0 rfl rfl)
theorem dX1_ruined_27 : decode cX1_ruined 27 = .ok (.iload_n 1, 1) := dk_27 (dk_at dksX1_ruined_1 3 rfl rfl)
theorem dX1_ruined_28 : decode cX1_ruined 28 = .ok (.aaload, 1) := dk_50 (dk_at dksX1_ruined_1 4 rfl rfl)
theorem dX1_ruined_29 : decode cX1_ruined 29 = .ok (.iload_n 3, 1) := dk_29 (dk_at dksX1_ruined_1 5 rfl rfl)
theorem dX1_ruined_30 : decode cX1_ruined 30 = .ok (.iaload, 1) := dk_46 (dk_at dksX1_ruined_1 6 rfl rfl)
theorem dX1_ruined_31 : decode cX1_ruined 31 = .ok (.iload_n 2, 1) := dk_28 (dk_at dksX1_ruined_1 7 rfl rfl)
theorem dX1_ruined_32 : decode cX1_ruined 32 = .ok (.iconst (-1), 1) := dk_2 (dk_at dksX1_ruined_1 8 rfl rfl)
theorem dX1_ruined_33 : decode cX1_ruined 33 = .ok (.if_icmp .ne 7, 3) := dk_160 0 7 (dk_at dksX1_ruined_1 9 rfl rfl)
theorem dX1_ruined_36 : decode cX1_ruined 36 = .ok (.iconst 0, 1) := dk_3 (dk_at dksX1_ruined_1 12 rfl rfl)
theorem dX1_ruined_37 : decode cX1_ruined 37 = .ok (.goto 14, 3) := dk_167 0 14 (dk_at dksX1_ruined_1 13 rfl rfl)
theorem dX1_ruined_40 : decode cX1_ruined 40 = .ok (.aload_n 0, 1) := dk_42 (dk_at dksX1_ruined_1 16 rfl rfl)
theorem dX1_ruined_41 : decode cX1_ruined 41 = .ok (.getfield 10, 3) := dk_180 0 10 (dk_at dksX1_ruined_1 17 rfl rfl)
theorem dX1_ruined_44 : decode cX1_ruined 44 = .ok (.getfield 467, 3) := dk_180 1 211 (dk_at dksX1_ruined_1 20 rfl rfl)
theorem dX1_ruined_47 : decode cX1_ruined 47 = .ok (.iload_n 1, 1) := dk_27 (dk_at dksX1_ruined_1 23 rfl rfl)
theorem dX1_ruined_48 : decode cX1_ruined 48 = .ok (.aaload, 1) := dk_50 (dk_at dksX1_ruined_2 0 rfl rfl)
theorem dX1_ruined_49 : decode cX1_ruined 49 = .ok (.iload_n 2, 1) := dk_28 (dk_at dksX1_ruined_2 1 rfl rfl)
theorem dX1_ruined_50 : decode cX1_ruined 50 = .ok (.iaload, 1) := dk_46 (dk_at dksX1_ruined_2 2 rfl rfl)
theorem dX1_ruined_51 : decode cX1_ruined 51 = .ok (.if_icmp .le 5, 3) := dk_164 0 5 (dk_at dksX1_ruined_2 3 rfl rfl)
theorem dX1_ruined_54 : decode cX1_ruined 54 = .ok (.iload_n 3, 1) := dk_29 (dk_at dksX1_ruined_2 6 rfl rfl)
theorem dX1_ruined_55 : decode cX1_ruined 55 = .ok (.istore_n 2, 1) := dk_61 (dk_at dksX1_ruined_2 7 rfl rfl)
theorem dX1_ruined_56 : decode cX1_ruined 56 = .ok (.iinc 3 1, 3) := dk_132 3 1 (dk_at dksX1_ruined_2 8 rfl rfl)
theorem dX1_ruined_59 : decode cX1_ruined 59 = .ok (.goto (-50), 3) := dk_167 255 206 (dk_at dksX1_ruined_2 11 rfl rfl)
theorem dX1_ruined_62 : decode cX1_ruined 62 = .ok (.iload_n 2, 1) := dk_28 (dk_at dksX1_ruined_2 14 rfl rfl)
theorem dX1_ruined_63 : decode cX1_ruined 63 = .ok (.ireturn, 1) := dk_172 (dk_at dksX1_ruined_2 15 rfl rfl)
abbrev cX1_fits : ByteArray := prog_1_method_59_code
def yX1_fits : MethodName := ⟨RX1, "fits", "(I)I"⟩
def dkwX1_fits_3 : List UInt8 := [160, 0, 16, 21, 5, 44, 180, 1, 196, 160, 0, 7, 2, 167, 0, 5, 21, 5, 172]
abbrev dktX1_fits_3 : List UInt8 := dkwX1_fits_3 ++ []
def dkwX1_fits_2 : List UInt8 := [51, 16, 97, 100, 45, 180, 1, 126, 21, 5, 46, 160, 0, 9, 132, 5, 1, 167, 255, 217, 21, 5, 21, 4]
abbrev dktX1_fits_2 : List UInt8 := dkwX1_fits_2 ++ dktX1_fits_3
def dkwX1_fits_1 : List UInt8 := [54, 5, 21, 5, 21, 4, 162, 0, 38, 21, 5, 44, 180, 1, 196, 162, 0, 29, 44, 180, 1, 198, 21, 5]
abbrev dktX1_fits_1 : List UInt8 := dkwX1_fits_1 ++ dktX1_fits_2
def dkwX1_fits_0 : List UInt8 := [42, 180, 0, 19, 77, 44, 182, 0, 198, 42, 27, 182, 1, 101, 78, 45, 180, 1, 105, 5, 96, 54, 4, 3]
abbrev dktX1_fits_0 : List UInt8 := dkwX1_fits_0 ++ dktX1_fits_1
theorem dksX1_fits_0 : cX1_fits.data.toList.drop 0 = dktX1_fits_0 := by decide +kernel
theorem dksX1_fits_1 : cX1_fits.data.toList.drop 24 = dktX1_fits_1 := dk_seg dksX1_fits_0 24 rfl rfl
theorem dksX1_fits_2 : cX1_fits.data.toList.drop 48 = dktX1_fits_2 := dk_seg dksX1_fits_1 24 rfl rfl
theorem dksX1_fits_3 : cX1_fits.data.toList.drop 72 = dktX1_fits_3 := dk_seg dksX1_fits_2 24 rfl rfl
theorem dX1_fits_0 : decode cX1_fits 0 = .ok (.aload_n 0, 1) := dk_42 (dk_at dksX1_fits_0 0 rfl rfl)
theorem dX1_fits_1 : decode cX1_fits 1 = .ok (.getfield 19, 3) := dk_180 0 19 (dk_at dksX1_fits_0 1 rfl rfl)
theorem dX1_fits_4 : decode cX1_fits 4 = .ok (.astore_n 2, 1) := dk_77 (dk_at dksX1_fits_0 4 rfl rfl)
theorem dX1_fits_5 : decode cX1_fits 5 = .ok (.aload_n 2, 1) := dk_44 (dk_at dksX1_fits_0 5 rfl rfl)
theorem dX1_fits_6 : decode cX1_fits 6 = .ok (.invokevirtual 198, 3) := dk_182 0 198 (dk_at dksX1_fits_0 6 rfl rfl)
theorem dX1_fits_9 : decode cX1_fits 9 = .ok (.aload_n 0, 1) := dk_42 (dk_at dksX1_fits_0 9 rfl rfl)
theorem dX1_fits_10 : decode cX1_fits 10 = .ok (.iload_n 1, 1) := dk_27 (dk_at dksX1_fits_0 10 rfl rfl)
theorem dX1_fits_11 : decode cX1_fits 11 = .ok (.invokevirtual 357, 3) := dk_182 1 101 (dk_at dksX1_fits_0 11 rfl rfl)
theorem dX1_fits_14 : decode cX1_fits 14 = .ok (.astore_n 3, 1) := dk_78 (dk_at dksX1_fits_0 14 rfl rfl)
theorem dX1_fits_15 : decode cX1_fits 15 = .ok (.aload_n 3, 1) := dk_45 (dk_at dksX1_fits_0 15 rfl rfl)
theorem dX1_fits_16 : decode cX1_fits 16 = .ok (.getfield 361, 3) := dk_180 1 105 (dk_at dksX1_fits_0 16 rfl rfl)
theorem dX1_fits_19 : decode cX1_fits 19 = .ok (.iconst 2, 1) := dk_5 (dk_at dksX1_fits_0 19 rfl rfl)
theorem dX1_fits_20 : decode cX1_fits 20 = .ok (.iadd, 1) := dk_96 (dk_at dksX1_fits_0 20 rfl rfl)
theorem dX1_fits_21 : decode cX1_fits 21 = .ok (.istore 4, 2) := dk_54 4 (dk_at dksX1_fits_0 21 rfl rfl)
theorem dX1_fits_23 : decode cX1_fits 23 = .ok (.iconst 0, 1) := dk_3 (dk_at dksX1_fits_0 23 rfl rfl)
theorem dX1_fits_24 : decode cX1_fits 24 = .ok (.istore 5, 2) := dk_54 5 (dk_at dksX1_fits_1 0 rfl rfl)
theorem dX1_fits_26 : decode cX1_fits 26 = .ok (.iload 5, 2) := dk_21 5 (dk_at dksX1_fits_1 2 rfl rfl)
theorem dX1_fits_28 : decode cX1_fits 28 = .ok (.iload 4, 2) := dk_21 4 (dk_at dksX1_fits_1 4 rfl rfl)
theorem dX1_fits_30 : decode cX1_fits 30 = .ok (.if_icmp .ge 38, 3) := dk_162 0 38 (dk_at dksX1_fits_1 6 rfl rfl)
theorem dX1_fits_33 : decode cX1_fits 33 = .ok (.iload 5, 2) := dk_21 5 (dk_at dksX1_fits_1 9 rfl rfl)
theorem dX1_fits_35 : decode cX1_fits 35 = .ok (.aload_n 2, 1) := dk_44 (dk_at dksX1_fits_1 11 rfl rfl)
theorem dX1_fits_36 : decode cX1_fits 36 = .ok (.getfield 452, 3) := dk_180 1 196 (dk_at dksX1_fits_1 12 rfl rfl)
theorem dX1_fits_39 : decode cX1_fits 39 = .ok (.if_icmp .ge 29, 3) := dk_162 0 29 (dk_at dksX1_fits_1 15 rfl rfl)
theorem dX1_fits_42 : decode cX1_fits 42 = .ok (.aload_n 2, 1) := dk_44 (dk_at dksX1_fits_1 18 rfl rfl)
theorem dX1_fits_43 : decode cX1_fits 43 = .ok (.getfield 454, 3) := dk_180 1 198 (dk_at dksX1_fits_1 19 rfl rfl)
theorem dX1_fits_46 : decode cX1_fits 46 = .ok (.iload 5, 2) := dk_21 5 (dk_at dksX1_fits_1 22 rfl rfl)
theorem dX1_fits_48 : decode cX1_fits 48 = .ok (.baload, 1) := dk_51 (dk_at dksX1_fits_2 0 rfl rfl)
theorem dX1_fits_49 : decode cX1_fits 49 = .ok (.bipush 97, 2) := dk_16 97 (dk_at dksX1_fits_2 1 rfl rfl)
theorem dX1_fits_51 : decode cX1_fits 51 = .ok (.isub, 1) := dk_100 (dk_at dksX1_fits_2 3 rfl rfl)
theorem dX1_fits_52 : decode cX1_fits 52 = .ok (.aload_n 3, 1) := dk_45 (dk_at dksX1_fits_2 4 rfl rfl)
theorem dX1_fits_53 : decode cX1_fits 53 = .ok (.getfield 382, 3) := dk_180 1 126 (dk_at dksX1_fits_2 5 rfl rfl)
theorem dX1_fits_56 : decode cX1_fits 56 = .ok (.iload 5, 2) := dk_21 5 (dk_at dksX1_fits_2 8 rfl rfl)
theorem dX1_fits_58 : decode cX1_fits 58 = .ok (.iaload, 1) := dk_46 (dk_at dksX1_fits_2 10 rfl rfl)
theorem dX1_fits_59 : decode cX1_fits 59 = .ok (.if_icmp .ne 9, 3) := dk_160 0 9 (dk_at dksX1_fits_2 11 rfl rfl)
theorem dX1_fits_62 : decode cX1_fits 62 = .ok (.iinc 5 1, 3) := dk_132 5 1 (dk_at dksX1_fits_2 14 rfl rfl)
theorem dX1_fits_65 : decode cX1_fits 65 = .ok (.goto (-39), 3) := dk_167 255 217 (dk_at dksX1_fits_2 17 rfl rfl)
theorem dX1_fits_68 : decode cX1_fits 68 = .ok (.iload 5, 2) := dk_21 5 (dk_at dksX1_fits_2 20 rfl rfl)
theorem dX1_fits_70 : decode cX1_fits 70 = .ok (.iload 4, 2) := dk_21 4 (dk_at dksX1_fits_2 22 rfl rfl)
theorem dX1_fits_72 : decode cX1_fits 72 = .ok (.if_icmp .ne 16, 3) := dk_160 0 16 (dk_at dksX1_fits_3 0 rfl rfl)
theorem dX1_fits_75 : decode cX1_fits 75 = .ok (.iload 5, 2) := dk_21 5 (dk_at dksX1_fits_3 3 rfl rfl)
theorem dX1_fits_77 : decode cX1_fits 77 = .ok (.aload_n 2, 1) := dk_44 (dk_at dksX1_fits_3 5 rfl rfl)
theorem dX1_fits_78 : decode cX1_fits 78 = .ok (.getfield 452, 3) := dk_180 1 196 (dk_at dksX1_fits_3 6 rfl rfl)
theorem dX1_fits_81 : decode cX1_fits 81 = .ok (.if_icmp .ne 7, 3) := dk_160 0 7 (dk_at dksX1_fits_3 9 rfl rfl)
theorem dX1_fits_84 : decode cX1_fits 84 = .ok (.iconst (-1), 1) := dk_2 (dk_at dksX1_fits_3 12 rfl rfl)
theorem dX1_fits_85 : decode cX1_fits 85 = .ok (.goto 5, 3) := dk_167 0 5 (dk_at dksX1_fits_3 13 rfl rfl)
theorem dX1_fits_88 : decode cX1_fits 88 = .ok (.iload 5, 2) := dk_21 5 (dk_at dksX1_fits_3 16 rfl rfl)
theorem dX1_fits_90 : decode cX1_fits 90 = .ok (.ireturn, 1) := dk_172 (dk_at dksX1_fits_3 18 rfl rfl)
abbrev cX1_play : ByteArray := prog_1_method_60_code
def yX1_play : MethodName := ⟨RX1, "play", "(III)I"⟩
def dkwX1_play_12 : List UInt8 := [7, 160, 0, 8, 21, 7, 167, 0, 5, 21, 8, 172]
abbrev dktX1_play_12 : List UInt8 := dkwX1_play_12 ++ []
def dkwX1_play_11 : List UInt8 := [182, 1, 132, 25, 4, 21, 8, 182, 1, 132, 164, 0, 7, 21, 9, 54, 8, 132, 9, 1, 167, 255, 204, 29]
abbrev dktX1_play_11 : List UInt8 := dkwX1_play_11 ++ dktX1_play_12
def dkwX1_play_10 : List UInt8 := [21, 7, 25, 4, 21, 9, 182, 1, 132, 96, 54, 7, 21, 8, 2, 159, 0, 20, 25, 4, 21, 9]
abbrev dktX1_play_10 : List UInt8 := dkwX1_play_10 ++ dktX1_play_11
def dkwX1_play_9 : List UInt8 := [182, 1, 215, 172, 3, 54, 7, 2, 54, 8, 3, 54, 9, 21, 9, 25, 4, 180, 0, 55, 162, 0, 48]
abbrev dktX1_play_9 : List UInt8 := dkwX1_play_9 ++ dktX1_play_10
def dkwX1_play_8 : List UInt8 := [132, 7, 1, 167, 255, 102, 29, 6, 162, 0, 8, 25, 5, 29, 46, 172, 29, 6, 160, 0, 9, 25, 4]
abbrev dktX1_play_8 : List UInt8 := dkwX1_play_8 ++ dktX1_play_9
def dkwX1_play_7 : List UInt8 := [167, 0, 4, 3, 92, 46, 4, 96, 79, 132, 8, 1, 167, 255, 124, 25, 4, 4, 182, 0, 149, 87]
abbrev dktX1_play_7 : List UInt8 := dkwX1_play_7 ++ dktX1_play_8
def dkwX1_play_6 : List UInt8 := [54, 12, 25, 5, 21, 12, 2, 160, 0, 7, 5, 167, 0, 15, 21, 12, 21, 11, 160, 0, 7, 4]
abbrev dktX1_play_6 : List UInt8 := dkwX1_play_6 ++ dktX1_play_7
def dkwX1_play_5 : List UInt8 := [54, 10, 25, 4, 180, 0, 80, 182, 0, 84, 54, 11, 25, 4, 21, 8, 21, 9, 21, 10, 182, 1, 160]
abbrev dktX1_play_5 : List UInt8 := dkwX1_play_5 ++ dktX1_play_6
def dkwX1_play_4 : List UInt8 := [19, 1, 214, 104, 17, 48, 57, 96, 54, 6, 21, 6, 16, 16, 122, 17, 127, 255, 126, 16, 9, 112, 4, 96]
abbrev dktX1_play_4 : List UInt8 := dkwX1_play_4 ++ dktX1_play_5
def dkwX1_play_3 : List UInt8 := [17, 127, 255, 126, 25, 4, 180, 0, 55, 112, 54, 9, 21, 9, 21, 8, 160, 0, 6, 167, 0, 83, 21, 6]
abbrev dktX1_play_3 : List UInt8 := dkwX1_play_3 ++ dktX1_play_4
def dkwX1_play_2 : List UInt8 := [180, 0, 55, 162, 0, 128, 21, 6, 19, 1, 214, 104, 17, 48, 57, 96, 54, 6, 21, 6, 16, 16, 122]
abbrev dktX1_play_2 : List UInt8 := dkwX1_play_2 ++ dktX1_play_3
def dkwX1_play_1 : List UInt8 := [6, 188, 10, 58, 5, 27, 54, 6, 3, 54, 7, 21, 7, 28, 162, 0, 154, 3, 54, 8, 21, 8, 25, 4]
abbrev dktX1_play_1 : List UInt8 := dkwX1_play_1 ++ dktX1_play_2
def dkwX1_play_0 : List UInt8 := [28, 3, 16, 60, 184, 1, 79, 184, 1, 95, 29, 8, 184, 1, 111, 42, 180, 0, 10, 182, 0, 201, 58, 4]
abbrev dktX1_play_0 : List UInt8 := dkwX1_play_0 ++ dktX1_play_1
theorem dksX1_play_0 : cX1_play.data.toList.drop 0 = dktX1_play_0 := by decide +kernel
theorem dksX1_play_1 : cX1_play.data.toList.drop 24 = dktX1_play_1 := dk_seg dksX1_play_0 24 rfl rfl
theorem dksX1_play_2 : cX1_play.data.toList.drop 48 = dktX1_play_2 := dk_seg dksX1_play_1 24 rfl rfl
theorem dksX1_play_3 : cX1_play.data.toList.drop 71 = dktX1_play_3 := dk_seg dksX1_play_2 23 rfl rfl
theorem dksX1_play_4 : cX1_play.data.toList.drop 95 = dktX1_play_4 := dk_seg dksX1_play_3 24 rfl rfl
theorem dksX1_play_5 : cX1_play.data.toList.drop 119 = dktX1_play_5 := dk_seg dksX1_play_4 24 rfl rfl
theorem dksX1_play_6 : cX1_play.data.toList.drop 142 = dktX1_play_6 := dk_seg dksX1_play_5 23 rfl rfl
theorem dksX1_play_7 : cX1_play.data.toList.drop 164 = dktX1_play_7 := dk_seg dksX1_play_6 22 rfl rfl
theorem dksX1_play_8 : cX1_play.data.toList.drop 186 = dktX1_play_8 := dk_seg dksX1_play_7 22 rfl rfl
theorem dksX1_play_9 : cX1_play.data.toList.drop 209 = dktX1_play_9 := dk_seg dksX1_play_8 23 rfl rfl
theorem dksX1_play_10 : cX1_play.data.toList.drop 232 = dktX1_play_10 := dk_seg dksX1_play_9 23 rfl rfl
theorem dksX1_play_11 : cX1_play.data.toList.drop 254 = dktX1_play_11 := dk_seg dksX1_play_10 22 rfl rfl
theorem dksX1_play_12 : cX1_play.data.toList.drop 278 = dktX1_play_12 := dk_seg dksX1_play_11 24 rfl rfl
theorem dX1_play_0 : decode cX1_play 0 = .ok (.iload_n 2, 1) := dk_28 (dk_at dksX1_play_0 0 rfl rfl)
theorem dX1_play_1 : decode cX1_play 1 = .ok (.iconst 0, 1) := dk_3 (dk_at dksX1_play_0 1 rfl rfl)
theorem dX1_play_2 : decode cX1_play 2 = .ok (.bipush 60, 2) := dk_16 60 (dk_at dksX1_play_0 2 rfl rfl)
theorem dX1_play_4 : decode cX1_play 4 = .ok (.invokestatic 335, 3) := dk_184 1 79 (dk_at dksX1_play_0 4 rfl rfl)
theorem dX1_play_7 : decode cX1_play 7 = .ok (.invokestatic 351, 3) := dk_184 1 95 (dk_at dksX1_play_0 7 rfl rfl)
theorem dX1_play_10 : decode cX1_play 10 = .ok (.iload_n 3, 1) := dk_29 (dk_at dksX1_play_0 10 rfl rfl)
theorem dX1_play_11 : decode cX1_play 11 = .ok (.iconst 5, 1) := dk_8 (dk_at dksX1_play_0 11 rfl rfl)
theorem dX1_play_12 : decode cX1_play 12 = .ok (.invokestatic 367, 3) := dk_184 1 111 (dk_at dksX1_play_0 12 rfl rfl)
theorem dX1_play_15 : decode cX1_play 15 = .ok (.aload_n 0, 1) := dk_42 (dk_at dksX1_play_0 15 rfl rfl)
theorem dX1_play_16 : decode cX1_play 16 = .ok (.getfield 10, 3) := dk_180 0 10 (dk_at dksX1_play_0 16 rfl rfl)
theorem dX1_play_19 : decode cX1_play 19 = .ok (.invokevirtual 201, 3) := dk_182 0 201 (dk_at dksX1_play_0 19 rfl rfl)
theorem dX1_play_22 : decode cX1_play 22 = .ok (.astore 4, 2) := dk_58 4 (dk_at dksX1_play_0 22 rfl rfl)
theorem dX1_play_24 : decode cX1_play 24 = .ok (.iconst 3, 1) := dk_6 (dk_at dksX1_play_1 0 rfl rfl)
theorem dX1_play_25 : decode cX1_play 25 = .ok (.newarray .int, 2) := dk_188_10 (dk_at dksX1_play_1 1 rfl rfl)
theorem dX1_play_27 : decode cX1_play 27 = .ok (.astore 5, 2) := dk_58 5 (dk_at dksX1_play_1 3 rfl rfl)
theorem dX1_play_29 : decode cX1_play 29 = .ok (.iload_n 1, 1) := dk_27 (dk_at dksX1_play_1 5 rfl rfl)
theorem dX1_play_30 : decode cX1_play 30 = .ok (.istore 6, 2) := dk_54 6 (dk_at dksX1_play_1 6 rfl rfl)
theorem dX1_play_32 : decode cX1_play 32 = .ok (.iconst 0, 1) := dk_3 (dk_at dksX1_play_1 8 rfl rfl)
theorem dX1_play_33 : decode cX1_play 33 = .ok (.istore 7, 2) := dk_54 7 (dk_at dksX1_play_1 9 rfl rfl)
theorem dX1_play_35 : decode cX1_play 35 = .ok (.iload 7, 2) := dk_21 7 (dk_at dksX1_play_1 11 rfl rfl)
theorem dX1_play_37 : decode cX1_play 37 = .ok (.iload_n 2, 1) := dk_28 (dk_at dksX1_play_1 13 rfl rfl)
theorem dX1_play_38 : decode cX1_play 38 = .ok (.if_icmp .ge 154, 3) := dk_162 0 154 (dk_at dksX1_play_1 14 rfl rfl)
theorem dX1_play_41 : decode cX1_play 41 = .ok (.iconst 0, 1) := dk_3 (dk_at dksX1_play_1 17 rfl rfl)
theorem dX1_play_42 : decode cX1_play 42 = .ok (.istore 8, 2) := dk_54 8 (dk_at dksX1_play_1 18 rfl rfl)
theorem dX1_play_44 : decode cX1_play 44 = .ok (.iload 8, 2) := dk_21 8 (dk_at dksX1_play_1 20 rfl rfl)
theorem dX1_play_46 : decode cX1_play 46 = .ok (.aload 4, 2) := dk_25 4 (dk_at dksX1_play_1 22 rfl rfl)
theorem dX1_play_48 : decode cX1_play 48 = .ok (.getfield 55, 3) := dk_180 0 55 (dk_at dksX1_play_2 0 rfl rfl)
theorem dX1_play_51 : decode cX1_play 51 = .ok (.if_icmp .ge 128, 3) := dk_162 0 128 (dk_at dksX1_play_2 3 rfl rfl)
theorem dX1_play_54 : decode cX1_play 54 = .ok (.iload 6, 2) := dk_21 6 (dk_at dksX1_play_2 6 rfl rfl)
theorem dX1_play_56 : decode cX1_play 56 = .ok (.ldc_w 470, 3) := dk_19 1 214 (dk_at dksX1_play_2 8 rfl rfl)
theorem dX1_play_59 : decode cX1_play 59 = .ok (.imul, 1) := dk_104 (dk_at dksX1_play_2 11 rfl rfl)
theorem dX1_play_60 : decode cX1_play 60 = .ok (.sipush 12345, 3) := dk_17 48 57 (dk_at dksX1_play_2 12 rfl rfl)
theorem dX1_play_63 : decode cX1_play 63 = .ok (.iadd, 1) := dk_96 (dk_at dksX1_play_2 15 rfl rfl)
theorem dX1_play_64 : decode cX1_play 64 = .ok (.istore 6, 2) := dk_54 6 (dk_at dksX1_play_2 16 rfl rfl)
theorem dX1_play_66 : decode cX1_play 66 = .ok (.iload 6, 2) := dk_21 6 (dk_at dksX1_play_2 18 rfl rfl)
theorem dX1_play_68 : decode cX1_play 68 = .ok (.bipush 16, 2) := dk_16 16 (dk_at dksX1_play_2 20 rfl rfl)
theorem dX1_play_70 : decode cX1_play 70 = .ok (.ishr, 1) := dk_122 (dk_at dksX1_play_2 22 rfl rfl)
theorem dX1_play_71 : decode cX1_play 71 = .ok (.sipush 32767, 3) := dk_17 127 255 (dk_at dksX1_play_3 0 rfl rfl)
theorem dX1_play_74 : decode cX1_play 74 = .ok (.iand, 1) := dk_126 (dk_at dksX1_play_3 3 rfl rfl)
theorem dX1_play_75 : decode cX1_play 75 = .ok (.aload 4, 2) := dk_25 4 (dk_at dksX1_play_3 4 rfl rfl)
theorem dX1_play_77 : decode cX1_play 77 = .ok (.getfield 55, 3) := dk_180 0 55 (dk_at dksX1_play_3 6 rfl rfl)
theorem dX1_play_80 : decode cX1_play 80 = .ok (.irem, 1) := dk_112 (dk_at dksX1_play_3 9 rfl rfl)
theorem dX1_play_81 : decode cX1_play 81 = .ok (.istore 9, 2) := dk_54 9 (dk_at dksX1_play_3 10 rfl rfl)
theorem dX1_play_83 : decode cX1_play 83 = .ok (.iload 9, 2) := dk_21 9 (dk_at dksX1_play_3 12 rfl rfl)
theorem dX1_play_85 : decode cX1_play 85 = .ok (.iload 8, 2) := dk_21 8 (dk_at dksX1_play_3 14 rfl rfl)
theorem dX1_play_87 : decode cX1_play 87 = .ok (.if_icmp .ne 6, 3) := dk_160 0 6 (dk_at dksX1_play_3 16 rfl rfl)
theorem dX1_play_90 : decode cX1_play 90 = .ok (.goto 83, 3) := dk_167 0 83 (dk_at dksX1_play_3 19 rfl rfl)
theorem dX1_play_93 : decode cX1_play 93 = .ok (.iload 6, 2) := dk_21 6 (dk_at dksX1_play_3 22 rfl rfl)
theorem dX1_play_95 : decode cX1_play 95 = .ok (.ldc_w 470, 3) := dk_19 1 214 (dk_at dksX1_play_4 0 rfl rfl)
theorem dX1_play_98 : decode cX1_play 98 = .ok (.imul, 1) := dk_104 (dk_at dksX1_play_4 3 rfl rfl)
theorem dX1_play_99 : decode cX1_play 99 = .ok (.sipush 12345, 3) := dk_17 48 57 (dk_at dksX1_play_4 4 rfl rfl)
theorem dX1_play_102 : decode cX1_play 102 = .ok (.iadd, 1) := dk_96 (dk_at dksX1_play_4 7 rfl rfl)
theorem dX1_play_103 : decode cX1_play 103 = .ok (.istore 6, 2) := dk_54 6 (dk_at dksX1_play_4 8 rfl rfl)
theorem dX1_play_105 : decode cX1_play 105 = .ok (.iload 6, 2) := dk_21 6 (dk_at dksX1_play_4 10 rfl rfl)
theorem dX1_play_107 : decode cX1_play 107 = .ok (.bipush 16, 2) := dk_16 16 (dk_at dksX1_play_4 12 rfl rfl)
theorem dX1_play_109 : decode cX1_play 109 = .ok (.ishr, 1) := dk_122 (dk_at dksX1_play_4 14 rfl rfl)
theorem dX1_play_110 : decode cX1_play 110 = .ok (.sipush 32767, 3) := dk_17 127 255 (dk_at dksX1_play_4 15 rfl rfl)
theorem dX1_play_113 : decode cX1_play 113 = .ok (.iand, 1) := dk_126 (dk_at dksX1_play_4 18 rfl rfl)
theorem dX1_play_114 : decode cX1_play 114 = .ok (.bipush 9, 2) := dk_16 9 (dk_at dksX1_play_4 19 rfl rfl)
theorem dX1_play_116 : decode cX1_play 116 = .ok (.irem, 1) := dk_112 (dk_at dksX1_play_4 21 rfl rfl)
theorem dX1_play_117 : decode cX1_play 117 = .ok (.iconst 1, 1) := dk_4 (dk_at dksX1_play_4 22 rfl rfl)
theorem dX1_play_118 : decode cX1_play 118 = .ok (.iadd, 1) := dk_96 (dk_at dksX1_play_4 23 rfl rfl)
theorem dX1_play_119 : decode cX1_play 119 = .ok (.istore 10, 2) := dk_54 10 (dk_at dksX1_play_5 0 rfl rfl)
theorem dX1_play_121 : decode cX1_play 121 = .ok (.aload 4, 2) := dk_25 4 (dk_at dksX1_play_5 2 rfl rfl)
theorem dX1_play_123 : decode cX1_play 123 = .ok (.getfield 80, 3) := dk_180 0 80 (dk_at dksX1_play_5 4 rfl rfl)
theorem dX1_play_126 : decode cX1_play 126 = .ok (.invokevirtual 84, 3) := dk_182 0 84 (dk_at dksX1_play_5 7 rfl rfl)
theorem dX1_play_129 : decode cX1_play 129 = .ok (.istore 11, 2) := dk_54 11 (dk_at dksX1_play_5 10 rfl rfl)
theorem dX1_play_131 : decode cX1_play 131 = .ok (.aload 4, 2) := dk_25 4 (dk_at dksX1_play_5 12 rfl rfl)
theorem dX1_play_133 : decode cX1_play 133 = .ok (.iload 8, 2) := dk_21 8 (dk_at dksX1_play_5 14 rfl rfl)
theorem dX1_play_135 : decode cX1_play 135 = .ok (.iload 9, 2) := dk_21 9 (dk_at dksX1_play_5 16 rfl rfl)
theorem dX1_play_137 : decode cX1_play 137 = .ok (.iload 10, 2) := dk_21 10 (dk_at dksX1_play_5 18 rfl rfl)
theorem dX1_play_139 : decode cX1_play 139 = .ok (.invokevirtual 416, 3) := dk_182 1 160 (dk_at dksX1_play_5 20 rfl rfl)
theorem dX1_play_142 : decode cX1_play 142 = .ok (.istore 12, 2) := dk_54 12 (dk_at dksX1_play_6 0 rfl rfl)
theorem dX1_play_144 : decode cX1_play 144 = .ok (.aload 5, 2) := dk_25 5 (dk_at dksX1_play_6 2 rfl rfl)
theorem dX1_play_146 : decode cX1_play 146 = .ok (.iload 12, 2) := dk_21 12 (dk_at dksX1_play_6 4 rfl rfl)
theorem dX1_play_148 : decode cX1_play 148 = .ok (.iconst (-1), 1) := dk_2 (dk_at dksX1_play_6 6 rfl rfl)
theorem dX1_play_149 : decode cX1_play 149 = .ok (.if_icmp .ne 7, 3) := dk_160 0 7 (dk_at dksX1_play_6 7 rfl rfl)
theorem dX1_play_152 : decode cX1_play 152 = .ok (.iconst 2, 1) := dk_5 (dk_at dksX1_play_6 10 rfl rfl)
theorem dX1_play_153 : decode cX1_play 153 = .ok (.goto 15, 3) := dk_167 0 15 (dk_at dksX1_play_6 11 rfl rfl)
theorem dX1_play_156 : decode cX1_play 156 = .ok (.iload 12, 2) := dk_21 12 (dk_at dksX1_play_6 14 rfl rfl)
theorem dX1_play_158 : decode cX1_play 158 = .ok (.iload 11, 2) := dk_21 11 (dk_at dksX1_play_6 16 rfl rfl)
theorem dX1_play_160 : decode cX1_play 160 = .ok (.if_icmp .ne 7, 3) := dk_160 0 7 (dk_at dksX1_play_6 18 rfl rfl)
theorem dX1_play_163 : decode cX1_play 163 = .ok (.iconst 1, 1) := dk_4 (dk_at dksX1_play_6 21 rfl rfl)
theorem dX1_play_164 : decode cX1_play 164 = .ok (.goto 4, 3) := dk_167 0 4 (dk_at dksX1_play_7 0 rfl rfl)
theorem dX1_play_167 : decode cX1_play 167 = .ok (.iconst 0, 1) := dk_3 (dk_at dksX1_play_7 3 rfl rfl)
theorem dX1_play_168 : decode cX1_play 168 = .ok (.dup2, 1) := dk_92 (dk_at dksX1_play_7 4 rfl rfl)
theorem dX1_play_169 : decode cX1_play 169 = .ok (.iaload, 1) := dk_46 (dk_at dksX1_play_7 5 rfl rfl)
theorem dX1_play_170 : decode cX1_play 170 = .ok (.iconst 1, 1) := dk_4 (dk_at dksX1_play_7 6 rfl rfl)
theorem dX1_play_171 : decode cX1_play 171 = .ok (.iadd, 1) := dk_96 (dk_at dksX1_play_7 7 rfl rfl)
theorem dX1_play_172 : decode cX1_play 172 = .ok (.iastore, 1) := dk_79 (dk_at dksX1_play_7 8 rfl rfl)
theorem dX1_play_173 : decode cX1_play 173 = .ok (.iinc 8 1, 3) := dk_132 8 1 (dk_at dksX1_play_7 9 rfl rfl)
theorem dX1_play_176 : decode cX1_play 176 = .ok (.goto (-132), 3) := dk_167 255 124 (dk_at dksX1_play_7 12 rfl rfl)
theorem dX1_play_179 : decode cX1_play 179 = .ok (.aload 4, 2) := dk_25 4 (dk_at dksX1_play_7 15 rfl rfl)
theorem dX1_play_181 : decode cX1_play 181 = .ok (.iconst 1, 1) := dk_4 (dk_at dksX1_play_7 17 rfl rfl)
theorem dX1_play_182 : decode cX1_play 182 = .ok (.invokevirtual 149, 3) := dk_182 0 149 (dk_at dksX1_play_7 18 rfl rfl)
theorem dX1_play_185 : decode cX1_play 185 = .ok (.pop, 1) := dk_87 (dk_at dksX1_play_7 21 rfl rfl)
theorem dX1_play_186 : decode cX1_play 186 = .ok (.iinc 7 1, 3) := dk_132 7 1 (dk_at dksX1_play_8 0 rfl rfl)
theorem dX1_play_189 : decode cX1_play 189 = .ok (.goto (-154), 3) := dk_167 255 102 (dk_at dksX1_play_8 3 rfl rfl)
theorem dX1_play_192 : decode cX1_play 192 = .ok (.iload_n 3, 1) := dk_29 (dk_at dksX1_play_8 6 rfl rfl)
theorem dX1_play_193 : decode cX1_play 193 = .ok (.iconst 3, 1) := dk_6 (dk_at dksX1_play_8 7 rfl rfl)
theorem dX1_play_194 : decode cX1_play 194 = .ok (.if_icmp .ge 8, 3) := dk_162 0 8 (dk_at dksX1_play_8 8 rfl rfl)
theorem dX1_play_197 : decode cX1_play 197 = .ok (.aload 5, 2) := dk_25 5 (dk_at dksX1_play_8 11 rfl rfl)
theorem dX1_play_199 : decode cX1_play 199 = .ok (.iload_n 3, 1) := dk_29 (dk_at dksX1_play_8 13 rfl rfl)
theorem dX1_play_200 : decode cX1_play 200 = .ok (.iaload, 1) := dk_46 (dk_at dksX1_play_8 14 rfl rfl)
theorem dX1_play_201 : decode cX1_play 201 = .ok (.ireturn, 1) := dk_172 (dk_at dksX1_play_8 15 rfl rfl)
theorem dX1_play_202 : decode cX1_play 202 = .ok (.iload_n 3, 1) := dk_29 (dk_at dksX1_play_8 16 rfl rfl)
theorem dX1_play_203 : decode cX1_play 203 = .ok (.iconst 3, 1) := dk_6 (dk_at dksX1_play_8 17 rfl rfl)
theorem dX1_play_204 : decode cX1_play 204 = .ok (.if_icmp .ne 9, 3) := dk_160 0 9 (dk_at dksX1_play_8 18 rfl rfl)
theorem dX1_play_207 : decode cX1_play 207 = .ok (.aload 4, 2) := dk_25 4 (dk_at dksX1_play_8 21 rfl rfl)
theorem dX1_play_209 : decode cX1_play 209 = .ok (.invokevirtual 471, 3) := dk_182 1 215 (dk_at dksX1_play_9 0 rfl rfl)
theorem dX1_play_212 : decode cX1_play 212 = .ok (.ireturn, 1) := dk_172 (dk_at dksX1_play_9 3 rfl rfl)
theorem dX1_play_213 : decode cX1_play 213 = .ok (.iconst 0, 1) := dk_3 (dk_at dksX1_play_9 4 rfl rfl)
theorem dX1_play_214 : decode cX1_play 214 = .ok (.istore 7, 2) := dk_54 7 (dk_at dksX1_play_9 5 rfl rfl)
theorem dX1_play_216 : decode cX1_play 216 = .ok (.iconst (-1), 1) := dk_2 (dk_at dksX1_play_9 7 rfl rfl)
theorem dX1_play_217 : decode cX1_play 217 = .ok (.istore 8, 2) := dk_54 8 (dk_at dksX1_play_9 8 rfl rfl)
theorem dX1_play_219 : decode cX1_play 219 = .ok (.iconst 0, 1) := dk_3 (dk_at dksX1_play_9 10 rfl rfl)
theorem dX1_play_220 : decode cX1_play 220 = .ok (.istore 9, 2) := dk_54 9 (dk_at dksX1_play_9 11 rfl rfl)
theorem dX1_play_222 : decode cX1_play 222 = .ok (.iload 9, 2) := dk_21 9 (dk_at dksX1_play_9 13 rfl rfl)
theorem dX1_play_224 : decode cX1_play 224 = .ok (.aload 4, 2) := dk_25 4 (dk_at dksX1_play_9 15 rfl rfl)
theorem dX1_play_226 : decode cX1_play 226 = .ok (.getfield 55, 3) := dk_180 0 55 (dk_at dksX1_play_9 17 rfl rfl)
theorem dX1_play_229 : decode cX1_play 229 = .ok (.if_icmp .ge 48, 3) := dk_162 0 48 (dk_at dksX1_play_9 20 rfl rfl)
theorem dX1_play_232 : decode cX1_play 232 = .ok (.iload 7, 2) := dk_21 7 (dk_at dksX1_play_10 0 rfl rfl)
theorem dX1_play_234 : decode cX1_play 234 = .ok (.aload 4, 2) := dk_25 4 (dk_at dksX1_play_10 2 rfl rfl)
theorem dX1_play_236 : decode cX1_play 236 = .ok (.iload 9, 2) := dk_21 9 (dk_at dksX1_play_10 4 rfl rfl)
theorem dX1_play_238 : decode cX1_play 238 = .ok (.invokevirtual 388, 3) := dk_182 1 132 (dk_at dksX1_play_10 6 rfl rfl)
theorem dX1_play_241 : decode cX1_play 241 = .ok (.iadd, 1) := dk_96 (dk_at dksX1_play_10 9 rfl rfl)
theorem dX1_play_242 : decode cX1_play 242 = .ok (.istore 7, 2) := dk_54 7 (dk_at dksX1_play_10 10 rfl rfl)
theorem dX1_play_244 : decode cX1_play 244 = .ok (.iload 8, 2) := dk_21 8 (dk_at dksX1_play_10 12 rfl rfl)
theorem dX1_play_246 : decode cX1_play 246 = .ok (.iconst (-1), 1) := dk_2 (dk_at dksX1_play_10 14 rfl rfl)
theorem dX1_play_247 : decode cX1_play 247 = .ok (.if_icmp .eq 20, 3) := dk_159 0 20 (dk_at dksX1_play_10 15 rfl rfl)
theorem dX1_play_250 : decode cX1_play 250 = .ok (.aload 4, 2) := dk_25 4 (dk_at dksX1_play_10 18 rfl rfl)
theorem dX1_play_252 : decode cX1_play 252 = .ok (.iload 9, 2) := dk_21 9 (dk_at dksX1_play_10 20 rfl rfl)
theorem dX1_play_254 : decode cX1_play 254 = .ok (.invokevirtual 388, 3) := dk_182 1 132 (dk_at dksX1_play_11 0 rfl rfl)
theorem dX1_play_257 : decode cX1_play 257 = .ok (.aload 4, 2) := dk_25 4 (dk_at dksX1_play_11 3 rfl rfl)
theorem dX1_play_259 : decode cX1_play 259 = .ok (.iload 8, 2) := dk_21 8 (dk_at dksX1_play_11 5 rfl rfl)
theorem dX1_play_261 : decode cX1_play 261 = .ok (.invokevirtual 388, 3) := dk_182 1 132 (dk_at dksX1_play_11 7 rfl rfl)
theorem dX1_play_264 : decode cX1_play 264 = .ok (.if_icmp .le 7, 3) := dk_164 0 7 (dk_at dksX1_play_11 10 rfl rfl)
theorem dX1_play_267 : decode cX1_play 267 = .ok (.iload 9, 2) := dk_21 9 (dk_at dksX1_play_11 13 rfl rfl)
theorem dX1_play_269 : decode cX1_play 269 = .ok (.istore 8, 2) := dk_54 8 (dk_at dksX1_play_11 15 rfl rfl)
theorem dX1_play_271 : decode cX1_play 271 = .ok (.iinc 9 1, 3) := dk_132 9 1 (dk_at dksX1_play_11 17 rfl rfl)
theorem dX1_play_274 : decode cX1_play 274 = .ok (.goto (-52), 3) := dk_167 255 204 (dk_at dksX1_play_11 20 rfl rfl)
theorem dX1_play_277 : decode cX1_play 277 = .ok (.iload_n 3, 1) := dk_29 (dk_at dksX1_play_11 23 rfl rfl)
theorem dX1_play_278 : decode cX1_play 278 = .ok (.iconst 4, 1) := dk_7 (dk_at dksX1_play_12 0 rfl rfl)
theorem dX1_play_279 : decode cX1_play 279 = .ok (.if_icmp .ne 8, 3) := dk_160 0 8 (dk_at dksX1_play_12 1 rfl rfl)
theorem dX1_play_282 : decode cX1_play 282 = .ok (.iload 7, 2) := dk_21 7 (dk_at dksX1_play_12 4 rfl rfl)
theorem dX1_play_284 : decode cX1_play 284 = .ok (.goto 5, 3) := dk_167 0 5 (dk_at dksX1_play_12 6 rfl rfl)
theorem dX1_play_287 : decode cX1_play 287 = .ok (.iload 8, 2) := dk_21 8 (dk_at dksX1_play_12 9 rfl rfl)
theorem dX1_play_289 : decode cX1_play 289 = .ok (.ireturn, 1) := dk_172 (dk_at dksX1_play_12 11 rfl rfl)
theorem q83 : (Jvm.Cond.initialized "FavourTown") ∈ lw_all := lw_g (lw_at lw_m1 1 rfl) rfl
theorem q130 : (Jvm.Cond.instantiable "FavourTown" (6 : Nat)) ∈ lw_all := lw_g (lw_at lw_m1 48 rfl) rfl
theorem q132 : (Jvm.Cond.instanceMethod ({ cls := "FavourTown", name := "<init>", desc := "()V" } : Jvm.MethodName)) ∈ lw_all := lw_g (lw_at lw_m1 50 rfl) rfl
theorem q133 : (Jvm.Cond.code ({ cls := "FavourTown", name := "<init>", desc := "()V" } : Jvm.MethodName) prog_1_method_1_code (1 : Nat) (Option.none : Option Jvm.ClassFile.FieldType)) ∈ lw_all := lw_g (lw_at lw_m1 51 rfl) rfl
theorem q134 : (Jvm.Cond.methodLink "FavourTown" (1 : Nat) ({ cls := "java/lang/Object", name := "<init>", desc := "()V" } : Jvm.MethodName)) ∈ lw_all := lw_g (lw_at lw_m1 52 rfl) rfl
theorem q137 : (Jvm.Cond.classLink "FavourTown" (7 : Nat) "FavourTown$World") ∈ lw_all := lw_g (lw_at lw_m1 55 rfl) rfl
theorem q139 : (Jvm.Cond.methodLinkNest "FavourTown" (9 : Nat) ({ cls := "FavourTown$World", name := "<init>", desc := "()V" } : Jvm.MethodName) "FavourTown") ∈ lw_tbl := lw_at lw_m1 57 rfl
theorem q216 : (Jvm.Cond.fieldLinkNest "FavourTown" (213 : Nat) "FavourTown$World" "texts" "I" "FavourTown") ∈ lw_tbl := lw_at lw_m1 134 rfl
theorem q218 : (Jvm.Cond.fieldLinkNest "FavourTown" (477 : Nat) "FavourTown$World" "day" "I" "FavourTown") ∈ lw_tbl := lw_at lw_m1 136 rfl
theorem q220 : (Jvm.Cond.fieldLinkNest "FavourTown" (127 : Nat) "FavourTown$World" "law" "I" "FavourTown") ∈ lw_tbl := lw_at lw_m1 138 rfl
theorem q224 : (Jvm.Cond.fieldLinkNest "FavourTown" (55 : Nat) "FavourTown$World" "people" "I" "FavourTown") ∈ lw_tbl := lw_at lw_m1 142 rfl
theorem q227 : (Jvm.Cond.fieldLinkNest "FavourTown" (115 : Nat) "FavourTown$World" "limit" "[I" "FavourTown") ∈ lw_tbl := lw_at lw_m1 145 rfl
theorem q229 : (Jvm.Cond.fieldLinkNest "FavourTown" (125 : Nat) "FavourTown$World" "near" "[I" "FavourTown") ∈ lw_tbl := lw_at lw_m1 147 rfl
theorem q231 : (Jvm.Cond.fieldLinkNest "FavourTown" (118 : Nat) "FavourTown$World" "temperOf" "[I" "FavourTown") ∈ lw_tbl := lw_at lw_m1 149 rfl
theorem q233 : (Jvm.Cond.fieldLinkNest "FavourTown" (467 : Nat) "FavourTown$World" "loss" "[[I" "FavourTown") ∈ lw_tbl := lw_at lw_m1 151 rfl
theorem q235 : (Jvm.Cond.fieldLinkNest "FavourTown" (80 : Nat) "FavourTown$World" "favours" "Ljava/util/ArrayList;" "FavourTown") ∈ lw_tbl := lw_at lw_m1 153 rfl
theorem q237 : (Jvm.Cond.fieldLinkNest "FavourTown" (152 : Nat) "FavourTown$World" "needs" "Ljava/util/ArrayList;" "FavourTown") ∈ lw_tbl := lw_at lw_m1 155 rfl
theorem q239 : (Jvm.Cond.fieldLinkNest "FavourTown" (332 : Nat) "FavourTown$World" "tempers" "Ljava/util/ArrayList;" "FavourTown") ∈ lw_tbl := lw_at lw_m1 157 rfl
theorem q242 : (Jvm.Cond.fieldLinkNest "FavourTown" (458 : Nat) "FavourTown$World" "rings" "Ljava/util/ArrayList;" "FavourTown") ∈ lw_tbl := lw_at lw_m1 160 rfl
theorem q273 : (Jvm.Cond.classLink "FavourTown" (16 : Nat) "FavourTown$Reader") ∈ lw_all := lw_g (lw_at lw_m1 191 rfl) rfl
theorem q275 : (Jvm.Cond.methodLinkNest "FavourTown" (18 : Nat) ({ cls := "FavourTown$Reader", name := "<init>", desc := "()V" } : Jvm.MethodName) "FavourTown") ∈ lw_tbl := lw_at lw_m1 193 rfl
theorem q280 : (Jvm.Cond.fieldLinkNest "FavourTown" (454 : Nat) "FavourTown$Reader" "tape" "[B" "FavourTown") ∈ lw_tbl := lw_at lw_m1 198 rfl
theorem q283 : (Jvm.Cond.fieldLinkNest "FavourTown" (452 : Nat) "FavourTown$Reader" "end" "I" "FavourTown") ∈ lw_tbl := lw_at lw_m1 201 rfl
theorem q286 : (Jvm.Cond.fieldLinkNest "FavourTown" (192 : Nat) "FavourTown$Reader" "begin" "I" "FavourTown") ∈ lw_tbl := lw_at lw_m1 204 rfl
theorem q288 : (Jvm.Cond.fieldLinkNest "FavourTown" (51 : Nat) "FavourTown$Reader" "fault" "I" "FavourTown") ∈ lw_tbl := lw_at lw_m1 206 rfl
theorem q306 : (Jvm.Cond.classLink "FavourTown" (23 : Nat) "FavourTown$Flow") ∈ lw_all := lw_g (lw_at lw_m1 224 rfl) rfl
theorem q308 : (Jvm.Cond.methodLinkNest "FavourTown" (25 : Nat) ({ cls := "FavourTown$Flow", name := "<init>", desc := "(LFavourTown;)V" } : Jvm.MethodName) "FavourTown") ∈ lw_tbl := lw_at lw_m1 226 rfl
theorem q314 : (Jvm.Cond.fieldLinkNest "FavourTown" (445 : Nat) "FavourTown$Flow" "room" "[[I" "FavourTown") ∈ lw_tbl := lw_at lw_m1 232 rfl
theorem q327 : (Jvm.Cond.classLink "FavourTown" (36 : Nat) "FavourTown$Clearing") ∈ lw_all := lw_g (lw_at lw_m2 5 rfl) rfl
theorem q329 : (Jvm.Cond.methodLinkNest "FavourTown" (38 : Nat) ({ cls := "FavourTown$Clearing", name := "<init>", desc := "(LFavourTown;)V" } : Jvm.MethodName) "FavourTown") ∈ lw_tbl := lw_at lw_m2 7 rfl
theorem q337 : (Jvm.Cond.fieldLinkNest "FavourTown" (464 : Nat) "FavourTown$Clearing" "best" "[I" "FavourTown") ∈ lw_tbl := lw_at lw_m2 15 rfl
theorem q351 : (Jvm.Cond.fieldLink "FavourTown" (10 : Nat) "FavourTown" "world" "LFavourTown$World;") ∈ lw_all := lw_g (lw_at lw_m2 29 rfl) rfl
theorem q354 : (Jvm.Cond.fieldLink "FavourTown" (474 : Nat) "FavourTown" "image" "LFavourTown$World;") ∈ lw_all := lw_g (lw_at lw_m2 32 rfl) rfl
theorem q355 : (Jvm.Cond.fieldLink "FavourTown" (19 : Nat) "FavourTown" "reader" "LFavourTown$Reader;") ∈ lw_all := lw_g (lw_at lw_m2 33 rfl) rfl
theorem q356 : (Jvm.Cond.fieldLink "FavourTown" (28 : Nat) "FavourTown" "flow" "LFavourTown$Flow;") ∈ lw_all := lw_g (lw_at lw_m2 34 rfl) rfl
theorem q357 : (Jvm.Cond.fieldLink "FavourTown" (32 : Nat) "FavourTown" "far" "[I") ∈ lw_all := lw_g (lw_at lw_m2 35 rfl) rfl
theorem q358 : (Jvm.Cond.fieldLink "FavourTown" (39 : Nat) "FavourTown" "clearing" "LFavourTown$Clearing;") ∈ lw_all := lw_g (lw_at lw_m2 36 rfl) rfl
theorem q359 : (Jvm.Cond.lays "FavourTown" "FavourTown" "world" "LFavourTown$World;") ∈ lw_all := lw_g (lw_at lw_m2 37 rfl) rfl
theorem q360 : (Jvm.Cond.soleField "FavourTown" "world") ∈ lw_all := lw_g (lw_at lw_m2 38 rfl) rfl
theorem q361 : (Jvm.Cond.lays "FavourTown" "FavourTown" "image" "LFavourTown$World;") ∈ lw_all := lw_g (lw_at lw_m2 39 rfl) rfl
theorem q362 : (Jvm.Cond.soleField "FavourTown" "image") ∈ lw_all := lw_g (lw_at lw_m2 40 rfl) rfl
theorem q363 : (Jvm.Cond.laysFinal "FavourTown" "FavourTown" "reader" "LFavourTown$Reader;") ∈ lw_all := lw_g (lw_at lw_m2 41 rfl) rfl
theorem q364 : (Jvm.Cond.soleField "FavourTown" "reader") ∈ lw_all := lw_g (lw_at lw_m2 42 rfl) rfl
theorem q365 : (Jvm.Cond.laysFinal "FavourTown" "FavourTown" "flow" "LFavourTown$Flow;") ∈ lw_all := lw_g (lw_at lw_m2 43 rfl) rfl
theorem q366 : (Jvm.Cond.soleField "FavourTown" "flow") ∈ lw_all := lw_g (lw_at lw_m2 44 rfl) rfl
theorem q367 : (Jvm.Cond.laysFinal "FavourTown" "FavourTown" "far" "[I") ∈ lw_all := lw_g (lw_at lw_m2 45 rfl) rfl
theorem q368 : (Jvm.Cond.soleField "FavourTown" "far") ∈ lw_all := lw_g (lw_at lw_m2 46 rfl) rfl
theorem q369 : (Jvm.Cond.laysFinal "FavourTown" "FavourTown" "clearing" "LFavourTown$Clearing;") ∈ lw_all := lw_g (lw_at lw_m2 47 rfl) rfl
theorem q370 : (Jvm.Cond.soleField "FavourTown" "clearing") ∈ lw_all := lw_g (lw_at lw_m2 48 rfl) rfl
theorem q371 : (Jvm.Cond.superclass "FavourTown" "java/lang/Object") ∈ lw_all := lw_g (lw_at lw_m2 49 rfl) rfl
theorem q373 : (Jvm.Cond.instanceMethod ({ cls := "FavourTown", name := "feed", desc := "(IIIII)I" } : Jvm.MethodName)) ∈ lw_all := lw_g (lw_at lw_m2 51 rfl) rfl
theorem q374 : (Jvm.Cond.selects "FavourTown" ({ cls := "FavourTown", name := "feed", desc := "(IIIII)I" } : Jvm.MethodName) ({ cls := "FavourTown", name := "feed", desc := "(IIIII)I" } : Jvm.MethodName)) ∈ lw_all := lw_g (lw_at lw_m2 52 rfl) rfl
theorem q375 : (Jvm.Cond.code ({ cls := "FavourTown", name := "feed", desc := "(IIIII)I" } : Jvm.MethodName) prog_1_method_3_code (6 : Nat) (Option.some Jvm.ClassFile.FieldType.int)) ∈ lw_all := lw_g (lw_at lw_m2 53 rfl) rfl
theorem q376 : (Jvm.Cond.methodLink "FavourTown" (43 : Nat) ({ cls := "FavourTown$Reader", name := "add", desc := "([I)I" } : Jvm.MethodName)) ∈ lw_all := lw_g (lw_at lw_m2 54 rfl) rfl
theorem q381 : (Jvm.Cond.instanceMethod ({ cls := "FavourTown", name := "end", desc := "(I)Z" } : Jvm.MethodName)) ∈ lw_all := lw_g (lw_at lw_m2 59 rfl) rfl
theorem q382 : (Jvm.Cond.selects "FavourTown" ({ cls := "FavourTown", name := "end", desc := "(I)Z" } : Jvm.MethodName) ({ cls := "FavourTown", name := "end", desc := "(I)Z" } : Jvm.MethodName)) ∈ lw_all := lw_g (lw_at lw_m2 60 rfl) rfl
theorem q383 : (Jvm.Cond.code ({ cls := "FavourTown", name := "end", desc := "(I)Z" } : Jvm.MethodName) prog_1_method_4_code (2 : Nat) (Option.some Jvm.ClassFile.FieldType.boolean)) ∈ lw_all := lw_g (lw_at lw_m2 61 rfl) rfl
theorem q384 : (Jvm.Cond.methodLink "FavourTown" (47 : Nat) ({ cls := "FavourTown$Reader", name := "cut", desc := "(I)Z" } : Jvm.MethodName)) ∈ lw_all := lw_g (lw_at lw_m2 62 rfl) rfl
theorem q389 : (Jvm.Cond.instanceMethod ({ cls := "FavourTown", name := "fault", desc := "()I" } : Jvm.MethodName)) ∈ lw_all := lw_g (lw_at lw_m2 67 rfl) rfl
theorem q390 : (Jvm.Cond.selects "FavourTown" ({ cls := "FavourTown", name := "fault", desc := "()I" } : Jvm.MethodName) ({ cls := "FavourTown", name := "fault", desc := "()I" } : Jvm.MethodName)) ∈ lw_all := lw_g (lw_at lw_m2 68 rfl) rfl
theorem q391 : (Jvm.Cond.code ({ cls := "FavourTown", name := "fault", desc := "()I" } : Jvm.MethodName) prog_1_method_5_code (1 : Nat) (Option.some Jvm.ClassFile.FieldType.int)) ∈ lw_all := lw_g (lw_at lw_m2 69 rfl) rfl
theorem q393 : (Jvm.Cond.instanceMethod ({ cls := "FavourTown", name := "enough", desc := "(I)Z" } : Jvm.MethodName)) ∈ lw_all := lw_g (lw_at lw_m2 71 rfl) rfl
theorem q394 : (Jvm.Cond.selects "FavourTown" ({ cls := "FavourTown", name := "enough", desc := "(I)Z" } : Jvm.MethodName) ({ cls := "FavourTown", name := "enough", desc := "(I)Z" } : Jvm.MethodName)) ∈ lw_all := lw_g (lw_at lw_m2 72 rfl) rfl
theorem q395 : (Jvm.Cond.code ({ cls := "FavourTown", name := "enough", desc := "(I)Z" } : Jvm.MethodName) prog_1_method_46_code (2 : Nat) (Option.some Jvm.ClassFile.FieldType.boolean)) ∈ lw_all := lw_g (lw_at lw_m2 73 rfl) rfl
theorem q396 : (Jvm.Cond.methodLink "FavourTown" (419 : Nat) ({ cls := "FavourTown$World", name := "unmet", desc := "(I)I" } : Jvm.MethodName)) ∈ lw_all := lw_g (lw_at lw_m2 74 rfl) rfl
theorem q553 : (Jvm.Cond.instanceMethod ({ cls := "FavourTown", name := "witness", desc := "(I)I" } : Jvm.MethodName)) ∈ lw_all := lw_g (lw_at lw_m2 231 rfl) rfl
theorem q554 : (Jvm.Cond.selects "FavourTown" ({ cls := "FavourTown", name := "witness", desc := "(I)I" } : Jvm.MethodName) ({ cls := "FavourTown", name := "witness", desc := "(I)I" } : Jvm.MethodName)) ∈ lw_all := lw_g (lw_at lw_m2 232 rfl) rfl
theorem q555 : (Jvm.Cond.code ({ cls := "FavourTown", name := "witness", desc := "(I)I" } : Jvm.MethodName) prog_1_method_47_code (2 : Nat) (Option.some Jvm.ClassFile.FieldType.int)) ∈ lw_all := lw_g (lw_at lw_m2 233 rfl) rfl
theorem q557 : (Jvm.Cond.instanceMethod ({ cls := "FavourTown", name := "fewest", desc := "()I" } : Jvm.MethodName)) ∈ lw_all := lw_g (lw_at lw_m2 235 rfl) rfl
theorem q558 : (Jvm.Cond.selects "FavourTown" ({ cls := "FavourTown", name := "fewest", desc := "()I" } : Jvm.MethodName) ({ cls := "FavourTown", name := "fewest", desc := "()I" } : Jvm.MethodName)) ∈ lw_all := lw_g (lw_at lw_m2 236 rfl) rfl
theorem q559 : (Jvm.Cond.code ({ cls := "FavourTown", name := "fewest", desc := "()I" } : Jvm.MethodName) prog_1_method_48_code (3 : Nat) (Option.some Jvm.ClassFile.FieldType.int)) ∈ lw_all := lw_g (lw_at lw_m2 237 rfl) rfl
theorem q560 : (Jvm.Cond.methodLink "FavourTown" (422 : Nat) ({ cls := "java/lang/Integer", name := "bitCount", desc := "(I)I" } : Jvm.MethodName)) ∈ lw_all := lw_g (lw_at lw_m2 238 rfl) rfl
theorem q567 : (Jvm.Cond.instanceMethod ({ cls := "FavourTown", name := "forgive", desc := "(I)I" } : Jvm.MethodName)) ∈ lw_all := lw_g (lw_at lw_m3 5 rfl) rfl
theorem q568 : (Jvm.Cond.selects "FavourTown" ({ cls := "FavourTown", name := "forgive", desc := "(I)I" } : Jvm.MethodName) ({ cls := "FavourTown", name := "forgive", desc := "(I)I" } : Jvm.MethodName)) ∈ lw_all := lw_g (lw_at lw_m3 6 rfl) rfl
theorem q569 : (Jvm.Cond.code ({ cls := "FavourTown", name := "forgive", desc := "(I)I" } : Jvm.MethodName) prog_1_method_49_code (5 : Nat) (Option.some Jvm.ClassFile.FieldType.int)) ∈ lw_all := lw_g (lw_at lw_m3 7 rfl) rfl
theorem q570 : (Jvm.Cond.methodLink "FavourTown" (84 : Nat) ({ cls := "java/util/ArrayList", name := "size", desc := "()I" } : Jvm.MethodName)) ∈ lw_all := lw_g (lw_at lw_m3 8 rfl) rfl
theorem q571 : (Jvm.Cond.methodLink "FavourTown" (90 : Nat) ({ cls := "java/util/ArrayList", name := "get", desc := "(I)Ljava/lang/Object;" } : Jvm.MethodName)) ∈ lw_all := lw_g (lw_at lw_m3 9 rfl) rfl
theorem q572 : (Jvm.Cond.classLink "FavourTown" (94 : Nat) "FavourTown$Favour") ∈ lw_all := lw_g (lw_at lw_m3 10 rfl) rfl
theorem q574 : (Jvm.Cond.instanceMethod ({ cls := "FavourTown", name := "image", desc := "()V" } : Jvm.MethodName)) ∈ lw_all := lw_g (lw_at lw_m3 12 rfl) rfl
theorem q575 : (Jvm.Cond.selects "FavourTown" ({ cls := "FavourTown", name := "image", desc := "()V" } : Jvm.MethodName) ({ cls := "FavourTown", name := "image", desc := "()V" } : Jvm.MethodName)) ∈ lw_all := lw_g (lw_at lw_m3 13 rfl) rfl
theorem q576 : (Jvm.Cond.code ({ cls := "FavourTown", name := "image", desc := "()V" } : Jvm.MethodName) prog_1_method_61_code (1 : Nat) (Option.none : Option Jvm.ClassFile.FieldType)) ∈ lw_all := lw_g (lw_at lw_m3 14 rfl) rfl
theorem q577 : (Jvm.Cond.methodLink "FavourTown" (201 : Nat) ({ cls := "FavourTown$World", name := "copy", desc := "()LFavourTown$World;" } : Jvm.MethodName)) ∈ lw_all := lw_g (lw_at lw_m3 15 rfl) rfl
theorem q606 : (Jvm.Cond.fieldLinkNest "FavourTown" (370 : Nat) "FavourTown$Favour" "giver" "I" "FavourTown") ∈ lw_tbl := lw_at lw_m3 44 rfl
theorem q610 : (Jvm.Cond.fieldLinkNest "FavourTown" (373 : Nat) "FavourTown$Favour" "amount" "I" "FavourTown") ∈ lw_tbl := lw_at lw_m3 48 rfl
theorem q614 : (Jvm.Cond.fieldLinkNest "FavourTown" (379 : Nat) "FavourTown$Favour" "forced" "Z" "FavourTown") ∈ lw_tbl := lw_at lw_m3 52 rfl
theorem q617 : (Jvm.Cond.fieldLinkNest "FavourTown" (382 : Nat) "FavourTown$Favour" "row" "[I" "FavourTown") ∈ lw_tbl := lw_at lw_m3 55 rfl
theorem q620 : (Jvm.Cond.fieldLinkNest "FavourTown" (142 : Nat) "FavourTown$Favour" "holder" "I" "FavourTown") ∈ lw_tbl := lw_at lw_m3 58 rfl
theorem q623 : (Jvm.Cond.fieldLinkNest "FavourTown" (361 : Nat) "FavourTown$Favour" "hands" "I" "FavourTown") ∈ lw_tbl := lw_at lw_m3 61 rfl
theorem q690 : (Jvm.Cond.selects "FavourTown" ({ cls := "java/lang/Object", name := "getClass", desc := "()Ljava/lang/Class;" } : Jvm.MethodName) ({ cls := "java/lang/Object", name := "getClass", desc := "()Ljava/lang/Class;" } : Jvm.MethodName)) ∈ lw_all := lw_g (lw_at lw_m3 128 rfl) rfl
theorem q749 : (Jvm.Cond.instanceMethod ({ cls := "FavourTown", name := "back", desc := "()Z" } : Jvm.MethodName)) ∈ lw_all := lw_g (lw_at lw_m3 187 rfl) rfl
theorem q750 : (Jvm.Cond.selects "FavourTown" ({ cls := "FavourTown", name := "back", desc := "()Z" } : Jvm.MethodName) ({ cls := "FavourTown", name := "back", desc := "()Z" } : Jvm.MethodName)) ∈ lw_all := lw_g (lw_at lw_m3 188 rfl) rfl
theorem q751 : (Jvm.Cond.code ({ cls := "FavourTown", name := "back", desc := "()Z" } : Jvm.MethodName) prog_1_method_62_code (1 : Nat) (Option.some Jvm.ClassFile.FieldType.boolean)) ∈ lw_all := lw_g (lw_at lw_m3 189 rfl) rfl
theorem q753 : (Jvm.Cond.instanceMethod ({ cls := "FavourTown", name := "count", desc := "(I)I" } : Jvm.MethodName)) ∈ lw_all := lw_g (lw_at lw_m3 191 rfl) rfl
theorem q754 : (Jvm.Cond.selects "FavourTown" ({ cls := "FavourTown", name := "count", desc := "(I)I" } : Jvm.MethodName) ({ cls := "FavourTown", name := "count", desc := "(I)I" } : Jvm.MethodName)) ∈ lw_all := lw_g (lw_at lw_m3 192 rfl) rfl
theorem q755 : (Jvm.Cond.code ({ cls := "FavourTown", name := "count", desc := "(I)I" } : Jvm.MethodName) prog_1_method_63_code (2 : Nat) (Option.some Jvm.ClassFile.FieldType.int)) ∈ lw_all := lw_g (lw_at lw_m3 193 rfl) rfl
theorem q756 : (Jvm.Cond.methodLink "FavourTown" (471 : Nat) ({ cls := "FavourTown$World", name := "alive", desc := "()I" } : Jvm.MethodName)) ∈ lw_all := lw_g (lw_at lw_m3 194 rfl) rfl
theorem q760 : (Jvm.Cond.methodLink "FavourTown" (480 : Nat) ({ cls := "FavourTown$World", name := "pairs", desc := "()I" } : Jvm.MethodName)) ∈ lw_all := lw_g (lw_at lw_m3 198 rfl) rfl
theorem q771 : (Jvm.Cond.instanceMethod ({ cls := "FavourTown", name := "town", desc := "()I" } : Jvm.MethodName)) ∈ lw_all := lw_g (lw_at lw_m3 209 rfl) rfl
theorem q772 : (Jvm.Cond.selects "FavourTown" ({ cls := "FavourTown", name := "town", desc := "()I" } : Jvm.MethodName) ({ cls := "FavourTown", name := "town", desc := "()I" } : Jvm.MethodName)) ∈ lw_all := lw_g (lw_at lw_m3 210 rfl) rfl
theorem q773 : (Jvm.Cond.codeWith ({ cls := "FavourTown", name := "town", desc := "()I" } : Jvm.MethodName) prog_1_method_16_code (3 : Nat) (Option.some Jvm.ClassFile.FieldType.int) [((15 : Nat), (28 : Nat), (31 : Nat), (208 : Nat))]) ∈ lw_all := lw_g (lw_at lw_m3 211 rfl) rfl
theorem q774 : (Jvm.Cond.classLink "FavourTown" (208 : Nat) "FavourTown$Wrong") ∈ lw_all := lw_g (lw_at lw_m3 212 rfl) rfl
theorem q775 : (Jvm.Cond.methodLink "FavourTown" (198 : Nat) ({ cls := "FavourTown$Reader", name := "begins", desc := "()V" } : Jvm.MethodName)) ∈ lw_all := lw_g (lw_at lw_m3 213 rfl) rfl
theorem q779 : (Jvm.Cond.methodLink "FavourTown" (205 : Nat) ({ cls := "FavourTown", name := "townText", desc := "(LFavourTown$World;)V" } : Jvm.MethodName)) ∈ lw_all := lw_g (lw_at lw_m3 217 rfl) rfl
theorem q780 : (Jvm.Cond.privateMethod ({ cls := "FavourTown", name := "townText", desc := "(LFavourTown$World;)V" } : Jvm.MethodName)) ∈ lw_tbl := lw_at lw_m3 218 rfl
theorem q781 : (Jvm.Cond.instanceMethod ({ cls := "FavourTown", name := "townText", desc := "(LFavourTown$World;)V" } : Jvm.MethodName)) ∈ lw_all := lw_g (lw_at lw_m3 219 rfl) rfl
theorem q782 : (Jvm.Cond.code ({ cls := "FavourTown", name := "townText", desc := "(LFavourTown$World;)V" } : Jvm.MethodName) prog_1_method_12_code (3 : Nat) (Option.none : Option Jvm.ClassFile.FieldType)) ∈ lw_all := lw_g (lw_at lw_m3 220 rfl) rfl
theorem q783 : (Jvm.Cond.methodLink "FavourTown" (175 : Nat) ({ cls := "FavourTown$Reader", name := "isOver", desc := "()Z" } : Jvm.MethodName)) ∈ lw_all := lw_g (lw_at lw_m3 221 rfl) rfl
theorem q795 : (Jvm.Cond.methodLink "FavourTown" (179 : Nat) ({ cls := "FavourTown", name := "noMore", desc := "(II)V" } : Jvm.MethodName)) ∈ lw_all := lw_g (lw_at lw_m3 233 rfl) rfl
theorem q796 : (Jvm.Cond.privateMethod ({ cls := "FavourTown", name := "noMore", desc := "(II)V" } : Jvm.MethodName)) ∈ lw_tbl := lw_at lw_m3 234 rfl
theorem q797 : (Jvm.Cond.instanceMethod ({ cls := "FavourTown", name := "noMore", desc := "(II)V" } : Jvm.MethodName)) ∈ lw_all := lw_g (lw_at lw_m3 235 rfl) rfl
theorem q798 : (Jvm.Cond.code ({ cls := "FavourTown", name := "noMore", desc := "(II)V" } : Jvm.MethodName) prog_1_method_13_code (3 : Nat) (Option.none : Option Jvm.ClassFile.FieldType)) ∈ lw_all := lw_g (lw_at lw_m3 236 rfl) rfl
theorem q799 : (Jvm.Cond.methodLink "FavourTown" (70 : Nat) ({ cls := "FavourTown$Reader", name := "word", desc := "()Ljava/lang/String;" } : Jvm.MethodName)) ∈ lw_all := lw_g (lw_at lw_m3 237 rfl) rfl
theorem q804 : (Jvm.Cond.static ({ cls := "FavourTown", name := "in", desc := "(III)Z" } : Jvm.MethodName)) ∈ lw_all := lw_g (lw_at lw_m4 2 rfl) rfl
theorem q805 : (Jvm.Cond.code ({ cls := "FavourTown", name := "in", desc := "(III)Z" } : Jvm.MethodName) prog_1_method_2_code (3 : Nat) (Option.some Jvm.ClassFile.FieldType.boolean)) ∈ lw_all := lw_g (lw_at lw_m4 3 rfl) rfl
theorem q1122 : (Jvm.Cond.methodLink "FavourTown" (66 : Nat) ({ cls := "FavourTown$Reader", name := "wrong", desc := "()LFavourTown$Wrong;" } : Jvm.MethodName)) ∈ lw_all := lw_g (lw_at lw_m5 80 rfl) rfl
theorem q1146 : (Jvm.Cond.methodLink "FavourTown" (183 : Nat) ({ cls := "FavourTown", name := "townLine", desc := "(LFavourTown$World;)V" } : Jvm.MethodName)) ∈ lw_all := lw_g (lw_at lw_m5 104 rfl) rfl
theorem q1147 : (Jvm.Cond.privateMethod ({ cls := "FavourTown", name := "townLine", desc := "(LFavourTown$World;)V" } : Jvm.MethodName)) ∈ lw_tbl := lw_at lw_m5 105 rfl
theorem q1148 : (Jvm.Cond.instanceMethod ({ cls := "FavourTown", name := "townLine", desc := "(LFavourTown$World;)V" } : Jvm.MethodName)) ∈ lw_all := lw_g (lw_at lw_m5 106 rfl) rfl
theorem q1149 : (Jvm.Cond.code ({ cls := "FavourTown", name := "townLine", desc := "(LFavourTown$World;)V" } : Jvm.MethodName) prog_1_method_10_code (11 : Nat) (Option.none : Option Jvm.ClassFile.FieldType)) ∈ lw_all := lw_g (lw_at lw_m5 107 rfl) rfl
theorem q1150 : (Jvm.Cond.methodLink "FavourTown" (96 : Nat) ({ cls := "java/lang/String", name := "hashCode", desc := "()I" } : Jvm.MethodName)) ∈ lw_all := lw_g (lw_at lw_m5 108 rfl) rfl
theorem q1211 : (Jvm.Cond.stringRef "FavourTown" (99 : Nat) "person") ∈ lw_tbl := lw_at lw_m5 169 rfl
theorem q1212 : (Jvm.Cond.methodLink "FavourTown" (74 : Nat) ({ cls := "java/lang/String", name := "equals", desc := "(Ljava/lang/Object;)Z" } : Jvm.MethodName)) ∈ lw_all := lw_g (lw_at lw_m5 170 rfl) rfl
theorem q1220 : (Jvm.Cond.stringRef "FavourTown" (101 : Nat) "near") ∈ lw_tbl := lw_at lw_m5 178 rfl
theorem q1221 : (Jvm.Cond.stringRef "FavourTown" (103 : Nat) "law") ∈ lw_tbl := lw_at lw_m5 179 rfl
theorem q1222 : (Jvm.Cond.stringRef "FavourTown" (105 : Nat) "give") ∈ lw_tbl := lw_at lw_m5 180 rfl
theorem q1223 : (Jvm.Cond.stringRef "FavourTown" (107 : Nat) "pass") ∈ lw_tbl := lw_at lw_m5 181 rfl
theorem q1224 : (Jvm.Cond.stringRef "FavourTown" (109 : Nat) "call") ∈ lw_tbl := lw_at lw_m5 182 rfl
theorem q1225 : (Jvm.Cond.stringRef "FavourTown" (111 : Nat) "days") ∈ lw_tbl := lw_at lw_m5 183 rfl
theorem q1226 : (Jvm.Cond.stringRef "FavourTown" (113 : Nat) "need") ∈ lw_tbl := lw_at lw_m5 184 rfl
theorem q1227 : (Jvm.Cond.methodLink "FavourTown" (58 : Nat) ({ cls := "FavourTown$Reader", name := "number", desc := "(II)I" } : Jvm.MethodName)) ∈ lw_all := lw_g (lw_at lw_m5 185 rfl) rfl
theorem q1232 : (Jvm.Cond.methodLink "FavourTown" (62 : Nat) ({ cls := "FavourTown", name := "someone", desc := "(LFavourTown$World;)I" } : Jvm.MethodName)) ∈ lw_all := lw_g (lw_at lw_m5 190 rfl) rfl
theorem q1233 : (Jvm.Cond.privateMethod ({ cls := "FavourTown", name := "someone", desc := "(LFavourTown$World;)I" } : Jvm.MethodName)) ∈ lw_tbl := lw_at lw_m5 191 rfl
theorem q1234 : (Jvm.Cond.instanceMethod ({ cls := "FavourTown", name := "someone", desc := "(LFavourTown$World;)I" } : Jvm.MethodName)) ∈ lw_all := lw_g (lw_at lw_m5 192 rfl) rfl
theorem q1235 : (Jvm.Cond.code ({ cls := "FavourTown", name := "someone", desc := "(LFavourTown$World;)I" } : Jvm.MethodName) prog_1_method_6_code (2 : Nat) (Option.some Jvm.ClassFile.FieldType.int)) ∈ lw_all := lw_g (lw_at lw_m5 193 rfl) rfl
theorem q1236 : (Jvm.Cond.methodLink "FavourTown" (121 : Nat) ({ cls := "FavourTown", name := "another", desc := "(LFavourTown$World;I)I" } : Jvm.MethodName)) ∈ lw_all := lw_g (lw_at lw_m5 194 rfl) rfl
theorem q1237 : (Jvm.Cond.privateMethod ({ cls := "FavourTown", name := "another", desc := "(LFavourTown$World;I)I" } : Jvm.MethodName)) ∈ lw_tbl := lw_at lw_m5 195 rfl
theorem q1238 : (Jvm.Cond.instanceMethod ({ cls := "FavourTown", name := "another", desc := "(LFavourTown$World;I)I" } : Jvm.MethodName)) ∈ lw_all := lw_g (lw_at lw_m5 196 rfl) rfl
theorem q1239 : (Jvm.Cond.code ({ cls := "FavourTown", name := "another", desc := "(LFavourTown$World;I)I" } : Jvm.MethodName) prog_1_method_7_code (4 : Nat) (Option.some Jvm.ClassFile.FieldType.int)) ∈ lw_all := lw_g (lw_at lw_m5 197 rfl) rfl
theorem q1240 : (Jvm.Cond.methodLink "FavourTown" (129 : Nat) ({ cls := "FavourTown", name := "givesTold", desc := "(LFavourTown$World;)V" } : Jvm.MethodName)) ∈ lw_all := lw_g (lw_at lw_m5 198 rfl) rfl
theorem q1241 : (Jvm.Cond.privateMethod ({ cls := "FavourTown", name := "givesTold", desc := "(LFavourTown$World;)V" } : Jvm.MethodName)) ∈ lw_tbl := lw_at lw_m5 199 rfl
theorem q1242 : (Jvm.Cond.instanceMethod ({ cls := "FavourTown", name := "givesTold", desc := "(LFavourTown$World;)V" } : Jvm.MethodName)) ∈ lw_all := lw_g (lw_at lw_m5 200 rfl) rfl
theorem q1243 : (Jvm.Cond.code ({ cls := "FavourTown", name := "givesTold", desc := "(LFavourTown$World;)V" } : Jvm.MethodName) prog_1_method_11_code (6 : Nat) (Option.none : Option Jvm.ClassFile.FieldType)) ∈ lw_all := lw_g (lw_at lw_m5 201 rfl) rfl
theorem q1244 : (Jvm.Cond.stringRef "FavourTown" (137 : Nat) "to") ∈ lw_tbl := lw_at lw_m5 202 rfl
theorem q1245 : (Jvm.Cond.methodLink "FavourTown" (139 : Nat) ({ cls := "FavourTown", name := "word", desc := "(Ljava/lang/String;)V" } : Jvm.MethodName)) ∈ lw_all := lw_g (lw_at lw_m5 203 rfl) rfl
theorem q1246 : (Jvm.Cond.privateMethod ({ cls := "FavourTown", name := "word", desc := "(Ljava/lang/String;)V" } : Jvm.MethodName)) ∈ lw_tbl := lw_at lw_m5 204 rfl
theorem q1247 : (Jvm.Cond.instanceMethod ({ cls := "FavourTown", name := "word", desc := "(Ljava/lang/String;)V" } : Jvm.MethodName)) ∈ lw_all := lw_g (lw_at lw_m5 205 rfl) rfl
theorem q1248 : (Jvm.Cond.code ({ cls := "FavourTown", name := "word", desc := "(Ljava/lang/String;)V" } : Jvm.MethodName) prog_1_method_8_code (2 : Nat) (Option.none : Option Jvm.ClassFile.FieldType)) ∈ lw_all := lw_g (lw_at lw_m5 206 rfl) rfl
theorem q1249 : (Jvm.Cond.stringRef "FavourTown" (164 : Nat) "for") ∈ lw_tbl := lw_at lw_m5 207 rfl
theorem q1250 : (Jvm.Cond.methodLink "FavourTown" (166 : Nat) ({ cls := "FavourTown$Reader", name := "passes", desc := "(Ljava/lang/String;)Z" } : Jvm.MethodName)) ∈ lw_all := lw_g (lw_at lw_m5 208 rfl) rfl
theorem q1256 : (Jvm.Cond.stringRef "FavourTown" (169 : Nat) "forced") ∈ lw_tbl := lw_at lw_m5 214 rfl
theorem q1257 : (Jvm.Cond.methodLink "FavourTown" (171 : Nat) ({ cls := "FavourTown$World", name := "gives", desc := "(IIIIZ)I" } : Jvm.MethodName)) ∈ lw_all := lw_g (lw_at lw_m5 215 rfl) rfl
theorem q1264 : (Jvm.Cond.methodLink "FavourTown" (133 : Nat) ({ cls := "FavourTown", name := "favourTold", desc := "(LFavourTown$World;)LFavourTown$Favour;" } : Jvm.MethodName)) ∈ lw_all := lw_g (lw_at lw_m5 222 rfl) rfl
theorem q1265 : (Jvm.Cond.privateMethod ({ cls := "FavourTown", name := "favourTold", desc := "(LFavourTown$World;)LFavourTown$Favour;" } : Jvm.MethodName)) ∈ lw_tbl := lw_at lw_m5 223 rfl
theorem q1266 : (Jvm.Cond.instanceMethod ({ cls := "FavourTown", name := "favourTold", desc := "(LFavourTown$World;)LFavourTown$Favour;" } : Jvm.MethodName)) ∈ lw_all := lw_g (lw_at lw_m5 224 rfl) rfl
theorem q1267 : (Jvm.Cond.code ({ cls := "FavourTown", name := "favourTold", desc := "(LFavourTown$World;)LFavourTown$Favour;" } : Jvm.MethodName) prog_1_method_9_code (2 : Nat) (Option.some (Jvm.ClassFile.FieldType.object "FavourTown$Favour"))) ∈ lw_all := lw_g (lw_at lw_m5 225 rfl) rfl
theorem q1268 : (Jvm.Cond.methodLink "FavourTown" (145 : Nat) ({ cls := "FavourTown$World", name := "passes", desc := "(LFavourTown$Favour;I)I" } : Jvm.MethodName)) ∈ lw_all := lw_g (lw_at lw_m5 226 rfl) rfl
theorem q1278 : (Jvm.Cond.methodLink "FavourTown" (149 : Nat) ({ cls := "FavourTown$World", name := "days", desc := "(I)I" } : Jvm.MethodName)) ∈ lw_all := lw_g (lw_at lw_m5 236 rfl) rfl
theorem q1282 : (Jvm.Cond.stringRef "FavourTown" (155 : Nat) "of") ∈ lw_tbl := lw_at lw_m6 0 rfl
theorem q1283 : (Jvm.Cond.classLink "FavourTown" (157 : Nat) "FavourTown$Need") ∈ lw_all := lw_g (lw_at lw_m6 1 rfl) rfl
theorem q1285 : (Jvm.Cond.methodLink "FavourTown" (159 : Nat) ({ cls := "FavourTown$Need", name := "<init>", desc := "(III)V" } : Jvm.MethodName)) ∈ lw_all := lw_g (lw_at lw_m6 3 rfl) rfl
theorem q1291 : (Jvm.Cond.fieldLinkNest "FavourTown" (405 : Nat) "FavourTown$Need" "who" "I" "FavourTown") ∈ lw_tbl := lw_at lw_m6 9 rfl
theorem q1294 : (Jvm.Cond.fieldLinkNest "FavourTown" (408 : Nat) "FavourTown$Need" "of" "I" "FavourTown") ∈ lw_tbl := lw_at lw_m6 12 rfl
theorem q1297 : (Jvm.Cond.fieldLinkNest "FavourTown" (410 : Nat) "FavourTown$Need" "n" "I" "FavourTown") ∈ lw_tbl := lw_at lw_m6 15 rfl
theorem q1305 : (Jvm.Cond.methodLink "FavourTown" (162 : Nat) ({ cls := "java/util/ArrayList", name := "add", desc := "(Ljava/lang/Object;)Z" } : Jvm.MethodName)) ∈ lw_all := lw_g (lw_at lw_m6 23 rfl) rfl
theorem q1306 : (Jvm.Cond.methodLink "FavourTown" (186 : Nat) ({ cls := "FavourTown", name := "goesOn", desc := "()Z" } : Jvm.MethodName)) ∈ lw_all := lw_g (lw_at lw_m6 24 rfl) rfl
theorem q1307 : (Jvm.Cond.privateMethod ({ cls := "FavourTown", name := "goesOn", desc := "()Z" } : Jvm.MethodName)) ∈ lw_tbl := lw_at lw_m6 25 rfl
theorem q1308 : (Jvm.Cond.instanceMethod ({ cls := "FavourTown", name := "goesOn", desc := "()Z" } : Jvm.MethodName)) ∈ lw_all := lw_g (lw_at lw_m6 26 rfl) rfl
theorem q1309 : (Jvm.Cond.code ({ cls := "FavourTown", name := "goesOn", desc := "()Z" } : Jvm.MethodName) prog_1_method_14_code (1 : Nat) (Option.some Jvm.ClassFile.FieldType.boolean)) ∈ lw_all := lw_g (lw_at lw_m6 27 rfl) rfl
theorem q1310 : (Jvm.Cond.methodLink "FavourTown" (189 : Nat) ({ cls := "FavourTown$Reader", name := "sign", desc := "(I)Z" } : Jvm.MethodName)) ∈ lw_all := lw_g (lw_at lw_m6 28 rfl) rfl
theorem q1314 : (Jvm.Cond.methodLink "FavourTown" (210 : Nat) ({ cls := "FavourTown", name := "fails", desc := "()V" } : Jvm.MethodName)) ∈ lw_all := lw_g (lw_at lw_m6 32 rfl) rfl
theorem q1315 : (Jvm.Cond.privateMethod ({ cls := "FavourTown", name := "fails", desc := "()V" } : Jvm.MethodName)) ∈ lw_tbl := lw_at lw_m6 33 rfl
theorem q1316 : (Jvm.Cond.instanceMethod ({ cls := "FavourTown", name := "fails", desc := "()V" } : Jvm.MethodName)) ∈ lw_all := lw_g (lw_at lw_m6 34 rfl) rfl
theorem q1317 : (Jvm.Cond.code ({ cls := "FavourTown", name := "fails", desc := "()V" } : Jvm.MethodName) prog_1_method_15_code (1 : Nat) (Option.none : Option Jvm.ClassFile.FieldType)) ∈ lw_all := lw_g (lw_at lw_m6 35 rfl) rfl
theorem q1318 : (Jvm.Cond.classLink "FavourTown" (195 : Nat) "java/lang/IllegalArgumentException") ∈ lw_all := lw_g (lw_at lw_m6 36 rfl) rfl
theorem q1319 : (Jvm.Cond.methodLink "FavourTown" (197 : Nat) ({ cls := "java/lang/IllegalArgumentException", name := "<init>", desc := "()V" } : Jvm.MethodName)) ∈ lw_all := lw_g (lw_at lw_m6 37 rfl) rfl
theorem q1329 : (Jvm.Cond.classLink "FavourTown" (216 : Nat) "java/lang/UnsupportedOperationException") ∈ lw_all := lw_g (lw_at lw_m6 47 rfl) rfl
theorem q1338 : (Jvm.Cond.methodLink "FavourTown" (218 : Nat) ({ cls := "java/lang/UnsupportedOperationException", name := "<init>", desc := "()V" } : Jvm.MethodName)) ∈ lw_all := lw_g (lw_at lw_m6 56 rfl) rfl
theorem q1348 : (Jvm.Cond.instanceMethod ({ cls := "FavourTown", name := "temper", desc := "()I" } : Jvm.MethodName)) ∈ lw_all := lw_g (lw_at lw_m6 66 rfl) rfl
theorem q1349 : (Jvm.Cond.selects "FavourTown" ({ cls := "FavourTown", name := "temper", desc := "()I" } : Jvm.MethodName) ({ cls := "FavourTown", name := "temper", desc := "()I" } : Jvm.MethodName)) ∈ lw_all := lw_g (lw_at lw_m6 67 rfl) rfl
theorem q1350 : (Jvm.Cond.codeWith ({ cls := "FavourTown", name := "temper", desc := "()I" } : Jvm.MethodName) prog_1_method_24_code (3 : Nat) (Option.some Jvm.ClassFile.FieldType.int) [((9 : Nat), (22 : Nat), (25 : Nat), (208 : Nat))]) ∈ lw_all := lw_g (lw_at lw_m6 68 rfl) rfl
theorem q1351 : (Jvm.Cond.methodLink "FavourTown" (328 : Nat) ({ cls := "FavourTown", name := "temperText", desc := "()LFavourTown$Temper;" } : Jvm.MethodName)) ∈ lw_all := lw_g (lw_at lw_m6 69 rfl) rfl
theorem q1352 : (Jvm.Cond.privateMethod ({ cls := "FavourTown", name := "temperText", desc := "()LFavourTown$Temper;" } : Jvm.MethodName)) ∈ lw_tbl := lw_at lw_m6 70 rfl
theorem q1353 : (Jvm.Cond.instanceMethod ({ cls := "FavourTown", name := "temperText", desc := "()LFavourTown$Temper;" } : Jvm.MethodName)) ∈ lw_all := lw_g (lw_at lw_m6 71 rfl) rfl
theorem q1354 : (Jvm.Cond.code ({ cls := "FavourTown", name := "temperText", desc := "()LFavourTown$Temper;" } : Jvm.MethodName) prog_1_method_23_code (2 : Nat) (Option.some (Jvm.ClassFile.FieldType.object "FavourTown$Temper"))) ∈ lw_all := lw_g (lw_at lw_m6 72 rfl) rfl
theorem q1355 : (Jvm.Cond.classLink "FavourTown" (318 : Nat) "FavourTown$Temper") ∈ lw_all := lw_g (lw_at lw_m6 73 rfl) rfl
theorem q1357 : (Jvm.Cond.methodLinkNest "FavourTown" (320 : Nat) ({ cls := "FavourTown$Temper", name := "<init>", desc := "()V" } : Jvm.MethodName) "FavourTown") ∈ lw_tbl := lw_at lw_m6 75 rfl
theorem q1364 : (Jvm.Cond.fieldLinkNest "FavourTown" (321 : Nat) "FavourTown$Temper" "lines" "Ljava/util/ArrayList;" "FavourTown") ∈ lw_tbl := lw_at lw_m6 82 rfl
theorem q1368 : (Jvm.Cond.methodLink "FavourTown" (324 : Nat) ({ cls := "FavourTown", name := "temperLine", desc := "()LFavourTown$Line;" } : Jvm.MethodName)) ∈ lw_all := lw_g (lw_at lw_m6 86 rfl) rfl
theorem q1369 : (Jvm.Cond.privateMethod ({ cls := "FavourTown", name := "temperLine", desc := "()LFavourTown$Line;" } : Jvm.MethodName)) ∈ lw_tbl := lw_at lw_m6 87 rfl
theorem q1370 : (Jvm.Cond.instanceMethod ({ cls := "FavourTown", name := "temperLine", desc := "()LFavourTown$Line;" } : Jvm.MethodName)) ∈ lw_all := lw_g (lw_at lw_m6 88 rfl) rfl
theorem q1371 : (Jvm.Cond.code ({ cls := "FavourTown", name := "temperLine", desc := "()LFavourTown$Line;" } : Jvm.MethodName) prog_1_method_22_code (3 : Nat) (Option.some (Jvm.ClassFile.FieldType.object "FavourTown$Line"))) ∈ lw_all := lw_g (lw_at lw_m6 89 rfl) rfl
theorem q1372 : (Jvm.Cond.stringRef "FavourTown" (307 : Nat) "take") ∈ lw_tbl := lw_at lw_m6 90 rfl
theorem q1373 : (Jvm.Cond.stringRef "FavourTown" (309 : Nat) "refuse") ∈ lw_tbl := lw_at lw_m6 91 rfl
theorem q1374 : (Jvm.Cond.classLink "FavourTown" (311 : Nat) "FavourTown$Line") ∈ lw_all := lw_g (lw_at lw_m6 92 rfl) rfl
theorem q1376 : (Jvm.Cond.stringRef "FavourTown" (313 : Nat) "if") ∈ lw_tbl := lw_at lw_m6 94 rfl
theorem q1377 : (Jvm.Cond.methodLink "FavourTown" (245 : Nat) ({ cls := "FavourTown", name := "cond", desc := "()LFavourTown$Cond;" } : Jvm.MethodName)) ∈ lw_all := lw_g (lw_at lw_m6 95 rfl) rfl
theorem q1378 : (Jvm.Cond.privateMethod ({ cls := "FavourTown", name := "cond", desc := "()LFavourTown$Cond;" } : Jvm.MethodName)) ∈ lw_tbl := lw_at lw_m6 96 rfl
theorem q1379 : (Jvm.Cond.instanceMethod ({ cls := "FavourTown", name := "cond", desc := "()LFavourTown$Cond;" } : Jvm.MethodName)) ∈ lw_all := lw_g (lw_at lw_m6 97 rfl) rfl
theorem q1380 : (Jvm.Cond.code ({ cls := "FavourTown", name := "cond", desc := "()LFavourTown$Cond;" } : Jvm.MethodName) prog_1_method_21_code (2 : Nat) (Option.some (Jvm.ClassFile.FieldType.object "FavourTown$Cond"))) ∈ lw_all := lw_g (lw_at lw_m6 98 rfl) rfl
theorem q1381 : (Jvm.Cond.classLink "FavourTown" (292 : Nat) "FavourTown$Row") ∈ lw_all := lw_g (lw_at lw_m6 99 rfl) rfl
theorem q1383 : (Jvm.Cond.methodLink "FavourTown" (294 : Nat) ({ cls := "FavourTown$Row", name := "<init>", desc := "(Z)V" } : Jvm.MethodName)) ∈ lw_all := lw_g (lw_at lw_m6 101 rfl) rfl
theorem q1391 : (Jvm.Cond.fieldLinkNest "FavourTown" (297 : Nat) "FavourTown$Row" "row" "Ljava/util/ArrayList;" "FavourTown") ∈ lw_tbl := lw_at lw_m6 109 rfl
theorem q1397 : (Jvm.Cond.methodLink "FavourTown" (302 : Nat) ({ cls := "FavourTown", name := "allOf", desc := "()LFavourTown$Cond;" } : Jvm.MethodName)) ∈ lw_all := lw_g (lw_at lw_m6 115 rfl) rfl
theorem q1398 : (Jvm.Cond.privateMethod ({ cls := "FavourTown", name := "allOf", desc := "()LFavourTown$Cond;" } : Jvm.MethodName)) ∈ lw_tbl := lw_at lw_m6 116 rfl
theorem q1399 : (Jvm.Cond.instanceMethod ({ cls := "FavourTown", name := "allOf", desc := "()LFavourTown$Cond;" } : Jvm.MethodName)) ∈ lw_all := lw_g (lw_at lw_m6 117 rfl) rfl
theorem q1400 : (Jvm.Cond.code ({ cls := "FavourTown", name := "allOf", desc := "()LFavourTown$Cond;" } : Jvm.MethodName) prog_1_method_20_code (2 : Nat) (Option.some (Jvm.ClassFile.FieldType.object "FavourTown$Cond"))) ∈ lw_all := lw_g (lw_at lw_m6 118 rfl) rfl
theorem q1401 : (Jvm.Cond.methodLink "FavourTown" (254 : Nat) ({ cls := "FavourTown", name := "atom", desc := "()LFavourTown$Cond;" } : Jvm.MethodName)) ∈ lw_all := lw_g (lw_at lw_m6 119 rfl) rfl
theorem q1402 : (Jvm.Cond.privateMethod ({ cls := "FavourTown", name := "atom", desc := "()LFavourTown$Cond;" } : Jvm.MethodName)) ∈ lw_tbl := lw_at lw_m6 120 rfl
theorem q1403 : (Jvm.Cond.instanceMethod ({ cls := "FavourTown", name := "atom", desc := "()LFavourTown$Cond;" } : Jvm.MethodName)) ∈ lw_all := lw_g (lw_at lw_m6 121 rfl) rfl
theorem q1404 : (Jvm.Cond.code ({ cls := "FavourTown", name := "atom", desc := "()LFavourTown$Cond;" } : Jvm.MethodName) prog_1_method_19_code (3 : Nat) (Option.some (Jvm.ClassFile.FieldType.object "FavourTown$Cond"))) ∈ lw_all := lw_g (lw_at lw_m6 122 rfl) rfl
theorem q1405 : (Jvm.Cond.methodLink "FavourTown" (242 : Nat) ({ cls := "FavourTown$Reader", name := "goesDeeper", desc := "()V" } : Jvm.MethodName)) ∈ lw_all := lw_g (lw_at lw_m6 123 rfl) rfl
theorem q1409 : (Jvm.Cond.methodLink "FavourTown" (249 : Nat) ({ cls := "FavourTown$Reader", name := "comesUp", desc := "()V" } : Jvm.MethodName)) ∈ lw_all := lw_g (lw_at lw_m6 127 rfl) rfl
theorem q1413 : (Jvm.Cond.stringRef "FavourTown" (252 : Nat) "not") ∈ lw_tbl := lw_at lw_m6 131 rfl
theorem q1414 : (Jvm.Cond.classLink "FavourTown" (257 : Nat) "FavourTown$Not") ∈ lw_all := lw_g (lw_at lw_m6 132 rfl) rfl
theorem q1416 : (Jvm.Cond.methodLink "FavourTown" (259 : Nat) ({ cls := "FavourTown$Not", name := "<init>", desc := "(LFavourTown$Cond;)V" } : Jvm.MethodName)) ∈ lw_all := lw_g (lw_at lw_m6 134 rfl) rfl
theorem q1424 : (Jvm.Cond.classLink "FavourTown" (262 : Nat) "FavourTown$Is") ∈ lw_all := lw_g (lw_at lw_m6 142 rfl) rfl
theorem q1426 : (Jvm.Cond.fieldLink "FavourTown" (264 : Nat) "FavourTown$Tag" "NEAR" "LFavourTown$Tag;") ∈ lw_all := lw_g (lw_at lw_m6 144 rfl) rfl
theorem q1427 : (Jvm.Cond.methodLink "FavourTown" (270 : Nat) ({ cls := "FavourTown$Is", name := "<init>", desc := "(LFavourTown$Tag;)V" } : Jvm.MethodName)) ∈ lw_all := lw_g (lw_at lw_m6 145 rfl) rfl
theorem q1435 : (Jvm.Cond.stringRef "FavourTown" (273 : Nat) "timed") ∈ lw_tbl := lw_at lw_m6 153 rfl
theorem q1436 : (Jvm.Cond.fieldLink "FavourTown" (275 : Nat) "FavourTown$Tag" "TIMED" "LFavourTown$Tag;") ∈ lw_all := lw_g (lw_at lw_m6 154 rfl) rfl
theorem q1437 : (Jvm.Cond.stringRef "FavourTown" (278 : Nat) "again") ∈ lw_tbl := lw_at lw_m6 155 rfl
theorem q1438 : (Jvm.Cond.fieldLink "FavourTown" (280 : Nat) "FavourTown$Tag" "AGAIN" "LFavourTown$Tag;") ∈ lw_all := lw_g (lw_at lw_m6 156 rfl) rfl
theorem q1440 : (Jvm.Cond.methodLink "FavourTown" (283 : Nat) ({ cls := "FavourTown", name := "sum", desc := "()LFavourTown$Sum;" } : Jvm.MethodName)) ∈ lw_all := lw_g (lw_at lw_m6 158 rfl) rfl
theorem q1441 : (Jvm.Cond.privateMethod ({ cls := "FavourTown", name := "sum", desc := "()LFavourTown$Sum;" } : Jvm.MethodName)) ∈ lw_tbl := lw_at lw_m6 159 rfl
theorem q1442 : (Jvm.Cond.instanceMethod ({ cls := "FavourTown", name := "sum", desc := "()LFavourTown$Sum;" } : Jvm.MethodName)) ∈ lw_all := lw_g (lw_at lw_m6 160 rfl) rfl
theorem q1443 : (Jvm.Cond.code ({ cls := "FavourTown", name := "sum", desc := "()LFavourTown$Sum;" } : Jvm.MethodName) prog_1_method_18_code (2 : Nat) (Option.some (Jvm.ClassFile.FieldType.object "FavourTown$Sum"))) ∈ lw_all := lw_g (lw_at lw_m6 161 rfl) rfl
theorem q1444 : (Jvm.Cond.classLink "FavourTown" (232 : Nat) "FavourTown$Sum") ∈ lw_all := lw_g (lw_at lw_m6 162 rfl) rfl
theorem q1446 : (Jvm.Cond.methodLinkNest "FavourTown" (234 : Nat) ({ cls := "FavourTown$Sum", name := "<init>", desc := "()V" } : Jvm.MethodName) "FavourTown") ∈ lw_tbl := lw_at lw_m6 164 rfl
theorem q1453 : (Jvm.Cond.fieldLinkNest "FavourTown" (235 : Nat) "FavourTown$Sum" "parts" "Ljava/util/ArrayList;" "FavourTown") ∈ lw_tbl := lw_at lw_m6 171 rfl
theorem q1457 : (Jvm.Cond.methodLink "FavourTown" (238 : Nat) ({ cls := "FavourTown", name := "onePart", desc := "()LFavourTown$Part;" } : Jvm.MethodName)) ∈ lw_all := lw_g (lw_at lw_m6 175 rfl) rfl
theorem q1458 : (Jvm.Cond.privateMethod ({ cls := "FavourTown", name := "onePart", desc := "()LFavourTown$Part;" } : Jvm.MethodName)) ∈ lw_tbl := lw_at lw_m6 176 rfl
theorem q1459 : (Jvm.Cond.instanceMethod ({ cls := "FavourTown", name := "onePart", desc := "()LFavourTown$Part;" } : Jvm.MethodName)) ∈ lw_all := lw_g (lw_at lw_m6 177 rfl) rfl
theorem q1460 : (Jvm.Cond.code ({ cls := "FavourTown", name := "onePart", desc := "()LFavourTown$Part;" } : Jvm.MethodName) prog_1_method_17_code (2 : Nat) (Option.some (Jvm.ClassFile.FieldType.object "FavourTown$Part"))) ∈ lw_all := lw_g (lw_at lw_m6 178 rfl) rfl
theorem q1461 : (Jvm.Cond.methodLink "FavourTown" (219 : Nat) ({ cls := "FavourTown$Reader", name := "isFigure", desc := "()Z" } : Jvm.MethodName)) ∈ lw_all := lw_g (lw_at lw_m6 179 rfl) rfl
theorem q1465 : (Jvm.Cond.classLink "FavourTown" (222 : Nat) "FavourTown$Part") ∈ lw_all := lw_g (lw_at lw_m6 183 rfl) rfl
theorem q1467 : (Jvm.Cond.methodLink "FavourTown" (224 : Nat) ({ cls := "FavourTown$Part", name := "<init>", desc := "(ILFavourTown$Fact;)V" } : Jvm.MethodName)) ∈ lw_all := lw_g (lw_at lw_m6 185 rfl) rfl
theorem q1478 : (Jvm.Cond.methodLink "FavourTown" (227 : Nat) ({ cls := "FavourTown$Fact", name := "of", desc := "(Ljava/lang/String;)LFavourTown$Fact;" } : Jvm.MethodName)) ∈ lw_all := lw_g (lw_at lw_m6 196 rfl) rfl
theorem q1493 : (Jvm.Cond.classLink "FavourTown" (287 : Nat) "FavourTown$Less") ∈ lw_all := lw_g (lw_at lw_m6 211 rfl) rfl
theorem q1495 : (Jvm.Cond.methodLink "FavourTown" (289 : Nat) ({ cls := "FavourTown$Less", name := "<init>", desc := "(LFavourTown$Sum;LFavourTown$Sum;)V" } : Jvm.MethodName)) ∈ lw_all := lw_g (lw_at lw_m6 213 rfl) rfl
theorem q1506 : (Jvm.Cond.stringRef "FavourTown" (300 : Nat) "and") ∈ lw_tbl := lw_at lw_m6 224 rfl
theorem q1507 : (Jvm.Cond.stringRef "FavourTown" (305 : Nat) "or") ∈ lw_tbl := lw_at lw_m6 225 rfl
theorem q1508 : (Jvm.Cond.methodLink "FavourTown" (315 : Nat) ({ cls := "FavourTown$Line", name := "<init>", desc := "(ZLFavourTown$Cond;)V" } : Jvm.MethodName)) ∈ lw_all := lw_g (lw_at lw_m6 226 rfl) rfl
theorem q1544 : (Jvm.Cond.instanceMethod ({ cls := "FavourTown", name := "has", desc := "(II)I" } : Jvm.MethodName)) ∈ lw_all := lw_g (lw_at lw_m7 22 rfl) rfl
theorem q1545 : (Jvm.Cond.selects "FavourTown" ({ cls := "FavourTown", name := "has", desc := "(II)I" } : Jvm.MethodName) ({ cls := "FavourTown", name := "has", desc := "(II)I" } : Jvm.MethodName)) ∈ lw_all := lw_g (lw_at lw_m7 23 rfl) rfl
theorem q1546 : (Jvm.Cond.code ({ cls := "FavourTown", name := "has", desc := "(II)I" } : Jvm.MethodName) prog_1_method_31_code (4 : Nat) (Option.some Jvm.ClassFile.FieldType.int)) ∈ lw_all := lw_g (lw_at lw_m7 24 rfl) rfl
theorem q1547 : (Jvm.Cond.methodLink "FavourTown" (348 : Nat) ({ cls := "FavourTown", name := "person", desc := "(I)V" } : Jvm.MethodName)) ∈ lw_all := lw_g (lw_at lw_m7 25 rfl) rfl
theorem q1548 : (Jvm.Cond.privateMethod ({ cls := "FavourTown", name := "person", desc := "(I)V" } : Jvm.MethodName)) ∈ lw_tbl := lw_at lw_m7 26 rfl
theorem q1549 : (Jvm.Cond.instanceMethod ({ cls := "FavourTown", name := "person", desc := "(I)V" } : Jvm.MethodName)) ∈ lw_all := lw_g (lw_at lw_m7 27 rfl) rfl
theorem q1550 : (Jvm.Cond.code ({ cls := "FavourTown", name := "person", desc := "(I)V" } : Jvm.MethodName) prog_1_method_26_code (2 : Nat) (Option.none : Option Jvm.ClassFile.FieldType)) ∈ lw_all := lw_g (lw_at lw_m7 28 rfl) rfl
theorem q1551 : (Jvm.Cond.methodLink "FavourTown" (342 : Nat) ({ cls := "FavourTown", name := "there", desc := "(II)V" } : Jvm.MethodName)) ∈ lw_all := lw_g (lw_at lw_m7 29 rfl) rfl
theorem q1552 : (Jvm.Cond.static ({ cls := "FavourTown", name := "there", desc := "(II)V" } : Jvm.MethodName)) ∈ lw_all := lw_g (lw_at lw_m7 30 rfl) rfl
theorem q1553 : (Jvm.Cond.code ({ cls := "FavourTown", name := "there", desc := "(II)V" } : Jvm.MethodName) prog_1_method_25_code (2 : Nat) (Option.none : Option Jvm.ClassFile.FieldType)) ∈ lw_all := lw_g (lw_at lw_m7 31 rfl) rfl
theorem q1554 : (Jvm.Cond.methodLink "FavourTown" (335 : Nat) ({ cls := "FavourTown", name := "in", desc := "(III)Z" } : Jvm.MethodName)) ∈ lw_all := lw_g (lw_at lw_m7 32 rfl) rfl
theorem q1555 : (Jvm.Cond.classLink "FavourTown" (339 : Nat) "java/lang/IndexOutOfBoundsException") ∈ lw_all := lw_g (lw_at lw_m7 33 rfl) rfl
theorem q1564 : (Jvm.Cond.methodLink "FavourTown" (341 : Nat) ({ cls := "java/lang/IndexOutOfBoundsException", name := "<init>", desc := "()V" } : Jvm.MethodName)) ∈ lw_all := lw_g (lw_at lw_m7 42 rfl) rfl
theorem q1574 : (Jvm.Cond.instanceMethod ({ cls := "FavourTown", name := "give", desc := "(IIIIZ)I" } : Jvm.MethodName)) ∈ lw_all := lw_g (lw_at lw_m7 52 rfl) rfl
theorem q1575 : (Jvm.Cond.selects "FavourTown" ({ cls := "FavourTown", name := "give", desc := "(IIIIZ)I" } : Jvm.MethodName) ({ cls := "FavourTown", name := "give", desc := "(IIIIZ)I" } : Jvm.MethodName)) ∈ lw_all := lw_g (lw_at lw_m7 53 rfl) rfl
theorem q1576 : (Jvm.Cond.code ({ cls := "FavourTown", name := "give", desc := "(IIIIZ)I" } : Jvm.MethodName) prog_1_method_32_code (6 : Nat) (Option.some Jvm.ClassFile.FieldType.int)) ∈ lw_all := lw_g (lw_at lw_m7 54 rfl) rfl
theorem q1577 : (Jvm.Cond.methodLink "FavourTown" (354 : Nat) ({ cls := "FavourTown", name := "two", desc := "(II)V" } : Jvm.MethodName)) ∈ lw_all := lw_g (lw_at lw_m7 55 rfl) rfl
theorem q1578 : (Jvm.Cond.privateMethod ({ cls := "FavourTown", name := "two", desc := "(II)V" } : Jvm.MethodName)) ∈ lw_tbl := lw_at lw_m7 56 rfl
theorem q1579 : (Jvm.Cond.instanceMethod ({ cls := "FavourTown", name := "two", desc := "(II)V" } : Jvm.MethodName)) ∈ lw_all := lw_g (lw_at lw_m7 57 rfl) rfl
theorem q1580 : (Jvm.Cond.code ({ cls := "FavourTown", name := "two", desc := "(II)V" } : Jvm.MethodName) prog_1_method_30_code (3 : Nat) (Option.none : Option Jvm.ClassFile.FieldType)) ∈ lw_all := lw_g (lw_at lw_m7 58 rfl) rfl
theorem q1581 : (Jvm.Cond.methodLink "FavourTown" (351 : Nat) ({ cls := "FavourTown", name := "demand", desc := "(Z)V" } : Jvm.MethodName)) ∈ lw_all := lw_g (lw_at lw_m7 59 rfl) rfl
theorem q1582 : (Jvm.Cond.static ({ cls := "FavourTown", name := "demand", desc := "(Z)V" } : Jvm.MethodName)) ∈ lw_all := lw_g (lw_at lw_m7 60 rfl) rfl
theorem q1583 : (Jvm.Cond.code ({ cls := "FavourTown", name := "demand", desc := "(Z)V" } : Jvm.MethodName) prog_1_method_28_code (1 : Nat) (Option.none : Option Jvm.ClassFile.FieldType)) ∈ lw_all := lw_g (lw_at lw_m7 61 rfl) rfl
theorem q1588 : (Jvm.Cond.instanceMethod ({ cls := "FavourTown", name := "pass", desc := "(II)I" } : Jvm.MethodName)) ∈ lw_all := lw_g (lw_at lw_m7 66 rfl) rfl
theorem q1589 : (Jvm.Cond.selects "FavourTown" ({ cls := "FavourTown", name := "pass", desc := "(II)I" } : Jvm.MethodName) ({ cls := "FavourTown", name := "pass", desc := "(II)I" } : Jvm.MethodName)) ∈ lw_all := lw_g (lw_at lw_m7 67 rfl) rfl
theorem q1590 : (Jvm.Cond.code ({ cls := "FavourTown", name := "pass", desc := "(II)I" } : Jvm.MethodName) prog_1_method_33_code (4 : Nat) (Option.some Jvm.ClassFile.FieldType.int)) ∈ lw_all := lw_g (lw_at lw_m7 68 rfl) rfl
theorem q1591 : (Jvm.Cond.methodLink "FavourTown" (357 : Nat) ({ cls := "FavourTown", name := "favourAt", desc := "(I)LFavourTown$Favour;" } : Jvm.MethodName)) ∈ lw_all := lw_g (lw_at lw_m7 69 rfl) rfl
theorem q1592 : (Jvm.Cond.privateMethod ({ cls := "FavourTown", name := "favourAt", desc := "(I)LFavourTown$Favour;" } : Jvm.MethodName)) ∈ lw_tbl := lw_at lw_m7 70 rfl
theorem q1593 : (Jvm.Cond.instanceMethod ({ cls := "FavourTown", name := "favourAt", desc := "(I)LFavourTown$Favour;" } : Jvm.MethodName)) ∈ lw_all := lw_g (lw_at lw_m7 71 rfl) rfl
theorem q1594 : (Jvm.Cond.code ({ cls := "FavourTown", name := "favourAt", desc := "(I)LFavourTown$Favour;" } : Jvm.MethodName) prog_1_method_27_code (2 : Nat) (Option.some (Jvm.ClassFile.FieldType.object "FavourTown$Favour"))) ∈ lw_all := lw_g (lw_at lw_m7 72 rfl) rfl
theorem q1599 : (Jvm.Cond.instanceMethod ({ cls := "FavourTown", name := "call", desc := "(I)I" } : Jvm.MethodName)) ∈ lw_all := lw_g (lw_at lw_m7 77 rfl) rfl
theorem q1600 : (Jvm.Cond.selects "FavourTown" ({ cls := "FavourTown", name := "call", desc := "(I)I" } : Jvm.MethodName) ({ cls := "FavourTown", name := "call", desc := "(I)I" } : Jvm.MethodName)) ∈ lw_all := lw_g (lw_at lw_m7 78 rfl) rfl
theorem q1601 : (Jvm.Cond.code ({ cls := "FavourTown", name := "call", desc := "(I)I" } : Jvm.MethodName) prog_1_method_34_code (3 : Nat) (Option.some Jvm.ClassFile.FieldType.int)) ∈ lw_all := lw_g (lw_at lw_m7 79 rfl) rfl
theorem q1602 : (Jvm.Cond.methodLink "FavourTown" (364 : Nat) ({ cls := "FavourTown$Favour", name := "worthAt", desc := "(I)I" } : Jvm.MethodName)) ∈ lw_all := lw_g (lw_at lw_m7 80 rfl) rfl
theorem q1607 : (Jvm.Cond.instanceMethod ({ cls := "FavourTown", name := "days", desc := "(I)I" } : Jvm.MethodName)) ∈ lw_all := lw_g (lw_at lw_m7 85 rfl) rfl
theorem q1608 : (Jvm.Cond.selects "FavourTown" ({ cls := "FavourTown", name := "days", desc := "(I)I" } : Jvm.MethodName) ({ cls := "FavourTown", name := "days", desc := "(I)I" } : Jvm.MethodName)) ∈ lw_all := lw_g (lw_at lw_m7 86 rfl) rfl
theorem q1609 : (Jvm.Cond.code ({ cls := "FavourTown", name := "days", desc := "(I)I" } : Jvm.MethodName) prog_1_method_35_code (2 : Nat) (Option.some Jvm.ClassFile.FieldType.int)) ∈ lw_all := lw_g (lw_at lw_m7 87 rfl) rfl
theorem q1615 : (Jvm.Cond.instanceMethod ({ cls := "FavourTown", name := "look", desc := "(II)I" } : Jvm.MethodName)) ∈ lw_all := lw_g (lw_at lw_m7 93 rfl) rfl
theorem q1616 : (Jvm.Cond.selects "FavourTown" ({ cls := "FavourTown", name := "look", desc := "(II)I" } : Jvm.MethodName) ({ cls := "FavourTown", name := "look", desc := "(II)I" } : Jvm.MethodName)) ∈ lw_all := lw_g (lw_at lw_m7 94 rfl) rfl
theorem q1617 : (Jvm.Cond.code ({ cls := "FavourTown", name := "look", desc := "(II)I" } : Jvm.MethodName) prog_1_method_36_code (4 : Nat) (Option.some Jvm.ClassFile.FieldType.int)) ∈ lw_all := lw_g (lw_at lw_m7 95 rfl) rfl
theorem q1618 : (Jvm.Cond.methodLink "FavourTown" (367 : Nat) ({ cls := "FavourTown", name := "asked", desc := "(II)V" } : Jvm.MethodName)) ∈ lw_all := lw_g (lw_at lw_m7 96 rfl) rfl
theorem q1619 : (Jvm.Cond.static ({ cls := "FavourTown", name := "asked", desc := "(II)V" } : Jvm.MethodName)) ∈ lw_all := lw_g (lw_at lw_m7 97 rfl) rfl
theorem q1620 : (Jvm.Cond.code ({ cls := "FavourTown", name := "asked", desc := "(II)V" } : Jvm.MethodName) prog_1_method_29_code (2 : Nat) (Option.none : Option Jvm.ClassFile.FieldType)) ∈ lw_all := lw_g (lw_at lw_m7 98 rfl) rfl
theorem q1621 : (Jvm.Cond.classLink "FavourTown" (345 : Nat) "java/util/NoSuchElementException") ∈ lw_all := lw_g (lw_at lw_m7 99 rfl) rfl
theorem q1630 : (Jvm.Cond.methodLink "FavourTown" (347 : Nat) ({ cls := "java/util/NoSuchElementException", name := "<init>", desc := "()V" } : Jvm.MethodName)) ∈ lw_all := lw_g (lw_at lw_m7 108 rfl) rfl
theorem q1636 : (Jvm.Cond.methodLink "FavourTown" (376 : Nat) ({ cls := "FavourTown$Favour", name := "end", desc := "()I" } : Jvm.MethodName)) ∈ lw_all := lw_g (lw_at lw_m7 114 rfl) rfl
theorem q1641 : (Jvm.Cond.instanceMethod ({ cls := "FavourTown", name := "hand", desc := "(II)I" } : Jvm.MethodName)) ∈ lw_all := lw_g (lw_at lw_m7 119 rfl) rfl
theorem q1642 : (Jvm.Cond.selects "FavourTown" ({ cls := "FavourTown", name := "hand", desc := "(II)I" } : Jvm.MethodName) ({ cls := "FavourTown", name := "hand", desc := "(II)I" } : Jvm.MethodName)) ∈ lw_all := lw_g (lw_at lw_m7 120 rfl) rfl
theorem q1643 : (Jvm.Cond.code ({ cls := "FavourTown", name := "hand", desc := "(II)I" } : Jvm.MethodName) prog_1_method_37_code (4 : Nat) (Option.some Jvm.ClassFile.FieldType.int)) ∈ lw_all := lw_g (lw_at lw_m7 121 rfl) rfl
theorem q1648 : (Jvm.Cond.instanceMethod ({ cls := "FavourTown", name := "takes", desc := "(II)Z" } : Jvm.MethodName)) ∈ lw_all := lw_g (lw_at lw_m7 126 rfl) rfl
theorem q1649 : (Jvm.Cond.selects "FavourTown" ({ cls := "FavourTown", name := "takes", desc := "(II)Z" } : Jvm.MethodName) ({ cls := "FavourTown", name := "takes", desc := "(II)Z" } : Jvm.MethodName)) ∈ lw_all := lw_g (lw_at lw_m7 127 rfl) rfl
theorem q1650 : (Jvm.Cond.code ({ cls := "FavourTown", name := "takes", desc := "(II)Z" } : Jvm.MethodName) prog_1_method_38_code (4 : Nat) (Option.some Jvm.ClassFile.FieldType.boolean)) ∈ lw_all := lw_g (lw_at lw_m7 128 rfl) rfl
theorem q1651 : (Jvm.Cond.methodLink "FavourTown" (384 : Nat) ({ cls := "FavourTown$World", name := "takes", desc := "(ILFavourTown$Favour;)Z" } : Jvm.MethodName)) ∈ lw_all := lw_g (lw_at lw_m7 129 rfl) rfl
theorem q1656 : (Jvm.Cond.instanceMethod ({ cls := "FavourTown", name := "rich", desc := "(I)I" } : Jvm.MethodName)) ∈ lw_all := lw_g (lw_at lw_m7 134 rfl) rfl
theorem q1657 : (Jvm.Cond.selects "FavourTown" ({ cls := "FavourTown", name := "rich", desc := "(I)I" } : Jvm.MethodName) ({ cls := "FavourTown", name := "rich", desc := "(I)I" } : Jvm.MethodName)) ∈ lw_all := lw_g (lw_at lw_m7 135 rfl) rfl
theorem q1658 : (Jvm.Cond.code ({ cls := "FavourTown", name := "rich", desc := "(I)I" } : Jvm.MethodName) prog_1_method_39_code (2 : Nat) (Option.some Jvm.ClassFile.FieldType.int)) ∈ lw_all := lw_g (lw_at lw_m7 136 rfl) rfl
theorem q1659 : (Jvm.Cond.methodLink "FavourTown" (388 : Nat) ({ cls := "FavourTown$World", name := "rich", desc := "(I)I" } : Jvm.MethodName)) ∈ lw_all := lw_g (lw_at lw_m7 137 rfl) rfl
theorem q1664 : (Jvm.Cond.instanceMethod ({ cls := "FavourTown", name := "debt", desc := "(I)I" } : Jvm.MethodName)) ∈ lw_all := lw_g (lw_at lw_m7 142 rfl) rfl
theorem q1665 : (Jvm.Cond.selects "FavourTown" ({ cls := "FavourTown", name := "debt", desc := "(I)I" } : Jvm.MethodName) ({ cls := "FavourTown", name := "debt", desc := "(I)I" } : Jvm.MethodName)) ∈ lw_all := lw_g (lw_at lw_m7 143 rfl) rfl
theorem q1666 : (Jvm.Cond.code ({ cls := "FavourTown", name := "debt", desc := "(I)I" } : Jvm.MethodName) prog_1_method_40_code (2 : Nat) (Option.some Jvm.ClassFile.FieldType.int)) ∈ lw_all := lw_g (lw_at lw_m7 144 rfl) rfl
theorem q1667 : (Jvm.Cond.methodLink "FavourTown" (391 : Nat) ({ cls := "FavourTown$World", name := "debt", desc := "(I)I" } : Jvm.MethodName)) ∈ lw_all := lw_g (lw_at lw_m7 145 rfl) rfl
theorem q1672 : (Jvm.Cond.instanceMethod ({ cls := "FavourTown", name := "owes", desc := "(II)I" } : Jvm.MethodName)) ∈ lw_all := lw_g (lw_at lw_m7 150 rfl) rfl
theorem q1673 : (Jvm.Cond.selects "FavourTown" ({ cls := "FavourTown", name := "owes", desc := "(II)I" } : Jvm.MethodName) ({ cls := "FavourTown", name := "owes", desc := "(II)I" } : Jvm.MethodName)) ∈ lw_all := lw_g (lw_at lw_m7 151 rfl) rfl
theorem q1674 : (Jvm.Cond.code ({ cls := "FavourTown", name := "owes", desc := "(II)I" } : Jvm.MethodName) prog_1_method_41_code (3 : Nat) (Option.some Jvm.ClassFile.FieldType.int)) ∈ lw_all := lw_g (lw_at lw_m7 152 rfl) rfl
theorem q1675 : (Jvm.Cond.methodLink "FavourTown" (394 : Nat) ({ cls := "FavourTown$World", name := "owes", desc := "(II)I" } : Jvm.MethodName)) ∈ lw_all := lw_g (lw_at lw_m7 153 rfl) rfl
theorem q1683 : (Jvm.Cond.instanceMethod ({ cls := "FavourTown", name := "pays", desc := "(III)I" } : Jvm.MethodName)) ∈ lw_all := lw_g (lw_at lw_m7 161 rfl) rfl
theorem q1684 : (Jvm.Cond.selects "FavourTown" ({ cls := "FavourTown", name := "pays", desc := "(III)I" } : Jvm.MethodName) ({ cls := "FavourTown", name := "pays", desc := "(III)I" } : Jvm.MethodName)) ∈ lw_all := lw_g (lw_at lw_m7 162 rfl) rfl
theorem q1685 : (Jvm.Cond.code ({ cls := "FavourTown", name := "pays", desc := "(III)I" } : Jvm.MethodName) prog_1_method_42_code (4 : Nat) (Option.some Jvm.ClassFile.FieldType.int)) ∈ lw_all := lw_g (lw_at lw_m7 163 rfl) rfl
theorem q1686 : (Jvm.Cond.methodLink "FavourTown" (397 : Nat) ({ cls := "FavourTown$World", name := "pays", desc := "(III)I" } : Jvm.MethodName)) ∈ lw_all := lw_g (lw_at lw_m7 164 rfl) rfl
theorem q1691 : (Jvm.Cond.instanceMethod ({ cls := "FavourTown", name := "can", desc := "(I)Z" } : Jvm.MethodName)) ∈ lw_all := lw_g (lw_at lw_m7 169 rfl) rfl
theorem q1692 : (Jvm.Cond.selects "FavourTown" ({ cls := "FavourTown", name := "can", desc := "(I)Z" } : Jvm.MethodName) ({ cls := "FavourTown", name := "can", desc := "(I)Z" } : Jvm.MethodName)) ∈ lw_all := lw_g (lw_at lw_m7 170 rfl) rfl
theorem q1693 : (Jvm.Cond.code ({ cls := "FavourTown", name := "can", desc := "(I)Z" } : Jvm.MethodName) prog_1_method_44_code (3 : Nat) (Option.some Jvm.ClassFile.FieldType.boolean)) ∈ lw_all := lw_g (lw_at lw_m7 171 rfl) rfl
theorem q1694 : (Jvm.Cond.methodLink "FavourTown" (401 : Nat) ({ cls := "FavourTown", name := "needAt", desc := "(I)LFavourTown$Need;" } : Jvm.MethodName)) ∈ lw_all := lw_g (lw_at lw_m7 172 rfl) rfl
theorem q1695 : (Jvm.Cond.privateMethod ({ cls := "FavourTown", name := "needAt", desc := "(I)LFavourTown$Need;" } : Jvm.MethodName)) ∈ lw_tbl := lw_at lw_m7 173 rfl
theorem q1696 : (Jvm.Cond.instanceMethod ({ cls := "FavourTown", name := "needAt", desc := "(I)LFavourTown$Need;" } : Jvm.MethodName)) ∈ lw_all := lw_g (lw_at lw_m7 174 rfl) rfl
theorem q1697 : (Jvm.Cond.code ({ cls := "FavourTown", name := "needAt", desc := "(I)LFavourTown$Need;" } : Jvm.MethodName) prog_1_method_43_code (2 : Nat) (Option.some (Jvm.ClassFile.FieldType.object "FavourTown$Need"))) ∈ lw_all := lw_g (lw_at lw_m7 175 rfl) rfl
theorem q1698 : (Jvm.Cond.methodLink "FavourTown" (413 : Nat) ({ cls := "FavourTown$World", name := "isMet", desc := "(III)Z" } : Jvm.MethodName)) ∈ lw_all := lw_g (lw_at lw_m7 176 rfl) rfl
theorem q1703 : (Jvm.Cond.instanceMethod ({ cls := "FavourTown", name := "meet", desc := "(I)I" } : Jvm.MethodName)) ∈ lw_all := lw_g (lw_at lw_m7 181 rfl) rfl
theorem q1704 : (Jvm.Cond.selects "FavourTown" ({ cls := "FavourTown", name := "meet", desc := "(I)I" } : Jvm.MethodName) ({ cls := "FavourTown", name := "meet", desc := "(I)I" } : Jvm.MethodName)) ∈ lw_all := lw_g (lw_at lw_m7 182 rfl) rfl
theorem q1705 : (Jvm.Cond.code ({ cls := "FavourTown", name := "meet", desc := "(I)I" } : Jvm.MethodName) prog_1_method_45_code (3 : Nat) (Option.some Jvm.ClassFile.FieldType.int)) ∈ lw_all := lw_g (lw_at lw_m7 183 rfl) rfl
theorem q1706 : (Jvm.Cond.methodLink "FavourTown" (416 : Nat) ({ cls := "FavourTown$World", name := "meets", desc := "(III)I" } : Jvm.MethodName)) ∈ lw_all := lw_g (lw_at lw_m7 184 rfl) rfl
theorem q1716 : (Jvm.Cond.instanceMethod ({ cls := "FavourTown", name := "port", desc := "(II)I" } : Jvm.MethodName)) ∈ lw_all := lw_g (lw_at lw_m7 194 rfl) rfl
theorem q1717 : (Jvm.Cond.selects "FavourTown" ({ cls := "FavourTown", name := "port", desc := "(II)I" } : Jvm.MethodName) ({ cls := "FavourTown", name := "port", desc := "(II)I" } : Jvm.MethodName)) ∈ lw_all := lw_g (lw_at lw_m7 195 rfl) rfl
theorem q1718 : (Jvm.Cond.code ({ cls := "FavourTown", name := "port", desc := "(II)I" } : Jvm.MethodName) prog_1_method_50_code (3 : Nat) (Option.some Jvm.ClassFile.FieldType.int)) ∈ lw_all := lw_g (lw_at lw_m7 196 rfl) rfl
theorem q1719 : (Jvm.Cond.methodLink "FavourTown" (427 : Nat) ({ cls := "FavourTown$World", name := "port", desc := "(II)I" } : Jvm.MethodName)) ∈ lw_all := lw_g (lw_at lw_m7 197 rfl) rfl
theorem q1727 : (Jvm.Cond.instanceMethod ({ cls := "FavourTown", name := "most", desc := "(II)I" } : Jvm.MethodName)) ∈ lw_all := lw_g (lw_at lw_m7 205 rfl) rfl
theorem q1728 : (Jvm.Cond.selects "FavourTown" ({ cls := "FavourTown", name := "most", desc := "(II)I" } : Jvm.MethodName) ({ cls := "FavourTown", name := "most", desc := "(II)I" } : Jvm.MethodName)) ∈ lw_all := lw_g (lw_at lw_m7 206 rfl) rfl
theorem q1729 : (Jvm.Cond.code ({ cls := "FavourTown", name := "most", desc := "(II)I" } : Jvm.MethodName) prog_1_method_51_code (3 : Nat) (Option.some Jvm.ClassFile.FieldType.int)) ∈ lw_all := lw_g (lw_at lw_m7 207 rfl) rfl
theorem q1730 : (Jvm.Cond.methodLink "FavourTown" (430 : Nat) ({ cls := "FavourTown$Flow", name := "begins", desc := "()LFavourTown$Flow;" } : Jvm.MethodName)) ∈ lw_all := lw_g (lw_at lw_m7 208 rfl) rfl
theorem q1735 : (Jvm.Cond.methodLink "FavourTown" (433 : Nat) ({ cls := "FavourTown$Flow", name := "most", desc := "(II)I" } : Jvm.MethodName)) ∈ lw_all := lw_g (lw_at lw_m7 213 rfl) rfl
theorem q1749 : (Jvm.Cond.instanceMethod ({ cls := "FavourTown", name := "cut", desc := "(II)I" } : Jvm.MethodName)) ∈ lw_all := lw_g (lw_at lw_m7 227 rfl) rfl
theorem q1750 : (Jvm.Cond.selects "FavourTown" ({ cls := "FavourTown", name := "cut", desc := "(II)I" } : Jvm.MethodName) ({ cls := "FavourTown", name := "cut", desc := "(II)I" } : Jvm.MethodName)) ∈ lw_all := lw_g (lw_at lw_m7 228 rfl) rfl
theorem q1751 : (Jvm.Cond.code ({ cls := "FavourTown", name := "cut", desc := "(II)I" } : Jvm.MethodName) prog_1_method_52_code (3 : Nat) (Option.some Jvm.ClassFile.FieldType.int)) ∈ lw_all := lw_g (lw_at lw_m7 229 rfl) rfl
theorem q1752 : (Jvm.Cond.methodLink "FavourTown" (436 : Nat) ({ cls := "FavourTown$Flow", name := "reached", desc := "(I)I" } : Jvm.MethodName)) ∈ lw_all := lw_g (lw_at lw_m7 230 rfl) rfl
theorem q1757 : (Jvm.Cond.instanceMethod ({ cls := "FavourTown", name := "chain", desc := "(IIII)I" } : Jvm.MethodName)) ∈ lw_all := lw_g (lw_at lw_m7 235 rfl) rfl
theorem q1758 : (Jvm.Cond.selects "FavourTown" ({ cls := "FavourTown", name := "chain", desc := "(IIII)I" } : Jvm.MethodName) ({ cls := "FavourTown", name := "chain", desc := "(IIII)I" } : Jvm.MethodName)) ∈ lw_all := lw_g (lw_at lw_m7 236 rfl) rfl
theorem q1759 : (Jvm.Cond.code ({ cls := "FavourTown", name := "chain", desc := "(IIII)I" } : Jvm.MethodName) prog_1_method_54_code (8 : Nat) (Option.some Jvm.ClassFile.FieldType.int)) ∈ lw_all := lw_g (lw_at lw_m7 237 rfl) rfl
theorem q1760 : (Jvm.Cond.methodLink "FavourTown" (449 : Nat) ({ cls := "FavourTown", name := "steps", desc := "(II)V" } : Jvm.MethodName)) ∈ lw_all := lw_g (lw_at lw_m7 238 rfl) rfl
theorem q1761 : (Jvm.Cond.privateMethod ({ cls := "FavourTown", name := "steps", desc := "(II)V" } : Jvm.MethodName)) ∈ lw_tbl := lw_at lw_m7 239 rfl
theorem q1762 : (Jvm.Cond.instanceMethod ({ cls := "FavourTown", name := "steps", desc := "(II)V" } : Jvm.MethodName)) ∈ lw_all := lw_g (lw_at lw_m8 0 rfl) rfl
theorem q1763 : (Jvm.Cond.code ({ cls := "FavourTown", name := "steps", desc := "(II)V" } : Jvm.MethodName) prog_1_method_53_code (6 : Nat) (Option.none : Option Jvm.ClassFile.FieldType)) ∈ lw_all := lw_g (lw_at lw_m8 1 rfl) rfl
theorem q1764 : (Jvm.Cond.methodLink "FavourTown" (439 : Nat) ({ cls := "java/util/Arrays", name := "fill", desc := "([II)V" } : Jvm.MethodName)) ∈ lw_all := lw_g (lw_at lw_m8 2 rfl) rfl
theorem q1771 : (Jvm.Cond.instanceMethod ({ cls := "FavourTown", name := "ring", desc := "()I" } : Jvm.MethodName)) ∈ lw_all := lw_g (lw_at lw_m8 9 rfl) rfl
theorem q1772 : (Jvm.Cond.selects "FavourTown" ({ cls := "FavourTown", name := "ring", desc := "()I" } : Jvm.MethodName) ({ cls := "FavourTown", name := "ring", desc := "()I" } : Jvm.MethodName)) ∈ lw_all := lw_g (lw_at lw_m8 10 rfl) rfl
theorem q1773 : (Jvm.Cond.code ({ cls := "FavourTown", name := "ring", desc := "()I" } : Jvm.MethodName) prog_1_method_55_code (5 : Nat) (Option.some Jvm.ClassFile.FieldType.int)) ∈ lw_all := lw_g (lw_at lw_m8 11 rfl) rfl
theorem q1778 : (Jvm.Cond.instanceMethod ({ cls := "FavourTown", name := "clear", desc := "(I)I" } : Jvm.MethodName)) ∈ lw_all := lw_g (lw_at lw_m8 16 rfl) rfl
theorem q1779 : (Jvm.Cond.selects "FavourTown" ({ cls := "FavourTown", name := "clear", desc := "(I)I" } : Jvm.MethodName) ({ cls := "FavourTown", name := "clear", desc := "(I)I" } : Jvm.MethodName)) ∈ lw_all := lw_g (lw_at lw_m8 17 rfl) rfl
theorem q1780 : (Jvm.Cond.code ({ cls := "FavourTown", name := "clear", desc := "(I)I" } : Jvm.MethodName) prog_1_method_56_code (3 : Nat) (Option.some Jvm.ClassFile.FieldType.int)) ∈ lw_all := lw_g (lw_at lw_m8 18 rfl) rfl
theorem q1781 : (Jvm.Cond.methodLink "FavourTown" (461 : Nat) ({ cls := "FavourTown$Clearing", name := "goes", desc := "()I" } : Jvm.MethodName)) ∈ lw_all := lw_g (lw_at lw_m8 19 rfl) rfl
theorem q1808 : (Jvm.Cond.instanceMethod ({ cls := "FavourTown", name := "loss", desc := "(II)I" } : Jvm.MethodName)) ∈ lw_all := lw_g (lw_at lw_m8 46 rfl) rfl
theorem q1809 : (Jvm.Cond.selects "FavourTown" ({ cls := "FavourTown", name := "loss", desc := "(II)I" } : Jvm.MethodName) ({ cls := "FavourTown", name := "loss", desc := "(II)I" } : Jvm.MethodName)) ∈ lw_all := lw_g (lw_at lw_m8 47 rfl) rfl
theorem q1810 : (Jvm.Cond.code ({ cls := "FavourTown", name := "loss", desc := "(II)I" } : Jvm.MethodName) prog_1_method_57_code (3 : Nat) (Option.some Jvm.ClassFile.FieldType.int)) ∈ lw_all := lw_g (lw_at lw_m8 48 rfl) rfl
theorem q1815 : (Jvm.Cond.instanceMethod ({ cls := "FavourTown", name := "ruined", desc := "(I)I" } : Jvm.MethodName)) ∈ lw_all := lw_g (lw_at lw_m8 53 rfl) rfl
theorem q1816 : (Jvm.Cond.selects "FavourTown" ({ cls := "FavourTown", name := "ruined", desc := "(I)I" } : Jvm.MethodName) ({ cls := "FavourTown", name := "ruined", desc := "(I)I" } : Jvm.MethodName)) ∈ lw_all := lw_g (lw_at lw_m8 54 rfl) rfl
theorem q1817 : (Jvm.Cond.code ({ cls := "FavourTown", name := "ruined", desc := "(I)I" } : Jvm.MethodName) prog_1_method_58_code (4 : Nat) (Option.some Jvm.ClassFile.FieldType.int)) ∈ lw_all := lw_g (lw_at lw_m8 55 rfl) rfl
theorem q1822 : (Jvm.Cond.instanceMethod ({ cls := "FavourTown", name := "fits", desc := "(I)I" } : Jvm.MethodName)) ∈ lw_all := lw_g (lw_at lw_m8 60 rfl) rfl
theorem q1823 : (Jvm.Cond.selects "FavourTown" ({ cls := "FavourTown", name := "fits", desc := "(I)I" } : Jvm.MethodName) ({ cls := "FavourTown", name := "fits", desc := "(I)I" } : Jvm.MethodName)) ∈ lw_all := lw_g (lw_at lw_m8 61 rfl) rfl
theorem q1824 : (Jvm.Cond.code ({ cls := "FavourTown", name := "fits", desc := "(I)I" } : Jvm.MethodName) prog_1_method_59_code (6 : Nat) (Option.some Jvm.ClassFile.FieldType.int)) ∈ lw_all := lw_g (lw_at lw_m8 62 rfl) rfl
theorem q1829 : (Jvm.Cond.instanceMethod ({ cls := "FavourTown", name := "play", desc := "(III)I" } : Jvm.MethodName)) ∈ lw_all := lw_g (lw_at lw_m8 67 rfl) rfl
theorem q1830 : (Jvm.Cond.selects "FavourTown" ({ cls := "FavourTown", name := "play", desc := "(III)I" } : Jvm.MethodName) ({ cls := "FavourTown", name := "play", desc := "(III)I" } : Jvm.MethodName)) ∈ lw_all := lw_g (lw_at lw_m8 68 rfl) rfl
theorem q1831 : (Jvm.Cond.code ({ cls := "FavourTown", name := "play", desc := "(III)I" } : Jvm.MethodName) prog_1_method_60_code (13 : Nat) (Option.some Jvm.ClassFile.FieldType.int)) ∈ lw_all := lw_g (lw_at lw_m8 69 rfl) rfl
theorem q1832 : (Jvm.Cond.constant "FavourTown" (470 : Nat) (1103515245 : Int32)) ∈ lw_all := lw_g (lw_at lw_m8 70 rfl) rfl
theorem q2341 : (Jvm.Cond.castable "FavourTown" "java/lang/Object") ∈ lw_tbl := lw_at lw_m10 99 rfl
theorem in_X1 : ∀ w ∈ wsX10, w ∈ lw_all := lw_in wsX10 [359, 361, 363, 365, 367, 369] (by decide +kernel) (by decide +kernel)
