/-! java/util/AbstractCollection -/
set_option maxRecDepth 100000
def RJ0 : String := "java/util/AbstractCollection"
abbrev cJ0_init : ByteArray := prog_50_method_1_code
def yJ0_init : MethodName := ⟨RJ0, "<init>", "()V"⟩
theorem dJ0_init_0 : decode cJ0_init 0 = .ok (.aload_n 0, 1) := by decide +kernel
theorem dJ0_init_1 : decode cJ0_init 1 = .ok (.invokespecial 1, 3) := by decide +kernel
theorem dJ0_init_4 : decode cJ0_init 4 = .ok (.return_, 1) := by decide +kernel
theorem q85 : (Jvm.Cond.initialized "java/util/AbstractCollection") ∈ lw_all := lw_g (lw_at lw_m1 3 rfl) rfl
theorem q154 : (Jvm.Cond.instanceMethod ({ cls := "java/util/AbstractCollection", name := "<init>", desc := "()V" } : Jvm.MethodName)) ∈ lw_all := lw_g (lw_at lw_m1 72 rfl) rfl
theorem q155 : (Jvm.Cond.code ({ cls := "java/util/AbstractCollection", name := "<init>", desc := "()V" } : Jvm.MethodName) prog_50_method_1_code (1 : Nat) (Option.none : Option Jvm.ClassFile.FieldType)) ∈ lw_all := lw_g (lw_at lw_m1 73 rfl) rfl
theorem q156 : (Jvm.Cond.methodLink "java/util/AbstractCollection" (1 : Nat) ({ cls := "java/lang/Object", name := "<init>", desc := "()V" } : Jvm.MethodName)) ∈ lw_all := lw_g (lw_at lw_m1 74 rfl) rfl
/-! java/util/AbstractList -/
set_option maxRecDepth 100000
def RJ1 : String := "java/util/AbstractList"
abbrev cJ1_init : ByteArray := prog_51_method_1_code
def yJ1_init : MethodName := ⟨RJ1, "<init>", "()V"⟩
def dkwJ1_init_0 : List UInt8 := [42, 183, 0, 1, 42, 3, 181, 0, 7, 177]
abbrev dktJ1_init_0 : List UInt8 := dkwJ1_init_0 ++ []
theorem dksJ1_init_0 : cJ1_init.data.toList.drop 0 = dktJ1_init_0 := by decide +kernel
theorem dJ1_init_0 : decode cJ1_init 0 = .ok (.aload_n 0, 1) := dk_42 (dk_at dksJ1_init_0 0 rfl rfl)
theorem dJ1_init_1 : decode cJ1_init 1 = .ok (.invokespecial 1, 3) := dk_183 0 1 (dk_at dksJ1_init_0 1 rfl rfl)
theorem dJ1_init_4 : decode cJ1_init 4 = .ok (.aload_n 0, 1) := dk_42 (dk_at dksJ1_init_0 4 rfl rfl)
theorem dJ1_init_5 : decode cJ1_init 5 = .ok (.iconst 0, 1) := dk_3 (dk_at dksJ1_init_0 5 rfl rfl)
theorem dJ1_init_6 : decode cJ1_init 6 = .ok (.putfield 7, 3) := dk_181 0 7 (dk_at dksJ1_init_0 6 rfl rfl)
theorem dJ1_init_9 : decode cJ1_init 9 = .ok (.return_, 1) := dk_177 (dk_at dksJ1_init_0 9 rfl rfl)
theorem q86 : (Jvm.Cond.initialized "java/util/AbstractList") ∈ lw_all := lw_g (lw_at lw_m1 4 rfl) rfl
theorem q151 : (Jvm.Cond.instanceMethod ({ cls := "java/util/AbstractList", name := "<init>", desc := "()V" } : Jvm.MethodName)) ∈ lw_all := lw_g (lw_at lw_m1 69 rfl) rfl
theorem q152 : (Jvm.Cond.code ({ cls := "java/util/AbstractList", name := "<init>", desc := "()V" } : Jvm.MethodName) prog_51_method_1_code (1 : Nat) (Option.none : Option Jvm.ClassFile.FieldType)) ∈ lw_all := lw_g (lw_at lw_m1 70 rfl) rfl
theorem q153 : (Jvm.Cond.methodLink "java/util/AbstractList" (1 : Nat) ({ cls := "java/util/AbstractCollection", name := "<init>", desc := "()V" } : Jvm.MethodName)) ∈ lw_all := lw_g (lw_at lw_m1 71 rfl) rfl
theorem q161 : (Jvm.Cond.fieldLink "java/util/AbstractList" (7 : Nat) "java/util/AbstractList" "modCount" "I") ∈ lw_all := lw_g (lw_at lw_m1 79 rfl) rfl
theorem q169 : (Jvm.Cond.soleField "java/util/AbstractList" "modCount") ∈ lw_all := lw_g (lw_at lw_m1 87 rfl) rfl
/-! java/lang/String -/
set_option maxRecDepth 100000
def RJ10 : String := "java/lang/String"
def TJ10 : u_T := fun k => match k with
  | 0 => ("java/lang/String", "value", "[B", true)
  | 1 => ("java/lang/String", "coder", "B", true)
  | 2 => ("java/lang/String", "hash", "I", false)
  | _ => ("java/lang/String", "hashIsZero", "Z", false)
def tyJ10 : Nat → FieldType := fun k => match k with
  | 0 => .array .byte
  | 1 => .byte
  | 2 => .int
  | _ => .boolean
abbrev wsJ100 : List Cond := u_ws RJ10 TJ10 4
theorem nmJ10 : ∀ a, a < 4 → ∀ b, b < 4 → a ≠ b → (TJ10 a).2.1 ≠ (TJ10 b).2.1 := by decide +kernel
theorem tyJ10_ok : ∀ k, k < 4 → parseFieldDescriptor (TJ10 k).2.2.1 = some (tyJ10 k) := by decide +kernel
abbrev cJ10_checkBoundsOffCount : ByteArray := prog_40_method_157_code
def yJ10_checkBoundsOffCount : MethodName := ⟨RJ10, "checkBoundsOffCount", "(III)I"⟩
def dkwJ10_checkBoundsOffCount_0 : List UInt8 := [26, 27, 28, 178, 4, 29, 184, 4, 41, 172]
abbrev dktJ10_checkBoundsOffCount_0 : List UInt8 := dkwJ10_checkBoundsOffCount_0 ++ []
theorem dksJ10_checkBoundsOffCount_0 : cJ10_checkBoundsOffCount.data.toList.drop 0 = dktJ10_checkBoundsOffCount_0 := by decide +kernel
theorem dJ10_checkBoundsOffCount_0 : decode cJ10_checkBoundsOffCount 0 = .ok (.iload_n 0, 1) := dk_26 (dk_at dksJ10_checkBoundsOffCount_0 0 rfl rfl)
theorem dJ10_checkBoundsOffCount_1 : decode cJ10_checkBoundsOffCount 1 = .ok (.iload_n 1, 1) := dk_27 (dk_at dksJ10_checkBoundsOffCount_0 1 rfl rfl)
theorem dJ10_checkBoundsOffCount_2 : decode cJ10_checkBoundsOffCount 2 = .ok (.iload_n 2, 1) := dk_28 (dk_at dksJ10_checkBoundsOffCount_0 2 rfl rfl)
theorem dJ10_checkBoundsOffCount_3 : decode cJ10_checkBoundsOffCount 3 = .ok (.getstatic 1053, 3) := dk_178 4 29 (dk_at dksJ10_checkBoundsOffCount_0 3 rfl rfl)
theorem dJ10_checkBoundsOffCount_6 : decode cJ10_checkBoundsOffCount 6 = .ok (.invokestatic 1065, 3) := dk_184 4 41 (dk_at dksJ10_checkBoundsOffCount_0 6 rfl rfl)
theorem dJ10_checkBoundsOffCount_9 : decode cJ10_checkBoundsOffCount 9 = .ok (.ireturn, 1) := dk_172 (dk_at dksJ10_checkBoundsOffCount_0 9 rfl rfl)
abbrev cJ10_checkIndex : ByteArray := prog_40_method_155_code
def yJ10_checkIndex : MethodName := ⟨RJ10, "checkIndex", "(II)V"⟩
def dkwJ10_checkIndex_0 : List UInt8 := [26, 27, 178, 4, 29, 184, 4, 35, 87, 177]
abbrev dktJ10_checkIndex_0 : List UInt8 := dkwJ10_checkIndex_0 ++ []
theorem dksJ10_checkIndex_0 : cJ10_checkIndex.data.toList.drop 0 = dktJ10_checkIndex_0 := by decide +kernel
theorem dJ10_checkIndex_0 : decode cJ10_checkIndex 0 = .ok (.iload_n 0, 1) := dk_26 (dk_at dksJ10_checkIndex_0 0 rfl rfl)
theorem dJ10_checkIndex_1 : decode cJ10_checkIndex 1 = .ok (.iload_n 1, 1) := dk_27 (dk_at dksJ10_checkIndex_0 1 rfl rfl)
theorem dJ10_checkIndex_2 : decode cJ10_checkIndex 2 = .ok (.getstatic 1053, 3) := dk_178 4 29 (dk_at dksJ10_checkIndex_0 2 rfl rfl)
theorem dJ10_checkIndex_5 : decode cJ10_checkIndex 5 = .ok (.invokestatic 1059, 3) := dk_184 4 35 (dk_at dksJ10_checkIndex_0 5 rfl rfl)
theorem dJ10_checkIndex_8 : decode cJ10_checkIndex 8 = .ok (.pop, 1) := dk_87 (dk_at dksJ10_checkIndex_0 8 rfl rfl)
theorem dJ10_checkIndex_9 : decode cJ10_checkIndex 9 = .ok (.return_, 1) := dk_177 (dk_at dksJ10_checkIndex_0 9 rfl rfl)
abbrev cJ10_init : ByteArray := prog_40_method_53_code
def yJ10_init : MethodName := ⟨RJ10, "<init>", "(Ljava/lang/StringBuilder;)V"⟩
def dkwJ10_init_0 : List UInt8 := [42, 43, 1, 183, 1, 233, 177]
abbrev dktJ10_init_0 : List UInt8 := dkwJ10_init_0 ++ []
theorem dksJ10_init_0 : cJ10_init.data.toList.drop 0 = dktJ10_init_0 := by decide +kernel
theorem dJ10_init_0 : decode cJ10_init 0 = .ok (.aload_n 0, 1) := dk_42 (dk_at dksJ10_init_0 0 rfl rfl)
theorem dJ10_init_1 : decode cJ10_init 1 = .ok (.aload_n 1, 1) := dk_43 (dk_at dksJ10_init_0 1 rfl rfl)
theorem dJ10_init_2 : decode cJ10_init 2 = .ok (.aconst_null, 1) := dk_1 (dk_at dksJ10_init_0 2 rfl rfl)
theorem dJ10_init_3 : decode cJ10_init 3 = .ok (.invokespecial 489, 3) := dk_183 1 233 (dk_at dksJ10_init_0 3 rfl rfl)
theorem dJ10_init_6 : decode cJ10_init 6 = .ok (.return_, 1) := dk_177 (dk_at dksJ10_init_0 6 rfl rfl)
abbrev cJ10_init_2 : ByteArray := prog_40_method_150_code
def yJ10_init_2 : MethodName := ⟨RJ10, "<init>", "(Ljava/lang/AbstractStringBuilder;Ljava/lang/Void;)V"⟩
def dkwJ10_init_2_4 : List UInt8 := [181, 0, 9, 177]
abbrev dktJ10_init_2_4 : List UInt8 := dkwJ10_init_2_4 ++ []
def dkwJ10_init_2_3 : List UInt8 := [184, 0, 47, 181, 0, 15, 177, 42, 4, 181, 0, 15, 42, 45, 3, 21, 4, 4, 120, 184, 0, 54]
abbrev dktJ10_init_2_3 : List UInt8 := dkwJ10_init_2_3 ++ dktJ10_init_2_4
def dkwJ10_init_2_2 : List UInt8 := [180, 4, 24, 153, 0, 28, 42, 45, 3, 21, 4, 184, 4, 27, 181, 0, 9, 42, 42, 180, 0, 9, 21, 4]
abbrev dktJ10_init_2_2 : List UInt8 := dkwJ10_init_2_2 ++ dktJ10_init_2_3
def dkwJ10_init_2_1 : List UInt8 := [181, 0, 15, 42, 45, 3, 21, 4, 184, 0, 54, 181, 0, 9, 167, 0, 59, 178, 0, 38, 153, 0, 35, 43]
abbrev dktJ10_init_2_1 : List UInt8 := dkwJ10_init_2_1 ++ dktJ10_init_2_2
def dkwJ10_init_2_0 : List UInt8 := [42, 183, 0, 1, 43, 182, 2, 40, 78, 43, 182, 2, 37, 54, 4, 43, 182, 4, 23, 153, 0, 22, 42, 3]
abbrev dktJ10_init_2_0 : List UInt8 := dkwJ10_init_2_0 ++ dktJ10_init_2_1
theorem dksJ10_init_2_0 : cJ10_init_2.data.toList.drop 0 = dktJ10_init_2_0 := by decide +kernel
theorem dksJ10_init_2_1 : cJ10_init_2.data.toList.drop 24 = dktJ10_init_2_1 := dk_seg dksJ10_init_2_0 24 rfl rfl
theorem dksJ10_init_2_2 : cJ10_init_2.data.toList.drop 48 = dktJ10_init_2_2 := dk_seg dksJ10_init_2_1 24 rfl rfl
theorem dksJ10_init_2_3 : cJ10_init_2.data.toList.drop 72 = dktJ10_init_2_3 := dk_seg dksJ10_init_2_2 24 rfl rfl
theorem dksJ10_init_2_4 : cJ10_init_2.data.toList.drop 94 = dktJ10_init_2_4 := dk_seg dksJ10_init_2_3 22 rfl rfl
theorem dJ10_init_2_0 : decode cJ10_init_2 0 = .ok (.aload_n 0, 1) := dk_42 (dk_at dksJ10_init_2_0 0 rfl rfl)
theorem dJ10_init_2_1 : decode cJ10_init_2 1 = .ok (.invokespecial 1, 3) := dk_183 0 1 (dk_at dksJ10_init_2_0 1 rfl rfl)
theorem dJ10_init_2_4 : decode cJ10_init_2 4 = .ok (.aload_n 1, 1) := dk_43 (dk_at dksJ10_init_2_0 4 rfl rfl)
theorem dJ10_init_2_5 : decode cJ10_init_2 5 = .ok (.invokevirtual 552, 3) := dk_182 2 40 (dk_at dksJ10_init_2_0 5 rfl rfl)
theorem dJ10_init_2_8 : decode cJ10_init_2 8 = .ok (.astore_n 3, 1) := dk_78 (dk_at dksJ10_init_2_0 8 rfl rfl)
theorem dJ10_init_2_9 : decode cJ10_init_2 9 = .ok (.aload_n 1, 1) := dk_43 (dk_at dksJ10_init_2_0 9 rfl rfl)
theorem dJ10_init_2_10 : decode cJ10_init_2 10 = .ok (.invokevirtual 549, 3) := dk_182 2 37 (dk_at dksJ10_init_2_0 10 rfl rfl)
theorem dJ10_init_2_13 : decode cJ10_init_2 13 = .ok (.istore 4, 2) := dk_54 4 (dk_at dksJ10_init_2_0 13 rfl rfl)
theorem dJ10_init_2_15 : decode cJ10_init_2 15 = .ok (.aload_n 1, 1) := dk_43 (dk_at dksJ10_init_2_0 15 rfl rfl)
theorem dJ10_init_2_16 : decode cJ10_init_2 16 = .ok (.invokevirtual 1047, 3) := dk_182 4 23 (dk_at dksJ10_init_2_0 16 rfl rfl)
theorem dJ10_init_2_19 : decode cJ10_init_2 19 = .ok (.ifCond .eq 22, 3) := dk_153 0 22 (dk_at dksJ10_init_2_0 19 rfl rfl)
theorem dJ10_init_2_22 : decode cJ10_init_2 22 = .ok (.aload_n 0, 1) := dk_42 (dk_at dksJ10_init_2_0 22 rfl rfl)
theorem dJ10_init_2_23 : decode cJ10_init_2 23 = .ok (.iconst 0, 1) := dk_3 (dk_at dksJ10_init_2_0 23 rfl rfl)
theorem dJ10_init_2_24 : decode cJ10_init_2 24 = .ok (.putfield 15, 3) := dk_181 0 15 (dk_at dksJ10_init_2_1 0 rfl rfl)
theorem dJ10_init_2_27 : decode cJ10_init_2 27 = .ok (.aload_n 0, 1) := dk_42 (dk_at dksJ10_init_2_1 3 rfl rfl)
theorem dJ10_init_2_28 : decode cJ10_init_2 28 = .ok (.aload_n 3, 1) := dk_45 (dk_at dksJ10_init_2_1 4 rfl rfl)
theorem dJ10_init_2_29 : decode cJ10_init_2 29 = .ok (.iconst 0, 1) := dk_3 (dk_at dksJ10_init_2_1 5 rfl rfl)
theorem dJ10_init_2_30 : decode cJ10_init_2 30 = .ok (.iload 4, 2) := dk_21 4 (dk_at dksJ10_init_2_1 6 rfl rfl)
theorem dJ10_init_2_32 : decode cJ10_init_2 32 = .ok (.invokestatic 54, 3) := dk_184 0 54 (dk_at dksJ10_init_2_1 8 rfl rfl)
theorem dJ10_init_2_35 : decode cJ10_init_2 35 = .ok (.putfield 9, 3) := dk_181 0 9 (dk_at dksJ10_init_2_1 11 rfl rfl)
theorem dJ10_init_2_38 : decode cJ10_init_2 38 = .ok (.goto 59, 3) := dk_167 0 59 (dk_at dksJ10_init_2_1 14 rfl rfl)
theorem dJ10_init_2_41 : decode cJ10_init_2 41 = .ok (.getstatic 38, 3) := dk_178 0 38 (dk_at dksJ10_init_2_1 17 rfl rfl)
theorem dJ10_init_2_44 : decode cJ10_init_2 44 = .ok (.ifCond .eq 35, 3) := dk_153 0 35 (dk_at dksJ10_init_2_1 20 rfl rfl)
theorem dJ10_init_2_47 : decode cJ10_init_2 47 = .ok (.aload_n 1, 1) := dk_43 (dk_at dksJ10_init_2_1 23 rfl rfl)
theorem dJ10_init_2_48 : decode cJ10_init_2 48 = .ok (.getfield 1048, 3) := dk_180 4 24 (dk_at dksJ10_init_2_2 0 rfl rfl)
theorem dJ10_init_2_51 : decode cJ10_init_2 51 = .ok (.ifCond .eq 28, 3) := dk_153 0 28 (dk_at dksJ10_init_2_2 3 rfl rfl)
theorem dJ10_init_2_54 : decode cJ10_init_2 54 = .ok (.aload_n 0, 1) := dk_42 (dk_at dksJ10_init_2_2 6 rfl rfl)
theorem dJ10_init_2_55 : decode cJ10_init_2 55 = .ok (.aload_n 3, 1) := dk_45 (dk_at dksJ10_init_2_2 7 rfl rfl)
theorem dJ10_init_2_56 : decode cJ10_init_2 56 = .ok (.iconst 0, 1) := dk_3 (dk_at dksJ10_init_2_2 8 rfl rfl)
theorem dJ10_init_2_57 : decode cJ10_init_2 57 = .ok (.iload 4, 2) := dk_21 4 (dk_at dksJ10_init_2_2 9 rfl rfl)
theorem dJ10_init_2_59 : decode cJ10_init_2 59 = .ok (.invokestatic 1051, 3) := dk_184 4 27 (dk_at dksJ10_init_2_2 11 rfl rfl)
theorem dJ10_init_2_62 : decode cJ10_init_2 62 = .ok (.putfield 9, 3) := dk_181 0 9 (dk_at dksJ10_init_2_2 14 rfl rfl)
theorem dJ10_init_2_65 : decode cJ10_init_2 65 = .ok (.aload_n 0, 1) := dk_42 (dk_at dksJ10_init_2_2 17 rfl rfl)
theorem dJ10_init_2_66 : decode cJ10_init_2 66 = .ok (.aload_n 0, 1) := dk_42 (dk_at dksJ10_init_2_2 18 rfl rfl)
theorem dJ10_init_2_67 : decode cJ10_init_2 67 = .ok (.getfield 9, 3) := dk_180 0 9 (dk_at dksJ10_init_2_2 19 rfl rfl)
theorem dJ10_init_2_70 : decode cJ10_init_2 70 = .ok (.iload 4, 2) := dk_21 4 (dk_at dksJ10_init_2_2 22 rfl rfl)
theorem dJ10_init_2_72 : decode cJ10_init_2 72 = .ok (.invokestatic 47, 3) := dk_184 0 47 (dk_at dksJ10_init_2_3 0 rfl rfl)
theorem dJ10_init_2_75 : decode cJ10_init_2 75 = .ok (.putfield 15, 3) := dk_181 0 15 (dk_at dksJ10_init_2_3 3 rfl rfl)
theorem dJ10_init_2_78 : decode cJ10_init_2 78 = .ok (.return_, 1) := dk_177 (dk_at dksJ10_init_2_3 6 rfl rfl)
theorem dJ10_init_2_79 : decode cJ10_init_2 79 = .ok (.aload_n 0, 1) := dk_42 (dk_at dksJ10_init_2_3 7 rfl rfl)
theorem dJ10_init_2_80 : decode cJ10_init_2 80 = .ok (.iconst 1, 1) := dk_4 (dk_at dksJ10_init_2_3 8 rfl rfl)
theorem dJ10_init_2_81 : decode cJ10_init_2 81 = .ok (.putfield 15, 3) := dk_181 0 15 (dk_at dksJ10_init_2_3 9 rfl rfl)
theorem dJ10_init_2_84 : decode cJ10_init_2 84 = .ok (.aload_n 0, 1) := dk_42 (dk_at dksJ10_init_2_3 12 rfl rfl)
theorem dJ10_init_2_85 : decode cJ10_init_2 85 = .ok (.aload_n 3, 1) := dk_45 (dk_at dksJ10_init_2_3 13 rfl rfl)
theorem dJ10_init_2_86 : decode cJ10_init_2 86 = .ok (.iconst 0, 1) := dk_3 (dk_at dksJ10_init_2_3 14 rfl rfl)
theorem dJ10_init_2_87 : decode cJ10_init_2 87 = .ok (.iload 4, 2) := dk_21 4 (dk_at dksJ10_init_2_3 15 rfl rfl)
theorem dJ10_init_2_89 : decode cJ10_init_2 89 = .ok (.iconst 1, 1) := dk_4 (dk_at dksJ10_init_2_3 17 rfl rfl)
theorem dJ10_init_2_90 : decode cJ10_init_2 90 = .ok (.ishl, 1) := dk_120 (dk_at dksJ10_init_2_3 18 rfl rfl)
theorem dJ10_init_2_91 : decode cJ10_init_2 91 = .ok (.invokestatic 54, 3) := dk_184 0 54 (dk_at dksJ10_init_2_3 19 rfl rfl)
theorem dJ10_init_2_94 : decode cJ10_init_2 94 = .ok (.putfield 9, 3) := dk_181 0 9 (dk_at dksJ10_init_2_4 0 rfl rfl)
theorem dJ10_init_2_97 : decode cJ10_init_2 97 = .ok (.return_, 1) := dk_177 (dk_at dksJ10_init_2_4 3 rfl rfl)
abbrev cJ10_checkBoundsBeginEnd : ByteArray := prog_40_method_158_code
def yJ10_checkBoundsBeginEnd : MethodName := ⟨RJ10, "checkBoundsBeginEnd", "(III)V"⟩
def dkwJ10_checkBoundsBeginEnd_0 : List UInt8 := [26, 27, 28, 178, 4, 29, 184, 4, 38, 87, 177]
abbrev dktJ10_checkBoundsBeginEnd_0 : List UInt8 := dkwJ10_checkBoundsBeginEnd_0 ++ []
theorem dksJ10_checkBoundsBeginEnd_0 : cJ10_checkBoundsBeginEnd.data.toList.drop 0 = dktJ10_checkBoundsBeginEnd_0 := by decide +kernel
theorem dJ10_checkBoundsBeginEnd_0 : decode cJ10_checkBoundsBeginEnd 0 = .ok (.iload_n 0, 1) := dk_26 (dk_at dksJ10_checkBoundsBeginEnd_0 0 rfl rfl)
theorem dJ10_checkBoundsBeginEnd_1 : decode cJ10_checkBoundsBeginEnd 1 = .ok (.iload_n 1, 1) := dk_27 (dk_at dksJ10_checkBoundsBeginEnd_0 1 rfl rfl)
theorem dJ10_checkBoundsBeginEnd_2 : decode cJ10_checkBoundsBeginEnd 2 = .ok (.iload_n 2, 1) := dk_28 (dk_at dksJ10_checkBoundsBeginEnd_0 2 rfl rfl)
theorem dJ10_checkBoundsBeginEnd_3 : decode cJ10_checkBoundsBeginEnd 3 = .ok (.getstatic 1053, 3) := dk_178 4 29 (dk_at dksJ10_checkBoundsBeginEnd_0 3 rfl rfl)
theorem dJ10_checkBoundsBeginEnd_6 : decode cJ10_checkBoundsBeginEnd 6 = .ok (.invokestatic 1062, 3) := dk_184 4 38 (dk_at dksJ10_checkBoundsBeginEnd_0 6 rfl rfl)
theorem dJ10_checkBoundsBeginEnd_9 : decode cJ10_checkBoundsBeginEnd 9 = .ok (.pop, 1) := dk_87 (dk_at dksJ10_checkBoundsBeginEnd_0 9 rfl rfl)
theorem dJ10_checkBoundsBeginEnd_10 : decode cJ10_checkBoundsBeginEnd 10 = .ok (.return_, 1) := dk_177 (dk_at dksJ10_checkBoundsBeginEnd_0 10 rfl rfl)
abbrev cJ10_length : ByteArray := prog_40_method_54_code
def yJ10_length : MethodName := ⟨RJ10, "length", "()I"⟩
def dkwJ10_length_0 : List UInt8 := [42, 180, 0, 9, 190, 42, 182, 1, 79, 122, 172]
abbrev dktJ10_length_0 : List UInt8 := dkwJ10_length_0 ++ []
theorem dksJ10_length_0 : cJ10_length.data.toList.drop 0 = dktJ10_length_0 := by decide +kernel
theorem dJ10_length_0 : decode cJ10_length 0 = .ok (.aload_n 0, 1) := dk_42 (dk_at dksJ10_length_0 0 rfl rfl)
theorem dJ10_length_1 : decode cJ10_length 1 = .ok (.getfield 9, 3) := dk_180 0 9 (dk_at dksJ10_length_0 1 rfl rfl)
theorem dJ10_length_4 : decode cJ10_length 4 = .ok (.arraylength, 1) := dk_190 (dk_at dksJ10_length_0 4 rfl rfl)
theorem dJ10_length_5 : decode cJ10_length 5 = .ok (.aload_n 0, 1) := dk_42 (dk_at dksJ10_length_0 5 rfl rfl)
theorem dJ10_length_6 : decode cJ10_length 6 = .ok (.invokevirtual 335, 3) := dk_182 1 79 (dk_at dksJ10_length_0 6 rfl rfl)
theorem dJ10_length_9 : decode cJ10_length 9 = .ok (.ishr, 1) := dk_122 (dk_at dksJ10_length_0 9 rfl rfl)
theorem dJ10_length_10 : decode cJ10_length 10 = .ok (.ireturn, 1) := dk_172 (dk_at dksJ10_length_0 10 rfl rfl)
abbrev cJ10_coder : ByteArray := prog_40_method_152_code
def yJ10_coder : MethodName := ⟨RJ10, "coder", "()B"⟩
def dkwJ10_coder_0 : List UInt8 := [178, 0, 38, 153, 0, 10, 42, 180, 0, 15, 167, 0, 4, 4, 172]
abbrev dktJ10_coder_0 : List UInt8 := dkwJ10_coder_0 ++ []
theorem dksJ10_coder_0 : cJ10_coder.data.toList.drop 0 = dktJ10_coder_0 := by decide +kernel
theorem dJ10_coder_0 : decode cJ10_coder 0 = .ok (.getstatic 38, 3) := dk_178 0 38 (dk_at dksJ10_coder_0 0 rfl rfl)
theorem dJ10_coder_3 : decode cJ10_coder 3 = .ok (.ifCond .eq 10, 3) := dk_153 0 10 (dk_at dksJ10_coder_0 3 rfl rfl)
theorem dJ10_coder_6 : decode cJ10_coder 6 = .ok (.aload_n 0, 1) := dk_42 (dk_at dksJ10_coder_0 6 rfl rfl)
theorem dJ10_coder_7 : decode cJ10_coder 7 = .ok (.getfield 15, 3) := dk_180 0 15 (dk_at dksJ10_coder_0 7 rfl rfl)
theorem dJ10_coder_10 : decode cJ10_coder 10 = .ok (.goto 4, 3) := dk_167 0 4 (dk_at dksJ10_coder_0 10 rfl rfl)
theorem dJ10_coder_13 : decode cJ10_coder 13 = .ok (.iconst 1, 1) := dk_4 (dk_at dksJ10_coder_0 13 rfl rfl)
theorem dJ10_coder_14 : decode cJ10_coder 14 = .ok (.ireturn, 1) := dk_172 (dk_at dksJ10_coder_0 14 rfl rfl)
abbrev cJ10_getBytes : ByteArray := prog_40_method_147_code
def yJ10_getBytes : MethodName := ⟨RJ10, "getBytes", "([BIB)V"⟩
def dkwJ10_getBytes_1 : List UInt8 := [184, 0, 212, 167, 0, 18, 42, 180, 0, 9, 3, 43, 28, 42, 180, 0, 9, 190, 184, 0, 106, 177]
abbrev dktJ10_getBytes_1 : List UInt8 := dkwJ10_getBytes_1 ++ []
def dkwJ10_getBytes_0 : List UInt8 := [42, 182, 1, 79, 29, 160, 0, 23, 42, 180, 0, 9, 3, 43, 28, 29, 120, 42, 180, 0, 9, 190]
abbrev dktJ10_getBytes_0 : List UInt8 := dkwJ10_getBytes_0 ++ dktJ10_getBytes_1
theorem dksJ10_getBytes_0 : cJ10_getBytes.data.toList.drop 0 = dktJ10_getBytes_0 := by decide +kernel
theorem dksJ10_getBytes_1 : cJ10_getBytes.data.toList.drop 22 = dktJ10_getBytes_1 := dk_seg dksJ10_getBytes_0 22 rfl rfl
theorem dJ10_getBytes_0 : decode cJ10_getBytes 0 = .ok (.aload_n 0, 1) := dk_42 (dk_at dksJ10_getBytes_0 0 rfl rfl)
theorem dJ10_getBytes_1 : decode cJ10_getBytes 1 = .ok (.invokevirtual 335, 3) := dk_182 1 79 (dk_at dksJ10_getBytes_0 1 rfl rfl)
theorem dJ10_getBytes_4 : decode cJ10_getBytes 4 = .ok (.iload_n 3, 1) := dk_29 (dk_at dksJ10_getBytes_0 4 rfl rfl)
theorem dJ10_getBytes_5 : decode cJ10_getBytes 5 = .ok (.if_icmp .ne 23, 3) := dk_160 0 23 (dk_at dksJ10_getBytes_0 5 rfl rfl)
theorem dJ10_getBytes_8 : decode cJ10_getBytes 8 = .ok (.aload_n 0, 1) := dk_42 (dk_at dksJ10_getBytes_0 8 rfl rfl)
theorem dJ10_getBytes_9 : decode cJ10_getBytes 9 = .ok (.getfield 9, 3) := dk_180 0 9 (dk_at dksJ10_getBytes_0 9 rfl rfl)
theorem dJ10_getBytes_12 : decode cJ10_getBytes 12 = .ok (.iconst 0, 1) := dk_3 (dk_at dksJ10_getBytes_0 12 rfl rfl)
theorem dJ10_getBytes_13 : decode cJ10_getBytes 13 = .ok (.aload_n 1, 1) := dk_43 (dk_at dksJ10_getBytes_0 13 rfl rfl)
theorem dJ10_getBytes_14 : decode cJ10_getBytes 14 = .ok (.iload_n 2, 1) := dk_28 (dk_at dksJ10_getBytes_0 14 rfl rfl)
theorem dJ10_getBytes_15 : decode cJ10_getBytes 15 = .ok (.iload_n 3, 1) := dk_29 (dk_at dksJ10_getBytes_0 15 rfl rfl)
theorem dJ10_getBytes_16 : decode cJ10_getBytes 16 = .ok (.ishl, 1) := dk_120 (dk_at dksJ10_getBytes_0 16 rfl rfl)
theorem dJ10_getBytes_17 : decode cJ10_getBytes 17 = .ok (.aload_n 0, 1) := dk_42 (dk_at dksJ10_getBytes_0 17 rfl rfl)
theorem dJ10_getBytes_18 : decode cJ10_getBytes 18 = .ok (.getfield 9, 3) := dk_180 0 9 (dk_at dksJ10_getBytes_0 18 rfl rfl)
theorem dJ10_getBytes_21 : decode cJ10_getBytes 21 = .ok (.arraylength, 1) := dk_190 (dk_at dksJ10_getBytes_0 21 rfl rfl)
theorem dJ10_getBytes_22 : decode cJ10_getBytes 22 = .ok (.invokestatic 212, 3) := dk_184 0 212 (dk_at dksJ10_getBytes_1 0 rfl rfl)
theorem dJ10_getBytes_25 : decode cJ10_getBytes 25 = .ok (.goto 18, 3) := dk_167 0 18 (dk_at dksJ10_getBytes_1 3 rfl rfl)
theorem dJ10_getBytes_28 : decode cJ10_getBytes 28 = .ok (.aload_n 0, 1) := dk_42 (dk_at dksJ10_getBytes_1 6 rfl rfl)
theorem dJ10_getBytes_29 : decode cJ10_getBytes 29 = .ok (.getfield 9, 3) := dk_180 0 9 (dk_at dksJ10_getBytes_1 7 rfl rfl)
theorem dJ10_getBytes_32 : decode cJ10_getBytes 32 = .ok (.iconst 0, 1) := dk_3 (dk_at dksJ10_getBytes_1 10 rfl rfl)
theorem dJ10_getBytes_33 : decode cJ10_getBytes 33 = .ok (.aload_n 1, 1) := dk_43 (dk_at dksJ10_getBytes_1 11 rfl rfl)
theorem dJ10_getBytes_34 : decode cJ10_getBytes 34 = .ok (.iload_n 2, 1) := dk_28 (dk_at dksJ10_getBytes_1 12 rfl rfl)
theorem dJ10_getBytes_35 : decode cJ10_getBytes 35 = .ok (.aload_n 0, 1) := dk_42 (dk_at dksJ10_getBytes_1 13 rfl rfl)
theorem dJ10_getBytes_36 : decode cJ10_getBytes 36 = .ok (.getfield 9, 3) := dk_180 0 9 (dk_at dksJ10_getBytes_1 14 rfl rfl)
theorem dJ10_getBytes_39 : decode cJ10_getBytes 39 = .ok (.arraylength, 1) := dk_190 (dk_at dksJ10_getBytes_1 17 rfl rfl)
theorem dJ10_getBytes_40 : decode cJ10_getBytes 40 = .ok (.invokestatic 106, 3) := dk_184 0 106 (dk_at dksJ10_getBytes_1 18 rfl rfl)
theorem dJ10_getBytes_43 : decode cJ10_getBytes 43 = .ok (.return_, 1) := dk_177 (dk_at dksJ10_getBytes_1 21 rfl rfl)
abbrev cJ10_hashCode : ByteArray := prog_40_method_78_code
def yJ10_hashCode : MethodName := ⟨RJ10, "hashCode", "()I"⟩
def dkwJ10_hashCode_2 : List UInt8 := [181, 0, 23, 167, 0, 8, 42, 27, 181, 0, 19, 27, 172]
abbrev dktJ10_hashCode_2 : List UInt8 := dkwJ10_hashCode_2 ++ []
def dkwJ10_hashCode_1 : List UInt8 := [180, 0, 9, 184, 2, 116, 167, 0, 10, 42, 180, 0, 9, 184, 2, 120, 60, 27, 154, 0, 11, 42, 4]
abbrev dktJ10_hashCode_1 : List UInt8 := dkwJ10_hashCode_1 ++ dktJ10_hashCode_2
def dkwJ10_hashCode_0 : List UInt8 := [42, 180, 0, 19, 60, 27, 154, 0, 52, 42, 180, 0, 23, 154, 0, 45, 42, 182, 1, 236, 153, 0, 13, 42]
abbrev dktJ10_hashCode_0 : List UInt8 := dkwJ10_hashCode_0 ++ dktJ10_hashCode_1
theorem dksJ10_hashCode_0 : cJ10_hashCode.data.toList.drop 0 = dktJ10_hashCode_0 := by decide +kernel
theorem dksJ10_hashCode_1 : cJ10_hashCode.data.toList.drop 24 = dktJ10_hashCode_1 := dk_seg dksJ10_hashCode_0 24 rfl rfl
theorem dksJ10_hashCode_2 : cJ10_hashCode.data.toList.drop 47 = dktJ10_hashCode_2 := dk_seg dksJ10_hashCode_1 23 rfl rfl
theorem dJ10_hashCode_0 : decode cJ10_hashCode 0 = .ok (.aload_n 0, 1) := dk_42 (dk_at dksJ10_hashCode_0 0 rfl rfl)
theorem dJ10_hashCode_1 : decode cJ10_hashCode 1 = .ok (.getfield 19, 3) := dk_180 0 19 (dk_at dksJ10_hashCode_0 1 rfl rfl)
theorem dJ10_hashCode_4 : decode cJ10_hashCode 4 = .ok (.istore_n 1, 1) := dk_60 (dk_at dksJ10_hashCode_0 4 rfl rfl)
theorem dJ10_hashCode_5 : decode cJ10_hashCode 5 = .ok (.iload_n 1, 1) := dk_27 (dk_at dksJ10_hashCode_0 5 rfl rfl)
theorem dJ10_hashCode_6 : decode cJ10_hashCode 6 = .ok (.ifCond .ne 52, 3) := dk_154 0 52 (dk_at dksJ10_hashCode_0 6 rfl rfl)
theorem dJ10_hashCode_9 : decode cJ10_hashCode 9 = .ok (.aload_n 0, 1) := dk_42 (dk_at dksJ10_hashCode_0 9 rfl rfl)
theorem dJ10_hashCode_10 : decode cJ10_hashCode 10 = .ok (.getfield 23, 3) := dk_180 0 23 (dk_at dksJ10_hashCode_0 10 rfl rfl)
theorem dJ10_hashCode_13 : decode cJ10_hashCode 13 = .ok (.ifCond .ne 45, 3) := dk_154 0 45 (dk_at dksJ10_hashCode_0 13 rfl rfl)
theorem dJ10_hashCode_16 : decode cJ10_hashCode 16 = .ok (.aload_n 0, 1) := dk_42 (dk_at dksJ10_hashCode_0 16 rfl rfl)
theorem dJ10_hashCode_17 : decode cJ10_hashCode 17 = .ok (.invokevirtual 492, 3) := dk_182 1 236 (dk_at dksJ10_hashCode_0 17 rfl rfl)
theorem dJ10_hashCode_20 : decode cJ10_hashCode 20 = .ok (.ifCond .eq 13, 3) := dk_153 0 13 (dk_at dksJ10_hashCode_0 20 rfl rfl)
theorem dJ10_hashCode_23 : decode cJ10_hashCode 23 = .ok (.aload_n 0, 1) := dk_42 (dk_at dksJ10_hashCode_0 23 rfl rfl)
theorem dJ10_hashCode_24 : decode cJ10_hashCode 24 = .ok (.getfield 9, 3) := dk_180 0 9 (dk_at dksJ10_hashCode_1 0 rfl rfl)
theorem dJ10_hashCode_27 : decode cJ10_hashCode 27 = .ok (.invokestatic 628, 3) := dk_184 2 116 (dk_at dksJ10_hashCode_1 3 rfl rfl)
theorem dJ10_hashCode_30 : decode cJ10_hashCode 30 = .ok (.goto 10, 3) := dk_167 0 10 (dk_at dksJ10_hashCode_1 6 rfl rfl)
theorem dJ10_hashCode_33 : decode cJ10_hashCode 33 = .ok (.aload_n 0, 1) := dk_42 (dk_at dksJ10_hashCode_1 9 rfl rfl)
theorem dJ10_hashCode_34 : decode cJ10_hashCode 34 = .ok (.getfield 9, 3) := dk_180 0 9 (dk_at dksJ10_hashCode_1 10 rfl rfl)
theorem dJ10_hashCode_37 : decode cJ10_hashCode 37 = .ok (.invokestatic 632, 3) := dk_184 2 120 (dk_at dksJ10_hashCode_1 13 rfl rfl)
theorem dJ10_hashCode_40 : decode cJ10_hashCode 40 = .ok (.istore_n 1, 1) := dk_60 (dk_at dksJ10_hashCode_1 16 rfl rfl)
theorem dJ10_hashCode_41 : decode cJ10_hashCode 41 = .ok (.iload_n 1, 1) := dk_27 (dk_at dksJ10_hashCode_1 17 rfl rfl)
theorem dJ10_hashCode_42 : decode cJ10_hashCode 42 = .ok (.ifCond .ne 11, 3) := dk_154 0 11 (dk_at dksJ10_hashCode_1 18 rfl rfl)
theorem dJ10_hashCode_45 : decode cJ10_hashCode 45 = .ok (.aload_n 0, 1) := dk_42 (dk_at dksJ10_hashCode_1 21 rfl rfl)
theorem dJ10_hashCode_46 : decode cJ10_hashCode 46 = .ok (.iconst 1, 1) := dk_4 (dk_at dksJ10_hashCode_1 22 rfl rfl)
theorem dJ10_hashCode_47 : decode cJ10_hashCode 47 = .ok (.putfield 23, 3) := dk_181 0 23 (dk_at dksJ10_hashCode_2 0 rfl rfl)
theorem dJ10_hashCode_50 : decode cJ10_hashCode 50 = .ok (.goto 8, 3) := dk_167 0 8 (dk_at dksJ10_hashCode_2 3 rfl rfl)
theorem dJ10_hashCode_53 : decode cJ10_hashCode 53 = .ok (.aload_n 0, 1) := dk_42 (dk_at dksJ10_hashCode_2 6 rfl rfl)
theorem dJ10_hashCode_54 : decode cJ10_hashCode 54 = .ok (.iload_n 1, 1) := dk_27 (dk_at dksJ10_hashCode_2 7 rfl rfl)
theorem dJ10_hashCode_55 : decode cJ10_hashCode 55 = .ok (.putfield 19, 3) := dk_181 0 19 (dk_at dksJ10_hashCode_2 8 rfl rfl)
theorem dJ10_hashCode_58 : decode cJ10_hashCode 58 = .ok (.iload_n 1, 1) := dk_27 (dk_at dksJ10_hashCode_2 11 rfl rfl)
theorem dJ10_hashCode_59 : decode cJ10_hashCode 59 = .ok (.ireturn, 1) := dk_172 (dk_at dksJ10_hashCode_2 12 rfl rfl)
abbrev cJ10_isLatin1 : ByteArray := prog_40_method_154_code
def yJ10_isLatin1 : MethodName := ⟨RJ10, "isLatin1", "()Z"⟩
def dkwJ10_isLatin1_0 : List UInt8 := [178, 0, 38, 153, 0, 14, 42, 180, 0, 15, 154, 0, 7, 4, 167, 0, 4, 3, 172]
abbrev dktJ10_isLatin1_0 : List UInt8 := dkwJ10_isLatin1_0 ++ []
theorem dksJ10_isLatin1_0 : cJ10_isLatin1.data.toList.drop 0 = dktJ10_isLatin1_0 := by decide +kernel
theorem dJ10_isLatin1_0 : decode cJ10_isLatin1 0 = .ok (.getstatic 38, 3) := dk_178 0 38 (dk_at dksJ10_isLatin1_0 0 rfl rfl)
theorem dJ10_isLatin1_3 : decode cJ10_isLatin1 3 = .ok (.ifCond .eq 14, 3) := dk_153 0 14 (dk_at dksJ10_isLatin1_0 3 rfl rfl)
theorem dJ10_isLatin1_6 : decode cJ10_isLatin1 6 = .ok (.aload_n 0, 1) := dk_42 (dk_at dksJ10_isLatin1_0 6 rfl rfl)
theorem dJ10_isLatin1_7 : decode cJ10_isLatin1 7 = .ok (.getfield 15, 3) := dk_180 0 15 (dk_at dksJ10_isLatin1_0 7 rfl rfl)
theorem dJ10_isLatin1_10 : decode cJ10_isLatin1 10 = .ok (.ifCond .ne 7, 3) := dk_154 0 7 (dk_at dksJ10_isLatin1_0 10 rfl rfl)
theorem dJ10_isLatin1_13 : decode cJ10_isLatin1 13 = .ok (.iconst 1, 1) := dk_4 (dk_at dksJ10_isLatin1_0 13 rfl rfl)
theorem dJ10_isLatin1_14 : decode cJ10_isLatin1 14 = .ok (.goto 4, 3) := dk_167 0 4 (dk_at dksJ10_isLatin1_0 14 rfl rfl)
theorem dJ10_isLatin1_17 : decode cJ10_isLatin1 17 = .ok (.iconst 0, 1) := dk_3 (dk_at dksJ10_isLatin1_0 17 rfl rfl)
theorem dJ10_isLatin1_18 : decode cJ10_isLatin1 18 = .ok (.ireturn, 1) := dk_172 (dk_at dksJ10_isLatin1_0 18 rfl rfl)
abbrev cJ10_equals : ByteArray := prog_40_method_66_code
def yJ10_equals : MethodName := ⟨RJ10, "equals", "(Ljava/lang/Object;)Z"⟩
def dkwJ10_equals_2 : List UInt8 := [184, 2, 29, 153, 0, 7, 4, 167, 0, 4, 3, 172]
abbrev dktJ10_equals_2 : List UInt8 := dkwJ10_equals_2 ++ []
def dkwJ10_equals_1 : List UInt8 := [153, 0, 14, 42, 180, 0, 15, 44, 180, 0, 15, 160, 0, 21, 42, 180, 0, 9, 44, 180, 0, 9]
abbrev dktJ10_equals_1 : List UInt8 := dkwJ10_equals_1 ++ dktJ10_equals_2
def dkwJ10_equals_0 : List UInt8 := [42, 43, 166, 0, 5, 4, 172, 43, 193, 0, 10, 153, 0, 43, 43, 192, 0, 10, 77, 178, 0, 38]
abbrev dktJ10_equals_0 : List UInt8 := dkwJ10_equals_0 ++ dktJ10_equals_1
theorem dksJ10_equals_0 : cJ10_equals.data.toList.drop 0 = dktJ10_equals_0 := by decide +kernel
theorem dksJ10_equals_1 : cJ10_equals.data.toList.drop 22 = dktJ10_equals_1 := dk_seg dksJ10_equals_0 22 rfl rfl
theorem dksJ10_equals_2 : cJ10_equals.data.toList.drop 44 = dktJ10_equals_2 := dk_seg dksJ10_equals_1 22 rfl rfl
theorem dJ10_equals_0 : decode cJ10_equals 0 = .ok (.aload_n 0, 1) := dk_42 (dk_at dksJ10_equals_0 0 rfl rfl)
theorem dJ10_equals_1 : decode cJ10_equals 1 = .ok (.aload_n 1, 1) := dk_43 (dk_at dksJ10_equals_0 1 rfl rfl)
theorem dJ10_equals_2 : decode cJ10_equals 2 = .ok (.if_acmp .ne 5, 3) := dk_166 0 5 (dk_at dksJ10_equals_0 2 rfl rfl)
theorem dJ10_equals_5 : decode cJ10_equals 5 = .ok (.iconst 1, 1) := dk_4 (dk_at dksJ10_equals_0 5 rfl rfl)
theorem dJ10_equals_6 : decode cJ10_equals 6 = .ok (.ireturn, 1) := dk_172 (dk_at dksJ10_equals_0 6 rfl rfl)
theorem dJ10_equals_7 : decode cJ10_equals 7 = .ok (.aload_n 1, 1) := dk_43 (dk_at dksJ10_equals_0 7 rfl rfl)
theorem dJ10_equals_8 : decode cJ10_equals 8 = .ok (.instanceof 10, 3) := dk_193 0 10 (dk_at dksJ10_equals_0 8 rfl rfl)
theorem dJ10_equals_11 : decode cJ10_equals 11 = .ok (.ifCond .eq 43, 3) := dk_153 0 43 (dk_at dksJ10_equals_0 11 rfl rfl)
theorem dJ10_equals_14 : decode cJ10_equals 14 = .ok (.aload_n 1, 1) := dk_43 (dk_at dksJ10_equals_0 14 rfl rfl)
theorem dJ10_equals_15 : decode cJ10_equals 15 = .ok (.checkcast 10, 3) := dk_192 0 10 (dk_at dksJ10_equals_0 15 rfl rfl)
theorem dJ10_equals_18 : decode cJ10_equals 18 = .ok (.astore_n 2, 1) := dk_77 (dk_at dksJ10_equals_0 18 rfl rfl)
theorem dJ10_equals_19 : decode cJ10_equals 19 = .ok (.getstatic 38, 3) := dk_178 0 38 (dk_at dksJ10_equals_0 19 rfl rfl)
theorem dJ10_equals_22 : decode cJ10_equals 22 = .ok (.ifCond .eq 14, 3) := dk_153 0 14 (dk_at dksJ10_equals_1 0 rfl rfl)
theorem dJ10_equals_25 : decode cJ10_equals 25 = .ok (.aload_n 0, 1) := dk_42 (dk_at dksJ10_equals_1 3 rfl rfl)
theorem dJ10_equals_26 : decode cJ10_equals 26 = .ok (.getfield 15, 3) := dk_180 0 15 (dk_at dksJ10_equals_1 4 rfl rfl)
theorem dJ10_equals_29 : decode cJ10_equals 29 = .ok (.aload_n 2, 1) := dk_44 (dk_at dksJ10_equals_1 7 rfl rfl)
theorem dJ10_equals_30 : decode cJ10_equals 30 = .ok (.getfield 15, 3) := dk_180 0 15 (dk_at dksJ10_equals_1 8 rfl rfl)
theorem dJ10_equals_33 : decode cJ10_equals 33 = .ok (.if_icmp .ne 21, 3) := dk_160 0 21 (dk_at dksJ10_equals_1 11 rfl rfl)
theorem dJ10_equals_36 : decode cJ10_equals 36 = .ok (.aload_n 0, 1) := dk_42 (dk_at dksJ10_equals_1 14 rfl rfl)
theorem dJ10_equals_37 : decode cJ10_equals 37 = .ok (.getfield 9, 3) := dk_180 0 9 (dk_at dksJ10_equals_1 15 rfl rfl)
theorem dJ10_equals_40 : decode cJ10_equals 40 = .ok (.aload_n 2, 1) := dk_44 (dk_at dksJ10_equals_1 18 rfl rfl)
theorem dJ10_equals_41 : decode cJ10_equals 41 = .ok (.getfield 9, 3) := dk_180 0 9 (dk_at dksJ10_equals_1 19 rfl rfl)
theorem dJ10_equals_44 : decode cJ10_equals 44 = .ok (.invokestatic 541, 3) := dk_184 2 29 (dk_at dksJ10_equals_2 0 rfl rfl)
theorem dJ10_equals_47 : decode cJ10_equals 47 = .ok (.ifCond .eq 7, 3) := dk_153 0 7 (dk_at dksJ10_equals_2 3 rfl rfl)
theorem dJ10_equals_50 : decode cJ10_equals 50 = .ok (.iconst 1, 1) := dk_4 (dk_at dksJ10_equals_2 6 rfl rfl)
theorem dJ10_equals_51 : decode cJ10_equals 51 = .ok (.goto 4, 3) := dk_167 0 4 (dk_at dksJ10_equals_2 7 rfl rfl)
theorem dJ10_equals_54 : decode cJ10_equals 54 = .ok (.iconst 0, 1) := dk_3 (dk_at dksJ10_equals_2 10 rfl rfl)
theorem dJ10_equals_55 : decode cJ10_equals 55 = .ok (.ireturn, 1) := dk_172 (dk_at dksJ10_equals_2 11 rfl rfl)
abbrev cJ10_charAt : ByteArray := prog_40_method_56_code
def yJ10_charAt : MethodName := ⟨RJ10, "charAt", "(I)C"⟩
def dkwJ10_charAt_1 : List UInt8 := [172]
abbrev dktJ10_charAt_1 : List UInt8 := dkwJ10_charAt_1 ++ []
def dkwJ10_charAt_0 : List UInt8 := [42, 182, 1, 236, 153, 0, 12, 42, 180, 0, 9, 27, 184, 1, 239, 172, 42, 180, 0, 9, 27, 184, 1, 242]
abbrev dktJ10_charAt_0 : List UInt8 := dkwJ10_charAt_0 ++ dktJ10_charAt_1
theorem dksJ10_charAt_0 : cJ10_charAt.data.toList.drop 0 = dktJ10_charAt_0 := by decide +kernel
theorem dksJ10_charAt_1 : cJ10_charAt.data.toList.drop 24 = dktJ10_charAt_1 := dk_seg dksJ10_charAt_0 24 rfl rfl
theorem dJ10_charAt_0 : decode cJ10_charAt 0 = .ok (.aload_n 0, 1) := dk_42 (dk_at dksJ10_charAt_0 0 rfl rfl)
theorem dJ10_charAt_1 : decode cJ10_charAt 1 = .ok (.invokevirtual 492, 3) := dk_182 1 236 (dk_at dksJ10_charAt_0 1 rfl rfl)
theorem dJ10_charAt_4 : decode cJ10_charAt 4 = .ok (.ifCond .eq 12, 3) := dk_153 0 12 (dk_at dksJ10_charAt_0 4 rfl rfl)
theorem dJ10_charAt_7 : decode cJ10_charAt 7 = .ok (.aload_n 0, 1) := dk_42 (dk_at dksJ10_charAt_0 7 rfl rfl)
theorem dJ10_charAt_8 : decode cJ10_charAt 8 = .ok (.getfield 9, 3) := dk_180 0 9 (dk_at dksJ10_charAt_0 8 rfl rfl)
theorem dJ10_charAt_11 : decode cJ10_charAt 11 = .ok (.iload_n 1, 1) := dk_27 (dk_at dksJ10_charAt_0 11 rfl rfl)
theorem dJ10_charAt_12 : decode cJ10_charAt 12 = .ok (.invokestatic 495, 3) := dk_184 1 239 (dk_at dksJ10_charAt_0 12 rfl rfl)
theorem dJ10_charAt_15 : decode cJ10_charAt 15 = .ok (.ireturn, 1) := dk_172 (dk_at dksJ10_charAt_0 15 rfl rfl)
theorem dJ10_charAt_16 : decode cJ10_charAt 16 = .ok (.aload_n 0, 1) := dk_42 (dk_at dksJ10_charAt_0 16 rfl rfl)
theorem dJ10_charAt_17 : decode cJ10_charAt 17 = .ok (.getfield 9, 3) := dk_180 0 9 (dk_at dksJ10_charAt_0 17 rfl rfl)
theorem dJ10_charAt_20 : decode cJ10_charAt 20 = .ok (.iload_n 1, 1) := dk_27 (dk_at dksJ10_charAt_0 20 rfl rfl)
theorem dJ10_charAt_21 : decode cJ10_charAt 21 = .ok (.invokestatic 498, 3) := dk_184 1 242 (dk_at dksJ10_charAt_0 21 rfl rfl)
theorem dJ10_charAt_24 : decode cJ10_charAt 24 = .ok (.ireturn, 1) := dk_172 (dk_at dksJ10_charAt_1 0 rfl rfl)
theorem q103 : (Jvm.Cond.initialized "java/lang/String") ∈ lw_all := lw_g (lw_at lw_m1 21 rfl) rfl
theorem q714 : (Jvm.Cond.selects "java/lang/String" ({ cls := "java/lang/Object", name := "getClass", desc := "()Ljava/lang/Class;" } : Jvm.MethodName) ({ cls := "java/lang/Object", name := "getClass", desc := "()Ljava/lang/Class;" } : Jvm.MethodName)) ∈ lw_all := lw_g (lw_at lw_m3 152 rfl) rfl
theorem q816 : (Jvm.Cond.laysStatic "java/lang/String" "COMPACT_STRINGS" "Z") ∈ lw_tbl := lw_at lw_m4 14 rfl
theorem q826 : (Jvm.Cond.fieldLink "java/lang/String" (1048 : Nat) "java/lang/AbstractStringBuilder" "maybeLatin1" "Z") ∈ lw_all := lw_g (lw_at lw_m4 24 rfl) rfl
theorem q889 : (Jvm.Cond.static ({ cls := "java/lang/String", name := "checkBoundsOffCount", desc := "(III)I" } : Jvm.MethodName)) ∈ lw_all := lw_g (lw_at lw_m4 87 rfl) rfl
theorem q890 : (Jvm.Cond.code ({ cls := "java/lang/String", name := "checkBoundsOffCount", desc := "(III)I" } : Jvm.MethodName) prog_40_method_157_code (3 : Nat) (Option.some Jvm.ClassFile.FieldType.int)) ∈ lw_all := lw_g (lw_at lw_m4 88 rfl) rfl
theorem q891 : (Jvm.Cond.fieldLink "java/lang/String" (1053 : Nat) "jdk/internal/util/Preconditions" "SIOOBE_FORMATTER" "Ljava/util/function/BiFunction;") ∈ lw_all := lw_g (lw_at lw_m4 89 rfl) rfl
theorem q893 : (Jvm.Cond.methodLink "java/lang/String" (1065 : Nat) ({ cls := "jdk/internal/util/Preconditions", name := "checkFromIndexSize", desc := "(IIILjava/util/function/BiFunction;)I" } : Jvm.MethodName)) ∈ lw_all := lw_g (lw_at lw_m4 91 rfl) rfl
theorem q912 : (Jvm.Cond.static ({ cls := "java/lang/String", name := "checkIndex", desc := "(II)V" } : Jvm.MethodName)) ∈ lw_all := lw_g (lw_at lw_m4 110 rfl) rfl
theorem q913 : (Jvm.Cond.code ({ cls := "java/lang/String", name := "checkIndex", desc := "(II)V" } : Jvm.MethodName) prog_40_method_155_code (2 : Nat) (Option.none : Option Jvm.ClassFile.FieldType)) ∈ lw_all := lw_g (lw_at lw_m4 111 rfl) rfl
theorem q914 : (Jvm.Cond.methodLink "java/lang/String" (1059 : Nat) ({ cls := "jdk/internal/util/Preconditions", name := "checkIndex", desc := "(IILjava/util/function/BiFunction;)I" } : Jvm.MethodName)) ∈ lw_all := lw_g (lw_at lw_m4 112 rfl) rfl
theorem q920 : (Jvm.Cond.instantiable "java/lang/String" (4 : Nat)) ∈ lw_all := lw_g (lw_at lw_m4 118 rfl) rfl
theorem q922 : (Jvm.Cond.instanceMethod ({ cls := "java/lang/String", name := "<init>", desc := "(Ljava/lang/StringBuilder;)V" } : Jvm.MethodName)) ∈ lw_all := lw_g (lw_at lw_m4 120 rfl) rfl
theorem q923 : (Jvm.Cond.code ({ cls := "java/lang/String", name := "<init>", desc := "(Ljava/lang/StringBuilder;)V" } : Jvm.MethodName) prog_40_method_53_code (2 : Nat) (Option.none : Option Jvm.ClassFile.FieldType)) ∈ lw_all := lw_g (lw_at lw_m4 121 rfl) rfl
theorem q924 : (Jvm.Cond.methodLink "java/lang/String" (489 : Nat) ({ cls := "java/lang/String", name := "<init>", desc := "(Ljava/lang/AbstractStringBuilder;Ljava/lang/Void;)V" } : Jvm.MethodName)) ∈ lw_all := lw_g (lw_at lw_m4 122 rfl) rfl
theorem q925 : (Jvm.Cond.instanceMethod ({ cls := "java/lang/String", name := "<init>", desc := "(Ljava/lang/AbstractStringBuilder;Ljava/lang/Void;)V" } : Jvm.MethodName)) ∈ lw_all := lw_g (lw_at lw_m4 123 rfl) rfl
theorem q926 : (Jvm.Cond.code ({ cls := "java/lang/String", name := "<init>", desc := "(Ljava/lang/AbstractStringBuilder;Ljava/lang/Void;)V" } : Jvm.MethodName) prog_40_method_150_code (5 : Nat) (Option.none : Option Jvm.ClassFile.FieldType)) ∈ lw_all := lw_g (lw_at lw_m4 124 rfl) rfl
theorem q927 : (Jvm.Cond.methodLink "java/lang/String" (1 : Nat) ({ cls := "java/lang/Object", name := "<init>", desc := "()V" } : Jvm.MethodName)) ∈ lw_all := lw_g (lw_at lw_m4 125 rfl) rfl
theorem q928 : (Jvm.Cond.methodLink "java/lang/String" (552 : Nat) ({ cls := "java/lang/AbstractStringBuilder", name := "getValue", desc := "()[B" } : Jvm.MethodName)) ∈ lw_all := lw_g (lw_at lw_m4 126 rfl) rfl
theorem q933 : (Jvm.Cond.methodLink "java/lang/String" (549 : Nat) ({ cls := "java/lang/AbstractStringBuilder", name := "length", desc := "()I" } : Jvm.MethodName)) ∈ lw_all := lw_g (lw_at lw_m4 131 rfl) rfl
theorem q941 : (Jvm.Cond.methodLink "java/lang/String" (1047 : Nat) ({ cls := "java/lang/AbstractStringBuilder", name := "isLatin1", desc := "()Z" } : Jvm.MethodName)) ∈ lw_all := lw_g (lw_at lw_m4 139 rfl) rfl
theorem q942 : (Jvm.Cond.methodLink "java/lang/String" (54 : Nat) ({ cls := "java/util/Arrays", name := "copyOfRange", desc := "([BII)[B" } : Jvm.MethodName)) ∈ lw_all := lw_g (lw_at lw_m4 140 rfl) rfl
theorem q1021 : (Jvm.Cond.static ({ cls := "java/lang/String", name := "checkBoundsBeginEnd", desc := "(III)V" } : Jvm.MethodName)) ∈ lw_all := lw_g (lw_at lw_m4 219 rfl) rfl
theorem q1022 : (Jvm.Cond.code ({ cls := "java/lang/String", name := "checkBoundsBeginEnd", desc := "(III)V" } : Jvm.MethodName) prog_40_method_158_code (3 : Nat) (Option.none : Option Jvm.ClassFile.FieldType)) ∈ lw_all := lw_g (lw_at lw_m4 220 rfl) rfl
theorem q1023 : (Jvm.Cond.methodLink "java/lang/String" (1062 : Nat) ({ cls := "jdk/internal/util/Preconditions", name := "checkFromToIndex", desc := "(IIILjava/util/function/BiFunction;)I" } : Jvm.MethodName)) ∈ lw_all := lw_g (lw_at lw_m4 221 rfl) rfl
theorem q1047 : (Jvm.Cond.instanceMethod ({ cls := "java/lang/String", name := "length", desc := "()I" } : Jvm.MethodName)) ∈ lw_all := lw_g (lw_at lw_m5 5 rfl) rfl
theorem q1048 : (Jvm.Cond.selects "java/lang/String" ({ cls := "java/lang/String", name := "length", desc := "()I" } : Jvm.MethodName) ({ cls := "java/lang/String", name := "length", desc := "()I" } : Jvm.MethodName)) ∈ lw_all := lw_g (lw_at lw_m5 6 rfl) rfl
theorem q1049 : (Jvm.Cond.code ({ cls := "java/lang/String", name := "length", desc := "()I" } : Jvm.MethodName) prog_40_method_54_code (1 : Nat) (Option.some Jvm.ClassFile.FieldType.int)) ∈ lw_all := lw_g (lw_at lw_m5 7 rfl) rfl
theorem q1050 : (Jvm.Cond.methodLink "java/lang/String" (335 : Nat) ({ cls := "java/lang/String", name := "coder", desc := "()B" } : Jvm.MethodName)) ∈ lw_all := lw_g (lw_at lw_m5 8 rfl) rfl
theorem q1051 : (Jvm.Cond.instanceMethod ({ cls := "java/lang/String", name := "coder", desc := "()B" } : Jvm.MethodName)) ∈ lw_all := lw_g (lw_at lw_m5 9 rfl) rfl
theorem q1052 : (Jvm.Cond.selects "java/lang/String" ({ cls := "java/lang/String", name := "coder", desc := "()B" } : Jvm.MethodName) ({ cls := "java/lang/String", name := "coder", desc := "()B" } : Jvm.MethodName)) ∈ lw_all := lw_g (lw_at lw_m5 10 rfl) rfl
theorem q1053 : (Jvm.Cond.code ({ cls := "java/lang/String", name := "coder", desc := "()B" } : Jvm.MethodName) prog_40_method_152_code (1 : Nat) (Option.some Jvm.ClassFile.FieldType.byte)) ∈ lw_all := lw_g (lw_at lw_m5 11 rfl) rfl
theorem q1054 : (Jvm.Cond.fieldLink "java/lang/String" (38 : Nat) "java/lang/String" "COMPACT_STRINGS" "Z") ∈ lw_all := lw_g (lw_at lw_m5 12 rfl) rfl
theorem q1065 : (Jvm.Cond.instanceMethod ({ cls := "java/lang/String", name := "getBytes", desc := "([BIB)V" } : Jvm.MethodName)) ∈ lw_all := lw_g (lw_at lw_m5 23 rfl) rfl
theorem q1066 : (Jvm.Cond.selects "java/lang/String" ({ cls := "java/lang/String", name := "getBytes", desc := "([BIB)V" } : Jvm.MethodName) ({ cls := "java/lang/String", name := "getBytes", desc := "([BIB)V" } : Jvm.MethodName)) ∈ lw_all := lw_g (lw_at lw_m5 24 rfl) rfl
theorem q1067 : (Jvm.Cond.code ({ cls := "java/lang/String", name := "getBytes", desc := "([BIB)V" } : Jvm.MethodName) prog_40_method_147_code (4 : Nat) (Option.none : Option Jvm.ClassFile.FieldType)) ∈ lw_all := lw_g (lw_at lw_m5 25 rfl) rfl
theorem q1068 : (Jvm.Cond.methodLink "java/lang/String" (212 : Nat) ({ cls := "java/lang/System", name := "arraycopy", desc := "(Ljava/lang/Object;ILjava/lang/Object;II)V" } : Jvm.MethodName)) ∈ lw_all := lw_g (lw_at lw_m5 26 rfl) rfl
theorem q1069 : (Jvm.Cond.methodLink "java/lang/String" (106 : Nat) ({ cls := "java/lang/StringLatin1", name := "inflate", desc := "([BI[BII)V" } : Jvm.MethodName)) ∈ lw_all := lw_g (lw_at lw_m5 27 rfl) rfl
theorem q1096 : (Jvm.Cond.methodLink "java/lang/String" (1051 : Nat) ({ cls := "java/lang/StringUTF16", name := "compress", desc := "([BII)[B" } : Jvm.MethodName)) ∈ lw_all := lw_g (lw_at lw_m5 54 rfl) rfl
theorem q1106 : (Jvm.Cond.methodLink "java/lang/String" (47 : Nat) ({ cls := "java/lang/StringUTF16", name := "coderFromArrayLen", desc := "([BI)B" } : Jvm.MethodName)) ∈ lw_all := lw_g (lw_at lw_m5 64 rfl) rfl
theorem q1109 : (Jvm.Cond.fieldLink "java/lang/String" (9 : Nat) "java/lang/String" "value" "[B") ∈ lw_all := lw_g (lw_at lw_m5 67 rfl) rfl
theorem q1110 : (Jvm.Cond.fieldLink "java/lang/String" (15 : Nat) "java/lang/String" "coder" "B") ∈ lw_all := lw_g (lw_at lw_m5 68 rfl) rfl
theorem q1111 : (Jvm.Cond.fieldLink "java/lang/String" (19 : Nat) "java/lang/String" "hash" "I") ∈ lw_all := lw_g (lw_at lw_m5 69 rfl) rfl
theorem q1112 : (Jvm.Cond.fieldLink "java/lang/String" (23 : Nat) "java/lang/String" "hashIsZero" "Z") ∈ lw_all := lw_g (lw_at lw_m5 70 rfl) rfl
theorem q1113 : (Jvm.Cond.laysFinal "java/lang/String" "java/lang/String" "value" "[B") ∈ lw_all := lw_g (lw_at lw_m5 71 rfl) rfl
theorem q1114 : (Jvm.Cond.soleField "java/lang/String" "value") ∈ lw_all := lw_g (lw_at lw_m5 72 rfl) rfl
theorem q1115 : (Jvm.Cond.laysFinal "java/lang/String" "java/lang/String" "coder" "B") ∈ lw_all := lw_g (lw_at lw_m5 73 rfl) rfl
theorem q1116 : (Jvm.Cond.soleField "java/lang/String" "coder") ∈ lw_all := lw_g (lw_at lw_m5 74 rfl) rfl
theorem q1117 : (Jvm.Cond.lays "java/lang/String" "java/lang/String" "hash" "I") ∈ lw_all := lw_g (lw_at lw_m5 75 rfl) rfl
theorem q1118 : (Jvm.Cond.soleField "java/lang/String" "hash") ∈ lw_all := lw_g (lw_at lw_m5 76 rfl) rfl
theorem q1119 : (Jvm.Cond.lays "java/lang/String" "java/lang/String" "hashIsZero" "Z") ∈ lw_all := lw_g (lw_at lw_m5 77 rfl) rfl
theorem q1120 : (Jvm.Cond.soleField "java/lang/String" "hashIsZero") ∈ lw_all := lw_g (lw_at lw_m5 78 rfl) rfl
theorem q1121 : (Jvm.Cond.superclass "java/lang/String" "java/lang/Object") ∈ lw_all := lw_g (lw_at lw_m5 79 rfl) rfl
theorem q1151 : (Jvm.Cond.instanceMethod ({ cls := "java/lang/String", name := "hashCode", desc := "()I" } : Jvm.MethodName)) ∈ lw_all := lw_g (lw_at lw_m5 109 rfl) rfl
theorem q1152 : (Jvm.Cond.selects "java/lang/String" ({ cls := "java/lang/String", name := "hashCode", desc := "()I" } : Jvm.MethodName) ({ cls := "java/lang/String", name := "hashCode", desc := "()I" } : Jvm.MethodName)) ∈ lw_all := lw_g (lw_at lw_m5 110 rfl) rfl
theorem q1153 : (Jvm.Cond.code ({ cls := "java/lang/String", name := "hashCode", desc := "()I" } : Jvm.MethodName) prog_40_method_78_code (2 : Nat) (Option.some Jvm.ClassFile.FieldType.int)) ∈ lw_all := lw_g (lw_at lw_m5 111 rfl) rfl
theorem q1154 : (Jvm.Cond.methodLink "java/lang/String" (492 : Nat) ({ cls := "java/lang/String", name := "isLatin1", desc := "()Z" } : Jvm.MethodName)) ∈ lw_all := lw_g (lw_at lw_m5 112 rfl) rfl
theorem q1155 : (Jvm.Cond.instanceMethod ({ cls := "java/lang/String", name := "isLatin1", desc := "()Z" } : Jvm.MethodName)) ∈ lw_all := lw_g (lw_at lw_m5 113 rfl) rfl
theorem q1156 : (Jvm.Cond.selects "java/lang/String" ({ cls := "java/lang/String", name := "isLatin1", desc := "()Z" } : Jvm.MethodName) ({ cls := "java/lang/String", name := "isLatin1", desc := "()Z" } : Jvm.MethodName)) ∈ lw_all := lw_g (lw_at lw_m5 114 rfl) rfl
theorem q1157 : (Jvm.Cond.code ({ cls := "java/lang/String", name := "isLatin1", desc := "()Z" } : Jvm.MethodName) prog_40_method_154_code (1 : Nat) (Option.some Jvm.ClassFile.FieldType.boolean)) ∈ lw_all := lw_g (lw_at lw_m5 115 rfl) rfl
theorem q1158 : (Jvm.Cond.methodLink "java/lang/String" (628 : Nat) ({ cls := "java/lang/StringLatin1", name := "hashCode", desc := "([B)I" } : Jvm.MethodName)) ∈ lw_all := lw_g (lw_at lw_m5 116 rfl) rfl
theorem q1207 : (Jvm.Cond.methodLink "java/lang/String" (632 : Nat) ({ cls := "java/lang/StringUTF16", name := "hashCode", desc := "([B)I" } : Jvm.MethodName)) ∈ lw_all := lw_g (lw_at lw_m5 165 rfl) rfl
theorem q1213 : (Jvm.Cond.instanceMethod ({ cls := "java/lang/String", name := "equals", desc := "(Ljava/lang/Object;)Z" } : Jvm.MethodName)) ∈ lw_all := lw_g (lw_at lw_m5 171 rfl) rfl
theorem q1214 : (Jvm.Cond.selects "java/lang/String" ({ cls := "java/lang/String", name := "equals", desc := "(Ljava/lang/Object;)Z" } : Jvm.MethodName) ({ cls := "java/lang/String", name := "equals", desc := "(Ljava/lang/Object;)Z" } : Jvm.MethodName)) ∈ lw_all := lw_g (lw_at lw_m5 172 rfl) rfl
theorem q1215 : (Jvm.Cond.code ({ cls := "java/lang/String", name := "equals", desc := "(Ljava/lang/Object;)Z" } : Jvm.MethodName) prog_40_method_66_code (3 : Nat) (Option.some Jvm.ClassFile.FieldType.boolean)) ∈ lw_all := lw_g (lw_at lw_m5 173 rfl) rfl
theorem q1216 : (Jvm.Cond.classLink "java/lang/String" (10 : Nat) "java/lang/String") ∈ lw_all := lw_g (lw_at lw_m5 174 rfl) rfl
theorem q1217 : (Jvm.Cond.methodLink "java/lang/String" (541 : Nat) ({ cls := "java/lang/StringLatin1", name := "equals", desc := "([B[B)Z" } : Jvm.MethodName)) ∈ lw_all := lw_g (lw_at lw_m5 175 rfl) rfl
theorem q1973 : (Jvm.Cond.instanceMethod ({ cls := "java/lang/String", name := "charAt", desc := "(I)C" } : Jvm.MethodName)) ∈ lw_all := lw_g (lw_at lw_m8 211 rfl) rfl
theorem q1974 : (Jvm.Cond.selects "java/lang/String" ({ cls := "java/lang/String", name := "charAt", desc := "(I)C" } : Jvm.MethodName) ({ cls := "java/lang/String", name := "charAt", desc := "(I)C" } : Jvm.MethodName)) ∈ lw_all := lw_g (lw_at lw_m8 212 rfl) rfl
theorem q1975 : (Jvm.Cond.code ({ cls := "java/lang/String", name := "charAt", desc := "(I)C" } : Jvm.MethodName) prog_40_method_56_code (2 : Nat) (Option.some Jvm.ClassFile.FieldType.char)) ∈ lw_all := lw_g (lw_at lw_m8 213 rfl) rfl
theorem q1976 : (Jvm.Cond.methodLink "java/lang/String" (495 : Nat) ({ cls := "java/lang/StringLatin1", name := "charAt", desc := "([BI)C" } : Jvm.MethodName)) ∈ lw_all := lw_g (lw_at lw_m8 214 rfl) rfl
theorem q1980 : (Jvm.Cond.methodLink "java/lang/String" (498 : Nat) ({ cls := "java/lang/StringUTF16", name := "charAt", desc := "([BI)C" } : Jvm.MethodName)) ∈ lw_all := lw_g (lw_at lw_m8 218 rfl) rfl
theorem q2351 : (Jvm.Cond.castable "java/lang/String" "java/lang/Object") ∈ lw_tbl := lw_at lw_m10 109 rfl
theorem in_J10 : ∀ w ∈ wsJ100, w ∈ lw_all := lw_in wsJ100 [1113, 1115, 1117, 1119] (by decide +kernel) (by decide +kernel)
/-! java/lang/StringUTF16 -/
set_option maxRecDepth 100000
def RJ11 : String := "java/lang/StringUTF16"
abbrev cJ11_newBytesFor : ByteArray := prog_43_method_2_code
def yJ11_newBytesFor : MethodName := ⟨RJ11, "newBytesFor", "(I)[B"⟩
def dkwJ11_newBytesFor_0 : List UInt8 := [26, 184, 0, 11, 188, 8, 176]
abbrev dktJ11_newBytesFor_0 : List UInt8 := dkwJ11_newBytesFor_0 ++ []
theorem dksJ11_newBytesFor_0 : cJ11_newBytesFor.data.toList.drop 0 = dktJ11_newBytesFor_0 := by decide +kernel
theorem dJ11_newBytesFor_0 : decode cJ11_newBytesFor 0 = .ok (.iload_n 0, 1) := dk_26 (dk_at dksJ11_newBytesFor_0 0 rfl rfl)
theorem dJ11_newBytesFor_1 : decode cJ11_newBytesFor 1 = .ok (.invokestatic 11, 3) := dk_184 0 11 (dk_at dksJ11_newBytesFor_0 1 rfl rfl)
theorem dJ11_newBytesFor_4 : decode cJ11_newBytesFor 4 = .ok (.newarray .byte, 2) := dk_188_8 (dk_at dksJ11_newBytesFor_0 4 rfl rfl)
theorem dJ11_newBytesFor_6 : decode cJ11_newBytesFor 6 = .ok (.areturn, 1) := dk_176 (dk_at dksJ11_newBytesFor_0 6 rfl rfl)
abbrev cJ11_newBytesLength : ByteArray := prog_43_method_3_code
def yJ11_newBytesLength : MethodName := ⟨RJ11, "newBytesLength", "(I)I"⟩
def dkwJ11_newBytesLength_2 : List UInt8 := [182, 0, 32, 182, 0, 37, 183, 0, 41, 191, 26, 4, 120, 172]
abbrev dktJ11_newBytesLength_2 : List UInt8 := dkwJ11_newBytesLength_2 ++ []
def dkwJ11_newBytesLength_1 : List UInt8 := [187, 0, 23, 89, 183, 0, 25, 18, 26, 182, 0, 28, 26, 182, 0, 32, 18, 35, 182, 0, 28, 18, 20]
abbrev dktJ11_newBytesLength_1 : List UInt8 := dkwJ11_newBytesLength_1 ++ dktJ11_newBytesLength_2
def dkwJ11_newBytesLength_0 : List UInt8 := [26, 156, 0, 11, 187, 0, 17, 89, 183, 0, 19, 191, 26, 18, 20, 161, 0, 40, 187, 0, 21, 89]
abbrev dktJ11_newBytesLength_0 : List UInt8 := dkwJ11_newBytesLength_0 ++ dktJ11_newBytesLength_1
theorem dksJ11_newBytesLength_0 : cJ11_newBytesLength.data.toList.drop 0 = dktJ11_newBytesLength_0 := by decide +kernel
theorem dksJ11_newBytesLength_1 : cJ11_newBytesLength.data.toList.drop 22 = dktJ11_newBytesLength_1 := dk_seg dksJ11_newBytesLength_0 22 rfl rfl
theorem dksJ11_newBytesLength_2 : cJ11_newBytesLength.data.toList.drop 45 = dktJ11_newBytesLength_2 := dk_seg dksJ11_newBytesLength_1 23 rfl rfl
theorem dJ11_newBytesLength_0 : decode cJ11_newBytesLength 0 = .ok (.iload_n 0, 1) := dk_26 (dk_at dksJ11_newBytesLength_0 0 rfl rfl)
theorem dJ11_newBytesLength_1 : decode cJ11_newBytesLength 1 = .ok (.ifCond .ge 11, 3) := dk_156 0 11 (dk_at dksJ11_newBytesLength_0 1 rfl rfl)
theorem dJ11_newBytesLength_4 : decode cJ11_newBytesLength 4 = .ok (.new 17, 3) := dk_187 0 17 (dk_at dksJ11_newBytesLength_0 4 rfl rfl)
theorem dJ11_newBytesLength_7 : decode cJ11_newBytesLength 7 = .ok (.dup, 1) := dk_89 (dk_at dksJ11_newBytesLength_0 7 rfl rfl)
theorem dJ11_newBytesLength_8 : decode cJ11_newBytesLength 8 = .ok (.invokespecial 19, 3) := dk_183 0 19 (dk_at dksJ11_newBytesLength_0 8 rfl rfl)
theorem dJ11_newBytesLength_11 : decode cJ11_newBytesLength 11 = .ok (.athrow, 1) := dk_191 (dk_at dksJ11_newBytesLength_0 11 rfl rfl)
theorem dJ11_newBytesLength_12 : decode cJ11_newBytesLength 12 = .ok (.iload_n 0, 1) := dk_26 (dk_at dksJ11_newBytesLength_0 12 rfl rfl)
theorem dJ11_newBytesLength_13 : decode cJ11_newBytesLength 13 = .ok (.ldc 20, 2) := dk_18 20 (dk_at dksJ11_newBytesLength_0 13 rfl rfl)
theorem dJ11_newBytesLength_15 : decode cJ11_newBytesLength 15 = .ok (.if_icmp .lt 40, 3) := dk_161 0 40 (dk_at dksJ11_newBytesLength_0 15 rfl rfl)
theorem dJ11_newBytesLength_18 : decode cJ11_newBytesLength 18 = .ok (.new 21, 3) := dk_187 0 21 (dk_at dksJ11_newBytesLength_0 18 rfl rfl)
theorem dJ11_newBytesLength_21 : decode cJ11_newBytesLength 21 = .ok (.dup, 1) := dk_89 (dk_at dksJ11_newBytesLength_0 21 rfl rfl)
theorem dJ11_newBytesLength_22 : decode cJ11_newBytesLength 22 = .ok (.new 23, 3) := dk_187 0 23 (dk_at dksJ11_newBytesLength_1 0 rfl rfl)
theorem dJ11_newBytesLength_25 : decode cJ11_newBytesLength 25 = .ok (.dup, 1) := dk_89 (dk_at dksJ11_newBytesLength_1 3 rfl rfl)
theorem dJ11_newBytesLength_26 : decode cJ11_newBytesLength 26 = .ok (.invokespecial 25, 3) := dk_183 0 25 (dk_at dksJ11_newBytesLength_1 4 rfl rfl)
theorem dJ11_newBytesLength_29 : decode cJ11_newBytesLength 29 = .ok (.ldc 26, 2) := dk_18 26 (dk_at dksJ11_newBytesLength_1 7 rfl rfl)
theorem dJ11_newBytesLength_31 : decode cJ11_newBytesLength 31 = .ok (.invokevirtual 28, 3) := dk_182 0 28 (dk_at dksJ11_newBytesLength_1 9 rfl rfl)
theorem dJ11_newBytesLength_34 : decode cJ11_newBytesLength 34 = .ok (.iload_n 0, 1) := dk_26 (dk_at dksJ11_newBytesLength_1 12 rfl rfl)
theorem dJ11_newBytesLength_35 : decode cJ11_newBytesLength 35 = .ok (.invokevirtual 32, 3) := dk_182 0 32 (dk_at dksJ11_newBytesLength_1 13 rfl rfl)
theorem dJ11_newBytesLength_38 : decode cJ11_newBytesLength 38 = .ok (.ldc 35, 2) := dk_18 35 (dk_at dksJ11_newBytesLength_1 16 rfl rfl)
theorem dJ11_newBytesLength_40 : decode cJ11_newBytesLength 40 = .ok (.invokevirtual 28, 3) := dk_182 0 28 (dk_at dksJ11_newBytesLength_1 18 rfl rfl)
theorem dJ11_newBytesLength_43 : decode cJ11_newBytesLength 43 = .ok (.ldc 20, 2) := dk_18 20 (dk_at dksJ11_newBytesLength_1 21 rfl rfl)
theorem dJ11_newBytesLength_45 : decode cJ11_newBytesLength 45 = .ok (.invokevirtual 32, 3) := dk_182 0 32 (dk_at dksJ11_newBytesLength_2 0 rfl rfl)
theorem dJ11_newBytesLength_48 : decode cJ11_newBytesLength 48 = .ok (.invokevirtual 37, 3) := dk_182 0 37 (dk_at dksJ11_newBytesLength_2 3 rfl rfl)
theorem dJ11_newBytesLength_51 : decode cJ11_newBytesLength 51 = .ok (.invokespecial 41, 3) := dk_183 0 41 (dk_at dksJ11_newBytesLength_2 6 rfl rfl)
theorem dJ11_newBytesLength_54 : decode cJ11_newBytesLength 54 = .ok (.athrow, 1) := dk_191 (dk_at dksJ11_newBytesLength_2 9 rfl rfl)
theorem dJ11_newBytesLength_55 : decode cJ11_newBytesLength 55 = .ok (.iload_n 0, 1) := dk_26 (dk_at dksJ11_newBytesLength_2 10 rfl rfl)
theorem dJ11_newBytesLength_56 : decode cJ11_newBytesLength 56 = .ok (.iconst 1, 1) := dk_4 (dk_at dksJ11_newBytesLength_2 11 rfl rfl)
theorem dJ11_newBytesLength_57 : decode cJ11_newBytesLength 57 = .ok (.ishl, 1) := dk_120 (dk_at dksJ11_newBytesLength_2 12 rfl rfl)
theorem dJ11_newBytesLength_58 : decode cJ11_newBytesLength 58 = .ok (.ireturn, 1) := dk_172 (dk_at dksJ11_newBytesLength_2 13 rfl rfl)
abbrev cJ11_inflate : ByteArray := prog_43_method_86_code
def yJ11_inflate : MethodName := ⟨RJ11, "inflate", "([BI[BII)V"⟩
def dkwJ11_inflate_1 : List UInt8 := [132, 1, 1, 51, 17, 0, 255, 126, 184, 0, 111, 132, 5, 1, 167, 255, 228, 177]
abbrev dktJ11_inflate_1 : List UInt8 := dkwJ11_inflate_1 ++ []
def dkwJ11_inflate_0 : List UInt8 := [29, 21, 4, 44, 184, 0, 173, 3, 54, 5, 21, 5, 21, 4, 162, 0, 27, 44, 29, 132, 3, 1, 42, 27]
abbrev dktJ11_inflate_0 : List UInt8 := dkwJ11_inflate_0 ++ dktJ11_inflate_1
theorem dksJ11_inflate_0 : cJ11_inflate.data.toList.drop 0 = dktJ11_inflate_0 := by decide +kernel
theorem dksJ11_inflate_1 : cJ11_inflate.data.toList.drop 24 = dktJ11_inflate_1 := dk_seg dksJ11_inflate_0 24 rfl rfl
theorem dJ11_inflate_0 : decode cJ11_inflate 0 = .ok (.iload_n 3, 1) := dk_29 (dk_at dksJ11_inflate_0 0 rfl rfl)
theorem dJ11_inflate_1 : decode cJ11_inflate 1 = .ok (.iload 4, 2) := dk_21 4 (dk_at dksJ11_inflate_0 1 rfl rfl)
theorem dJ11_inflate_3 : decode cJ11_inflate 3 = .ok (.aload_n 2, 1) := dk_44 (dk_at dksJ11_inflate_0 3 rfl rfl)
theorem dJ11_inflate_4 : decode cJ11_inflate 4 = .ok (.invokestatic 173, 3) := dk_184 0 173 (dk_at dksJ11_inflate_0 4 rfl rfl)
theorem dJ11_inflate_7 : decode cJ11_inflate 7 = .ok (.iconst 0, 1) := dk_3 (dk_at dksJ11_inflate_0 7 rfl rfl)
theorem dJ11_inflate_8 : decode cJ11_inflate 8 = .ok (.istore 5, 2) := dk_54 5 (dk_at dksJ11_inflate_0 8 rfl rfl)
theorem dJ11_inflate_10 : decode cJ11_inflate 10 = .ok (.iload 5, 2) := dk_21 5 (dk_at dksJ11_inflate_0 10 rfl rfl)
theorem dJ11_inflate_12 : decode cJ11_inflate 12 = .ok (.iload 4, 2) := dk_21 4 (dk_at dksJ11_inflate_0 12 rfl rfl)
theorem dJ11_inflate_14 : decode cJ11_inflate 14 = .ok (.if_icmp .ge 27, 3) := dk_162 0 27 (dk_at dksJ11_inflate_0 14 rfl rfl)
theorem dJ11_inflate_17 : decode cJ11_inflate 17 = .ok (.aload_n 2, 1) := dk_44 (dk_at dksJ11_inflate_0 17 rfl rfl)
theorem dJ11_inflate_18 : decode cJ11_inflate 18 = .ok (.iload_n 3, 1) := dk_29 (dk_at dksJ11_inflate_0 18 rfl rfl)
theorem dJ11_inflate_19 : decode cJ11_inflate 19 = .ok (.iinc 3 1, 3) := dk_132 3 1 (dk_at dksJ11_inflate_0 19 rfl rfl)
theorem dJ11_inflate_22 : decode cJ11_inflate 22 = .ok (.aload_n 0, 1) := dk_42 (dk_at dksJ11_inflate_0 22 rfl rfl)
theorem dJ11_inflate_23 : decode cJ11_inflate 23 = .ok (.iload_n 1, 1) := dk_27 (dk_at dksJ11_inflate_0 23 rfl rfl)
theorem dJ11_inflate_24 : decode cJ11_inflate 24 = .ok (.iinc 1 1, 3) := dk_132 1 1 (dk_at dksJ11_inflate_1 0 rfl rfl)
theorem dJ11_inflate_27 : decode cJ11_inflate 27 = .ok (.baload, 1) := dk_51 (dk_at dksJ11_inflate_1 3 rfl rfl)
theorem dJ11_inflate_28 : decode cJ11_inflate 28 = .ok (.sipush 255, 3) := dk_17 0 255 (dk_at dksJ11_inflate_1 4 rfl rfl)
theorem dJ11_inflate_31 : decode cJ11_inflate 31 = .ok (.iand, 1) := dk_126 (dk_at dksJ11_inflate_1 7 rfl rfl)
theorem dJ11_inflate_32 : decode cJ11_inflate 32 = .ok (.invokestatic 111, 3) := dk_184 0 111 (dk_at dksJ11_inflate_1 8 rfl rfl)
theorem dJ11_inflate_35 : decode cJ11_inflate 35 = .ok (.iinc 5 1, 3) := dk_132 5 1 (dk_at dksJ11_inflate_1 11 rfl rfl)
theorem dJ11_inflate_38 : decode cJ11_inflate 38 = .ok (.goto (-28), 3) := dk_167 255 228 (dk_at dksJ11_inflate_1 14 rfl rfl)
theorem dJ11_inflate_41 : decode cJ11_inflate 41 = .ok (.return_, 1) := dk_177 (dk_at dksJ11_inflate_1 17 rfl rfl)
abbrev cJ11_checkBoundsOffCount : ByteArray := prog_43_method_94_code
def yJ11_checkBoundsOffCount : MethodName := ⟨RJ11, "checkBoundsOffCount", "(II[B)V"⟩
def dkwJ11_checkBoundsOffCount_0 : List UInt8 := [26, 27, 44, 184, 0, 48, 184, 1, 163, 87, 177]
abbrev dktJ11_checkBoundsOffCount_0 : List UInt8 := dkwJ11_checkBoundsOffCount_0 ++ []
theorem dksJ11_checkBoundsOffCount_0 : cJ11_checkBoundsOffCount.data.toList.drop 0 = dktJ11_checkBoundsOffCount_0 := by decide +kernel
theorem dJ11_checkBoundsOffCount_0 : decode cJ11_checkBoundsOffCount 0 = .ok (.iload_n 0, 1) := dk_26 (dk_at dksJ11_checkBoundsOffCount_0 0 rfl rfl)
theorem dJ11_checkBoundsOffCount_1 : decode cJ11_checkBoundsOffCount 1 = .ok (.iload_n 1, 1) := dk_27 (dk_at dksJ11_checkBoundsOffCount_0 1 rfl rfl)
theorem dJ11_checkBoundsOffCount_2 : decode cJ11_checkBoundsOffCount 2 = .ok (.aload_n 2, 1) := dk_44 (dk_at dksJ11_checkBoundsOffCount_0 2 rfl rfl)
theorem dJ11_checkBoundsOffCount_3 : decode cJ11_checkBoundsOffCount 3 = .ok (.invokestatic 48, 3) := dk_184 0 48 (dk_at dksJ11_checkBoundsOffCount_0 3 rfl rfl)
theorem dJ11_checkBoundsOffCount_6 : decode cJ11_checkBoundsOffCount 6 = .ok (.invokestatic 419, 3) := dk_184 1 163 (dk_at dksJ11_checkBoundsOffCount_0 6 rfl rfl)
theorem dJ11_checkBoundsOffCount_9 : decode cJ11_checkBoundsOffCount 9 = .ok (.pop, 1) := dk_87 (dk_at dksJ11_checkBoundsOffCount_0 9 rfl rfl)
theorem dJ11_checkBoundsOffCount_10 : decode cJ11_checkBoundsOffCount 10 = .ok (.return_, 1) := dk_177 (dk_at dksJ11_checkBoundsOffCount_0 10 rfl rfl)
abbrev cJ11_length : ByteArray := prog_43_method_6_code
def yJ11_length : MethodName := ⟨RJ11, "length", "([B)I"⟩
def dkwJ11_length_0 : List UInt8 := [42, 190, 4, 122, 172]
abbrev dktJ11_length_0 : List UInt8 := dkwJ11_length_0 ++ []
theorem dksJ11_length_0 : cJ11_length.data.toList.drop 0 = dktJ11_length_0 := by decide +kernel
theorem dJ11_length_0 : decode cJ11_length 0 = .ok (.aload_n 0, 1) := dk_42 (dk_at dksJ11_length_0 0 rfl rfl)
theorem dJ11_length_1 : decode cJ11_length 1 = .ok (.arraylength, 1) := dk_190 (dk_at dksJ11_length_0 1 rfl rfl)
theorem dJ11_length_2 : decode cJ11_length 2 = .ok (.iconst 1, 1) := dk_4 (dk_at dksJ11_length_0 2 rfl rfl)
theorem dJ11_length_3 : decode cJ11_length 3 = .ok (.ishr, 1) := dk_122 (dk_at dksJ11_length_0 3 rfl rfl)
theorem dJ11_length_4 : decode cJ11_length 4 = .ok (.ireturn, 1) := dk_172 (dk_at dksJ11_length_0 4 rfl rfl)
abbrev cJ11_putChar : ByteArray := prog_43_method_4_code
def yJ11_putChar : MethodName := ⟨RJ11, "putChar", "([BII)V"⟩
def dkwJ11_putChar_2 : List UInt8 := [178, 0, 63, 122, 145, 84, 177]
abbrev dktJ11_putChar_2 : List UInt8 := dkwJ11_putChar_2 ++ []
def dkwJ11_putChar_1 : List UInt8 := [183, 0, 56, 191, 27, 4, 120, 60, 42, 27, 132, 1, 1, 28, 178, 0, 59, 122, 145, 84, 42, 27, 28]
abbrev dktJ11_putChar_1 : List UInt8 := dkwJ11_putChar_1 ++ dktJ11_putChar_2
def dkwJ11_putChar_0 : List UInt8 := [178, 0, 44, 154, 0, 25, 27, 155, 0, 11, 27, 42, 184, 0, 48, 161, 0, 13, 187, 0, 52, 89, 18, 54]
abbrev dktJ11_putChar_0 : List UInt8 := dkwJ11_putChar_0 ++ dktJ11_putChar_1
theorem dksJ11_putChar_0 : cJ11_putChar.data.toList.drop 0 = dktJ11_putChar_0 := by decide +kernel
theorem dksJ11_putChar_1 : cJ11_putChar.data.toList.drop 24 = dktJ11_putChar_1 := dk_seg dksJ11_putChar_0 24 rfl rfl
theorem dksJ11_putChar_2 : cJ11_putChar.data.toList.drop 47 = dktJ11_putChar_2 := dk_seg dksJ11_putChar_1 23 rfl rfl
theorem dJ11_putChar_0 : decode cJ11_putChar 0 = .ok (.getstatic 44, 3) := dk_178 0 44 (dk_at dksJ11_putChar_0 0 rfl rfl)
theorem dJ11_putChar_3 : decode cJ11_putChar 3 = .ok (.ifCond .ne 25, 3) := dk_154 0 25 (dk_at dksJ11_putChar_0 3 rfl rfl)
theorem dJ11_putChar_6 : decode cJ11_putChar 6 = .ok (.iload_n 1, 1) := dk_27 (dk_at dksJ11_putChar_0 6 rfl rfl)
theorem dJ11_putChar_7 : decode cJ11_putChar 7 = .ok (.ifCond .lt 11, 3) := dk_155 0 11 (dk_at dksJ11_putChar_0 7 rfl rfl)
theorem dJ11_putChar_10 : decode cJ11_putChar 10 = .ok (.iload_n 1, 1) := dk_27 (dk_at dksJ11_putChar_0 10 rfl rfl)
theorem dJ11_putChar_11 : decode cJ11_putChar 11 = .ok (.aload_n 0, 1) := dk_42 (dk_at dksJ11_putChar_0 11 rfl rfl)
theorem dJ11_putChar_12 : decode cJ11_putChar 12 = .ok (.invokestatic 48, 3) := dk_184 0 48 (dk_at dksJ11_putChar_0 12 rfl rfl)
theorem dJ11_putChar_15 : decode cJ11_putChar 15 = .ok (.if_icmp .lt 13, 3) := dk_161 0 13 (dk_at dksJ11_putChar_0 15 rfl rfl)
theorem dJ11_putChar_18 : decode cJ11_putChar 18 = .ok (.new 52, 3) := dk_187 0 52 (dk_at dksJ11_putChar_0 18 rfl rfl)
theorem dJ11_putChar_21 : decode cJ11_putChar 21 = .ok (.dup, 1) := dk_89 (dk_at dksJ11_putChar_0 21 rfl rfl)
theorem dJ11_putChar_22 : decode cJ11_putChar 22 = .ok (.ldc 54, 2) := dk_18 54 (dk_at dksJ11_putChar_0 22 rfl rfl)
theorem dJ11_putChar_24 : decode cJ11_putChar 24 = .ok (.invokespecial 56, 3) := dk_183 0 56 (dk_at dksJ11_putChar_1 0 rfl rfl)
theorem dJ11_putChar_27 : decode cJ11_putChar 27 = .ok (.athrow, 1) := dk_191 (dk_at dksJ11_putChar_1 3 rfl rfl)
theorem dJ11_putChar_28 : decode cJ11_putChar 28 = .ok (.iload_n 1, 1) := dk_27 (dk_at dksJ11_putChar_1 4 rfl rfl)
theorem dJ11_putChar_29 : decode cJ11_putChar 29 = .ok (.iconst 1, 1) := dk_4 (dk_at dksJ11_putChar_1 5 rfl rfl)
theorem dJ11_putChar_30 : decode cJ11_putChar 30 = .ok (.ishl, 1) := dk_120 (dk_at dksJ11_putChar_1 6 rfl rfl)
theorem dJ11_putChar_31 : decode cJ11_putChar 31 = .ok (.istore_n 1, 1) := dk_60 (dk_at dksJ11_putChar_1 7 rfl rfl)
theorem dJ11_putChar_32 : decode cJ11_putChar 32 = .ok (.aload_n 0, 1) := dk_42 (dk_at dksJ11_putChar_1 8 rfl rfl)
theorem dJ11_putChar_33 : decode cJ11_putChar 33 = .ok (.iload_n 1, 1) := dk_27 (dk_at dksJ11_putChar_1 9 rfl rfl)
theorem dJ11_putChar_34 : decode cJ11_putChar 34 = .ok (.iinc 1 1, 3) := dk_132 1 1 (dk_at dksJ11_putChar_1 10 rfl rfl)
theorem dJ11_putChar_37 : decode cJ11_putChar 37 = .ok (.iload_n 2, 1) := dk_28 (dk_at dksJ11_putChar_1 13 rfl rfl)
theorem dJ11_putChar_38 : decode cJ11_putChar 38 = .ok (.getstatic 59, 3) := dk_178 0 59 (dk_at dksJ11_putChar_1 14 rfl rfl)
theorem dJ11_putChar_41 : decode cJ11_putChar 41 = .ok (.ishr, 1) := dk_122 (dk_at dksJ11_putChar_1 17 rfl rfl)
theorem dJ11_putChar_42 : decode cJ11_putChar 42 = .ok (.i2b, 1) := dk_145 (dk_at dksJ11_putChar_1 18 rfl rfl)
theorem dJ11_putChar_43 : decode cJ11_putChar 43 = .ok (.bastore, 1) := dk_84 (dk_at dksJ11_putChar_1 19 rfl rfl)
theorem dJ11_putChar_44 : decode cJ11_putChar 44 = .ok (.aload_n 0, 1) := dk_42 (dk_at dksJ11_putChar_1 20 rfl rfl)
theorem dJ11_putChar_45 : decode cJ11_putChar 45 = .ok (.iload_n 1, 1) := dk_27 (dk_at dksJ11_putChar_1 21 rfl rfl)
theorem dJ11_putChar_46 : decode cJ11_putChar 46 = .ok (.iload_n 2, 1) := dk_28 (dk_at dksJ11_putChar_1 22 rfl rfl)
theorem dJ11_putChar_47 : decode cJ11_putChar 47 = .ok (.getstatic 63, 3) := dk_178 0 63 (dk_at dksJ11_putChar_2 0 rfl rfl)
theorem dJ11_putChar_50 : decode cJ11_putChar 50 = .ok (.ishr, 1) := dk_122 (dk_at dksJ11_putChar_2 3 rfl rfl)
theorem dJ11_putChar_51 : decode cJ11_putChar 51 = .ok (.i2b, 1) := dk_145 (dk_at dksJ11_putChar_2 4 rfl rfl)
theorem dJ11_putChar_52 : decode cJ11_putChar 52 = .ok (.bastore, 1) := dk_84 (dk_at dksJ11_putChar_2 5 rfl rfl)
theorem dJ11_putChar_53 : decode cJ11_putChar 53 = .ok (.return_, 1) := dk_177 (dk_at dksJ11_putChar_2 6 rfl rfl)
abbrev cJ11_putCharSB : ByteArray := prog_43_method_71_code
def yJ11_putCharSB : MethodName := ⟨RJ11, "putCharSB", "([BII)V"⟩
def dkwJ11_putCharSB_0 : List UInt8 := [27, 42, 184, 0, 67, 42, 27, 28, 184, 0, 111, 177]
abbrev dktJ11_putCharSB_0 : List UInt8 := dkwJ11_putCharSB_0 ++ []
theorem dksJ11_putCharSB_0 : cJ11_putCharSB.data.toList.drop 0 = dktJ11_putCharSB_0 := by decide +kernel
theorem dJ11_putCharSB_0 : decode cJ11_putCharSB 0 = .ok (.iload_n 1, 1) := dk_27 (dk_at dksJ11_putCharSB_0 0 rfl rfl)
theorem dJ11_putCharSB_1 : decode cJ11_putCharSB 1 = .ok (.aload_n 0, 1) := dk_42 (dk_at dksJ11_putCharSB_0 1 rfl rfl)
theorem dJ11_putCharSB_2 : decode cJ11_putCharSB 2 = .ok (.invokestatic 67, 3) := dk_184 0 67 (dk_at dksJ11_putCharSB_0 2 rfl rfl)
theorem dJ11_putCharSB_5 : decode cJ11_putCharSB 5 = .ok (.aload_n 0, 1) := dk_42 (dk_at dksJ11_putCharSB_0 5 rfl rfl)
theorem dJ11_putCharSB_6 : decode cJ11_putCharSB 6 = .ok (.iload_n 1, 1) := dk_27 (dk_at dksJ11_putCharSB_0 6 rfl rfl)
theorem dJ11_putCharSB_7 : decode cJ11_putCharSB 7 = .ok (.iload_n 2, 1) := dk_28 (dk_at dksJ11_putCharSB_0 7 rfl rfl)
theorem dJ11_putCharSB_8 : decode cJ11_putCharSB 8 = .ok (.invokestatic 111, 3) := dk_184 0 111 (dk_at dksJ11_putCharSB_0 8 rfl rfl)
theorem dJ11_putCharSB_11 : decode cJ11_putCharSB 11 = .ok (.return_, 1) := dk_177 (dk_at dksJ11_putCharSB_0 11 rfl rfl)
abbrev cJ11_checkIndex : ByteArray := prog_43_method_91_code
def yJ11_checkIndex : MethodName := ⟨RJ11, "checkIndex", "(I[B)V"⟩
def dkwJ11_checkIndex_0 : List UInt8 := [26, 43, 184, 0, 48, 184, 1, 158, 177]
abbrev dktJ11_checkIndex_0 : List UInt8 := dkwJ11_checkIndex_0 ++ []
theorem dksJ11_checkIndex_0 : cJ11_checkIndex.data.toList.drop 0 = dktJ11_checkIndex_0 := by decide +kernel
theorem dJ11_checkIndex_0 : decode cJ11_checkIndex 0 = .ok (.iload_n 0, 1) := dk_26 (dk_at dksJ11_checkIndex_0 0 rfl rfl)
theorem dJ11_checkIndex_1 : decode cJ11_checkIndex 1 = .ok (.aload_n 1, 1) := dk_43 (dk_at dksJ11_checkIndex_0 1 rfl rfl)
theorem dJ11_checkIndex_2 : decode cJ11_checkIndex 2 = .ok (.invokestatic 48, 3) := dk_184 0 48 (dk_at dksJ11_checkIndex_0 2 rfl rfl)
theorem dJ11_checkIndex_5 : decode cJ11_checkIndex 5 = .ok (.invokestatic 414, 3) := dk_184 1 158 (dk_at dksJ11_checkIndex_0 5 rfl rfl)
theorem dJ11_checkIndex_8 : decode cJ11_checkIndex 8 = .ok (.return_, 1) := dk_177 (dk_at dksJ11_checkIndex_0 8 rfl rfl)
abbrev cJ11_getChars : ByteArray := prog_43_method_77_code
def yJ11_getChars : MethodName := ⟨RJ11, "getChars", "(III[B)I"⟩
def dkwJ11_getChars_1 : List UInt8 := [159, 0, 11, 187, 0, 52, 89, 183, 0, 66, 191, 21, 4, 172]
abbrev dktJ11_getChars_1 : List UInt8 := dkwJ11_getChars_1 ++ []
def dkwJ11_getChars_0 : List UInt8 := [27, 28, 45, 184, 0, 96, 26, 28, 45, 184, 1, 137, 54, 4, 178, 0, 44, 154, 0, 17, 27, 21, 4]
abbrev dktJ11_getChars_0 : List UInt8 := dkwJ11_getChars_0 ++ dktJ11_getChars_1
theorem dksJ11_getChars_0 : cJ11_getChars.data.toList.drop 0 = dktJ11_getChars_0 := by decide +kernel
theorem dksJ11_getChars_1 : cJ11_getChars.data.toList.drop 23 = dktJ11_getChars_1 := dk_seg dksJ11_getChars_0 23 rfl rfl
theorem dJ11_getChars_0 : decode cJ11_getChars 0 = .ok (.iload_n 1, 1) := dk_27 (dk_at dksJ11_getChars_0 0 rfl rfl)
theorem dJ11_getChars_1 : decode cJ11_getChars 1 = .ok (.iload_n 2, 1) := dk_28 (dk_at dksJ11_getChars_0 1 rfl rfl)
theorem dJ11_getChars_2 : decode cJ11_getChars 2 = .ok (.aload_n 3, 1) := dk_45 (dk_at dksJ11_getChars_0 2 rfl rfl)
theorem dJ11_getChars_3 : decode cJ11_getChars 3 = .ok (.invokestatic 96, 3) := dk_184 0 96 (dk_at dksJ11_getChars_0 3 rfl rfl)
theorem dJ11_getChars_6 : decode cJ11_getChars 6 = .ok (.iload_n 0, 1) := dk_26 (dk_at dksJ11_getChars_0 6 rfl rfl)
theorem dJ11_getChars_7 : decode cJ11_getChars 7 = .ok (.iload_n 2, 1) := dk_28 (dk_at dksJ11_getChars_0 7 rfl rfl)
theorem dJ11_getChars_8 : decode cJ11_getChars 8 = .ok (.aload_n 3, 1) := dk_45 (dk_at dksJ11_getChars_0 8 rfl rfl)
theorem dJ11_getChars_9 : decode cJ11_getChars 9 = .ok (.invokestatic 393, 3) := dk_184 1 137 (dk_at dksJ11_getChars_0 9 rfl rfl)
theorem dJ11_getChars_12 : decode cJ11_getChars 12 = .ok (.istore 4, 2) := dk_54 4 (dk_at dksJ11_getChars_0 12 rfl rfl)
theorem dJ11_getChars_14 : decode cJ11_getChars 14 = .ok (.getstatic 44, 3) := dk_178 0 44 (dk_at dksJ11_getChars_0 14 rfl rfl)
theorem dJ11_getChars_17 : decode cJ11_getChars 17 = .ok (.ifCond .ne 17, 3) := dk_154 0 17 (dk_at dksJ11_getChars_0 17 rfl rfl)
theorem dJ11_getChars_20 : decode cJ11_getChars 20 = .ok (.iload_n 1, 1) := dk_27 (dk_at dksJ11_getChars_0 20 rfl rfl)
theorem dJ11_getChars_21 : decode cJ11_getChars 21 = .ok (.iload 4, 2) := dk_21 4 (dk_at dksJ11_getChars_0 21 rfl rfl)
theorem dJ11_getChars_23 : decode cJ11_getChars 23 = .ok (.if_icmp .eq 11, 3) := dk_159 0 11 (dk_at dksJ11_getChars_1 0 rfl rfl)
theorem dJ11_getChars_26 : decode cJ11_getChars 26 = .ok (.new 52, 3) := dk_187 0 52 (dk_at dksJ11_getChars_1 3 rfl rfl)
theorem dJ11_getChars_29 : decode cJ11_getChars 29 = .ok (.dup, 1) := dk_89 (dk_at dksJ11_getChars_1 6 rfl rfl)
theorem dJ11_getChars_30 : decode cJ11_getChars 30 = .ok (.invokespecial 66, 3) := dk_183 0 66 (dk_at dksJ11_getChars_1 7 rfl rfl)
theorem dJ11_getChars_33 : decode cJ11_getChars 33 = .ok (.athrow, 1) := dk_191 (dk_at dksJ11_getChars_1 10 rfl rfl)
theorem dJ11_getChars_34 : decode cJ11_getChars 34 = .ok (.iload 4, 2) := dk_21 4 (dk_at dksJ11_getChars_1 11 rfl rfl)
theorem dJ11_getChars_36 : decode cJ11_getChars 36 = .ok (.ireturn, 1) := dk_172 (dk_at dksJ11_getChars_1 13 rfl rfl)
abbrev cJ11_checkBoundsBeginEnd : ByteArray := prog_43_method_93_code
def yJ11_checkBoundsBeginEnd : MethodName := ⟨RJ11, "checkBoundsBeginEnd", "(II[B)V"⟩
def dkwJ11_checkBoundsBeginEnd_0 : List UInt8 := [26, 27, 44, 184, 0, 48, 184, 0, 241, 177]
abbrev dktJ11_checkBoundsBeginEnd_0 : List UInt8 := dkwJ11_checkBoundsBeginEnd_0 ++ []
theorem dksJ11_checkBoundsBeginEnd_0 : cJ11_checkBoundsBeginEnd.data.toList.drop 0 = dktJ11_checkBoundsBeginEnd_0 := by decide +kernel
theorem dJ11_checkBoundsBeginEnd_0 : decode cJ11_checkBoundsBeginEnd 0 = .ok (.iload_n 0, 1) := dk_26 (dk_at dksJ11_checkBoundsBeginEnd_0 0 rfl rfl)
theorem dJ11_checkBoundsBeginEnd_1 : decode cJ11_checkBoundsBeginEnd 1 = .ok (.iload_n 1, 1) := dk_27 (dk_at dksJ11_checkBoundsBeginEnd_0 1 rfl rfl)
theorem dJ11_checkBoundsBeginEnd_2 : decode cJ11_checkBoundsBeginEnd 2 = .ok (.aload_n 2, 1) := dk_44 (dk_at dksJ11_checkBoundsBeginEnd_0 2 rfl rfl)
theorem dJ11_checkBoundsBeginEnd_3 : decode cJ11_checkBoundsBeginEnd 3 = .ok (.invokestatic 48, 3) := dk_184 0 48 (dk_at dksJ11_checkBoundsBeginEnd_0 3 rfl rfl)
theorem dJ11_checkBoundsBeginEnd_6 : decode cJ11_checkBoundsBeginEnd 6 = .ok (.invokestatic 241, 3) := dk_184 0 241 (dk_at dksJ11_checkBoundsBeginEnd_0 6 rfl rfl)
theorem dJ11_checkBoundsBeginEnd_9 : decode cJ11_checkBoundsBeginEnd 9 = .ok (.return_, 1) := dk_177 (dk_at dksJ11_checkBoundsBeginEnd_0 9 rfl rfl)
abbrev cJ11_getChars_2 : ByteArray := prog_43_method_89_code
def yJ11_getChars_2 : MethodName := ⟨RJ11, "getChars", "(II[B)I"⟩
def dkwJ11_getChars_2_5 : List UInt8 := [132, 5, 255, 21, 5, 16, 45, 184, 0, 111, 21, 5, 172]
abbrev dktJ11_getChars_2_5 : List UInt8 := dkwJ11_getChars_2_5 ++ []
def dkwJ11_getChars_2_4 : List UInt8 := [162, 0, 18, 44, 132, 5, 255, 21, 5, 178, 1, 151, 26, 116, 51, 184, 0, 111, 21, 6, 153, 0, 14, 44]
abbrev dktJ11_getChars_2_4 : List UInt8 := dkwJ11_getChars_2_4 ++ dktJ11_getChars_2_5
def dkwJ11_getChars_2_3 : List UInt8 := [184, 0, 111, 167, 255, 205, 44, 132, 5, 255, 21, 5, 178, 1, 147, 26, 116, 51, 184, 0, 111, 26, 16, 247]
abbrev dktJ11_getChars_2_3 : List UInt8 := dkwJ11_getChars_2_3 ++ dktJ11_getChars_2_4
def dkwJ11_getChars_2_2 : List UInt8 := [21, 5, 178, 1, 147, 21, 4, 51, 184, 0, 111, 44, 132, 5, 255, 21, 5, 178, 1, 151, 21, 4, 51]
abbrev dktJ11_getChars_2_2 : List UInt8 := dkwJ11_getChars_2_2 ++ dktJ11_getChars_2_3
def dkwJ11_getChars_2_1 : List UInt8 := [16, 156, 163, 0, 51, 26, 16, 100, 108, 62, 29, 16, 100, 104, 26, 100, 54, 4, 29, 59, 44, 132, 5, 255]
abbrev dktJ11_getChars_2_1 : List UInt8 := dkwJ11_getChars_2_1 ++ dktJ11_getChars_2_2
def dkwJ11_getChars_2_0 : List UInt8 := [27, 54, 5, 26, 156, 0, 7, 4, 167, 0, 4, 3, 54, 6, 21, 6, 154, 0, 6, 26, 116, 59, 26]
abbrev dktJ11_getChars_2_0 : List UInt8 := dkwJ11_getChars_2_0 ++ dktJ11_getChars_2_1
theorem dksJ11_getChars_2_0 : cJ11_getChars_2.data.toList.drop 0 = dktJ11_getChars_2_0 := by decide +kernel
theorem dksJ11_getChars_2_1 : cJ11_getChars_2.data.toList.drop 23 = dktJ11_getChars_2_1 := dk_seg dksJ11_getChars_2_0 23 rfl rfl
theorem dksJ11_getChars_2_2 : cJ11_getChars_2.data.toList.drop 47 = dktJ11_getChars_2_2 := dk_seg dksJ11_getChars_2_1 24 rfl rfl
theorem dksJ11_getChars_2_3 : cJ11_getChars_2.data.toList.drop 70 = dktJ11_getChars_2_3 := dk_seg dksJ11_getChars_2_2 23 rfl rfl
theorem dksJ11_getChars_2_4 : cJ11_getChars_2.data.toList.drop 94 = dktJ11_getChars_2_4 := dk_seg dksJ11_getChars_2_3 24 rfl rfl
theorem dksJ11_getChars_2_5 : cJ11_getChars_2.data.toList.drop 118 = dktJ11_getChars_2_5 := dk_seg dksJ11_getChars_2_4 24 rfl rfl
theorem dJ11_getChars_2_0 : decode cJ11_getChars_2 0 = .ok (.iload_n 1, 1) := dk_27 (dk_at dksJ11_getChars_2_0 0 rfl rfl)
theorem dJ11_getChars_2_1 : decode cJ11_getChars_2 1 = .ok (.istore 5, 2) := dk_54 5 (dk_at dksJ11_getChars_2_0 1 rfl rfl)
theorem dJ11_getChars_2_3 : decode cJ11_getChars_2 3 = .ok (.iload_n 0, 1) := dk_26 (dk_at dksJ11_getChars_2_0 3 rfl rfl)
theorem dJ11_getChars_2_4 : decode cJ11_getChars_2 4 = .ok (.ifCond .ge 7, 3) := dk_156 0 7 (dk_at dksJ11_getChars_2_0 4 rfl rfl)
theorem dJ11_getChars_2_7 : decode cJ11_getChars_2 7 = .ok (.iconst 1, 1) := dk_4 (dk_at dksJ11_getChars_2_0 7 rfl rfl)
theorem dJ11_getChars_2_8 : decode cJ11_getChars_2 8 = .ok (.goto 4, 3) := dk_167 0 4 (dk_at dksJ11_getChars_2_0 8 rfl rfl)
theorem dJ11_getChars_2_11 : decode cJ11_getChars_2 11 = .ok (.iconst 0, 1) := dk_3 (dk_at dksJ11_getChars_2_0 11 rfl rfl)
theorem dJ11_getChars_2_12 : decode cJ11_getChars_2 12 = .ok (.istore 6, 2) := dk_54 6 (dk_at dksJ11_getChars_2_0 12 rfl rfl)
theorem dJ11_getChars_2_14 : decode cJ11_getChars_2 14 = .ok (.iload 6, 2) := dk_21 6 (dk_at dksJ11_getChars_2_0 14 rfl rfl)
theorem dJ11_getChars_2_16 : decode cJ11_getChars_2 16 = .ok (.ifCond .ne 6, 3) := dk_154 0 6 (dk_at dksJ11_getChars_2_0 16 rfl rfl)
theorem dJ11_getChars_2_19 : decode cJ11_getChars_2 19 = .ok (.iload_n 0, 1) := dk_26 (dk_at dksJ11_getChars_2_0 19 rfl rfl)
theorem dJ11_getChars_2_20 : decode cJ11_getChars_2 20 = .ok (.ineg, 1) := dk_116 (dk_at dksJ11_getChars_2_0 20 rfl rfl)
theorem dJ11_getChars_2_21 : decode cJ11_getChars_2 21 = .ok (.istore_n 0, 1) := dk_59 (dk_at dksJ11_getChars_2_0 21 rfl rfl)
theorem dJ11_getChars_2_22 : decode cJ11_getChars_2 22 = .ok (.iload_n 0, 1) := dk_26 (dk_at dksJ11_getChars_2_0 22 rfl rfl)
theorem dJ11_getChars_2_23 : decode cJ11_getChars_2 23 = .ok (.bipush (-100), 2) := dk_16 156 (dk_at dksJ11_getChars_2_1 0 rfl rfl)
theorem dJ11_getChars_2_25 : decode cJ11_getChars_2 25 = .ok (.if_icmp .gt 51, 3) := dk_163 0 51 (dk_at dksJ11_getChars_2_1 2 rfl rfl)
theorem dJ11_getChars_2_28 : decode cJ11_getChars_2 28 = .ok (.iload_n 0, 1) := dk_26 (dk_at dksJ11_getChars_2_1 5 rfl rfl)
theorem dJ11_getChars_2_29 : decode cJ11_getChars_2 29 = .ok (.bipush 100, 2) := dk_16 100 (dk_at dksJ11_getChars_2_1 6 rfl rfl)
theorem dJ11_getChars_2_31 : decode cJ11_getChars_2 31 = .ok (.idiv, 1) := dk_108 (dk_at dksJ11_getChars_2_1 8 rfl rfl)
theorem dJ11_getChars_2_32 : decode cJ11_getChars_2 32 = .ok (.istore_n 3, 1) := dk_62 (dk_at dksJ11_getChars_2_1 9 rfl rfl)
theorem dJ11_getChars_2_33 : decode cJ11_getChars_2 33 = .ok (.iload_n 3, 1) := dk_29 (dk_at dksJ11_getChars_2_1 10 rfl rfl)
theorem dJ11_getChars_2_34 : decode cJ11_getChars_2 34 = .ok (.bipush 100, 2) := dk_16 100 (dk_at dksJ11_getChars_2_1 11 rfl rfl)
theorem dJ11_getChars_2_36 : decode cJ11_getChars_2 36 = .ok (.imul, 1) := dk_104 (dk_at dksJ11_getChars_2_1 13 rfl rfl)
theorem dJ11_getChars_2_37 : decode cJ11_getChars_2 37 = .ok (.iload_n 0, 1) := dk_26 (dk_at dksJ11_getChars_2_1 14 rfl rfl)
theorem dJ11_getChars_2_38 : decode cJ11_getChars_2 38 = .ok (.isub, 1) := dk_100 (dk_at dksJ11_getChars_2_1 15 rfl rfl)
theorem dJ11_getChars_2_39 : decode cJ11_getChars_2 39 = .ok (.istore 4, 2) := dk_54 4 (dk_at dksJ11_getChars_2_1 16 rfl rfl)
theorem dJ11_getChars_2_41 : decode cJ11_getChars_2 41 = .ok (.iload_n 3, 1) := dk_29 (dk_at dksJ11_getChars_2_1 18 rfl rfl)
theorem dJ11_getChars_2_42 : decode cJ11_getChars_2 42 = .ok (.istore_n 0, 1) := dk_59 (dk_at dksJ11_getChars_2_1 19 rfl rfl)
theorem dJ11_getChars_2_43 : decode cJ11_getChars_2 43 = .ok (.aload_n 2, 1) := dk_44 (dk_at dksJ11_getChars_2_1 20 rfl rfl)
theorem dJ11_getChars_2_44 : decode cJ11_getChars_2 44 = .ok (.iinc 5 (-1), 3) := dk_132 5 255 (dk_at dksJ11_getChars_2_1 21 rfl rfl)
theorem dJ11_getChars_2_47 : decode cJ11_getChars_2 47 = .ok (.iload 5, 2) := dk_21 5 (dk_at dksJ11_getChars_2_2 0 rfl rfl)
theorem dJ11_getChars_2_49 : decode cJ11_getChars_2 49 = .ok (.getstatic 403, 3) := dk_178 1 147 (dk_at dksJ11_getChars_2_2 2 rfl rfl)
theorem dJ11_getChars_2_52 : decode cJ11_getChars_2 52 = .ok (.iload 4, 2) := dk_21 4 (dk_at dksJ11_getChars_2_2 5 rfl rfl)
theorem dJ11_getChars_2_54 : decode cJ11_getChars_2 54 = .ok (.baload, 1) := dk_51 (dk_at dksJ11_getChars_2_2 7 rfl rfl)
theorem dJ11_getChars_2_55 : decode cJ11_getChars_2 55 = .ok (.invokestatic 111, 3) := dk_184 0 111 (dk_at dksJ11_getChars_2_2 8 rfl rfl)
theorem dJ11_getChars_2_58 : decode cJ11_getChars_2 58 = .ok (.aload_n 2, 1) := dk_44 (dk_at dksJ11_getChars_2_2 11 rfl rfl)
theorem dJ11_getChars_2_59 : decode cJ11_getChars_2 59 = .ok (.iinc 5 (-1), 3) := dk_132 5 255 (dk_at dksJ11_getChars_2_2 12 rfl rfl)
theorem dJ11_getChars_2_62 : decode cJ11_getChars_2 62 = .ok (.iload 5, 2) := dk_21 5 (dk_at dksJ11_getChars_2_2 15 rfl rfl)
theorem dJ11_getChars_2_64 : decode cJ11_getChars_2 64 = .ok (.getstatic 407, 3) := dk_178 1 151 (dk_at dksJ11_getChars_2_2 17 rfl rfl)
theorem dJ11_getChars_2_67 : decode cJ11_getChars_2 67 = .ok (.iload 4, 2) := dk_21 4 (dk_at dksJ11_getChars_2_2 20 rfl rfl)
theorem dJ11_getChars_2_69 : decode cJ11_getChars_2 69 = .ok (.baload, 1) := dk_51 (dk_at dksJ11_getChars_2_2 22 rfl rfl)
theorem dJ11_getChars_2_70 : decode cJ11_getChars_2 70 = .ok (.invokestatic 111, 3) := dk_184 0 111 (dk_at dksJ11_getChars_2_3 0 rfl rfl)
theorem dJ11_getChars_2_73 : decode cJ11_getChars_2 73 = .ok (.goto (-51), 3) := dk_167 255 205 (dk_at dksJ11_getChars_2_3 3 rfl rfl)
theorem dJ11_getChars_2_76 : decode cJ11_getChars_2 76 = .ok (.aload_n 2, 1) := dk_44 (dk_at dksJ11_getChars_2_3 6 rfl rfl)
theorem dJ11_getChars_2_77 : decode cJ11_getChars_2 77 = .ok (.iinc 5 (-1), 3) := dk_132 5 255 (dk_at dksJ11_getChars_2_3 7 rfl rfl)
theorem dJ11_getChars_2_80 : decode cJ11_getChars_2 80 = .ok (.iload 5, 2) := dk_21 5 (dk_at dksJ11_getChars_2_3 10 rfl rfl)
theorem dJ11_getChars_2_82 : decode cJ11_getChars_2 82 = .ok (.getstatic 403, 3) := dk_178 1 147 (dk_at dksJ11_getChars_2_3 12 rfl rfl)
theorem dJ11_getChars_2_85 : decode cJ11_getChars_2 85 = .ok (.iload_n 0, 1) := dk_26 (dk_at dksJ11_getChars_2_3 15 rfl rfl)
theorem dJ11_getChars_2_86 : decode cJ11_getChars_2 86 = .ok (.ineg, 1) := dk_116 (dk_at dksJ11_getChars_2_3 16 rfl rfl)
theorem dJ11_getChars_2_87 : decode cJ11_getChars_2 87 = .ok (.baload, 1) := dk_51 (dk_at dksJ11_getChars_2_3 17 rfl rfl)
theorem dJ11_getChars_2_88 : decode cJ11_getChars_2 88 = .ok (.invokestatic 111, 3) := dk_184 0 111 (dk_at dksJ11_getChars_2_3 18 rfl rfl)
theorem dJ11_getChars_2_91 : decode cJ11_getChars_2 91 = .ok (.iload_n 0, 1) := dk_26 (dk_at dksJ11_getChars_2_3 21 rfl rfl)
theorem dJ11_getChars_2_92 : decode cJ11_getChars_2 92 = .ok (.bipush (-9), 2) := dk_16 247 (dk_at dksJ11_getChars_2_3 22 rfl rfl)
theorem dJ11_getChars_2_94 : decode cJ11_getChars_2 94 = .ok (.if_icmp .ge 18, 3) := dk_162 0 18 (dk_at dksJ11_getChars_2_4 0 rfl rfl)
theorem dJ11_getChars_2_97 : decode cJ11_getChars_2 97 = .ok (.aload_n 2, 1) := dk_44 (dk_at dksJ11_getChars_2_4 3 rfl rfl)
theorem dJ11_getChars_2_98 : decode cJ11_getChars_2 98 = .ok (.iinc 5 (-1), 3) := dk_132 5 255 (dk_at dksJ11_getChars_2_4 4 rfl rfl)
theorem dJ11_getChars_2_101 : decode cJ11_getChars_2 101 = .ok (.iload 5, 2) := dk_21 5 (dk_at dksJ11_getChars_2_4 7 rfl rfl)
theorem dJ11_getChars_2_103 : decode cJ11_getChars_2 103 = .ok (.getstatic 407, 3) := dk_178 1 151 (dk_at dksJ11_getChars_2_4 9 rfl rfl)
theorem dJ11_getChars_2_106 : decode cJ11_getChars_2 106 = .ok (.iload_n 0, 1) := dk_26 (dk_at dksJ11_getChars_2_4 12 rfl rfl)
theorem dJ11_getChars_2_107 : decode cJ11_getChars_2 107 = .ok (.ineg, 1) := dk_116 (dk_at dksJ11_getChars_2_4 13 rfl rfl)
theorem dJ11_getChars_2_108 : decode cJ11_getChars_2 108 = .ok (.baload, 1) := dk_51 (dk_at dksJ11_getChars_2_4 14 rfl rfl)
theorem dJ11_getChars_2_109 : decode cJ11_getChars_2 109 = .ok (.invokestatic 111, 3) := dk_184 0 111 (dk_at dksJ11_getChars_2_4 15 rfl rfl)
theorem dJ11_getChars_2_112 : decode cJ11_getChars_2 112 = .ok (.iload 6, 2) := dk_21 6 (dk_at dksJ11_getChars_2_4 18 rfl rfl)
theorem dJ11_getChars_2_114 : decode cJ11_getChars_2 114 = .ok (.ifCond .eq 14, 3) := dk_153 0 14 (dk_at dksJ11_getChars_2_4 20 rfl rfl)
theorem dJ11_getChars_2_117 : decode cJ11_getChars_2 117 = .ok (.aload_n 2, 1) := dk_44 (dk_at dksJ11_getChars_2_4 23 rfl rfl)
theorem dJ11_getChars_2_118 : decode cJ11_getChars_2 118 = .ok (.iinc 5 (-1), 3) := dk_132 5 255 (dk_at dksJ11_getChars_2_5 0 rfl rfl)
theorem dJ11_getChars_2_121 : decode cJ11_getChars_2 121 = .ok (.iload 5, 2) := dk_21 5 (dk_at dksJ11_getChars_2_5 3 rfl rfl)
theorem dJ11_getChars_2_123 : decode cJ11_getChars_2 123 = .ok (.bipush 45, 2) := dk_16 45 (dk_at dksJ11_getChars_2_5 5 rfl rfl)
theorem dJ11_getChars_2_125 : decode cJ11_getChars_2 125 = .ok (.invokestatic 111, 3) := dk_184 0 111 (dk_at dksJ11_getChars_2_5 7 rfl rfl)
theorem dJ11_getChars_2_128 : decode cJ11_getChars_2 128 = .ok (.iload 5, 2) := dk_21 5 (dk_at dksJ11_getChars_2_5 10 rfl rfl)
theorem dJ11_getChars_2_130 : decode cJ11_getChars_2 130 = .ok (.ireturn, 1) := dk_172 (dk_at dksJ11_getChars_2_5 12 rfl rfl)
abbrev cJ11_putCharsAt : ByteArray := prog_43_method_81_code
def yJ11_putCharsAt : MethodName := ⟨RJ11, "putCharsAt", "([BICCCC)I"⟩
def dkwJ11_putCharsAt_3 : List UInt8 := [21, 6, 172]
abbrev dktJ11_putCharsAt_3 : List UInt8 := dkwJ11_putCharsAt_3 ++ []
def dkwJ11_putCharsAt_2 : List UInt8 := [184, 0, 111, 178, 0, 44, 154, 0, 17, 27, 21, 6, 159, 0, 11, 187, 0, 52, 89, 183, 0, 66, 191]
abbrev dktJ11_putCharsAt_2 : List UInt8 := dkwJ11_putCharsAt_2 ++ dktJ11_putCharsAt_3
def dkwJ11_putCharsAt_1 : List UInt8 := [132, 1, 1, 29, 184, 0, 111, 42, 27, 132, 1, 1, 21, 4, 184, 0, 111, 42, 27, 132, 1, 1, 21, 5]
abbrev dktJ11_putCharsAt_1 : List UInt8 := dkwJ11_putCharsAt_1 ++ dktJ11_putCharsAt_2
def dkwJ11_putCharsAt_0 : List UInt8 := [27, 7, 96, 54, 6, 27, 21, 6, 42, 184, 0, 96, 42, 27, 132, 1, 1, 28, 184, 0, 111, 42, 27]
abbrev dktJ11_putCharsAt_0 : List UInt8 := dkwJ11_putCharsAt_0 ++ dktJ11_putCharsAt_1
theorem dksJ11_putCharsAt_0 : cJ11_putCharsAt.data.toList.drop 0 = dktJ11_putCharsAt_0 := by decide +kernel
theorem dksJ11_putCharsAt_1 : cJ11_putCharsAt.data.toList.drop 23 = dktJ11_putCharsAt_1 := dk_seg dksJ11_putCharsAt_0 23 rfl rfl
theorem dksJ11_putCharsAt_2 : cJ11_putCharsAt.data.toList.drop 47 = dktJ11_putCharsAt_2 := dk_seg dksJ11_putCharsAt_1 24 rfl rfl
theorem dksJ11_putCharsAt_3 : cJ11_putCharsAt.data.toList.drop 70 = dktJ11_putCharsAt_3 := dk_seg dksJ11_putCharsAt_2 23 rfl rfl
theorem dJ11_putCharsAt_0 : decode cJ11_putCharsAt 0 = .ok (.iload_n 1, 1) := dk_27 (dk_at dksJ11_putCharsAt_0 0 rfl rfl)
theorem dJ11_putCharsAt_1 : decode cJ11_putCharsAt 1 = .ok (.iconst 4, 1) := dk_7 (dk_at dksJ11_putCharsAt_0 1 rfl rfl)
theorem dJ11_putCharsAt_2 : decode cJ11_putCharsAt 2 = .ok (.iadd, 1) := dk_96 (dk_at dksJ11_putCharsAt_0 2 rfl rfl)
theorem dJ11_putCharsAt_3 : decode cJ11_putCharsAt 3 = .ok (.istore 6, 2) := dk_54 6 (dk_at dksJ11_putCharsAt_0 3 rfl rfl)
theorem dJ11_putCharsAt_5 : decode cJ11_putCharsAt 5 = .ok (.iload_n 1, 1) := dk_27 (dk_at dksJ11_putCharsAt_0 5 rfl rfl)
theorem dJ11_putCharsAt_6 : decode cJ11_putCharsAt 6 = .ok (.iload 6, 2) := dk_21 6 (dk_at dksJ11_putCharsAt_0 6 rfl rfl)
theorem dJ11_putCharsAt_8 : decode cJ11_putCharsAt 8 = .ok (.aload_n 0, 1) := dk_42 (dk_at dksJ11_putCharsAt_0 8 rfl rfl)
theorem dJ11_putCharsAt_9 : decode cJ11_putCharsAt 9 = .ok (.invokestatic 96, 3) := dk_184 0 96 (dk_at dksJ11_putCharsAt_0 9 rfl rfl)
theorem dJ11_putCharsAt_12 : decode cJ11_putCharsAt 12 = .ok (.aload_n 0, 1) := dk_42 (dk_at dksJ11_putCharsAt_0 12 rfl rfl)
theorem dJ11_putCharsAt_13 : decode cJ11_putCharsAt 13 = .ok (.iload_n 1, 1) := dk_27 (dk_at dksJ11_putCharsAt_0 13 rfl rfl)
theorem dJ11_putCharsAt_14 : decode cJ11_putCharsAt 14 = .ok (.iinc 1 1, 3) := dk_132 1 1 (dk_at dksJ11_putCharsAt_0 14 rfl rfl)
theorem dJ11_putCharsAt_17 : decode cJ11_putCharsAt 17 = .ok (.iload_n 2, 1) := dk_28 (dk_at dksJ11_putCharsAt_0 17 rfl rfl)
theorem dJ11_putCharsAt_18 : decode cJ11_putCharsAt 18 = .ok (.invokestatic 111, 3) := dk_184 0 111 (dk_at dksJ11_putCharsAt_0 18 rfl rfl)
theorem dJ11_putCharsAt_21 : decode cJ11_putCharsAt 21 = .ok (.aload_n 0, 1) := dk_42 (dk_at dksJ11_putCharsAt_0 21 rfl rfl)
theorem dJ11_putCharsAt_22 : decode cJ11_putCharsAt 22 = .ok (.iload_n 1, 1) := dk_27 (dk_at dksJ11_putCharsAt_0 22 rfl rfl)
theorem dJ11_putCharsAt_23 : decode cJ11_putCharsAt 23 = .ok (.iinc 1 1, 3) := dk_132 1 1 (dk_at dksJ11_putCharsAt_1 0 rfl rfl)
theorem dJ11_putCharsAt_26 : decode cJ11_putCharsAt 26 = .ok (.iload_n 3, 1) := dk_29 (dk_at dksJ11_putCharsAt_1 3 rfl rfl)
theorem dJ11_putCharsAt_27 : decode cJ11_putCharsAt 27 = .ok (.invokestatic 111, 3) := dk_184 0 111 (dk_at dksJ11_putCharsAt_1 4 rfl rfl)
theorem dJ11_putCharsAt_30 : decode cJ11_putCharsAt 30 = .ok (.aload_n 0, 1) := dk_42 (dk_at dksJ11_putCharsAt_1 7 rfl rfl)
theorem dJ11_putCharsAt_31 : decode cJ11_putCharsAt 31 = .ok (.iload_n 1, 1) := dk_27 (dk_at dksJ11_putCharsAt_1 8 rfl rfl)
theorem dJ11_putCharsAt_32 : decode cJ11_putCharsAt 32 = .ok (.iinc 1 1, 3) := dk_132 1 1 (dk_at dksJ11_putCharsAt_1 9 rfl rfl)
theorem dJ11_putCharsAt_35 : decode cJ11_putCharsAt 35 = .ok (.iload 4, 2) := dk_21 4 (dk_at dksJ11_putCharsAt_1 12 rfl rfl)
theorem dJ11_putCharsAt_37 : decode cJ11_putCharsAt 37 = .ok (.invokestatic 111, 3) := dk_184 0 111 (dk_at dksJ11_putCharsAt_1 14 rfl rfl)
theorem dJ11_putCharsAt_40 : decode cJ11_putCharsAt 40 = .ok (.aload_n 0, 1) := dk_42 (dk_at dksJ11_putCharsAt_1 17 rfl rfl)
theorem dJ11_putCharsAt_41 : decode cJ11_putCharsAt 41 = .ok (.iload_n 1, 1) := dk_27 (dk_at dksJ11_putCharsAt_1 18 rfl rfl)
theorem dJ11_putCharsAt_42 : decode cJ11_putCharsAt 42 = .ok (.iinc 1 1, 3) := dk_132 1 1 (dk_at dksJ11_putCharsAt_1 19 rfl rfl)
theorem dJ11_putCharsAt_45 : decode cJ11_putCharsAt 45 = .ok (.iload 5, 2) := dk_21 5 (dk_at dksJ11_putCharsAt_1 22 rfl rfl)
theorem dJ11_putCharsAt_47 : decode cJ11_putCharsAt 47 = .ok (.invokestatic 111, 3) := dk_184 0 111 (dk_at dksJ11_putCharsAt_2 0 rfl rfl)
theorem dJ11_putCharsAt_50 : decode cJ11_putCharsAt 50 = .ok (.getstatic 44, 3) := dk_178 0 44 (dk_at dksJ11_putCharsAt_2 3 rfl rfl)
theorem dJ11_putCharsAt_53 : decode cJ11_putCharsAt 53 = .ok (.ifCond .ne 17, 3) := dk_154 0 17 (dk_at dksJ11_putCharsAt_2 6 rfl rfl)
theorem dJ11_putCharsAt_56 : decode cJ11_putCharsAt 56 = .ok (.iload_n 1, 1) := dk_27 (dk_at dksJ11_putCharsAt_2 9 rfl rfl)
theorem dJ11_putCharsAt_57 : decode cJ11_putCharsAt 57 = .ok (.iload 6, 2) := dk_21 6 (dk_at dksJ11_putCharsAt_2 10 rfl rfl)
theorem dJ11_putCharsAt_59 : decode cJ11_putCharsAt 59 = .ok (.if_icmp .eq 11, 3) := dk_159 0 11 (dk_at dksJ11_putCharsAt_2 12 rfl rfl)
theorem dJ11_putCharsAt_62 : decode cJ11_putCharsAt 62 = .ok (.new 52, 3) := dk_187 0 52 (dk_at dksJ11_putCharsAt_2 15 rfl rfl)
theorem dJ11_putCharsAt_65 : decode cJ11_putCharsAt 65 = .ok (.dup, 1) := dk_89 (dk_at dksJ11_putCharsAt_2 18 rfl rfl)
theorem dJ11_putCharsAt_66 : decode cJ11_putCharsAt 66 = .ok (.invokespecial 66, 3) := dk_183 0 66 (dk_at dksJ11_putCharsAt_2 19 rfl rfl)
theorem dJ11_putCharsAt_69 : decode cJ11_putCharsAt 69 = .ok (.athrow, 1) := dk_191 (dk_at dksJ11_putCharsAt_2 22 rfl rfl)
theorem dJ11_putCharsAt_70 : decode cJ11_putCharsAt 70 = .ok (.iload 6, 2) := dk_21 6 (dk_at dksJ11_putCharsAt_3 0 rfl rfl)
theorem dJ11_putCharsAt_72 : decode cJ11_putCharsAt 72 = .ok (.ireturn, 1) := dk_172 (dk_at dksJ11_putCharsAt_3 2 rfl rfl)
abbrev cJ11_compress : ByteArray := prog_43_method_17_code
def yJ11_compress : MethodName := ⟨RJ11, "compress", "([BII)[B"⟩
def dkwJ11_compress_2 : List UInt8 := [25, 5, 3, 45, 3, 28, 184, 0, 123, 28, 159, 0, 6, 25, 5, 176, 45, 176]
abbrev dktJ11_compress_2 : List UInt8 := dkwJ11_compress_2 ++ []
def dkwJ11_compress_1 : List UInt8 := [27, 28, 96, 184, 0, 11, 184, 0, 126, 58, 5, 25, 5, 21, 4, 184, 0, 71, 17, 0, 255, 163, 0, 16]
abbrev dktJ11_compress_1 : List UInt8 := dkwJ11_compress_1 ++ dktJ11_compress_2
def dkwJ11_compress_0 : List UInt8 := [28, 188, 8, 78, 42, 27, 45, 3, 28, 184, 0, 123, 54, 4, 21, 4, 28, 159, 0, 47, 42, 27, 4, 120]
abbrev dktJ11_compress_0 : List UInt8 := dkwJ11_compress_0 ++ dktJ11_compress_1
theorem dksJ11_compress_0 : cJ11_compress.data.toList.drop 0 = dktJ11_compress_0 := by decide +kernel
theorem dksJ11_compress_1 : cJ11_compress.data.toList.drop 24 = dktJ11_compress_1 := dk_seg dksJ11_compress_0 24 rfl rfl
theorem dksJ11_compress_2 : cJ11_compress.data.toList.drop 48 = dktJ11_compress_2 := dk_seg dksJ11_compress_1 24 rfl rfl
theorem dJ11_compress_0 : decode cJ11_compress 0 = .ok (.iload_n 2, 1) := dk_28 (dk_at dksJ11_compress_0 0 rfl rfl)
theorem dJ11_compress_1 : decode cJ11_compress 1 = .ok (.newarray .byte, 2) := dk_188_8 (dk_at dksJ11_compress_0 1 rfl rfl)
theorem dJ11_compress_3 : decode cJ11_compress 3 = .ok (.astore_n 3, 1) := dk_78 (dk_at dksJ11_compress_0 3 rfl rfl)
theorem dJ11_compress_4 : decode cJ11_compress 4 = .ok (.aload_n 0, 1) := dk_42 (dk_at dksJ11_compress_0 4 rfl rfl)
theorem dJ11_compress_5 : decode cJ11_compress 5 = .ok (.iload_n 1, 1) := dk_27 (dk_at dksJ11_compress_0 5 rfl rfl)
theorem dJ11_compress_6 : decode cJ11_compress 6 = .ok (.aload_n 3, 1) := dk_45 (dk_at dksJ11_compress_0 6 rfl rfl)
theorem dJ11_compress_7 : decode cJ11_compress 7 = .ok (.iconst 0, 1) := dk_3 (dk_at dksJ11_compress_0 7 rfl rfl)
theorem dJ11_compress_8 : decode cJ11_compress 8 = .ok (.iload_n 2, 1) := dk_28 (dk_at dksJ11_compress_0 8 rfl rfl)
theorem dJ11_compress_9 : decode cJ11_compress 9 = .ok (.invokestatic 123, 3) := dk_184 0 123 (dk_at dksJ11_compress_0 9 rfl rfl)
theorem dJ11_compress_12 : decode cJ11_compress 12 = .ok (.istore 4, 2) := dk_54 4 (dk_at dksJ11_compress_0 12 rfl rfl)
theorem dJ11_compress_14 : decode cJ11_compress 14 = .ok (.iload 4, 2) := dk_21 4 (dk_at dksJ11_compress_0 14 rfl rfl)
theorem dJ11_compress_16 : decode cJ11_compress 16 = .ok (.iload_n 2, 1) := dk_28 (dk_at dksJ11_compress_0 16 rfl rfl)
theorem dJ11_compress_17 : decode cJ11_compress 17 = .ok (.if_icmp .eq 47, 3) := dk_159 0 47 (dk_at dksJ11_compress_0 17 rfl rfl)
theorem dJ11_compress_20 : decode cJ11_compress 20 = .ok (.aload_n 0, 1) := dk_42 (dk_at dksJ11_compress_0 20 rfl rfl)
theorem dJ11_compress_21 : decode cJ11_compress 21 = .ok (.iload_n 1, 1) := dk_27 (dk_at dksJ11_compress_0 21 rfl rfl)
theorem dJ11_compress_22 : decode cJ11_compress 22 = .ok (.iconst 1, 1) := dk_4 (dk_at dksJ11_compress_0 22 rfl rfl)
theorem dJ11_compress_23 : decode cJ11_compress 23 = .ok (.ishl, 1) := dk_120 (dk_at dksJ11_compress_0 23 rfl rfl)
theorem dJ11_compress_24 : decode cJ11_compress 24 = .ok (.iload_n 1, 1) := dk_27 (dk_at dksJ11_compress_1 0 rfl rfl)
theorem dJ11_compress_25 : decode cJ11_compress 25 = .ok (.iload_n 2, 1) := dk_28 (dk_at dksJ11_compress_1 1 rfl rfl)
theorem dJ11_compress_26 : decode cJ11_compress 26 = .ok (.iadd, 1) := dk_96 (dk_at dksJ11_compress_1 2 rfl rfl)
theorem dJ11_compress_27 : decode cJ11_compress 27 = .ok (.invokestatic 11, 3) := dk_184 0 11 (dk_at dksJ11_compress_1 3 rfl rfl)
theorem dJ11_compress_30 : decode cJ11_compress 30 = .ok (.invokestatic 126, 3) := dk_184 0 126 (dk_at dksJ11_compress_1 6 rfl rfl)
theorem dJ11_compress_33 : decode cJ11_compress 33 = .ok (.astore 5, 2) := dk_58 5 (dk_at dksJ11_compress_1 9 rfl rfl)
theorem dJ11_compress_35 : decode cJ11_compress 35 = .ok (.aload 5, 2) := dk_25 5 (dk_at dksJ11_compress_1 11 rfl rfl)
theorem dJ11_compress_37 : decode cJ11_compress 37 = .ok (.iload 4, 2) := dk_21 4 (dk_at dksJ11_compress_1 13 rfl rfl)
theorem dJ11_compress_39 : decode cJ11_compress 39 = .ok (.invokestatic 71, 3) := dk_184 0 71 (dk_at dksJ11_compress_1 15 rfl rfl)
theorem dJ11_compress_42 : decode cJ11_compress 42 = .ok (.sipush 255, 3) := dk_17 0 255 (dk_at dksJ11_compress_1 18 rfl rfl)
theorem dJ11_compress_45 : decode cJ11_compress 45 = .ok (.if_icmp .gt 16, 3) := dk_163 0 16 (dk_at dksJ11_compress_1 21 rfl rfl)
theorem dJ11_compress_48 : decode cJ11_compress 48 = .ok (.aload 5, 2) := dk_25 5 (dk_at dksJ11_compress_2 0 rfl rfl)
theorem dJ11_compress_50 : decode cJ11_compress 50 = .ok (.iconst 0, 1) := dk_3 (dk_at dksJ11_compress_2 2 rfl rfl)
theorem dJ11_compress_51 : decode cJ11_compress 51 = .ok (.aload_n 3, 1) := dk_45 (dk_at dksJ11_compress_2 3 rfl rfl)
theorem dJ11_compress_52 : decode cJ11_compress 52 = .ok (.iconst 0, 1) := dk_3 (dk_at dksJ11_compress_2 4 rfl rfl)
theorem dJ11_compress_53 : decode cJ11_compress 53 = .ok (.iload_n 2, 1) := dk_28 (dk_at dksJ11_compress_2 5 rfl rfl)
theorem dJ11_compress_54 : decode cJ11_compress 54 = .ok (.invokestatic 123, 3) := dk_184 0 123 (dk_at dksJ11_compress_2 6 rfl rfl)
theorem dJ11_compress_57 : decode cJ11_compress 57 = .ok (.iload_n 2, 1) := dk_28 (dk_at dksJ11_compress_2 9 rfl rfl)
theorem dJ11_compress_58 : decode cJ11_compress 58 = .ok (.if_icmp .eq 6, 3) := dk_159 0 6 (dk_at dksJ11_compress_2 10 rfl rfl)
theorem dJ11_compress_61 : decode cJ11_compress 61 = .ok (.aload 5, 2) := dk_25 5 (dk_at dksJ11_compress_2 13 rfl rfl)
theorem dJ11_compress_63 : decode cJ11_compress 63 = .ok (.areturn, 1) := dk_176 (dk_at dksJ11_compress_2 15 rfl rfl)
theorem dJ11_compress_64 : decode cJ11_compress 64 = .ok (.aload_n 3, 1) := dk_45 (dk_at dksJ11_compress_2 16 rfl rfl)
theorem dJ11_compress_65 : decode cJ11_compress 65 = .ok (.areturn, 1) := dk_176 (dk_at dksJ11_compress_2 17 rfl rfl)
abbrev cJ11_compress_2 : ByteArray := prog_43_method_22_code
def yJ11_compress_2 : MethodName := ⟨RJ11, "compress", "([BI[BII)I"⟩
def dkwJ11_compress_2_2 : List UInt8 := [132, 5, 1, 167, 255, 216, 21, 4, 172]
abbrev dktJ11_compress_2_2 : List UInt8 := dkwJ11_compress_2_2 ++ []
def dkwJ11_compress_2_1 : List UInt8 := [21, 6, 17, 0, 255, 164, 0, 6, 21, 5, 172, 44, 29, 21, 6, 145, 84, 132, 1, 1, 132, 3, 1]
abbrev dktJ11_compress_2_1 : List UInt8 := dkwJ11_compress_2_1 ++ dktJ11_compress_2_2
def dkwJ11_compress_2_0 : List UInt8 := [27, 21, 4, 42, 184, 0, 173, 3, 54, 5, 21, 5, 21, 4, 162, 0, 39, 42, 27, 184, 0, 71, 54, 6]
abbrev dktJ11_compress_2_0 : List UInt8 := dkwJ11_compress_2_0 ++ dktJ11_compress_2_1
theorem dksJ11_compress_2_0 : cJ11_compress_2.data.toList.drop 0 = dktJ11_compress_2_0 := by decide +kernel
theorem dksJ11_compress_2_1 : cJ11_compress_2.data.toList.drop 24 = dktJ11_compress_2_1 := dk_seg dksJ11_compress_2_0 24 rfl rfl
theorem dksJ11_compress_2_2 : cJ11_compress_2.data.toList.drop 47 = dktJ11_compress_2_2 := dk_seg dksJ11_compress_2_1 23 rfl rfl
theorem dJ11_compress_2_0 : decode cJ11_compress_2 0 = .ok (.iload_n 1, 1) := dk_27 (dk_at dksJ11_compress_2_0 0 rfl rfl)
theorem dJ11_compress_2_1 : decode cJ11_compress_2 1 = .ok (.iload 4, 2) := dk_21 4 (dk_at dksJ11_compress_2_0 1 rfl rfl)
theorem dJ11_compress_2_3 : decode cJ11_compress_2 3 = .ok (.aload_n 0, 1) := dk_42 (dk_at dksJ11_compress_2_0 3 rfl rfl)
theorem dJ11_compress_2_4 : decode cJ11_compress_2 4 = .ok (.invokestatic 173, 3) := dk_184 0 173 (dk_at dksJ11_compress_2_0 4 rfl rfl)
theorem dJ11_compress_2_7 : decode cJ11_compress_2 7 = .ok (.iconst 0, 1) := dk_3 (dk_at dksJ11_compress_2_0 7 rfl rfl)
theorem dJ11_compress_2_8 : decode cJ11_compress_2 8 = .ok (.istore 5, 2) := dk_54 5 (dk_at dksJ11_compress_2_0 8 rfl rfl)
theorem dJ11_compress_2_10 : decode cJ11_compress_2 10 = .ok (.iload 5, 2) := dk_21 5 (dk_at dksJ11_compress_2_0 10 rfl rfl)
theorem dJ11_compress_2_12 : decode cJ11_compress_2 12 = .ok (.iload 4, 2) := dk_21 4 (dk_at dksJ11_compress_2_0 12 rfl rfl)
theorem dJ11_compress_2_14 : decode cJ11_compress_2 14 = .ok (.if_icmp .ge 39, 3) := dk_162 0 39 (dk_at dksJ11_compress_2_0 14 rfl rfl)
theorem dJ11_compress_2_17 : decode cJ11_compress_2 17 = .ok (.aload_n 0, 1) := dk_42 (dk_at dksJ11_compress_2_0 17 rfl rfl)
theorem dJ11_compress_2_18 : decode cJ11_compress_2 18 = .ok (.iload_n 1, 1) := dk_27 (dk_at dksJ11_compress_2_0 18 rfl rfl)
theorem dJ11_compress_2_19 : decode cJ11_compress_2 19 = .ok (.invokestatic 71, 3) := dk_184 0 71 (dk_at dksJ11_compress_2_0 19 rfl rfl)
theorem dJ11_compress_2_22 : decode cJ11_compress_2 22 = .ok (.istore 6, 2) := dk_54 6 (dk_at dksJ11_compress_2_0 22 rfl rfl)
theorem dJ11_compress_2_24 : decode cJ11_compress_2 24 = .ok (.iload 6, 2) := dk_21 6 (dk_at dksJ11_compress_2_1 0 rfl rfl)
theorem dJ11_compress_2_26 : decode cJ11_compress_2 26 = .ok (.sipush 255, 3) := dk_17 0 255 (dk_at dksJ11_compress_2_1 2 rfl rfl)
theorem dJ11_compress_2_29 : decode cJ11_compress_2 29 = .ok (.if_icmp .le 6, 3) := dk_164 0 6 (dk_at dksJ11_compress_2_1 5 rfl rfl)
theorem dJ11_compress_2_32 : decode cJ11_compress_2 32 = .ok (.iload 5, 2) := dk_21 5 (dk_at dksJ11_compress_2_1 8 rfl rfl)
theorem dJ11_compress_2_34 : decode cJ11_compress_2 34 = .ok (.ireturn, 1) := dk_172 (dk_at dksJ11_compress_2_1 10 rfl rfl)
theorem dJ11_compress_2_35 : decode cJ11_compress_2 35 = .ok (.aload_n 2, 1) := dk_44 (dk_at dksJ11_compress_2_1 11 rfl rfl)
theorem dJ11_compress_2_36 : decode cJ11_compress_2 36 = .ok (.iload_n 3, 1) := dk_29 (dk_at dksJ11_compress_2_1 12 rfl rfl)
theorem dJ11_compress_2_37 : decode cJ11_compress_2 37 = .ok (.iload 6, 2) := dk_21 6 (dk_at dksJ11_compress_2_1 13 rfl rfl)
theorem dJ11_compress_2_39 : decode cJ11_compress_2 39 = .ok (.i2b, 1) := dk_145 (dk_at dksJ11_compress_2_1 15 rfl rfl)
theorem dJ11_compress_2_40 : decode cJ11_compress_2 40 = .ok (.bastore, 1) := dk_84 (dk_at dksJ11_compress_2_1 16 rfl rfl)
theorem dJ11_compress_2_41 : decode cJ11_compress_2 41 = .ok (.iinc 1 1, 3) := dk_132 1 1 (dk_at dksJ11_compress_2_1 17 rfl rfl)
theorem dJ11_compress_2_44 : decode cJ11_compress_2 44 = .ok (.iinc 3 1, 3) := dk_132 3 1 (dk_at dksJ11_compress_2_1 20 rfl rfl)
theorem dJ11_compress_2_47 : decode cJ11_compress_2 47 = .ok (.iinc 5 1, 3) := dk_132 5 1 (dk_at dksJ11_compress_2_2 0 rfl rfl)
theorem dJ11_compress_2_50 : decode cJ11_compress_2 50 = .ok (.goto (-40), 3) := dk_167 255 216 (dk_at dksJ11_compress_2_2 3 rfl rfl)
theorem dJ11_compress_2_53 : decode cJ11_compress_2 53 = .ok (.iload 4, 2) := dk_21 4 (dk_at dksJ11_compress_2_2 6 rfl rfl)
theorem dJ11_compress_2_55 : decode cJ11_compress_2 55 = .ok (.ireturn, 1) := dk_172 (dk_at dksJ11_compress_2_2 8 rfl rfl)
abbrev cJ11_getChar : ByteArray := prog_43_method_5_code
def yJ11_getChar : MethodName := ⟨RJ11, "getChar", "([BI)C"⟩
def dkwJ11_getChar_2 : List UInt8 := [51, 17, 0, 255, 126, 178, 0, 63, 120, 128, 146, 172]
abbrev dktJ11_getChar_2 : List UInt8 := dkwJ11_getChar_2 ++ []
def dkwJ11_getChar_1 : List UInt8 := [183, 0, 56, 191, 27, 4, 120, 60, 42, 27, 132, 1, 1, 51, 17, 0, 255, 126, 178, 0, 59, 120, 42, 27]
abbrev dktJ11_getChar_1 : List UInt8 := dkwJ11_getChar_1 ++ dktJ11_getChar_2
def dkwJ11_getChar_0 : List UInt8 := [178, 0, 44, 154, 0, 25, 27, 155, 0, 11, 27, 42, 184, 0, 48, 161, 0, 13, 187, 0, 52, 89, 18, 54]
abbrev dktJ11_getChar_0 : List UInt8 := dkwJ11_getChar_0 ++ dktJ11_getChar_1
theorem dksJ11_getChar_0 : cJ11_getChar.data.toList.drop 0 = dktJ11_getChar_0 := by decide +kernel
theorem dksJ11_getChar_1 : cJ11_getChar.data.toList.drop 24 = dktJ11_getChar_1 := dk_seg dksJ11_getChar_0 24 rfl rfl
theorem dksJ11_getChar_2 : cJ11_getChar.data.toList.drop 48 = dktJ11_getChar_2 := dk_seg dksJ11_getChar_1 24 rfl rfl
theorem dJ11_getChar_0 : decode cJ11_getChar 0 = .ok (.getstatic 44, 3) := dk_178 0 44 (dk_at dksJ11_getChar_0 0 rfl rfl)
theorem dJ11_getChar_3 : decode cJ11_getChar 3 = .ok (.ifCond .ne 25, 3) := dk_154 0 25 (dk_at dksJ11_getChar_0 3 rfl rfl)
theorem dJ11_getChar_6 : decode cJ11_getChar 6 = .ok (.iload_n 1, 1) := dk_27 (dk_at dksJ11_getChar_0 6 rfl rfl)
theorem dJ11_getChar_7 : decode cJ11_getChar 7 = .ok (.ifCond .lt 11, 3) := dk_155 0 11 (dk_at dksJ11_getChar_0 7 rfl rfl)
theorem dJ11_getChar_10 : decode cJ11_getChar 10 = .ok (.iload_n 1, 1) := dk_27 (dk_at dksJ11_getChar_0 10 rfl rfl)
theorem dJ11_getChar_11 : decode cJ11_getChar 11 = .ok (.aload_n 0, 1) := dk_42 (dk_at dksJ11_getChar_0 11 rfl rfl)
theorem dJ11_getChar_12 : decode cJ11_getChar 12 = .ok (.invokestatic 48, 3) := dk_184 0 48 (dk_at dksJ11_getChar_0 12 rfl rfl)
theorem dJ11_getChar_15 : decode cJ11_getChar 15 = .ok (.if_icmp .lt 13, 3) := dk_161 0 13 (dk_at dksJ11_getChar_0 15 rfl rfl)
theorem dJ11_getChar_18 : decode cJ11_getChar 18 = .ok (.new 52, 3) := dk_187 0 52 (dk_at dksJ11_getChar_0 18 rfl rfl)
theorem dJ11_getChar_21 : decode cJ11_getChar 21 = .ok (.dup, 1) := dk_89 (dk_at dksJ11_getChar_0 21 rfl rfl)
theorem dJ11_getChar_22 : decode cJ11_getChar 22 = .ok (.ldc 54, 2) := dk_18 54 (dk_at dksJ11_getChar_0 22 rfl rfl)
theorem dJ11_getChar_24 : decode cJ11_getChar 24 = .ok (.invokespecial 56, 3) := dk_183 0 56 (dk_at dksJ11_getChar_1 0 rfl rfl)
theorem dJ11_getChar_27 : decode cJ11_getChar 27 = .ok (.athrow, 1) := dk_191 (dk_at dksJ11_getChar_1 3 rfl rfl)
theorem dJ11_getChar_28 : decode cJ11_getChar 28 = .ok (.iload_n 1, 1) := dk_27 (dk_at dksJ11_getChar_1 4 rfl rfl)
theorem dJ11_getChar_29 : decode cJ11_getChar 29 = .ok (.iconst 1, 1) := dk_4 (dk_at dksJ11_getChar_1 5 rfl rfl)
theorem dJ11_getChar_30 : decode cJ11_getChar 30 = .ok (.ishl, 1) := dk_120 (dk_at dksJ11_getChar_1 6 rfl rfl)
theorem dJ11_getChar_31 : decode cJ11_getChar 31 = .ok (.istore_n 1, 1) := dk_60 (dk_at dksJ11_getChar_1 7 rfl rfl)
theorem dJ11_getChar_32 : decode cJ11_getChar 32 = .ok (.aload_n 0, 1) := dk_42 (dk_at dksJ11_getChar_1 8 rfl rfl)
theorem dJ11_getChar_33 : decode cJ11_getChar 33 = .ok (.iload_n 1, 1) := dk_27 (dk_at dksJ11_getChar_1 9 rfl rfl)
theorem dJ11_getChar_34 : decode cJ11_getChar 34 = .ok (.iinc 1 1, 3) := dk_132 1 1 (dk_at dksJ11_getChar_1 10 rfl rfl)
theorem dJ11_getChar_37 : decode cJ11_getChar 37 = .ok (.baload, 1) := dk_51 (dk_at dksJ11_getChar_1 13 rfl rfl)
theorem dJ11_getChar_38 : decode cJ11_getChar 38 = .ok (.sipush 255, 3) := dk_17 0 255 (dk_at dksJ11_getChar_1 14 rfl rfl)
theorem dJ11_getChar_41 : decode cJ11_getChar 41 = .ok (.iand, 1) := dk_126 (dk_at dksJ11_getChar_1 17 rfl rfl)
theorem dJ11_getChar_42 : decode cJ11_getChar 42 = .ok (.getstatic 59, 3) := dk_178 0 59 (dk_at dksJ11_getChar_1 18 rfl rfl)
theorem dJ11_getChar_45 : decode cJ11_getChar 45 = .ok (.ishl, 1) := dk_120 (dk_at dksJ11_getChar_1 21 rfl rfl)
theorem dJ11_getChar_46 : decode cJ11_getChar 46 = .ok (.aload_n 0, 1) := dk_42 (dk_at dksJ11_getChar_1 22 rfl rfl)
theorem dJ11_getChar_47 : decode cJ11_getChar 47 = .ok (.iload_n 1, 1) := dk_27 (dk_at dksJ11_getChar_1 23 rfl rfl)
theorem dJ11_getChar_48 : decode cJ11_getChar 48 = .ok (.baload, 1) := dk_51 (dk_at dksJ11_getChar_2 0 rfl rfl)
theorem dJ11_getChar_49 : decode cJ11_getChar 49 = .ok (.sipush 255, 3) := dk_17 0 255 (dk_at dksJ11_getChar_2 1 rfl rfl)
theorem dJ11_getChar_52 : decode cJ11_getChar 52 = .ok (.iand, 1) := dk_126 (dk_at dksJ11_getChar_2 4 rfl rfl)
theorem dJ11_getChar_53 : decode cJ11_getChar 53 = .ok (.getstatic 63, 3) := dk_178 0 63 (dk_at dksJ11_getChar_2 5 rfl rfl)
theorem dJ11_getChar_56 : decode cJ11_getChar 56 = .ok (.ishl, 1) := dk_120 (dk_at dksJ11_getChar_2 8 rfl rfl)
theorem dJ11_getChar_57 : decode cJ11_getChar 57 = .ok (.ior, 1) := dk_128 (dk_at dksJ11_getChar_2 9 rfl rfl)
theorem dJ11_getChar_58 : decode cJ11_getChar 58 = .ok (.i2c, 1) := dk_146 (dk_at dksJ11_getChar_2 10 rfl rfl)
theorem dJ11_getChar_59 : decode cJ11_getChar 59 = .ok (.ireturn, 1) := dk_172 (dk_at dksJ11_getChar_2 11 rfl rfl)
abbrev cJ11_coderFromArrayLen : ByteArray := prog_43_method_15_code
def yJ11_coderFromArrayLen : MethodName := ⟨RJ11, "coderFromArrayLen", "([BI)B"⟩
def dkwJ11_coderFromArrayLen_0 : List UInt8 := [27, 42, 190, 100, 16, 31, 124, 145, 172]
abbrev dktJ11_coderFromArrayLen_0 : List UInt8 := dkwJ11_coderFromArrayLen_0 ++ []
theorem dksJ11_coderFromArrayLen_0 : cJ11_coderFromArrayLen.data.toList.drop 0 = dktJ11_coderFromArrayLen_0 := by decide +kernel
theorem dJ11_coderFromArrayLen_0 : decode cJ11_coderFromArrayLen 0 = .ok (.iload_n 1, 1) := dk_27 (dk_at dksJ11_coderFromArrayLen_0 0 rfl rfl)
theorem dJ11_coderFromArrayLen_1 : decode cJ11_coderFromArrayLen 1 = .ok (.aload_n 0, 1) := dk_42 (dk_at dksJ11_coderFromArrayLen_0 1 rfl rfl)
theorem dJ11_coderFromArrayLen_2 : decode cJ11_coderFromArrayLen 2 = .ok (.arraylength, 1) := dk_190 (dk_at dksJ11_coderFromArrayLen_0 2 rfl rfl)
theorem dJ11_coderFromArrayLen_3 : decode cJ11_coderFromArrayLen 3 = .ok (.isub, 1) := dk_100 (dk_at dksJ11_coderFromArrayLen_0 3 rfl rfl)
theorem dJ11_coderFromArrayLen_4 : decode cJ11_coderFromArrayLen 4 = .ok (.bipush 31, 2) := dk_16 31 (dk_at dksJ11_coderFromArrayLen_0 4 rfl rfl)
theorem dJ11_coderFromArrayLen_6 : decode cJ11_coderFromArrayLen 6 = .ok (.iushr, 1) := dk_124 (dk_at dksJ11_coderFromArrayLen_0 6 rfl rfl)
theorem dJ11_coderFromArrayLen_7 : decode cJ11_coderFromArrayLen 7 = .ok (.i2b, 1) := dk_145 (dk_at dksJ11_coderFromArrayLen_0 7 rfl rfl)
theorem dJ11_coderFromArrayLen_8 : decode cJ11_coderFromArrayLen 8 = .ok (.ireturn, 1) := dk_172 (dk_at dksJ11_coderFromArrayLen_0 8 rfl rfl)
abbrev cJ11_hashCode : ByteArray := prog_43_method_39_code
def yJ11_hashCode : MethodName := ⟨RJ11, "hashCode", "([B)I"⟩
def dkwJ11_hashCode_2 : List UInt8 := [3, 167, 0, 22, 42, 3, 184, 0, 71, 167, 0, 14, 42, 3, 42, 190, 4, 122, 3, 8, 184, 0, 220, 172]
abbrev dktJ11_hashCode_2 : List UInt8 := dkwJ11_hashCode_2 ++ []
def dkwJ11_hashCode_1 : List UInt8 := [171, 0, 0, 0, 0, 38, 0, 0, 0, 2, 0, 0, 0, 0, 0, 0, 0, 26, 0, 0, 0, 2, 0, 0, 0, 30]
abbrev dktJ11_hashCode_1 : List UInt8 := dkwJ11_hashCode_1 ++ dktJ11_hashCode_2
def dkwJ11_hashCode_0 : List UInt8 := [42, 190]
abbrev dktJ11_hashCode_0 : List UInt8 := dkwJ11_hashCode_0 ++ dktJ11_hashCode_1
theorem dksJ11_hashCode_0 : cJ11_hashCode.data.toList.drop 0 = dktJ11_hashCode_0 := by decide +kernel
theorem dksJ11_hashCode_1 : cJ11_hashCode.data.toList.drop 2 = dktJ11_hashCode_1 := dk_seg dksJ11_hashCode_0 2 rfl rfl
theorem dksJ11_hashCode_2 : cJ11_hashCode.data.toList.drop 28 = dktJ11_hashCode_2 := dk_seg dksJ11_hashCode_1 26 rfl rfl
theorem dJ11_hashCode_0 : decode cJ11_hashCode 0 = .ok (.aload_n 0, 1) := dk_42 (dk_at dksJ11_hashCode_0 0 rfl rfl)
theorem dJ11_hashCode_1 : decode cJ11_hashCode 1 = .ok (.arraylength, 1) := dk_190 (dk_at dksJ11_hashCode_0 1 rfl rfl)
theorem dJ11_hashCode_2 : decode cJ11_hashCode 2 = .ok (.lookupswitch 38 #[(0, 26), (2, 30)], 26) := by decide +kernel
theorem dJ11_hashCode_28 : decode cJ11_hashCode 28 = .ok (.iconst 0, 1) := dk_3 (dk_at dksJ11_hashCode_2 0 rfl rfl)
theorem dJ11_hashCode_29 : decode cJ11_hashCode 29 = .ok (.goto 22, 3) := dk_167 0 22 (dk_at dksJ11_hashCode_2 1 rfl rfl)
theorem dJ11_hashCode_32 : decode cJ11_hashCode 32 = .ok (.aload_n 0, 1) := dk_42 (dk_at dksJ11_hashCode_2 4 rfl rfl)
theorem dJ11_hashCode_33 : decode cJ11_hashCode 33 = .ok (.iconst 0, 1) := dk_3 (dk_at dksJ11_hashCode_2 5 rfl rfl)
theorem dJ11_hashCode_34 : decode cJ11_hashCode 34 = .ok (.invokestatic 71, 3) := dk_184 0 71 (dk_at dksJ11_hashCode_2 6 rfl rfl)
theorem dJ11_hashCode_37 : decode cJ11_hashCode 37 = .ok (.goto 14, 3) := dk_167 0 14 (dk_at dksJ11_hashCode_2 9 rfl rfl)
theorem dJ11_hashCode_40 : decode cJ11_hashCode 40 = .ok (.aload_n 0, 1) := dk_42 (dk_at dksJ11_hashCode_2 12 rfl rfl)
theorem dJ11_hashCode_41 : decode cJ11_hashCode 41 = .ok (.iconst 0, 1) := dk_3 (dk_at dksJ11_hashCode_2 13 rfl rfl)
theorem dJ11_hashCode_42 : decode cJ11_hashCode 42 = .ok (.aload_n 0, 1) := dk_42 (dk_at dksJ11_hashCode_2 14 rfl rfl)
theorem dJ11_hashCode_43 : decode cJ11_hashCode 43 = .ok (.arraylength, 1) := dk_190 (dk_at dksJ11_hashCode_2 15 rfl rfl)
theorem dJ11_hashCode_44 : decode cJ11_hashCode 44 = .ok (.iconst 1, 1) := dk_4 (dk_at dksJ11_hashCode_2 16 rfl rfl)
theorem dJ11_hashCode_45 : decode cJ11_hashCode 45 = .ok (.ishr, 1) := dk_122 (dk_at dksJ11_hashCode_2 17 rfl rfl)
theorem dJ11_hashCode_46 : decode cJ11_hashCode 46 = .ok (.iconst 0, 1) := dk_3 (dk_at dksJ11_hashCode_2 18 rfl rfl)
theorem dJ11_hashCode_47 : decode cJ11_hashCode 47 = .ok (.iconst 5, 1) := dk_8 (dk_at dksJ11_hashCode_2 19 rfl rfl)
theorem dJ11_hashCode_48 : decode cJ11_hashCode 48 = .ok (.invokestatic 220, 3) := dk_184 0 220 (dk_at dksJ11_hashCode_2 20 rfl rfl)
theorem dJ11_hashCode_51 : decode cJ11_hashCode 51 = .ok (.ireturn, 1) := dk_172 (dk_at dksJ11_hashCode_2 23 rfl rfl)
abbrev cJ11_charAt : ByteArray := prog_43_method_83_code
def yJ11_charAt : MethodName := ⟨RJ11, "charAt", "([BI)C"⟩
def dkwJ11_charAt_0 : List UInt8 := [27, 42, 184, 0, 67, 42, 27, 184, 0, 71, 172]
abbrev dktJ11_charAt_0 : List UInt8 := dkwJ11_charAt_0 ++ []
theorem dksJ11_charAt_0 : cJ11_charAt.data.toList.drop 0 = dktJ11_charAt_0 := by decide +kernel
theorem dJ11_charAt_0 : decode cJ11_charAt 0 = .ok (.iload_n 1, 1) := dk_27 (dk_at dksJ11_charAt_0 0 rfl rfl)
theorem dJ11_charAt_1 : decode cJ11_charAt 1 = .ok (.aload_n 0, 1) := dk_42 (dk_at dksJ11_charAt_0 1 rfl rfl)
theorem dJ11_charAt_2 : decode cJ11_charAt 2 = .ok (.invokestatic 67, 3) := dk_184 0 67 (dk_at dksJ11_charAt_0 2 rfl rfl)
theorem dJ11_charAt_5 : decode cJ11_charAt 5 = .ok (.aload_n 0, 1) := dk_42 (dk_at dksJ11_charAt_0 5 rfl rfl)
theorem dJ11_charAt_6 : decode cJ11_charAt 6 = .ok (.iload_n 1, 1) := dk_27 (dk_at dksJ11_charAt_0 6 rfl rfl)
theorem dJ11_charAt_7 : decode cJ11_charAt 7 = .ok (.invokestatic 71, 3) := dk_184 0 71 (dk_at dksJ11_charAt_0 7 rfl rfl)
theorem dJ11_charAt_10 : decode cJ11_charAt 10 = .ok (.ireturn, 1) := dk_172 (dk_at dksJ11_charAt_0 10 rfl rfl)
theorem q104 : (Jvm.Cond.initialized "java/lang/StringUTF16") ∈ lw_all := lw_g (lw_at lw_m1 22 rfl) rfl
theorem q818 : (Jvm.Cond.static ({ cls := "java/lang/StringUTF16", name := "newBytesFor", desc := "(I)[B" } : Jvm.MethodName)) ∈ lw_all := lw_g (lw_at lw_m4 16 rfl) rfl
theorem q819 : (Jvm.Cond.code ({ cls := "java/lang/StringUTF16", name := "newBytesFor", desc := "(I)[B" } : Jvm.MethodName) prog_43_method_2_code (1 : Nat) (Option.some (Jvm.ClassFile.FieldType.array Jvm.ClassFile.FieldType.byte))) ∈ lw_all := lw_g (lw_at lw_m4 17 rfl) rfl
theorem q820 : (Jvm.Cond.methodLink "java/lang/StringUTF16" (11 : Nat) ({ cls := "java/lang/StringUTF16", name := "newBytesLength", desc := "(I)I" } : Jvm.MethodName)) ∈ lw_all := lw_g (lw_at lw_m4 18 rfl) rfl
theorem q821 : (Jvm.Cond.static ({ cls := "java/lang/StringUTF16", name := "newBytesLength", desc := "(I)I" } : Jvm.MethodName)) ∈ lw_all := lw_g (lw_at lw_m4 19 rfl) rfl
theorem q822 : (Jvm.Cond.code ({ cls := "java/lang/StringUTF16", name := "newBytesLength", desc := "(I)I" } : Jvm.MethodName) prog_43_method_3_code (1 : Nat) (Option.some Jvm.ClassFile.FieldType.int)) ∈ lw_all := lw_g (lw_at lw_m4 20 rfl) rfl
theorem q823 : (Jvm.Cond.constant "java/lang/StringUTF16" (20 : Nat) (1073741823 : Int32)) ∈ lw_all := lw_g (lw_at lw_m4 21 rfl) rfl
theorem q880 : (Jvm.Cond.static ({ cls := "java/lang/StringUTF16", name := "inflate", desc := "([BI[BII)V" } : Jvm.MethodName)) ∈ lw_all := lw_g (lw_at lw_m4 78 rfl) rfl
theorem q881 : (Jvm.Cond.code ({ cls := "java/lang/StringUTF16", name := "inflate", desc := "([BI[BII)V" } : Jvm.MethodName) prog_43_method_86_code (6 : Nat) (Option.none : Option Jvm.ClassFile.FieldType)) ∈ lw_all := lw_g (lw_at lw_m4 79 rfl) rfl
theorem q882 : (Jvm.Cond.methodLink "java/lang/StringUTF16" (173 : Nat) ({ cls := "java/lang/StringUTF16", name := "checkBoundsOffCount", desc := "(II[B)V" } : Jvm.MethodName)) ∈ lw_all := lw_g (lw_at lw_m4 80 rfl) rfl
theorem q883 : (Jvm.Cond.static ({ cls := "java/lang/StringUTF16", name := "checkBoundsOffCount", desc := "(II[B)V" } : Jvm.MethodName)) ∈ lw_all := lw_g (lw_at lw_m4 81 rfl) rfl
theorem q884 : (Jvm.Cond.code ({ cls := "java/lang/StringUTF16", name := "checkBoundsOffCount", desc := "(II[B)V" } : Jvm.MethodName) prog_43_method_94_code (3 : Nat) (Option.none : Option Jvm.ClassFile.FieldType)) ∈ lw_all := lw_g (lw_at lw_m4 82 rfl) rfl
theorem q885 : (Jvm.Cond.methodLink "java/lang/StringUTF16" (48 : Nat) ({ cls := "java/lang/StringUTF16", name := "length", desc := "([B)I" } : Jvm.MethodName)) ∈ lw_all := lw_g (lw_at lw_m4 83 rfl) rfl
theorem q886 : (Jvm.Cond.static ({ cls := "java/lang/StringUTF16", name := "length", desc := "([B)I" } : Jvm.MethodName)) ∈ lw_all := lw_g (lw_at lw_m4 84 rfl) rfl
theorem q887 : (Jvm.Cond.code ({ cls := "java/lang/StringUTF16", name := "length", desc := "([B)I" } : Jvm.MethodName) prog_43_method_6_code (1 : Nat) (Option.some Jvm.ClassFile.FieldType.int)) ∈ lw_all := lw_g (lw_at lw_m4 85 rfl) rfl
theorem q888 : (Jvm.Cond.methodLink "java/lang/StringUTF16" (419 : Nat) ({ cls := "java/lang/String", name := "checkBoundsOffCount", desc := "(III)I" } : Jvm.MethodName)) ∈ lw_all := lw_g (lw_at lw_m4 86 rfl) rfl
theorem q896 : (Jvm.Cond.methodLink "java/lang/StringUTF16" (111 : Nat) ({ cls := "java/lang/StringUTF16", name := "putChar", desc := "([BII)V" } : Jvm.MethodName)) ∈ lw_all := lw_g (lw_at lw_m4 94 rfl) rfl
theorem q897 : (Jvm.Cond.static ({ cls := "java/lang/StringUTF16", name := "putChar", desc := "([BII)V" } : Jvm.MethodName)) ∈ lw_all := lw_g (lw_at lw_m4 95 rfl) rfl
theorem q898 : (Jvm.Cond.code ({ cls := "java/lang/StringUTF16", name := "putChar", desc := "([BII)V" } : Jvm.MethodName) prog_43_method_4_code (3 : Nat) (Option.none : Option Jvm.ClassFile.FieldType)) ∈ lw_all := lw_g (lw_at lw_m4 96 rfl) rfl
theorem q899 : (Jvm.Cond.fieldLink "java/lang/StringUTF16" (44 : Nat) "java/lang/StringUTF16" "$assertionsDisabled" "Z") ∈ lw_all := lw_g (lw_at lw_m4 97 rfl) rfl
theorem q900 : (Jvm.Cond.laysStatic "java/lang/StringUTF16" "$assertionsDisabled" "Z") ∈ lw_tbl := lw_at lw_m4 98 rfl
theorem q901 : (Jvm.Cond.fieldLink "java/lang/StringUTF16" (59 : Nat) "java/lang/StringUTF16" "HI_BYTE_SHIFT" "I") ∈ lw_all := lw_g (lw_at lw_m4 99 rfl) rfl
theorem q902 : (Jvm.Cond.laysStatic "java/lang/StringUTF16" "HI_BYTE_SHIFT" "I") ∈ lw_tbl := lw_at lw_m4 100 rfl
theorem q903 : (Jvm.Cond.fieldLink "java/lang/StringUTF16" (63 : Nat) "java/lang/StringUTF16" "LO_BYTE_SHIFT" "I") ∈ lw_all := lw_g (lw_at lw_m4 101 rfl) rfl
theorem q904 : (Jvm.Cond.laysStatic "java/lang/StringUTF16" "LO_BYTE_SHIFT" "I") ∈ lw_tbl := lw_at lw_m4 102 rfl
theorem q906 : (Jvm.Cond.static ({ cls := "java/lang/StringUTF16", name := "putCharSB", desc := "([BII)V" } : Jvm.MethodName)) ∈ lw_all := lw_g (lw_at lw_m4 104 rfl) rfl
theorem q907 : (Jvm.Cond.code ({ cls := "java/lang/StringUTF16", name := "putCharSB", desc := "([BII)V" } : Jvm.MethodName) prog_43_method_71_code (3 : Nat) (Option.none : Option Jvm.ClassFile.FieldType)) ∈ lw_all := lw_g (lw_at lw_m4 105 rfl) rfl
theorem q908 : (Jvm.Cond.methodLink "java/lang/StringUTF16" (67 : Nat) ({ cls := "java/lang/StringUTF16", name := "checkIndex", desc := "(I[B)V" } : Jvm.MethodName)) ∈ lw_all := lw_g (lw_at lw_m4 106 rfl) rfl
theorem q909 : (Jvm.Cond.static ({ cls := "java/lang/StringUTF16", name := "checkIndex", desc := "(I[B)V" } : Jvm.MethodName)) ∈ lw_all := lw_g (lw_at lw_m4 107 rfl) rfl
theorem q910 : (Jvm.Cond.code ({ cls := "java/lang/StringUTF16", name := "checkIndex", desc := "(I[B)V" } : Jvm.MethodName) prog_43_method_91_code (2 : Nat) (Option.none : Option Jvm.ClassFile.FieldType)) ∈ lw_all := lw_g (lw_at lw_m4 108 rfl) rfl
theorem q911 : (Jvm.Cond.methodLink "java/lang/StringUTF16" (414 : Nat) ({ cls := "java/lang/String", name := "checkIndex", desc := "(II)V" } : Jvm.MethodName)) ∈ lw_all := lw_g (lw_at lw_m4 109 rfl) rfl
theorem q1015 : (Jvm.Cond.static ({ cls := "java/lang/StringUTF16", name := "getChars", desc := "(III[B)I" } : Jvm.MethodName)) ∈ lw_all := lw_g (lw_at lw_m4 213 rfl) rfl
theorem q1016 : (Jvm.Cond.code ({ cls := "java/lang/StringUTF16", name := "getChars", desc := "(III[B)I" } : Jvm.MethodName) prog_43_method_77_code (5 : Nat) (Option.some Jvm.ClassFile.FieldType.int)) ∈ lw_all := lw_g (lw_at lw_m4 214 rfl) rfl
theorem q1017 : (Jvm.Cond.methodLink "java/lang/StringUTF16" (96 : Nat) ({ cls := "java/lang/StringUTF16", name := "checkBoundsBeginEnd", desc := "(II[B)V" } : Jvm.MethodName)) ∈ lw_all := lw_g (lw_at lw_m4 215 rfl) rfl
theorem q1018 : (Jvm.Cond.static ({ cls := "java/lang/StringUTF16", name := "checkBoundsBeginEnd", desc := "(II[B)V" } : Jvm.MethodName)) ∈ lw_all := lw_g (lw_at lw_m4 216 rfl) rfl
theorem q1019 : (Jvm.Cond.code ({ cls := "java/lang/StringUTF16", name := "checkBoundsBeginEnd", desc := "(II[B)V" } : Jvm.MethodName) prog_43_method_93_code (3 : Nat) (Option.none : Option Jvm.ClassFile.FieldType)) ∈ lw_all := lw_g (lw_at lw_m4 217 rfl) rfl
theorem q1020 : (Jvm.Cond.methodLink "java/lang/StringUTF16" (241 : Nat) ({ cls := "java/lang/String", name := "checkBoundsBeginEnd", desc := "(III)V" } : Jvm.MethodName)) ∈ lw_all := lw_g (lw_at lw_m4 218 rfl) rfl
theorem q1026 : (Jvm.Cond.methodLink "java/lang/StringUTF16" (393 : Nat) ({ cls := "java/lang/StringUTF16", name := "getChars", desc := "(II[B)I" } : Jvm.MethodName)) ∈ lw_all := lw_g (lw_at lw_m4 224 rfl) rfl
theorem q1027 : (Jvm.Cond.static ({ cls := "java/lang/StringUTF16", name := "getChars", desc := "(II[B)I" } : Jvm.MethodName)) ∈ lw_all := lw_g (lw_at lw_m4 225 rfl) rfl
theorem q1028 : (Jvm.Cond.code ({ cls := "java/lang/StringUTF16", name := "getChars", desc := "(II[B)I" } : Jvm.MethodName) prog_43_method_89_code (7 : Nat) (Option.some Jvm.ClassFile.FieldType.int)) ∈ lw_all := lw_g (lw_at lw_m4 226 rfl) rfl
theorem q1029 : (Jvm.Cond.fieldLink "java/lang/StringUTF16" (403 : Nat) "java/lang/Integer" "DigitOnes" "[B") ∈ lw_all := lw_g (lw_at lw_m4 227 rfl) rfl
theorem q1030 : (Jvm.Cond.fieldLink "java/lang/StringUTF16" (407 : Nat) "java/lang/Integer" "DigitTens" "[B") ∈ lw_all := lw_g (lw_at lw_m4 228 rfl) rfl
theorem q1044 : (Jvm.Cond.static ({ cls := "java/lang/StringUTF16", name := "putCharsAt", desc := "([BICCCC)I" } : Jvm.MethodName)) ∈ lw_all := lw_g (lw_at lw_m5 2 rfl) rfl
theorem q1045 : (Jvm.Cond.code ({ cls := "java/lang/StringUTF16", name := "putCharsAt", desc := "([BICCCC)I" } : Jvm.MethodName) prog_43_method_81_code (7 : Nat) (Option.some Jvm.ClassFile.FieldType.int)) ∈ lw_all := lw_g (lw_at lw_m5 3 rfl) rfl
theorem q1097 : (Jvm.Cond.static ({ cls := "java/lang/StringUTF16", name := "compress", desc := "([BII)[B" } : Jvm.MethodName)) ∈ lw_all := lw_g (lw_at lw_m5 55 rfl) rfl
theorem q1098 : (Jvm.Cond.code ({ cls := "java/lang/StringUTF16", name := "compress", desc := "([BII)[B" } : Jvm.MethodName) prog_43_method_17_code (6 : Nat) (Option.some (Jvm.ClassFile.FieldType.array Jvm.ClassFile.FieldType.byte))) ∈ lw_all := lw_g (lw_at lw_m5 56 rfl) rfl
theorem q1099 : (Jvm.Cond.methodLink "java/lang/StringUTF16" (123 : Nat) ({ cls := "java/lang/StringUTF16", name := "compress", desc := "([BI[BII)I" } : Jvm.MethodName)) ∈ lw_all := lw_g (lw_at lw_m5 57 rfl) rfl
theorem q1100 : (Jvm.Cond.static ({ cls := "java/lang/StringUTF16", name := "compress", desc := "([BI[BII)I" } : Jvm.MethodName)) ∈ lw_all := lw_g (lw_at lw_m5 58 rfl) rfl
theorem q1101 : (Jvm.Cond.code ({ cls := "java/lang/StringUTF16", name := "compress", desc := "([BI[BII)I" } : Jvm.MethodName) prog_43_method_22_code (7 : Nat) (Option.some Jvm.ClassFile.FieldType.int)) ∈ lw_all := lw_g (lw_at lw_m5 59 rfl) rfl
theorem q1102 : (Jvm.Cond.methodLink "java/lang/StringUTF16" (71 : Nat) ({ cls := "java/lang/StringUTF16", name := "getChar", desc := "([BI)C" } : Jvm.MethodName)) ∈ lw_all := lw_g (lw_at lw_m5 60 rfl) rfl
theorem q1103 : (Jvm.Cond.static ({ cls := "java/lang/StringUTF16", name := "getChar", desc := "([BI)C" } : Jvm.MethodName)) ∈ lw_all := lw_g (lw_at lw_m5 61 rfl) rfl
theorem q1104 : (Jvm.Cond.code ({ cls := "java/lang/StringUTF16", name := "getChar", desc := "([BI)C" } : Jvm.MethodName) prog_43_method_5_code (2 : Nat) (Option.some Jvm.ClassFile.FieldType.char)) ∈ lw_all := lw_g (lw_at lw_m5 62 rfl) rfl
theorem q1105 : (Jvm.Cond.methodLink "java/lang/StringUTF16" (126 : Nat) ({ cls := "java/util/Arrays", name := "copyOfRange", desc := "([BII)[B" } : Jvm.MethodName)) ∈ lw_all := lw_g (lw_at lw_m5 63 rfl) rfl
theorem q1107 : (Jvm.Cond.static ({ cls := "java/lang/StringUTF16", name := "coderFromArrayLen", desc := "([BI)B" } : Jvm.MethodName)) ∈ lw_all := lw_g (lw_at lw_m5 65 rfl) rfl
theorem q1108 : (Jvm.Cond.code ({ cls := "java/lang/StringUTF16", name := "coderFromArrayLen", desc := "([BI)B" } : Jvm.MethodName) prog_43_method_15_code (2 : Nat) (Option.some Jvm.ClassFile.FieldType.byte)) ∈ lw_all := lw_g (lw_at lw_m5 66 rfl) rfl
theorem q1208 : (Jvm.Cond.static ({ cls := "java/lang/StringUTF16", name := "hashCode", desc := "([B)I" } : Jvm.MethodName)) ∈ lw_all := lw_g (lw_at lw_m5 166 rfl) rfl
theorem q1209 : (Jvm.Cond.code ({ cls := "java/lang/StringUTF16", name := "hashCode", desc := "([B)I" } : Jvm.MethodName) prog_43_method_39_code (1 : Nat) (Option.some Jvm.ClassFile.FieldType.int)) ∈ lw_all := lw_g (lw_at lw_m5 167 rfl) rfl
theorem q1210 : (Jvm.Cond.methodLink "java/lang/StringUTF16" (220 : Nat) ({ cls := "jdk/internal/util/ArraysSupport", name := "vectorizedHashCode", desc := "(Ljava/lang/Object;IIII)I" } : Jvm.MethodName)) ∈ lw_all := lw_g (lw_at lw_m5 168 rfl) rfl
theorem q1981 : (Jvm.Cond.static ({ cls := "java/lang/StringUTF16", name := "charAt", desc := "([BI)C" } : Jvm.MethodName)) ∈ lw_all := lw_g (lw_at lw_m8 219 rfl) rfl
theorem q1982 : (Jvm.Cond.code ({ cls := "java/lang/StringUTF16", name := "charAt", desc := "([BI)C" } : Jvm.MethodName) prog_43_method_83_code (2 : Nat) (Option.some Jvm.ClassFile.FieldType.char)) ∈ lw_all := lw_g (lw_at lw_m8 220 rfl) rfl
/-! java/lang/StringLatin1 -/
set_option maxRecDepth 100000
def RJ12 : String := "java/lang/StringLatin1"
abbrev cJ12_canEncode : ByteArray := prog_42_method_3_code
def yJ12_canEncode : MethodName := ⟨RJ12, "canEncode", "(C)Z"⟩
def dkwJ12_canEncode_0 : List UInt8 := [26, 17, 0, 255, 163, 0, 7, 4, 167, 0, 4, 3, 172]
abbrev dktJ12_canEncode_0 : List UInt8 := dkwJ12_canEncode_0 ++ []
theorem dksJ12_canEncode_0 : cJ12_canEncode.data.toList.drop 0 = dktJ12_canEncode_0 := by decide +kernel
theorem dJ12_canEncode_0 : decode cJ12_canEncode 0 = .ok (.iload_n 0, 1) := dk_26 (dk_at dksJ12_canEncode_0 0 rfl rfl)
theorem dJ12_canEncode_1 : decode cJ12_canEncode 1 = .ok (.sipush 255, 3) := dk_17 0 255 (dk_at dksJ12_canEncode_0 1 rfl rfl)
theorem dJ12_canEncode_4 : decode cJ12_canEncode 4 = .ok (.if_icmp .gt 7, 3) := dk_163 0 7 (dk_at dksJ12_canEncode_0 4 rfl rfl)
theorem dJ12_canEncode_7 : decode cJ12_canEncode 7 = .ok (.iconst 1, 1) := dk_4 (dk_at dksJ12_canEncode_0 7 rfl rfl)
theorem dJ12_canEncode_8 : decode cJ12_canEncode 8 = .ok (.goto 4, 3) := dk_167 0 4 (dk_at dksJ12_canEncode_0 8 rfl rfl)
theorem dJ12_canEncode_11 : decode cJ12_canEncode 11 = .ok (.iconst 0, 1) := dk_3 (dk_at dksJ12_canEncode_0 11 rfl rfl)
theorem dJ12_canEncode_12 : decode cJ12_canEncode 12 = .ok (.ireturn, 1) := dk_172 (dk_at dksJ12_canEncode_0 12 rfl rfl)
abbrev cJ12_inflate : ByteArray := prog_42_method_50_code
def yJ12_inflate : MethodName := ⟨RJ12, "inflate", "([BI[BII)V"⟩
def dkwJ12_inflate_0 : List UInt8 := [42, 27, 44, 29, 21, 4, 184, 0, 240, 177]
abbrev dktJ12_inflate_0 : List UInt8 := dkwJ12_inflate_0 ++ []
theorem dksJ12_inflate_0 : cJ12_inflate.data.toList.drop 0 = dktJ12_inflate_0 := by decide +kernel
theorem dJ12_inflate_0 : decode cJ12_inflate 0 = .ok (.aload_n 0, 1) := dk_42 (dk_at dksJ12_inflate_0 0 rfl rfl)
theorem dJ12_inflate_1 : decode cJ12_inflate 1 = .ok (.iload_n 1, 1) := dk_27 (dk_at dksJ12_inflate_0 1 rfl rfl)
theorem dJ12_inflate_2 : decode cJ12_inflate 2 = .ok (.aload_n 2, 1) := dk_44 (dk_at dksJ12_inflate_0 2 rfl rfl)
theorem dJ12_inflate_3 : decode cJ12_inflate 3 = .ok (.iload_n 3, 1) := dk_29 (dk_at dksJ12_inflate_0 3 rfl rfl)
theorem dJ12_inflate_4 : decode cJ12_inflate 4 = .ok (.iload 4, 2) := dk_21 4 (dk_at dksJ12_inflate_0 4 rfl rfl)
theorem dJ12_inflate_6 : decode cJ12_inflate 6 = .ok (.invokestatic 240, 3) := dk_184 0 240 (dk_at dksJ12_inflate_0 6 rfl rfl)
theorem dJ12_inflate_9 : decode cJ12_inflate 9 = .ok (.return_, 1) := dk_177 (dk_at dksJ12_inflate_0 9 rfl rfl)
abbrev cJ12_hashCode : ByteArray := prog_42_method_21_code
def yJ12_hashCode : MethodName := ⟨RJ12, "hashCode", "([B)I"⟩
def dkwJ12_hashCode_2 : List UInt8 := [3, 167, 0, 22, 42, 3, 51, 17, 0, 255, 126, 167, 0, 12, 42, 3, 42, 190, 3, 7, 184, 0, 84, 172]
abbrev dktJ12_hashCode_2 : List UInt8 := dkwJ12_hashCode_2 ++ []
def dkwJ12_hashCode_1 : List UInt8 := [171, 0, 0, 0, 0, 40, 0, 0, 0, 2, 0, 0, 0, 0, 0, 0, 0, 26, 0, 0, 0, 1, 0, 0, 0, 30]
abbrev dktJ12_hashCode_1 : List UInt8 := dkwJ12_hashCode_1 ++ dktJ12_hashCode_2
def dkwJ12_hashCode_0 : List UInt8 := [42, 190]
abbrev dktJ12_hashCode_0 : List UInt8 := dkwJ12_hashCode_0 ++ dktJ12_hashCode_1
theorem dksJ12_hashCode_0 : cJ12_hashCode.data.toList.drop 0 = dktJ12_hashCode_0 := by decide +kernel
theorem dksJ12_hashCode_1 : cJ12_hashCode.data.toList.drop 2 = dktJ12_hashCode_1 := dk_seg dksJ12_hashCode_0 2 rfl rfl
theorem dksJ12_hashCode_2 : cJ12_hashCode.data.toList.drop 28 = dktJ12_hashCode_2 := dk_seg dksJ12_hashCode_1 26 rfl rfl
theorem dJ12_hashCode_0 : decode cJ12_hashCode 0 = .ok (.aload_n 0, 1) := dk_42 (dk_at dksJ12_hashCode_0 0 rfl rfl)
theorem dJ12_hashCode_1 : decode cJ12_hashCode 1 = .ok (.arraylength, 1) := dk_190 (dk_at dksJ12_hashCode_0 1 rfl rfl)
theorem dJ12_hashCode_2 : decode cJ12_hashCode 2 = .ok (.lookupswitch 40 #[(0, 26), (1, 30)], 26) := by decide +kernel
theorem dJ12_hashCode_28 : decode cJ12_hashCode 28 = .ok (.iconst 0, 1) := dk_3 (dk_at dksJ12_hashCode_2 0 rfl rfl)
theorem dJ12_hashCode_29 : decode cJ12_hashCode 29 = .ok (.goto 22, 3) := dk_167 0 22 (dk_at dksJ12_hashCode_2 1 rfl rfl)
theorem dJ12_hashCode_32 : decode cJ12_hashCode 32 = .ok (.aload_n 0, 1) := dk_42 (dk_at dksJ12_hashCode_2 4 rfl rfl)
theorem dJ12_hashCode_33 : decode cJ12_hashCode 33 = .ok (.iconst 0, 1) := dk_3 (dk_at dksJ12_hashCode_2 5 rfl rfl)
theorem dJ12_hashCode_34 : decode cJ12_hashCode 34 = .ok (.baload, 1) := dk_51 (dk_at dksJ12_hashCode_2 6 rfl rfl)
theorem dJ12_hashCode_35 : decode cJ12_hashCode 35 = .ok (.sipush 255, 3) := dk_17 0 255 (dk_at dksJ12_hashCode_2 7 rfl rfl)
theorem dJ12_hashCode_38 : decode cJ12_hashCode 38 = .ok (.iand, 1) := dk_126 (dk_at dksJ12_hashCode_2 10 rfl rfl)
theorem dJ12_hashCode_39 : decode cJ12_hashCode 39 = .ok (.goto 12, 3) := dk_167 0 12 (dk_at dksJ12_hashCode_2 11 rfl rfl)
theorem dJ12_hashCode_42 : decode cJ12_hashCode 42 = .ok (.aload_n 0, 1) := dk_42 (dk_at dksJ12_hashCode_2 14 rfl rfl)
theorem dJ12_hashCode_43 : decode cJ12_hashCode 43 = .ok (.iconst 0, 1) := dk_3 (dk_at dksJ12_hashCode_2 15 rfl rfl)
theorem dJ12_hashCode_44 : decode cJ12_hashCode 44 = .ok (.aload_n 0, 1) := dk_42 (dk_at dksJ12_hashCode_2 16 rfl rfl)
theorem dJ12_hashCode_45 : decode cJ12_hashCode 45 = .ok (.arraylength, 1) := dk_190 (dk_at dksJ12_hashCode_2 17 rfl rfl)
theorem dJ12_hashCode_46 : decode cJ12_hashCode 46 = .ok (.iconst 0, 1) := dk_3 (dk_at dksJ12_hashCode_2 18 rfl rfl)
theorem dJ12_hashCode_47 : decode cJ12_hashCode 47 = .ok (.iconst 4, 1) := dk_7 (dk_at dksJ12_hashCode_2 19 rfl rfl)
theorem dJ12_hashCode_48 : decode cJ12_hashCode 48 = .ok (.invokestatic 84, 3) := dk_184 0 84 (dk_at dksJ12_hashCode_2 20 rfl rfl)
theorem dJ12_hashCode_51 : decode cJ12_hashCode 51 = .ok (.ireturn, 1) := dk_172 (dk_at dksJ12_hashCode_2 23 rfl rfl)
abbrev cJ12_equals : ByteArray := prog_42_method_13_code
def yJ12_equals : MethodName := ⟨RJ12, "equals", "([B[B)Z"⟩
def dkwJ12_equals_1 : List UInt8 := [3, 172, 132, 2, 1, 167, 255, 236, 4, 172, 3, 172]
abbrev dktJ12_equals_1 : List UInt8 := dkwJ12_equals_1 ++ []
def dkwJ12_equals_0 : List UInt8 := [42, 190, 43, 190, 160, 0, 30, 3, 61, 28, 42, 190, 162, 0, 20, 42, 28, 51, 43, 28, 51, 159, 0, 5]
abbrev dktJ12_equals_0 : List UInt8 := dkwJ12_equals_0 ++ dktJ12_equals_1
theorem dksJ12_equals_0 : cJ12_equals.data.toList.drop 0 = dktJ12_equals_0 := by decide +kernel
theorem dksJ12_equals_1 : cJ12_equals.data.toList.drop 24 = dktJ12_equals_1 := dk_seg dksJ12_equals_0 24 rfl rfl
theorem dJ12_equals_0 : decode cJ12_equals 0 = .ok (.aload_n 0, 1) := dk_42 (dk_at dksJ12_equals_0 0 rfl rfl)
theorem dJ12_equals_1 : decode cJ12_equals 1 = .ok (.arraylength, 1) := dk_190 (dk_at dksJ12_equals_0 1 rfl rfl)
theorem dJ12_equals_2 : decode cJ12_equals 2 = .ok (.aload_n 1, 1) := dk_43 (dk_at dksJ12_equals_0 2 rfl rfl)
theorem dJ12_equals_3 : decode cJ12_equals 3 = .ok (.arraylength, 1) := dk_190 (dk_at dksJ12_equals_0 3 rfl rfl)
theorem dJ12_equals_4 : decode cJ12_equals 4 = .ok (.if_icmp .ne 30, 3) := dk_160 0 30 (dk_at dksJ12_equals_0 4 rfl rfl)
theorem dJ12_equals_7 : decode cJ12_equals 7 = .ok (.iconst 0, 1) := dk_3 (dk_at dksJ12_equals_0 7 rfl rfl)
theorem dJ12_equals_8 : decode cJ12_equals 8 = .ok (.istore_n 2, 1) := dk_61 (dk_at dksJ12_equals_0 8 rfl rfl)
theorem dJ12_equals_9 : decode cJ12_equals 9 = .ok (.iload_n 2, 1) := dk_28 (dk_at dksJ12_equals_0 9 rfl rfl)
theorem dJ12_equals_10 : decode cJ12_equals 10 = .ok (.aload_n 0, 1) := dk_42 (dk_at dksJ12_equals_0 10 rfl rfl)
theorem dJ12_equals_11 : decode cJ12_equals 11 = .ok (.arraylength, 1) := dk_190 (dk_at dksJ12_equals_0 11 rfl rfl)
theorem dJ12_equals_12 : decode cJ12_equals 12 = .ok (.if_icmp .ge 20, 3) := dk_162 0 20 (dk_at dksJ12_equals_0 12 rfl rfl)
theorem dJ12_equals_15 : decode cJ12_equals 15 = .ok (.aload_n 0, 1) := dk_42 (dk_at dksJ12_equals_0 15 rfl rfl)
theorem dJ12_equals_16 : decode cJ12_equals 16 = .ok (.iload_n 2, 1) := dk_28 (dk_at dksJ12_equals_0 16 rfl rfl)
theorem dJ12_equals_17 : decode cJ12_equals 17 = .ok (.baload, 1) := dk_51 (dk_at dksJ12_equals_0 17 rfl rfl)
theorem dJ12_equals_18 : decode cJ12_equals 18 = .ok (.aload_n 1, 1) := dk_43 (dk_at dksJ12_equals_0 18 rfl rfl)
theorem dJ12_equals_19 : decode cJ12_equals 19 = .ok (.iload_n 2, 1) := dk_28 (dk_at dksJ12_equals_0 19 rfl rfl)
theorem dJ12_equals_20 : decode cJ12_equals 20 = .ok (.baload, 1) := dk_51 (dk_at dksJ12_equals_0 20 rfl rfl)
theorem dJ12_equals_21 : decode cJ12_equals 21 = .ok (.if_icmp .eq 5, 3) := dk_159 0 5 (dk_at dksJ12_equals_0 21 rfl rfl)
theorem dJ12_equals_24 : decode cJ12_equals 24 = .ok (.iconst 0, 1) := dk_3 (dk_at dksJ12_equals_1 0 rfl rfl)
theorem dJ12_equals_25 : decode cJ12_equals 25 = .ok (.ireturn, 1) := dk_172 (dk_at dksJ12_equals_1 1 rfl rfl)
theorem dJ12_equals_26 : decode cJ12_equals 26 = .ok (.iinc 2 1, 3) := dk_132 2 1 (dk_at dksJ12_equals_1 2 rfl rfl)
theorem dJ12_equals_29 : decode cJ12_equals 29 = .ok (.goto (-20), 3) := dk_167 255 236 (dk_at dksJ12_equals_1 5 rfl rfl)
theorem dJ12_equals_32 : decode cJ12_equals 32 = .ok (.iconst 1, 1) := dk_4 (dk_at dksJ12_equals_1 8 rfl rfl)
theorem dJ12_equals_33 : decode cJ12_equals 33 = .ok (.ireturn, 1) := dk_172 (dk_at dksJ12_equals_1 9 rfl rfl)
theorem dJ12_equals_34 : decode cJ12_equals 34 = .ok (.iconst 0, 1) := dk_3 (dk_at dksJ12_equals_1 10 rfl rfl)
theorem dJ12_equals_35 : decode cJ12_equals 35 = .ok (.ireturn, 1) := dk_172 (dk_at dksJ12_equals_1 11 rfl rfl)
abbrev cJ12_charAt : ByteArray := prog_42_method_2_code
def yJ12_charAt : MethodName := ⟨RJ12, "charAt", "([BI)C"⟩
def dkwJ12_charAt_0 : List UInt8 := [27, 42, 190, 184, 0, 9, 42, 27, 51, 17, 0, 255, 126, 146, 172]
abbrev dktJ12_charAt_0 : List UInt8 := dkwJ12_charAt_0 ++ []
theorem dksJ12_charAt_0 : cJ12_charAt.data.toList.drop 0 = dktJ12_charAt_0 := by decide +kernel
theorem dJ12_charAt_0 : decode cJ12_charAt 0 = .ok (.iload_n 1, 1) := dk_27 (dk_at dksJ12_charAt_0 0 rfl rfl)
theorem dJ12_charAt_1 : decode cJ12_charAt 1 = .ok (.aload_n 0, 1) := dk_42 (dk_at dksJ12_charAt_0 1 rfl rfl)
theorem dJ12_charAt_2 : decode cJ12_charAt 2 = .ok (.arraylength, 1) := dk_190 (dk_at dksJ12_charAt_0 2 rfl rfl)
theorem dJ12_charAt_3 : decode cJ12_charAt 3 = .ok (.invokestatic 9, 3) := dk_184 0 9 (dk_at dksJ12_charAt_0 3 rfl rfl)
theorem dJ12_charAt_6 : decode cJ12_charAt 6 = .ok (.aload_n 0, 1) := dk_42 (dk_at dksJ12_charAt_0 6 rfl rfl)
theorem dJ12_charAt_7 : decode cJ12_charAt 7 = .ok (.iload_n 1, 1) := dk_27 (dk_at dksJ12_charAt_0 7 rfl rfl)
theorem dJ12_charAt_8 : decode cJ12_charAt 8 = .ok (.baload, 1) := dk_51 (dk_at dksJ12_charAt_0 8 rfl rfl)
theorem dJ12_charAt_9 : decode cJ12_charAt 9 = .ok (.sipush 255, 3) := dk_17 0 255 (dk_at dksJ12_charAt_0 9 rfl rfl)
theorem dJ12_charAt_12 : decode cJ12_charAt 12 = .ok (.iand, 1) := dk_126 (dk_at dksJ12_charAt_0 12 rfl rfl)
theorem dJ12_charAt_13 : decode cJ12_charAt 13 = .ok (.i2c, 1) := dk_146 (dk_at dksJ12_charAt_0 13 rfl rfl)
theorem dJ12_charAt_14 : decode cJ12_charAt 14 = .ok (.ireturn, 1) := dk_172 (dk_at dksJ12_charAt_0 14 rfl rfl)
theorem q105 : (Jvm.Cond.initialized "java/lang/StringLatin1") ∈ lw_all := lw_g (lw_at lw_m1 23 rfl) rfl
theorem q870 : (Jvm.Cond.static ({ cls := "java/lang/StringLatin1", name := "canEncode", desc := "(C)Z" } : Jvm.MethodName)) ∈ lw_all := lw_g (lw_at lw_m4 68 rfl) rfl
theorem q871 : (Jvm.Cond.code ({ cls := "java/lang/StringLatin1", name := "canEncode", desc := "(C)Z" } : Jvm.MethodName) prog_42_method_3_code (1 : Nat) (Option.some Jvm.ClassFile.FieldType.boolean)) ∈ lw_all := lw_g (lw_at lw_m4 69 rfl) rfl
theorem q877 : (Jvm.Cond.static ({ cls := "java/lang/StringLatin1", name := "inflate", desc := "([BI[BII)V" } : Jvm.MethodName)) ∈ lw_all := lw_g (lw_at lw_m4 75 rfl) rfl
theorem q878 : (Jvm.Cond.code ({ cls := "java/lang/StringLatin1", name := "inflate", desc := "([BI[BII)V" } : Jvm.MethodName) prog_42_method_50_code (5 : Nat) (Option.none : Option Jvm.ClassFile.FieldType)) ∈ lw_all := lw_g (lw_at lw_m4 76 rfl) rfl
theorem q879 : (Jvm.Cond.methodLink "java/lang/StringLatin1" (240 : Nat) ({ cls := "java/lang/StringUTF16", name := "inflate", desc := "([BI[BII)V" } : Jvm.MethodName)) ∈ lw_all := lw_g (lw_at lw_m4 77 rfl) rfl
theorem q1159 : (Jvm.Cond.static ({ cls := "java/lang/StringLatin1", name := "hashCode", desc := "([B)I" } : Jvm.MethodName)) ∈ lw_all := lw_g (lw_at lw_m5 117 rfl) rfl
theorem q1160 : (Jvm.Cond.code ({ cls := "java/lang/StringLatin1", name := "hashCode", desc := "([B)I" } : Jvm.MethodName) prog_42_method_21_code (1 : Nat) (Option.some Jvm.ClassFile.FieldType.int)) ∈ lw_all := lw_g (lw_at lw_m5 118 rfl) rfl
theorem q1161 : (Jvm.Cond.methodLink "java/lang/StringLatin1" (84 : Nat) ({ cls := "jdk/internal/util/ArraysSupport", name := "vectorizedHashCode", desc := "(Ljava/lang/Object;IIII)I" } : Jvm.MethodName)) ∈ lw_all := lw_g (lw_at lw_m5 119 rfl) rfl
theorem q1218 : (Jvm.Cond.static ({ cls := "java/lang/StringLatin1", name := "equals", desc := "([B[B)Z" } : Jvm.MethodName)) ∈ lw_all := lw_g (lw_at lw_m5 176 rfl) rfl
theorem q1219 : (Jvm.Cond.code ({ cls := "java/lang/StringLatin1", name := "equals", desc := "([B[B)Z" } : Jvm.MethodName) prog_42_method_13_code (3 : Nat) (Option.some Jvm.ClassFile.FieldType.boolean)) ∈ lw_all := lw_g (lw_at lw_m5 177 rfl) rfl
theorem q1977 : (Jvm.Cond.static ({ cls := "java/lang/StringLatin1", name := "charAt", desc := "([BI)C" } : Jvm.MethodName)) ∈ lw_all := lw_g (lw_at lw_m8 215 rfl) rfl
theorem q1978 : (Jvm.Cond.code ({ cls := "java/lang/StringLatin1", name := "charAt", desc := "([BI)C" } : Jvm.MethodName) prog_42_method_2_code (2 : Nat) (Option.some Jvm.ClassFile.FieldType.char)) ∈ lw_all := lw_g (lw_at lw_m8 216 rfl) rfl
theorem q1979 : (Jvm.Cond.methodLink "java/lang/StringLatin1" (9 : Nat) ({ cls := "java/lang/String", name := "checkIndex", desc := "(II)V" } : Jvm.MethodName)) ∈ lw_all := lw_g (lw_at lw_m8 217 rfl) rfl
/-! java/lang/Throwable -/
set_option maxRecDepth 100000
def RJ13 : String := "java/lang/Throwable"
def TJ13 : u_T := fun k => match k with
  | 0 => ("java/lang/Throwable", "cause", "Ljava/lang/Throwable;", false)
  | 1 => ("java/lang/Throwable", "stackTrace", "[Ljava/lang/StackTraceElement;", false)
  | 2 => ("java/lang/Throwable", "suppressedExceptions", "Ljava/util/List;", false)
  | 3 => ("java/lang/Throwable", "detailMessage", "Ljava/lang/String;", false)
  | _ => ("java/lang/Throwable", "backtrace", "Ljava/lang/Object;", false)
def tyJ13 : Nat → FieldType := fun k => match k with
  | 0 => .object "java/lang/Throwable"
  | 1 => .array (.object "java/lang/StackTraceElement")
  | 2 => .object "java/util/List"
  | 3 => .object "java/lang/String"
  | _ => .object "java/lang/Object"
abbrev wsJ130 : List Cond := u_ws RJ13 TJ13 5
theorem nmJ13 : ∀ a, a < 5 → ∀ b, b < 5 → a ≠ b → (TJ13 a).2.1 ≠ (TJ13 b).2.1 := by decide +kernel
theorem tyJ13_ok : ∀ k, k < 5 → parseFieldDescriptor (TJ13 k).2.2.1 = some (tyJ13 k) := by decide +kernel
abbrev cJ13_init : ByteArray := prog_46_method_1_code
def yJ13_init : MethodName := ⟨RJ13, "<init>", "()V"⟩
def dkwJ13_init_1 : List UInt8 := [182, 0, 27, 87, 177]
abbrev dktJ13_init_1 : List UInt8 := dkwJ13_init_1 ++ []
def dkwJ13_init_0 : List UInt8 := [42, 183, 0, 1, 42, 42, 181, 0, 7, 42, 178, 0, 13, 181, 0, 17, 42, 178, 0, 20, 181, 0, 24, 42]
abbrev dktJ13_init_0 : List UInt8 := dkwJ13_init_0 ++ dktJ13_init_1
theorem dksJ13_init_0 : cJ13_init.data.toList.drop 0 = dktJ13_init_0 := by decide +kernel
theorem dksJ13_init_1 : cJ13_init.data.toList.drop 24 = dktJ13_init_1 := dk_seg dksJ13_init_0 24 rfl rfl
theorem dJ13_init_0 : decode cJ13_init 0 = .ok (.aload_n 0, 1) := dk_42 (dk_at dksJ13_init_0 0 rfl rfl)
theorem dJ13_init_1 : decode cJ13_init 1 = .ok (.invokespecial 1, 3) := dk_183 0 1 (dk_at dksJ13_init_0 1 rfl rfl)
theorem dJ13_init_4 : decode cJ13_init 4 = .ok (.aload_n 0, 1) := dk_42 (dk_at dksJ13_init_0 4 rfl rfl)
theorem dJ13_init_5 : decode cJ13_init 5 = .ok (.aload_n 0, 1) := dk_42 (dk_at dksJ13_init_0 5 rfl rfl)
theorem dJ13_init_6 : decode cJ13_init 6 = .ok (.putfield 7, 3) := dk_181 0 7 (dk_at dksJ13_init_0 6 rfl rfl)
theorem dJ13_init_9 : decode cJ13_init 9 = .ok (.aload_n 0, 1) := dk_42 (dk_at dksJ13_init_0 9 rfl rfl)
theorem dJ13_init_10 : decode cJ13_init 10 = .ok (.getstatic 13, 3) := dk_178 0 13 (dk_at dksJ13_init_0 10 rfl rfl)
theorem dJ13_init_13 : decode cJ13_init 13 = .ok (.putfield 17, 3) := dk_181 0 17 (dk_at dksJ13_init_0 13 rfl rfl)
theorem dJ13_init_16 : decode cJ13_init 16 = .ok (.aload_n 0, 1) := dk_42 (dk_at dksJ13_init_0 16 rfl rfl)
theorem dJ13_init_17 : decode cJ13_init 17 = .ok (.getstatic 20, 3) := dk_178 0 20 (dk_at dksJ13_init_0 17 rfl rfl)
theorem dJ13_init_20 : decode cJ13_init 20 = .ok (.putfield 24, 3) := dk_181 0 24 (dk_at dksJ13_init_0 20 rfl rfl)
theorem dJ13_init_23 : decode cJ13_init 23 = .ok (.aload_n 0, 1) := dk_42 (dk_at dksJ13_init_0 23 rfl rfl)
theorem dJ13_init_24 : decode cJ13_init 24 = .ok (.invokevirtual 27, 3) := dk_182 0 27 (dk_at dksJ13_init_1 0 rfl rfl)
theorem dJ13_init_27 : decode cJ13_init 27 = .ok (.pop, 1) := dk_87 (dk_at dksJ13_init_1 3 rfl rfl)
theorem dJ13_init_28 : decode cJ13_init 28 = .ok (.return_, 1) := dk_177 (dk_at dksJ13_init_1 4 rfl rfl)
abbrev cJ13_init_2 : ByteArray := prog_46_method_2_code
def yJ13_init_2 : MethodName := ⟨RJ13, "<init>", "(Ljava/lang/String;)V"⟩
def dkwJ13_init_2_1 : List UInt8 := [182, 0, 27, 87, 42, 43, 181, 0, 31, 177]
abbrev dktJ13_init_2_1 : List UInt8 := dkwJ13_init_2_1 ++ []
def dkwJ13_init_2_0 : List UInt8 := [42, 183, 0, 1, 42, 42, 181, 0, 7, 42, 178, 0, 13, 181, 0, 17, 42, 178, 0, 20, 181, 0, 24, 42]
abbrev dktJ13_init_2_0 : List UInt8 := dkwJ13_init_2_0 ++ dktJ13_init_2_1
theorem dksJ13_init_2_0 : cJ13_init_2.data.toList.drop 0 = dktJ13_init_2_0 := by decide +kernel
theorem dksJ13_init_2_1 : cJ13_init_2.data.toList.drop 24 = dktJ13_init_2_1 := dk_seg dksJ13_init_2_0 24 rfl rfl
theorem dJ13_init_2_0 : decode cJ13_init_2 0 = .ok (.aload_n 0, 1) := dk_42 (dk_at dksJ13_init_2_0 0 rfl rfl)
theorem dJ13_init_2_1 : decode cJ13_init_2 1 = .ok (.invokespecial 1, 3) := dk_183 0 1 (dk_at dksJ13_init_2_0 1 rfl rfl)
theorem dJ13_init_2_4 : decode cJ13_init_2 4 = .ok (.aload_n 0, 1) := dk_42 (dk_at dksJ13_init_2_0 4 rfl rfl)
theorem dJ13_init_2_5 : decode cJ13_init_2 5 = .ok (.aload_n 0, 1) := dk_42 (dk_at dksJ13_init_2_0 5 rfl rfl)
theorem dJ13_init_2_6 : decode cJ13_init_2 6 = .ok (.putfield 7, 3) := dk_181 0 7 (dk_at dksJ13_init_2_0 6 rfl rfl)
theorem dJ13_init_2_9 : decode cJ13_init_2 9 = .ok (.aload_n 0, 1) := dk_42 (dk_at dksJ13_init_2_0 9 rfl rfl)
theorem dJ13_init_2_10 : decode cJ13_init_2 10 = .ok (.getstatic 13, 3) := dk_178 0 13 (dk_at dksJ13_init_2_0 10 rfl rfl)
theorem dJ13_init_2_13 : decode cJ13_init_2 13 = .ok (.putfield 17, 3) := dk_181 0 17 (dk_at dksJ13_init_2_0 13 rfl rfl)
theorem dJ13_init_2_16 : decode cJ13_init_2 16 = .ok (.aload_n 0, 1) := dk_42 (dk_at dksJ13_init_2_0 16 rfl rfl)
theorem dJ13_init_2_17 : decode cJ13_init_2 17 = .ok (.getstatic 20, 3) := dk_178 0 20 (dk_at dksJ13_init_2_0 17 rfl rfl)
theorem dJ13_init_2_20 : decode cJ13_init_2 20 = .ok (.putfield 24, 3) := dk_181 0 24 (dk_at dksJ13_init_2_0 20 rfl rfl)
theorem dJ13_init_2_23 : decode cJ13_init_2 23 = .ok (.aload_n 0, 1) := dk_42 (dk_at dksJ13_init_2_0 23 rfl rfl)
theorem dJ13_init_2_24 : decode cJ13_init_2 24 = .ok (.invokevirtual 27, 3) := dk_182 0 27 (dk_at dksJ13_init_2_1 0 rfl rfl)
theorem dJ13_init_2_27 : decode cJ13_init_2 27 = .ok (.pop, 1) := dk_87 (dk_at dksJ13_init_2_1 3 rfl rfl)
theorem dJ13_init_2_28 : decode cJ13_init_2 28 = .ok (.aload_n 0, 1) := dk_42 (dk_at dksJ13_init_2_1 4 rfl rfl)
theorem dJ13_init_2_29 : decode cJ13_init_2 29 = .ok (.aload_n 1, 1) := dk_43 (dk_at dksJ13_init_2_1 5 rfl rfl)
theorem dJ13_init_2_30 : decode cJ13_init_2 30 = .ok (.putfield 31, 3) := dk_181 0 31 (dk_at dksJ13_init_2_1 6 rfl rfl)
theorem dJ13_init_2_33 : decode cJ13_init_2 33 = .ok (.return_, 1) := dk_177 (dk_at dksJ13_init_2_1 9 rfl rfl)
abbrev cJ13_init_3 : ByteArray := prog_46_method_5_code
def yJ13_init_3 : MethodName := ⟨RJ13, "<init>", "(Ljava/lang/String;Ljava/lang/Throwable;ZZ)V"⟩
def dkwJ13_init_3_2 : List UInt8 := [44, 181, 0, 7, 29, 154, 0, 8, 42, 1, 181, 0, 24, 177]
abbrev dktJ13_init_3_2 : List UInt8 := dkwJ13_init_3_2 ++ []
def dkwJ13_init_3_1 : List UInt8 := [21, 4, 153, 0, 11, 42, 182, 0, 27, 87, 167, 0, 8, 42, 1, 181, 0, 17, 42, 43, 181, 0, 31, 42]
abbrev dktJ13_init_3_1 : List UInt8 := dkwJ13_init_3_1 ++ dktJ13_init_3_2
def dkwJ13_init_3_0 : List UInt8 := [42, 183, 0, 1, 42, 42, 181, 0, 7, 42, 178, 0, 13, 181, 0, 17, 42, 178, 0, 20, 181, 0, 24]
abbrev dktJ13_init_3_0 : List UInt8 := dkwJ13_init_3_0 ++ dktJ13_init_3_1
theorem dksJ13_init_3_0 : cJ13_init_3.data.toList.drop 0 = dktJ13_init_3_0 := by decide +kernel
theorem dksJ13_init_3_1 : cJ13_init_3.data.toList.drop 23 = dktJ13_init_3_1 := dk_seg dksJ13_init_3_0 23 rfl rfl
theorem dksJ13_init_3_2 : cJ13_init_3.data.toList.drop 47 = dktJ13_init_3_2 := dk_seg dksJ13_init_3_1 24 rfl rfl
theorem dJ13_init_3_0 : decode cJ13_init_3 0 = .ok (.aload_n 0, 1) := dk_42 (dk_at dksJ13_init_3_0 0 rfl rfl)
theorem dJ13_init_3_1 : decode cJ13_init_3 1 = .ok (.invokespecial 1, 3) := dk_183 0 1 (dk_at dksJ13_init_3_0 1 rfl rfl)
theorem dJ13_init_3_4 : decode cJ13_init_3 4 = .ok (.aload_n 0, 1) := dk_42 (dk_at dksJ13_init_3_0 4 rfl rfl)
theorem dJ13_init_3_5 : decode cJ13_init_3 5 = .ok (.aload_n 0, 1) := dk_42 (dk_at dksJ13_init_3_0 5 rfl rfl)
theorem dJ13_init_3_6 : decode cJ13_init_3 6 = .ok (.putfield 7, 3) := dk_181 0 7 (dk_at dksJ13_init_3_0 6 rfl rfl)
theorem dJ13_init_3_9 : decode cJ13_init_3 9 = .ok (.aload_n 0, 1) := dk_42 (dk_at dksJ13_init_3_0 9 rfl rfl)
theorem dJ13_init_3_10 : decode cJ13_init_3 10 = .ok (.getstatic 13, 3) := dk_178 0 13 (dk_at dksJ13_init_3_0 10 rfl rfl)
theorem dJ13_init_3_13 : decode cJ13_init_3 13 = .ok (.putfield 17, 3) := dk_181 0 17 (dk_at dksJ13_init_3_0 13 rfl rfl)
theorem dJ13_init_3_16 : decode cJ13_init_3 16 = .ok (.aload_n 0, 1) := dk_42 (dk_at dksJ13_init_3_0 16 rfl rfl)
theorem dJ13_init_3_17 : decode cJ13_init_3 17 = .ok (.getstatic 20, 3) := dk_178 0 20 (dk_at dksJ13_init_3_0 17 rfl rfl)
theorem dJ13_init_3_20 : decode cJ13_init_3 20 = .ok (.putfield 24, 3) := dk_181 0 24 (dk_at dksJ13_init_3_0 20 rfl rfl)
theorem dJ13_init_3_23 : decode cJ13_init_3 23 = .ok (.iload 4, 2) := dk_21 4 (dk_at dksJ13_init_3_1 0 rfl rfl)
theorem dJ13_init_3_25 : decode cJ13_init_3 25 = .ok (.ifCond .eq 11, 3) := dk_153 0 11 (dk_at dksJ13_init_3_1 2 rfl rfl)
theorem dJ13_init_3_28 : decode cJ13_init_3 28 = .ok (.aload_n 0, 1) := dk_42 (dk_at dksJ13_init_3_1 5 rfl rfl)
theorem dJ13_init_3_29 : decode cJ13_init_3 29 = .ok (.invokevirtual 27, 3) := dk_182 0 27 (dk_at dksJ13_init_3_1 6 rfl rfl)
theorem dJ13_init_3_32 : decode cJ13_init_3 32 = .ok (.pop, 1) := dk_87 (dk_at dksJ13_init_3_1 9 rfl rfl)
theorem dJ13_init_3_33 : decode cJ13_init_3 33 = .ok (.goto 8, 3) := dk_167 0 8 (dk_at dksJ13_init_3_1 10 rfl rfl)
theorem dJ13_init_3_36 : decode cJ13_init_3 36 = .ok (.aload_n 0, 1) := dk_42 (dk_at dksJ13_init_3_1 13 rfl rfl)
theorem dJ13_init_3_37 : decode cJ13_init_3 37 = .ok (.aconst_null, 1) := dk_1 (dk_at dksJ13_init_3_1 14 rfl rfl)
theorem dJ13_init_3_38 : decode cJ13_init_3 38 = .ok (.putfield 17, 3) := dk_181 0 17 (dk_at dksJ13_init_3_1 15 rfl rfl)
theorem dJ13_init_3_41 : decode cJ13_init_3 41 = .ok (.aload_n 0, 1) := dk_42 (dk_at dksJ13_init_3_1 18 rfl rfl)
theorem dJ13_init_3_42 : decode cJ13_init_3 42 = .ok (.aload_n 1, 1) := dk_43 (dk_at dksJ13_init_3_1 19 rfl rfl)
theorem dJ13_init_3_43 : decode cJ13_init_3 43 = .ok (.putfield 31, 3) := dk_181 0 31 (dk_at dksJ13_init_3_1 20 rfl rfl)
theorem dJ13_init_3_46 : decode cJ13_init_3 46 = .ok (.aload_n 0, 1) := dk_42 (dk_at dksJ13_init_3_1 23 rfl rfl)
theorem dJ13_init_3_47 : decode cJ13_init_3 47 = .ok (.aload_n 2, 1) := dk_44 (dk_at dksJ13_init_3_2 0 rfl rfl)
theorem dJ13_init_3_48 : decode cJ13_init_3 48 = .ok (.putfield 7, 3) := dk_181 0 7 (dk_at dksJ13_init_3_2 1 rfl rfl)
theorem dJ13_init_3_51 : decode cJ13_init_3 51 = .ok (.iload_n 3, 1) := dk_29 (dk_at dksJ13_init_3_2 4 rfl rfl)
theorem dJ13_init_3_52 : decode cJ13_init_3 52 = .ok (.ifCond .ne 8, 3) := dk_154 0 8 (dk_at dksJ13_init_3_2 5 rfl rfl)
theorem dJ13_init_3_55 : decode cJ13_init_3 55 = .ok (.aload_n 0, 1) := dk_42 (dk_at dksJ13_init_3_2 8 rfl rfl)
theorem dJ13_init_3_56 : decode cJ13_init_3 56 = .ok (.aconst_null, 1) := dk_1 (dk_at dksJ13_init_3_2 9 rfl rfl)
theorem dJ13_init_3_57 : decode cJ13_init_3 57 = .ok (.putfield 24, 3) := dk_181 0 24 (dk_at dksJ13_init_3_2 10 rfl rfl)
theorem dJ13_init_3_60 : decode cJ13_init_3 60 = .ok (.return_, 1) := dk_177 (dk_at dksJ13_init_3_2 13 rfl rfl)
theorem q106 : (Jvm.Cond.initialized "java/lang/Throwable") ∈ lw_all := lw_g (lw_at lw_m1 24 rfl) rfl
theorem q958 : (Jvm.Cond.declares ({ cls := "java/lang/Throwable", name := "<init>", desc := "()V" } : Jvm.MethodName)) ∈ lw_tbl := lw_at lw_m4 156 rfl
theorem q959 : (Jvm.Cond.declares ({ cls := "java/lang/Throwable", name := "<init>", desc := "(Ljava/lang/String;)V" } : Jvm.MethodName)) ∈ lw_tbl := lw_at lw_m4 157 rfl
theorem q963 : (Jvm.Cond.lays "java/lang/Throwable" "java/lang/Throwable" "cause" "Ljava/lang/Throwable;") ∈ lw_all := lw_g (lw_at lw_m4 161 rfl) rfl
theorem q965 : (Jvm.Cond.lays "java/lang/Throwable" "java/lang/Throwable" "stackTrace" "[Ljava/lang/StackTraceElement;") ∈ lw_all := lw_g (lw_at lw_m4 163 rfl) rfl
theorem q967 : (Jvm.Cond.lays "java/lang/Throwable" "java/lang/Throwable" "suppressedExceptions" "Ljava/util/List;") ∈ lw_all := lw_g (lw_at lw_m4 165 rfl) rfl
theorem q969 : (Jvm.Cond.lays "java/lang/Throwable" "java/lang/Throwable" "detailMessage" "Ljava/lang/String;") ∈ lw_all := lw_g (lw_at lw_m4 167 rfl) rfl
theorem q971 : (Jvm.Cond.lays "java/lang/Throwable" "java/lang/Throwable" "backtrace" "Ljava/lang/Object;") ∈ lw_all := lw_g (lw_at lw_m4 169 rfl) rfl
theorem q972 : (Jvm.Cond.fieldLink "java/lang/Throwable" (198 : Nat) "java/lang/Throwable" "backtrace" "Ljava/lang/Object;") ∈ lw_all := lw_g (lw_at lw_m4 170 rfl) rfl
theorem q973 : (Jvm.Cond.superclass "java/lang/Throwable" "java/lang/Object") ∈ lw_all := lw_g (lw_at lw_m4 171 rfl) rfl
theorem q974 : (Jvm.Cond.instanceMethod ({ cls := "java/lang/Throwable", name := "<init>", desc := "()V" } : Jvm.MethodName)) ∈ lw_all := lw_g (lw_at lw_m4 172 rfl) rfl
theorem q975 : (Jvm.Cond.code ({ cls := "java/lang/Throwable", name := "<init>", desc := "()V" } : Jvm.MethodName) prog_46_method_1_code (1 : Nat) (Option.none : Option Jvm.ClassFile.FieldType)) ∈ lw_all := lw_g (lw_at lw_m4 173 rfl) rfl
theorem q976 : (Jvm.Cond.methodLink "java/lang/Throwable" (1 : Nat) ({ cls := "java/lang/Object", name := "<init>", desc := "()V" } : Jvm.MethodName)) ∈ lw_all := lw_g (lw_at lw_m4 174 rfl) rfl
theorem q977 : (Jvm.Cond.fieldLink "java/lang/Throwable" (13 : Nat) "java/lang/Throwable" "UNASSIGNED_STACK" "[Ljava/lang/StackTraceElement;") ∈ lw_all := lw_g (lw_at lw_m4 175 rfl) rfl
theorem q978 : (Jvm.Cond.laysStatic "java/lang/Throwable" "UNASSIGNED_STACK" "[Ljava/lang/StackTraceElement;") ∈ lw_tbl := lw_at lw_m4 176 rfl
theorem q979 : (Jvm.Cond.fieldLink "java/lang/Throwable" (20 : Nat) "java/lang/Throwable" "SUPPRESSED_SENTINEL" "Ljava/util/List;") ∈ lw_all := lw_g (lw_at lw_m4 177 rfl) rfl
theorem q980 : (Jvm.Cond.laysStatic "java/lang/Throwable" "SUPPRESSED_SENTINEL" "Ljava/util/List;") ∈ lw_tbl := lw_at lw_m4 178 rfl
theorem q981 : (Jvm.Cond.methodLink "java/lang/Throwable" (27 : Nat) ({ cls := "java/lang/Throwable", name := "fillInStackTrace", desc := "()Ljava/lang/Throwable;" } : Jvm.MethodName)) ∈ lw_all := lw_g (lw_at lw_m4 179 rfl) rfl
theorem q982 : (Jvm.Cond.instanceMethod ({ cls := "java/lang/Throwable", name := "fillInStackTrace", desc := "()Ljava/lang/Throwable;" } : Jvm.MethodName)) ∈ lw_all := lw_g (lw_at lw_m4 180 rfl) rfl
theorem q983 : (Jvm.Cond.sameMethod "java/lang/Throwable" "java/lang/Throwable" "fillInStackTrace" "()Ljava/lang/Throwable;") ∈ lw_all := lw_g (lw_at lw_m4 181 rfl) rfl
theorem q989 : (Jvm.Cond.codeSync ({ cls := "java/lang/Throwable", name := "fillInStackTrace", desc := "()Ljava/lang/Throwable;" } : Jvm.MethodName) prog_46_method_18_code (1 : Nat) (Option.some (Jvm.ClassFile.FieldType.object "java/lang/Throwable"))) ∈ lw_all := lw_g (lw_at lw_m4 187 rfl) rfl
theorem q990 : (Jvm.Cond.methodLink "java/lang/Throwable" (202 : Nat) ({ cls := "java/lang/Throwable", name := "fillInStackTrace", desc := "(I)Ljava/lang/Throwable;" } : Jvm.MethodName)) ∈ lw_all := lw_g (lw_at lw_m4 188 rfl) rfl
theorem q991 : (Jvm.Cond.privateMethod ({ cls := "java/lang/Throwable", name := "fillInStackTrace", desc := "(I)Ljava/lang/Throwable;" } : Jvm.MethodName)) ∈ lw_tbl := lw_at lw_m4 189 rfl
theorem q992 : (Jvm.Cond.instanceMethod ({ cls := "java/lang/Throwable", name := "fillInStackTrace", desc := "(I)Ljava/lang/Throwable;" } : Jvm.MethodName)) ∈ lw_all := lw_g (lw_at lw_m4 190 rfl) rfl
theorem q993 : (Jvm.Cond.instantiable "java/lang/Throwable" (6 : Nat)) ∈ lw_all := lw_g (lw_at lw_m4 191 rfl) rfl
theorem q994 : (Jvm.Cond.native ({ cls := "java/lang/Throwable", name := "fillInStackTrace", desc := "(I)Ljava/lang/Throwable;" } : Jvm.MethodName)) ∈ lw_all := lw_g (lw_at lw_m4 192 rfl) rfl
theorem q1081 : (Jvm.Cond.instanceMethod ({ cls := "java/lang/Throwable", name := "<init>", desc := "(Ljava/lang/String;)V" } : Jvm.MethodName)) ∈ lw_all := lw_g (lw_at lw_m5 39 rfl) rfl
theorem q1082 : (Jvm.Cond.code ({ cls := "java/lang/Throwable", name := "<init>", desc := "(Ljava/lang/String;)V" } : Jvm.MethodName) prog_46_method_2_code (2 : Nat) (Option.none : Option Jvm.ClassFile.FieldType)) ∈ lw_all := lw_g (lw_at lw_m5 40 rfl) rfl
theorem q1083 : (Jvm.Cond.fieldLink "java/lang/Throwable" (198 : Nat) "java/lang/Throwable" "backtrace" "Ljava/lang/Object;") ∈ lw_all := lw_g (lw_at lw_m5 41 rfl) rfl
theorem q1084 : (Jvm.Cond.fieldLink "java/lang/Throwable" (31 : Nat) "java/lang/Throwable" "detailMessage" "Ljava/lang/String;") ∈ lw_all := lw_g (lw_at lw_m5 42 rfl) rfl
theorem q1085 : (Jvm.Cond.fieldLink "java/lang/Throwable" (7 : Nat) "java/lang/Throwable" "cause" "Ljava/lang/Throwable;") ∈ lw_all := lw_g (lw_at lw_m5 43 rfl) rfl
theorem q1086 : (Jvm.Cond.fieldLink "java/lang/Throwable" (17 : Nat) "java/lang/Throwable" "stackTrace" "[Ljava/lang/StackTraceElement;") ∈ lw_all := lw_g (lw_at lw_m5 44 rfl) rfl
theorem q1087 : (Jvm.Cond.fieldLink "java/lang/Throwable" (24 : Nat) "java/lang/Throwable" "suppressedExceptions" "Ljava/util/List;") ∈ lw_all := lw_g (lw_at lw_m5 45 rfl) rfl
theorem q1088 : (Jvm.Cond.soleField "java/lang/Throwable" "backtrace") ∈ lw_all := lw_g (lw_at lw_m5 46 rfl) rfl
theorem q1089 : (Jvm.Cond.soleField "java/lang/Throwable" "detailMessage") ∈ lw_all := lw_g (lw_at lw_m5 47 rfl) rfl
theorem q1090 : (Jvm.Cond.soleField "java/lang/Throwable" "cause") ∈ lw_all := lw_g (lw_at lw_m5 48 rfl) rfl
theorem q1091 : (Jvm.Cond.soleField "java/lang/Throwable" "stackTrace") ∈ lw_all := lw_g (lw_at lw_m5 49 rfl) rfl
theorem q1093 : (Jvm.Cond.soleField "java/lang/Throwable" "depth") ∈ lw_all := lw_g (lw_at lw_m5 51 rfl) rfl
theorem q1094 : (Jvm.Cond.soleField "java/lang/Throwable" "suppressedExceptions") ∈ lw_all := lw_g (lw_at lw_m5 52 rfl) rfl
theorem q1142 : (Jvm.Cond.instanceMethod ({ cls := "java/lang/Throwable", name := "<init>", desc := "(Ljava/lang/String;Ljava/lang/Throwable;ZZ)V" } : Jvm.MethodName)) ∈ lw_all := lw_g (lw_at lw_m5 100 rfl) rfl
theorem q1143 : (Jvm.Cond.code ({ cls := "java/lang/Throwable", name := "<init>", desc := "(Ljava/lang/String;Ljava/lang/Throwable;ZZ)V" } : Jvm.MethodName) prog_46_method_5_code (5 : Nat) (Option.none : Option Jvm.ClassFile.FieldType)) ∈ lw_all := lw_g (lw_at lw_m5 101 rfl) rfl
theorem q2331 : (Jvm.Cond.sameMethod "java/lang/Throwable" "java/lang/Throwable" "fillInStackTrace" "(I)Ljava/lang/Throwable;") ∈ lw_all := lw_g (lw_at lw_m10 89 rfl) rfl
theorem q2370 : (Jvm.Cond.castable "java/lang/Throwable" "java/lang/Object") ∈ lw_tbl := lw_at lw_m10 128 rfl
theorem in_J13 : ∀ w ∈ wsJ130, w ∈ lw_all := lw_in wsJ130 [963, 965, 967, 969, 971] (by decide +kernel) (by decide +kernel)
/-! java/lang/Exception -/
set_option maxRecDepth 100000
def RJ14 : String := "java/lang/Exception"
abbrev cJ14_init : ByteArray := prog_32_method_2_code
def yJ14_init : MethodName := ⟨RJ14, "<init>", "(Ljava/lang/String;)V"⟩
def dkwJ14_init_0 : List UInt8 := [42, 43, 183, 0, 7, 177]
abbrev dktJ14_init_0 : List UInt8 := dkwJ14_init_0 ++ []
theorem dksJ14_init_0 : cJ14_init.data.toList.drop 0 = dktJ14_init_0 := by decide +kernel
theorem dJ14_init_0 : decode cJ14_init 0 = .ok (.aload_n 0, 1) := dk_42 (dk_at dksJ14_init_0 0 rfl rfl)
theorem dJ14_init_1 : decode cJ14_init 1 = .ok (.aload_n 1, 1) := dk_43 (dk_at dksJ14_init_0 1 rfl rfl)
theorem dJ14_init_2 : decode cJ14_init 2 = .ok (.invokespecial 7, 3) := dk_183 0 7 (dk_at dksJ14_init_0 2 rfl rfl)
theorem dJ14_init_5 : decode cJ14_init 5 = .ok (.return_, 1) := dk_177 (dk_at dksJ14_init_0 5 rfl rfl)
abbrev cJ14_init_2 : ByteArray := prog_32_method_5_code
def yJ14_init_2 : MethodName := ⟨RJ14, "<init>", "(Ljava/lang/String;Ljava/lang/Throwable;ZZ)V"⟩
def dkwJ14_init_2_0 : List UInt8 := [42, 43, 44, 29, 21, 4, 183, 0, 16, 177]
abbrev dktJ14_init_2_0 : List UInt8 := dkwJ14_init_2_0 ++ []
theorem dksJ14_init_2_0 : cJ14_init_2.data.toList.drop 0 = dktJ14_init_2_0 := by decide +kernel
theorem dJ14_init_2_0 : decode cJ14_init_2 0 = .ok (.aload_n 0, 1) := dk_42 (dk_at dksJ14_init_2_0 0 rfl rfl)
theorem dJ14_init_2_1 : decode cJ14_init_2 1 = .ok (.aload_n 1, 1) := dk_43 (dk_at dksJ14_init_2_0 1 rfl rfl)
theorem dJ14_init_2_2 : decode cJ14_init_2 2 = .ok (.aload_n 2, 1) := dk_44 (dk_at dksJ14_init_2_0 2 rfl rfl)
theorem dJ14_init_2_3 : decode cJ14_init_2 3 = .ok (.iload_n 3, 1) := dk_29 (dk_at dksJ14_init_2_0 3 rfl rfl)
theorem dJ14_init_2_4 : decode cJ14_init_2 4 = .ok (.iload 4, 2) := dk_21 4 (dk_at dksJ14_init_2_0 4 rfl rfl)
theorem dJ14_init_2_6 : decode cJ14_init_2 6 = .ok (.invokespecial 16, 3) := dk_183 0 16 (dk_at dksJ14_init_2_0 6 rfl rfl)
theorem dJ14_init_2_9 : decode cJ14_init_2 9 = .ok (.return_, 1) := dk_177 (dk_at dksJ14_init_2_0 9 rfl rfl)
abbrev cJ14_init_3 : ByteArray := prog_32_method_1_code
def yJ14_init_3 : MethodName := ⟨RJ14, "<init>", "()V"⟩
theorem dJ14_init_3_0 : decode cJ14_init_3 0 = .ok (.aload_n 0, 1) := by decide +kernel
theorem dJ14_init_3_1 : decode cJ14_init_3 1 = .ok (.invokespecial 1, 3) := by decide +kernel
theorem dJ14_init_3_4 : decode cJ14_init_3 4 = .ok (.return_, 1) := by decide +kernel
theorem q107 : (Jvm.Cond.initialized "java/lang/Exception") ∈ lw_all := lw_g (lw_at lw_m1 25 rfl) rfl
theorem q956 : (Jvm.Cond.declares ({ cls := "java/lang/Exception", name := "<init>", desc := "()V" } : Jvm.MethodName)) ∈ lw_tbl := lw_at lw_m4 154 rfl
theorem q957 : (Jvm.Cond.declares ({ cls := "java/lang/Exception", name := "<init>", desc := "(Ljava/lang/String;)V" } : Jvm.MethodName)) ∈ lw_tbl := lw_at lw_m4 155 rfl
theorem q1078 : (Jvm.Cond.instanceMethod ({ cls := "java/lang/Exception", name := "<init>", desc := "(Ljava/lang/String;)V" } : Jvm.MethodName)) ∈ lw_all := lw_g (lw_at lw_m5 36 rfl) rfl
theorem q1079 : (Jvm.Cond.code ({ cls := "java/lang/Exception", name := "<init>", desc := "(Ljava/lang/String;)V" } : Jvm.MethodName) prog_32_method_2_code (2 : Nat) (Option.none : Option Jvm.ClassFile.FieldType)) ∈ lw_all := lw_g (lw_at lw_m5 37 rfl) rfl
theorem q1080 : (Jvm.Cond.methodLink "java/lang/Exception" (7 : Nat) ({ cls := "java/lang/Throwable", name := "<init>", desc := "(Ljava/lang/String;)V" } : Jvm.MethodName)) ∈ lw_all := lw_g (lw_at lw_m5 38 rfl) rfl
theorem q1139 : (Jvm.Cond.instanceMethod ({ cls := "java/lang/Exception", name := "<init>", desc := "(Ljava/lang/String;Ljava/lang/Throwable;ZZ)V" } : Jvm.MethodName)) ∈ lw_all := lw_g (lw_at lw_m5 97 rfl) rfl
theorem q1140 : (Jvm.Cond.code ({ cls := "java/lang/Exception", name := "<init>", desc := "(Ljava/lang/String;Ljava/lang/Throwable;ZZ)V" } : Jvm.MethodName) prog_32_method_5_code (5 : Nat) (Option.none : Option Jvm.ClassFile.FieldType)) ∈ lw_all := lw_g (lw_at lw_m5 98 rfl) rfl
theorem q1141 : (Jvm.Cond.methodLink "java/lang/Exception" (16 : Nat) ({ cls := "java/lang/Throwable", name := "<init>", desc := "(Ljava/lang/String;Ljava/lang/Throwable;ZZ)V" } : Jvm.MethodName)) ∈ lw_all := lw_g (lw_at lw_m5 99 rfl) rfl
theorem q1326 : (Jvm.Cond.instanceMethod ({ cls := "java/lang/Exception", name := "<init>", desc := "()V" } : Jvm.MethodName)) ∈ lw_all := lw_g (lw_at lw_m6 44 rfl) rfl
theorem q1327 : (Jvm.Cond.code ({ cls := "java/lang/Exception", name := "<init>", desc := "()V" } : Jvm.MethodName) prog_32_method_1_code (1 : Nat) (Option.none : Option Jvm.ClassFile.FieldType)) ∈ lw_all := lw_g (lw_at lw_m6 45 rfl) rfl
theorem q1328 : (Jvm.Cond.methodLink "java/lang/Exception" (1 : Nat) ({ cls := "java/lang/Throwable", name := "<init>", desc := "()V" } : Jvm.MethodName)) ∈ lw_all := lw_g (lw_at lw_m6 46 rfl) rfl
/-! java/lang/RuntimeException -/
set_option maxRecDepth 100000
def RJ15 : String := "java/lang/RuntimeException"
abbrev cJ15_init : ByteArray := prog_39_method_2_code
def yJ15_init : MethodName := ⟨RJ15, "<init>", "(Ljava/lang/String;)V"⟩
def dkwJ15_init_0 : List UInt8 := [42, 43, 183, 0, 7, 177]
abbrev dktJ15_init_0 : List UInt8 := dkwJ15_init_0 ++ []
theorem dksJ15_init_0 : cJ15_init.data.toList.drop 0 = dktJ15_init_0 := by decide +kernel
theorem dJ15_init_0 : decode cJ15_init 0 = .ok (.aload_n 0, 1) := dk_42 (dk_at dksJ15_init_0 0 rfl rfl)
theorem dJ15_init_1 : decode cJ15_init 1 = .ok (.aload_n 1, 1) := dk_43 (dk_at dksJ15_init_0 1 rfl rfl)
theorem dJ15_init_2 : decode cJ15_init 2 = .ok (.invokespecial 7, 3) := dk_183 0 7 (dk_at dksJ15_init_0 2 rfl rfl)
theorem dJ15_init_5 : decode cJ15_init 5 = .ok (.return_, 1) := dk_177 (dk_at dksJ15_init_0 5 rfl rfl)
abbrev cJ15_init_2 : ByteArray := prog_39_method_1_code
def yJ15_init_2 : MethodName := ⟨RJ15, "<init>", "()V"⟩
theorem dJ15_init_2_0 : decode cJ15_init_2 0 = .ok (.aload_n 0, 1) := by decide +kernel
theorem dJ15_init_2_1 : decode cJ15_init_2 1 = .ok (.invokespecial 1, 3) := by decide +kernel
theorem dJ15_init_2_4 : decode cJ15_init_2 4 = .ok (.return_, 1) := by decide +kernel
theorem q108 : (Jvm.Cond.initialized "java/lang/RuntimeException") ∈ lw_all := lw_g (lw_at lw_m1 26 rfl) rfl
theorem q954 : (Jvm.Cond.declares ({ cls := "java/lang/RuntimeException", name := "<init>", desc := "()V" } : Jvm.MethodName)) ∈ lw_tbl := lw_at lw_m4 152 rfl
theorem q955 : (Jvm.Cond.declares ({ cls := "java/lang/RuntimeException", name := "<init>", desc := "(Ljava/lang/String;)V" } : Jvm.MethodName)) ∈ lw_tbl := lw_at lw_m4 153 rfl
theorem q1075 : (Jvm.Cond.instanceMethod ({ cls := "java/lang/RuntimeException", name := "<init>", desc := "(Ljava/lang/String;)V" } : Jvm.MethodName)) ∈ lw_all := lw_g (lw_at lw_m5 33 rfl) rfl
theorem q1076 : (Jvm.Cond.code ({ cls := "java/lang/RuntimeException", name := "<init>", desc := "(Ljava/lang/String;)V" } : Jvm.MethodName) prog_39_method_2_code (2 : Nat) (Option.none : Option Jvm.ClassFile.FieldType)) ∈ lw_all := lw_g (lw_at lw_m5 34 rfl) rfl
theorem q1077 : (Jvm.Cond.methodLink "java/lang/RuntimeException" (7 : Nat) ({ cls := "java/lang/Exception", name := "<init>", desc := "(Ljava/lang/String;)V" } : Jvm.MethodName)) ∈ lw_all := lw_g (lw_at lw_m5 35 rfl) rfl
theorem q1323 : (Jvm.Cond.instanceMethod ({ cls := "java/lang/RuntimeException", name := "<init>", desc := "()V" } : Jvm.MethodName)) ∈ lw_all := lw_g (lw_at lw_m6 41 rfl) rfl
theorem q1324 : (Jvm.Cond.code ({ cls := "java/lang/RuntimeException", name := "<init>", desc := "()V" } : Jvm.MethodName) prog_39_method_1_code (1 : Nat) (Option.none : Option Jvm.ClassFile.FieldType)) ∈ lw_all := lw_g (lw_at lw_m6 42 rfl) rfl
theorem q1325 : (Jvm.Cond.methodLink "java/lang/RuntimeException" (1 : Nat) ({ cls := "java/lang/Exception", name := "<init>", desc := "()V" } : Jvm.MethodName)) ∈ lw_all := lw_g (lw_at lw_m6 43 rfl) rfl
/-! java/lang/IllegalArgumentException -/
set_option maxRecDepth 100000
def RJ16 : String := "java/lang/IllegalArgumentException"
def TJ16 : u_T := fun k => match k with
  | 0 => ("java/lang/Throwable", "cause", "Ljava/lang/Throwable;", false)
  | 1 => ("java/lang/Throwable", "stackTrace", "[Ljava/lang/StackTraceElement;", false)
  | 2 => ("java/lang/Throwable", "suppressedExceptions", "Ljava/util/List;", false)
  | 3 => ("java/lang/Throwable", "detailMessage", "Ljava/lang/String;", false)
  | 4 => ("java/lang/Throwable", "backtrace", "Ljava/lang/Object;", false)
  | _ => ("java/lang/Throwable", "depth", "I", false)
def tyJ16 : Nat → FieldType := fun k => match k with
  | 0 => .object "java/lang/Throwable"
  | 1 => .array (.object "java/lang/StackTraceElement")
  | 2 => .object "java/util/List"
  | 3 => .object "java/lang/String"
  | 4 => .object "java/lang/Object"
  | _ => .int
abbrev wsJ160 : List Cond := u_ws RJ16 TJ16 6
theorem nmJ16 : ∀ a, a < 6 → ∀ b, b < 6 → a ≠ b → (TJ16 a).2.1 ≠ (TJ16 b).2.1 := by decide +kernel
theorem tyJ16_ok : ∀ k, k < 6 → parseFieldDescriptor (TJ16 k).2.2.1 = some (tyJ16 k) := by decide +kernel
abbrev cJ16_init : ByteArray := prog_33_method_2_code
def yJ16_init : MethodName := ⟨RJ16, "<init>", "(Ljava/lang/String;)V"⟩
def dkwJ16_init_0 : List UInt8 := [42, 43, 183, 0, 7, 177]
abbrev dktJ16_init_0 : List UInt8 := dkwJ16_init_0 ++ []
theorem dksJ16_init_0 : cJ16_init.data.toList.drop 0 = dktJ16_init_0 := by decide +kernel
theorem dJ16_init_0 : decode cJ16_init 0 = .ok (.aload_n 0, 1) := dk_42 (dk_at dksJ16_init_0 0 rfl rfl)
theorem dJ16_init_1 : decode cJ16_init 1 = .ok (.aload_n 1, 1) := dk_43 (dk_at dksJ16_init_0 1 rfl rfl)
theorem dJ16_init_2 : decode cJ16_init 2 = .ok (.invokespecial 7, 3) := dk_183 0 7 (dk_at dksJ16_init_0 2 rfl rfl)
theorem dJ16_init_5 : decode cJ16_init 5 = .ok (.return_, 1) := dk_177 (dk_at dksJ16_init_0 5 rfl rfl)
abbrev cJ16_init_2 : ByteArray := prog_33_method_1_code
def yJ16_init_2 : MethodName := ⟨RJ16, "<init>", "()V"⟩
theorem dJ16_init_2_0 : decode cJ16_init_2 0 = .ok (.aload_n 0, 1) := by decide +kernel
theorem dJ16_init_2_1 : decode cJ16_init_2 1 = .ok (.invokespecial 1, 3) := by decide +kernel
theorem dJ16_init_2_4 : decode cJ16_init_2 4 = .ok (.return_, 1) := by decide +kernel
theorem q109 : (Jvm.Cond.initialized "java/lang/IllegalArgumentException") ∈ lw_all := lw_g (lw_at lw_m1 27 rfl) rfl
theorem q712 : (Jvm.Cond.selects "java/lang/IllegalArgumentException" ({ cls := "java/lang/Object", name := "getClass", desc := "()Ljava/lang/Class;" } : Jvm.MethodName) ({ cls := "java/lang/Object", name := "getClass", desc := "()Ljava/lang/Class;" } : Jvm.MethodName)) ∈ lw_all := lw_g (lw_at lw_m3 150 rfl) rfl
theorem q952 : (Jvm.Cond.instantiable "java/lang/IllegalArgumentException" (6 : Nat)) ∈ lw_all := lw_g (lw_at lw_m4 150 rfl) rfl
theorem q953 : (Jvm.Cond.castable "java/lang/IllegalArgumentException" "java/lang/IllegalArgumentException") ∈ lw_tbl := lw_at lw_m4 151 rfl
theorem q960 : (Jvm.Cond.selects "java/lang/IllegalArgumentException" ({ cls := "java/lang/Throwable", name := "fillInStackTrace", desc := "(I)Ljava/lang/Throwable;" } : Jvm.MethodName) ({ cls := "java/lang/Throwable", name := "fillInStackTrace", desc := "(I)Ljava/lang/Throwable;" } : Jvm.MethodName)) ∈ lw_all := lw_g (lw_at lw_m4 158 rfl) rfl
theorem q961 : (Jvm.Cond.selects "java/lang/IllegalArgumentException" ({ cls := "java/lang/Throwable", name := "fillInStackTrace", desc := "()Ljava/lang/Throwable;" } : Jvm.MethodName) ({ cls := "java/lang/Throwable", name := "fillInStackTrace", desc := "()Ljava/lang/Throwable;" } : Jvm.MethodName)) ∈ lw_all := lw_g (lw_at lw_m4 159 rfl) rfl
theorem q962 : (Jvm.Cond.lays "java/lang/IllegalArgumentException" "java/lang/Throwable" "cause" "Ljava/lang/Throwable;") ∈ lw_all := lw_g (lw_at lw_m4 160 rfl) rfl
theorem q964 : (Jvm.Cond.lays "java/lang/IllegalArgumentException" "java/lang/Throwable" "stackTrace" "[Ljava/lang/StackTraceElement;") ∈ lw_all := lw_g (lw_at lw_m4 162 rfl) rfl
theorem q966 : (Jvm.Cond.lays "java/lang/IllegalArgumentException" "java/lang/Throwable" "suppressedExceptions" "Ljava/util/List;") ∈ lw_all := lw_g (lw_at lw_m4 164 rfl) rfl
theorem q968 : (Jvm.Cond.lays "java/lang/IllegalArgumentException" "java/lang/Throwable" "detailMessage" "Ljava/lang/String;") ∈ lw_all := lw_g (lw_at lw_m4 166 rfl) rfl
theorem q970 : (Jvm.Cond.lays "java/lang/IllegalArgumentException" "java/lang/Throwable" "backtrace" "Ljava/lang/Object;") ∈ lw_all := lw_g (lw_at lw_m4 168 rfl) rfl
theorem q1072 : (Jvm.Cond.instanceMethod ({ cls := "java/lang/IllegalArgumentException", name := "<init>", desc := "(Ljava/lang/String;)V" } : Jvm.MethodName)) ∈ lw_all := lw_g (lw_at lw_m5 30 rfl) rfl
theorem q1073 : (Jvm.Cond.code ({ cls := "java/lang/IllegalArgumentException", name := "<init>", desc := "(Ljava/lang/String;)V" } : Jvm.MethodName) prog_33_method_2_code (2 : Nat) (Option.none : Option Jvm.ClassFile.FieldType)) ∈ lw_all := lw_g (lw_at lw_m5 31 rfl) rfl
theorem q1074 : (Jvm.Cond.methodLink "java/lang/IllegalArgumentException" (7 : Nat) ({ cls := "java/lang/RuntimeException", name := "<init>", desc := "(Ljava/lang/String;)V" } : Jvm.MethodName)) ∈ lw_all := lw_g (lw_at lw_m5 32 rfl) rfl
theorem q1092 : (Jvm.Cond.lays "java/lang/IllegalArgumentException" "java/lang/Throwable" "depth" "I") ∈ lw_all := lw_g (lw_at lw_m5 50 rfl) rfl
theorem q1095 : (Jvm.Cond.superclass "java/lang/IllegalArgumentException" "java/lang/RuntimeException") ∈ lw_all := lw_g (lw_at lw_m5 53 rfl) rfl
theorem q1320 : (Jvm.Cond.instanceMethod ({ cls := "java/lang/IllegalArgumentException", name := "<init>", desc := "()V" } : Jvm.MethodName)) ∈ lw_all := lw_g (lw_at lw_m6 38 rfl) rfl
theorem q1321 : (Jvm.Cond.code ({ cls := "java/lang/IllegalArgumentException", name := "<init>", desc := "()V" } : Jvm.MethodName) prog_33_method_1_code (1 : Nat) (Option.none : Option Jvm.ClassFile.FieldType)) ∈ lw_all := lw_g (lw_at lw_m6 39 rfl) rfl
theorem q1322 : (Jvm.Cond.methodLink "java/lang/IllegalArgumentException" (1 : Nat) ({ cls := "java/lang/RuntimeException", name := "<init>", desc := "()V" } : Jvm.MethodName)) ∈ lw_all := lw_g (lw_at lw_m6 40 rfl) rfl
theorem q2352 : (Jvm.Cond.castable "java/lang/IllegalArgumentException" "java/lang/Object") ∈ lw_tbl := lw_at lw_m10 110 rfl
theorem in_J16 : ∀ w ∈ wsJ160, w ∈ lw_all := lw_in wsJ160 [962, 964, 966, 968, 970, 1092] (by decide +kernel) (by decide +kernel)
/-! java/lang/Integer -/
set_option maxRecDepth 100000
def RJ17 : String := "java/lang/Integer"
abbrev cJ17_bitCount : ByteArray := prog_35_method_49_code
def yJ17_bitCount : MethodName := ⟨RJ17, "bitCount", "(I)I"⟩
def dkwJ17_bitCount_2 : List UInt8 := [26, 16, 63, 126, 172]
abbrev dktJ17_bitCount_2 : List UInt8 := dkwJ17_bitCount_2 ++ []
def dkwJ17_bitCount_1 : List UInt8 := [26, 26, 7, 124, 96, 19, 1, 11, 126, 59, 26, 26, 16, 8, 124, 96, 59, 26, 26, 16, 16, 124, 96, 59]
abbrev dktJ17_bitCount_1 : List UInt8 := dkwJ17_bitCount_1 ++ dktJ17_bitCount_2
def dkwJ17_bitCount_0 : List UInt8 := [26, 26, 4, 124, 19, 1, 9, 126, 100, 59, 26, 19, 1, 10, 126, 26, 5, 124, 19, 1, 10, 126, 96, 59]
abbrev dktJ17_bitCount_0 : List UInt8 := dkwJ17_bitCount_0 ++ dktJ17_bitCount_1
theorem dksJ17_bitCount_0 : cJ17_bitCount.data.toList.drop 0 = dktJ17_bitCount_0 := by decide +kernel
theorem dksJ17_bitCount_1 : cJ17_bitCount.data.toList.drop 24 = dktJ17_bitCount_1 := dk_seg dksJ17_bitCount_0 24 rfl rfl
theorem dksJ17_bitCount_2 : cJ17_bitCount.data.toList.drop 48 = dktJ17_bitCount_2 := dk_seg dksJ17_bitCount_1 24 rfl rfl
theorem dJ17_bitCount_0 : decode cJ17_bitCount 0 = .ok (.iload_n 0, 1) := dk_26 (dk_at dksJ17_bitCount_0 0 rfl rfl)
theorem dJ17_bitCount_1 : decode cJ17_bitCount 1 = .ok (.iload_n 0, 1) := dk_26 (dk_at dksJ17_bitCount_0 1 rfl rfl)
theorem dJ17_bitCount_2 : decode cJ17_bitCount 2 = .ok (.iconst 1, 1) := dk_4 (dk_at dksJ17_bitCount_0 2 rfl rfl)
theorem dJ17_bitCount_3 : decode cJ17_bitCount 3 = .ok (.iushr, 1) := dk_124 (dk_at dksJ17_bitCount_0 3 rfl rfl)
theorem dJ17_bitCount_4 : decode cJ17_bitCount 4 = .ok (.ldc_w 265, 3) := dk_19 1 9 (dk_at dksJ17_bitCount_0 4 rfl rfl)
theorem dJ17_bitCount_7 : decode cJ17_bitCount 7 = .ok (.iand, 1) := dk_126 (dk_at dksJ17_bitCount_0 7 rfl rfl)
theorem dJ17_bitCount_8 : decode cJ17_bitCount 8 = .ok (.isub, 1) := dk_100 (dk_at dksJ17_bitCount_0 8 rfl rfl)
theorem dJ17_bitCount_9 : decode cJ17_bitCount 9 = .ok (.istore_n 0, 1) := dk_59 (dk_at dksJ17_bitCount_0 9 rfl rfl)
theorem dJ17_bitCount_10 : decode cJ17_bitCount 10 = .ok (.iload_n 0, 1) := dk_26 (dk_at dksJ17_bitCount_0 10 rfl rfl)
theorem dJ17_bitCount_11 : decode cJ17_bitCount 11 = .ok (.ldc_w 266, 3) := dk_19 1 10 (dk_at dksJ17_bitCount_0 11 rfl rfl)
theorem dJ17_bitCount_14 : decode cJ17_bitCount 14 = .ok (.iand, 1) := dk_126 (dk_at dksJ17_bitCount_0 14 rfl rfl)
theorem dJ17_bitCount_15 : decode cJ17_bitCount 15 = .ok (.iload_n 0, 1) := dk_26 (dk_at dksJ17_bitCount_0 15 rfl rfl)
theorem dJ17_bitCount_16 : decode cJ17_bitCount 16 = .ok (.iconst 2, 1) := dk_5 (dk_at dksJ17_bitCount_0 16 rfl rfl)
theorem dJ17_bitCount_17 : decode cJ17_bitCount 17 = .ok (.iushr, 1) := dk_124 (dk_at dksJ17_bitCount_0 17 rfl rfl)
theorem dJ17_bitCount_18 : decode cJ17_bitCount 18 = .ok (.ldc_w 266, 3) := dk_19 1 10 (dk_at dksJ17_bitCount_0 18 rfl rfl)
theorem dJ17_bitCount_21 : decode cJ17_bitCount 21 = .ok (.iand, 1) := dk_126 (dk_at dksJ17_bitCount_0 21 rfl rfl)
theorem dJ17_bitCount_22 : decode cJ17_bitCount 22 = .ok (.iadd, 1) := dk_96 (dk_at dksJ17_bitCount_0 22 rfl rfl)
theorem dJ17_bitCount_23 : decode cJ17_bitCount 23 = .ok (.istore_n 0, 1) := dk_59 (dk_at dksJ17_bitCount_0 23 rfl rfl)
theorem dJ17_bitCount_24 : decode cJ17_bitCount 24 = .ok (.iload_n 0, 1) := dk_26 (dk_at dksJ17_bitCount_1 0 rfl rfl)
theorem dJ17_bitCount_25 : decode cJ17_bitCount 25 = .ok (.iload_n 0, 1) := dk_26 (dk_at dksJ17_bitCount_1 1 rfl rfl)
theorem dJ17_bitCount_26 : decode cJ17_bitCount 26 = .ok (.iconst 4, 1) := dk_7 (dk_at dksJ17_bitCount_1 2 rfl rfl)
theorem dJ17_bitCount_27 : decode cJ17_bitCount 27 = .ok (.iushr, 1) := dk_124 (dk_at dksJ17_bitCount_1 3 rfl rfl)
theorem dJ17_bitCount_28 : decode cJ17_bitCount 28 = .ok (.iadd, 1) := dk_96 (dk_at dksJ17_bitCount_1 4 rfl rfl)
theorem dJ17_bitCount_29 : decode cJ17_bitCount 29 = .ok (.ldc_w 267, 3) := dk_19 1 11 (dk_at dksJ17_bitCount_1 5 rfl rfl)
theorem dJ17_bitCount_32 : decode cJ17_bitCount 32 = .ok (.iand, 1) := dk_126 (dk_at dksJ17_bitCount_1 8 rfl rfl)
theorem dJ17_bitCount_33 : decode cJ17_bitCount 33 = .ok (.istore_n 0, 1) := dk_59 (dk_at dksJ17_bitCount_1 9 rfl rfl)
theorem dJ17_bitCount_34 : decode cJ17_bitCount 34 = .ok (.iload_n 0, 1) := dk_26 (dk_at dksJ17_bitCount_1 10 rfl rfl)
theorem dJ17_bitCount_35 : decode cJ17_bitCount 35 = .ok (.iload_n 0, 1) := dk_26 (dk_at dksJ17_bitCount_1 11 rfl rfl)
theorem dJ17_bitCount_36 : decode cJ17_bitCount 36 = .ok (.bipush 8, 2) := dk_16 8 (dk_at dksJ17_bitCount_1 12 rfl rfl)
theorem dJ17_bitCount_38 : decode cJ17_bitCount 38 = .ok (.iushr, 1) := dk_124 (dk_at dksJ17_bitCount_1 14 rfl rfl)
theorem dJ17_bitCount_39 : decode cJ17_bitCount 39 = .ok (.iadd, 1) := dk_96 (dk_at dksJ17_bitCount_1 15 rfl rfl)
theorem dJ17_bitCount_40 : decode cJ17_bitCount 40 = .ok (.istore_n 0, 1) := dk_59 (dk_at dksJ17_bitCount_1 16 rfl rfl)
theorem dJ17_bitCount_41 : decode cJ17_bitCount 41 = .ok (.iload_n 0, 1) := dk_26 (dk_at dksJ17_bitCount_1 17 rfl rfl)
theorem dJ17_bitCount_42 : decode cJ17_bitCount 42 = .ok (.iload_n 0, 1) := dk_26 (dk_at dksJ17_bitCount_1 18 rfl rfl)
theorem dJ17_bitCount_43 : decode cJ17_bitCount 43 = .ok (.bipush 16, 2) := dk_16 16 (dk_at dksJ17_bitCount_1 19 rfl rfl)
theorem dJ17_bitCount_45 : decode cJ17_bitCount 45 = .ok (.iushr, 1) := dk_124 (dk_at dksJ17_bitCount_1 21 rfl rfl)
theorem dJ17_bitCount_46 : decode cJ17_bitCount 46 = .ok (.iadd, 1) := dk_96 (dk_at dksJ17_bitCount_1 22 rfl rfl)
theorem dJ17_bitCount_47 : decode cJ17_bitCount 47 = .ok (.istore_n 0, 1) := dk_59 (dk_at dksJ17_bitCount_1 23 rfl rfl)
theorem dJ17_bitCount_48 : decode cJ17_bitCount 48 = .ok (.iload_n 0, 1) := dk_26 (dk_at dksJ17_bitCount_2 0 rfl rfl)
theorem dJ17_bitCount_49 : decode cJ17_bitCount 49 = .ok (.bipush 63, 2) := dk_16 63 (dk_at dksJ17_bitCount_2 1 rfl rfl)
theorem dJ17_bitCount_51 : decode cJ17_bitCount 51 = .ok (.iand, 1) := dk_126 (dk_at dksJ17_bitCount_2 3 rfl rfl)
theorem dJ17_bitCount_52 : decode cJ17_bitCount 52 = .ok (.ireturn, 1) := dk_172 (dk_at dksJ17_bitCount_2 4 rfl rfl)
abbrev cJ17_stringSize : ByteArray := prog_35_method_13_code
def yJ17_stringSize : MethodName := ⟨RJ17, "stringSize", "(I)I"⟩
def dkwJ17_stringSize_1 : List UInt8 := [164, 0, 7, 29, 27, 96, 172, 16, 10, 28, 104, 61, 132, 3, 1, 167, 255, 233, 16, 10, 27, 96, 172]
abbrev dktJ17_stringSize_1 : List UInt8 := dkwJ17_stringSize_1 ++ []
def dkwJ17_stringSize_0 : List UInt8 := [4, 60, 26, 155, 0, 8, 3, 60, 26, 116, 59, 16, 246, 61, 4, 62, 29, 16, 10, 162, 0, 23, 26, 28]
abbrev dktJ17_stringSize_0 : List UInt8 := dkwJ17_stringSize_0 ++ dktJ17_stringSize_1
theorem dksJ17_stringSize_0 : cJ17_stringSize.data.toList.drop 0 = dktJ17_stringSize_0 := by decide +kernel
theorem dksJ17_stringSize_1 : cJ17_stringSize.data.toList.drop 24 = dktJ17_stringSize_1 := dk_seg dksJ17_stringSize_0 24 rfl rfl
theorem dJ17_stringSize_0 : decode cJ17_stringSize 0 = .ok (.iconst 1, 1) := dk_4 (dk_at dksJ17_stringSize_0 0 rfl rfl)
theorem dJ17_stringSize_1 : decode cJ17_stringSize 1 = .ok (.istore_n 1, 1) := dk_60 (dk_at dksJ17_stringSize_0 1 rfl rfl)
theorem dJ17_stringSize_2 : decode cJ17_stringSize 2 = .ok (.iload_n 0, 1) := dk_26 (dk_at dksJ17_stringSize_0 2 rfl rfl)
theorem dJ17_stringSize_3 : decode cJ17_stringSize 3 = .ok (.ifCond .lt 8, 3) := dk_155 0 8 (dk_at dksJ17_stringSize_0 3 rfl rfl)
theorem dJ17_stringSize_6 : decode cJ17_stringSize 6 = .ok (.iconst 0, 1) := dk_3 (dk_at dksJ17_stringSize_0 6 rfl rfl)
theorem dJ17_stringSize_7 : decode cJ17_stringSize 7 = .ok (.istore_n 1, 1) := dk_60 (dk_at dksJ17_stringSize_0 7 rfl rfl)
theorem dJ17_stringSize_8 : decode cJ17_stringSize 8 = .ok (.iload_n 0, 1) := dk_26 (dk_at dksJ17_stringSize_0 8 rfl rfl)
theorem dJ17_stringSize_9 : decode cJ17_stringSize 9 = .ok (.ineg, 1) := dk_116 (dk_at dksJ17_stringSize_0 9 rfl rfl)
theorem dJ17_stringSize_10 : decode cJ17_stringSize 10 = .ok (.istore_n 0, 1) := dk_59 (dk_at dksJ17_stringSize_0 10 rfl rfl)
theorem dJ17_stringSize_11 : decode cJ17_stringSize 11 = .ok (.bipush (-10), 2) := dk_16 246 (dk_at dksJ17_stringSize_0 11 rfl rfl)
theorem dJ17_stringSize_13 : decode cJ17_stringSize 13 = .ok (.istore_n 2, 1) := dk_61 (dk_at dksJ17_stringSize_0 13 rfl rfl)
theorem dJ17_stringSize_14 : decode cJ17_stringSize 14 = .ok (.iconst 1, 1) := dk_4 (dk_at dksJ17_stringSize_0 14 rfl rfl)
theorem dJ17_stringSize_15 : decode cJ17_stringSize 15 = .ok (.istore_n 3, 1) := dk_62 (dk_at dksJ17_stringSize_0 15 rfl rfl)
theorem dJ17_stringSize_16 : decode cJ17_stringSize 16 = .ok (.iload_n 3, 1) := dk_29 (dk_at dksJ17_stringSize_0 16 rfl rfl)
theorem dJ17_stringSize_17 : decode cJ17_stringSize 17 = .ok (.bipush 10, 2) := dk_16 10 (dk_at dksJ17_stringSize_0 17 rfl rfl)
theorem dJ17_stringSize_19 : decode cJ17_stringSize 19 = .ok (.if_icmp .ge 23, 3) := dk_162 0 23 (dk_at dksJ17_stringSize_0 19 rfl rfl)
theorem dJ17_stringSize_22 : decode cJ17_stringSize 22 = .ok (.iload_n 0, 1) := dk_26 (dk_at dksJ17_stringSize_0 22 rfl rfl)
theorem dJ17_stringSize_23 : decode cJ17_stringSize 23 = .ok (.iload_n 2, 1) := dk_28 (dk_at dksJ17_stringSize_0 23 rfl rfl)
theorem dJ17_stringSize_24 : decode cJ17_stringSize 24 = .ok (.if_icmp .le 7, 3) := dk_164 0 7 (dk_at dksJ17_stringSize_1 0 rfl rfl)
theorem dJ17_stringSize_27 : decode cJ17_stringSize 27 = .ok (.iload_n 3, 1) := dk_29 (dk_at dksJ17_stringSize_1 3 rfl rfl)
theorem dJ17_stringSize_28 : decode cJ17_stringSize 28 = .ok (.iload_n 1, 1) := dk_27 (dk_at dksJ17_stringSize_1 4 rfl rfl)
theorem dJ17_stringSize_29 : decode cJ17_stringSize 29 = .ok (.iadd, 1) := dk_96 (dk_at dksJ17_stringSize_1 5 rfl rfl)
theorem dJ17_stringSize_30 : decode cJ17_stringSize 30 = .ok (.ireturn, 1) := dk_172 (dk_at dksJ17_stringSize_1 6 rfl rfl)
theorem dJ17_stringSize_31 : decode cJ17_stringSize 31 = .ok (.bipush 10, 2) := dk_16 10 (dk_at dksJ17_stringSize_1 7 rfl rfl)
theorem dJ17_stringSize_33 : decode cJ17_stringSize 33 = .ok (.iload_n 2, 1) := dk_28 (dk_at dksJ17_stringSize_1 9 rfl rfl)
theorem dJ17_stringSize_34 : decode cJ17_stringSize 34 = .ok (.imul, 1) := dk_104 (dk_at dksJ17_stringSize_1 10 rfl rfl)
theorem dJ17_stringSize_35 : decode cJ17_stringSize 35 = .ok (.istore_n 2, 1) := dk_61 (dk_at dksJ17_stringSize_1 11 rfl rfl)
theorem dJ17_stringSize_36 : decode cJ17_stringSize 36 = .ok (.iinc 3 1, 3) := dk_132 3 1 (dk_at dksJ17_stringSize_1 12 rfl rfl)
theorem dJ17_stringSize_39 : decode cJ17_stringSize 39 = .ok (.goto (-23), 3) := dk_167 255 233 (dk_at dksJ17_stringSize_1 15 rfl rfl)
theorem dJ17_stringSize_42 : decode cJ17_stringSize 42 = .ok (.bipush 10, 2) := dk_16 10 (dk_at dksJ17_stringSize_1 18 rfl rfl)
theorem dJ17_stringSize_44 : decode cJ17_stringSize 44 = .ok (.iload_n 1, 1) := dk_27 (dk_at dksJ17_stringSize_1 20 rfl rfl)
theorem dJ17_stringSize_45 : decode cJ17_stringSize 45 = .ok (.iadd, 1) := dk_96 (dk_at dksJ17_stringSize_1 21 rfl rfl)
theorem dJ17_stringSize_46 : decode cJ17_stringSize 46 = .ok (.ireturn, 1) := dk_172 (dk_at dksJ17_stringSize_1 22 rfl rfl)
abbrev cJ17_getChars : ByteArray := prog_35_method_12_code
def yJ17_getChars : MethodName := ⟨RJ17, "getChars", "(II[B)I"⟩
def dkwJ17_getChars_5 : List UInt8 := [16, 45, 84, 21, 5, 172]
abbrev dktJ17_getChars_5 : List UInt8 := dkwJ17_getChars_5 ++ []
def dkwJ17_getChars_4 : List UInt8 := [132, 5, 255, 21, 5, 178, 0, 87, 26, 116, 51, 84, 21, 6, 153, 0, 12, 44, 132, 5, 255, 21, 5]
abbrev dktJ17_getChars_4 : List UInt8 := dkwJ17_getChars_4 ++ dktJ17_getChars_5
def dkwJ17_getChars_3 : List UInt8 := [167, 255, 209, 44, 132, 5, 255, 21, 5, 178, 0, 83, 26, 116, 51, 84, 26, 16, 247, 162, 0, 16, 44]
abbrev dktJ17_getChars_3 : List UInt8 := dkwJ17_getChars_3 ++ dktJ17_getChars_4
def dkwJ17_getChars_2 : List UInt8 := [21, 5, 178, 0, 83, 21, 4, 51, 84, 44, 132, 5, 255, 21, 5, 178, 0, 87, 21, 4, 51, 84]
abbrev dktJ17_getChars_2 : List UInt8 := dkwJ17_getChars_2 ++ dktJ17_getChars_3
def dkwJ17_getChars_1 : List UInt8 := [16, 156, 163, 0, 47, 26, 16, 100, 108, 62, 29, 16, 100, 104, 26, 100, 54, 4, 29, 59, 44, 132, 5, 255]
abbrev dktJ17_getChars_1 : List UInt8 := dkwJ17_getChars_1 ++ dktJ17_getChars_2
def dkwJ17_getChars_0 : List UInt8 := [27, 54, 5, 26, 156, 0, 7, 4, 167, 0, 4, 3, 54, 6, 21, 6, 154, 0, 6, 26, 116, 59, 26]
abbrev dktJ17_getChars_0 : List UInt8 := dkwJ17_getChars_0 ++ dktJ17_getChars_1
theorem dksJ17_getChars_0 : cJ17_getChars.data.toList.drop 0 = dktJ17_getChars_0 := by decide +kernel
theorem dksJ17_getChars_1 : cJ17_getChars.data.toList.drop 23 = dktJ17_getChars_1 := dk_seg dksJ17_getChars_0 23 rfl rfl
theorem dksJ17_getChars_2 : cJ17_getChars.data.toList.drop 47 = dktJ17_getChars_2 := dk_seg dksJ17_getChars_1 24 rfl rfl
theorem dksJ17_getChars_3 : cJ17_getChars.data.toList.drop 69 = dktJ17_getChars_3 := dk_seg dksJ17_getChars_2 22 rfl rfl
theorem dksJ17_getChars_4 : cJ17_getChars.data.toList.drop 92 = dktJ17_getChars_4 := dk_seg dksJ17_getChars_3 23 rfl rfl
theorem dksJ17_getChars_5 : cJ17_getChars.data.toList.drop 115 = dktJ17_getChars_5 := dk_seg dksJ17_getChars_4 23 rfl rfl
theorem dJ17_getChars_0 : decode cJ17_getChars 0 = .ok (.iload_n 1, 1) := dk_27 (dk_at dksJ17_getChars_0 0 rfl rfl)
theorem dJ17_getChars_1 : decode cJ17_getChars 1 = .ok (.istore 5, 2) := dk_54 5 (dk_at dksJ17_getChars_0 1 rfl rfl)
theorem dJ17_getChars_3 : decode cJ17_getChars 3 = .ok (.iload_n 0, 1) := dk_26 (dk_at dksJ17_getChars_0 3 rfl rfl)
theorem dJ17_getChars_4 : decode cJ17_getChars 4 = .ok (.ifCond .ge 7, 3) := dk_156 0 7 (dk_at dksJ17_getChars_0 4 rfl rfl)
theorem dJ17_getChars_7 : decode cJ17_getChars 7 = .ok (.iconst 1, 1) := dk_4 (dk_at dksJ17_getChars_0 7 rfl rfl)
theorem dJ17_getChars_8 : decode cJ17_getChars 8 = .ok (.goto 4, 3) := dk_167 0 4 (dk_at dksJ17_getChars_0 8 rfl rfl)
theorem dJ17_getChars_11 : decode cJ17_getChars 11 = .ok (.iconst 0, 1) := dk_3 (dk_at dksJ17_getChars_0 11 rfl rfl)
theorem dJ17_getChars_12 : decode cJ17_getChars 12 = .ok (.istore 6, 2) := dk_54 6 (dk_at dksJ17_getChars_0 12 rfl rfl)
theorem dJ17_getChars_14 : decode cJ17_getChars 14 = .ok (.iload 6, 2) := dk_21 6 (dk_at dksJ17_getChars_0 14 rfl rfl)
theorem dJ17_getChars_16 : decode cJ17_getChars 16 = .ok (.ifCond .ne 6, 3) := dk_154 0 6 (dk_at dksJ17_getChars_0 16 rfl rfl)
theorem dJ17_getChars_19 : decode cJ17_getChars 19 = .ok (.iload_n 0, 1) := dk_26 (dk_at dksJ17_getChars_0 19 rfl rfl)
theorem dJ17_getChars_20 : decode cJ17_getChars 20 = .ok (.ineg, 1) := dk_116 (dk_at dksJ17_getChars_0 20 rfl rfl)
theorem dJ17_getChars_21 : decode cJ17_getChars 21 = .ok (.istore_n 0, 1) := dk_59 (dk_at dksJ17_getChars_0 21 rfl rfl)
theorem dJ17_getChars_22 : decode cJ17_getChars 22 = .ok (.iload_n 0, 1) := dk_26 (dk_at dksJ17_getChars_0 22 rfl rfl)
theorem dJ17_getChars_23 : decode cJ17_getChars 23 = .ok (.bipush (-100), 2) := dk_16 156 (dk_at dksJ17_getChars_1 0 rfl rfl)
theorem dJ17_getChars_25 : decode cJ17_getChars 25 = .ok (.if_icmp .gt 47, 3) := dk_163 0 47 (dk_at dksJ17_getChars_1 2 rfl rfl)
theorem dJ17_getChars_28 : decode cJ17_getChars 28 = .ok (.iload_n 0, 1) := dk_26 (dk_at dksJ17_getChars_1 5 rfl rfl)
theorem dJ17_getChars_29 : decode cJ17_getChars 29 = .ok (.bipush 100, 2) := dk_16 100 (dk_at dksJ17_getChars_1 6 rfl rfl)
theorem dJ17_getChars_31 : decode cJ17_getChars 31 = .ok (.idiv, 1) := dk_108 (dk_at dksJ17_getChars_1 8 rfl rfl)
theorem dJ17_getChars_32 : decode cJ17_getChars 32 = .ok (.istore_n 3, 1) := dk_62 (dk_at dksJ17_getChars_1 9 rfl rfl)
theorem dJ17_getChars_33 : decode cJ17_getChars 33 = .ok (.iload_n 3, 1) := dk_29 (dk_at dksJ17_getChars_1 10 rfl rfl)
theorem dJ17_getChars_34 : decode cJ17_getChars 34 = .ok (.bipush 100, 2) := dk_16 100 (dk_at dksJ17_getChars_1 11 rfl rfl)
theorem dJ17_getChars_36 : decode cJ17_getChars 36 = .ok (.imul, 1) := dk_104 (dk_at dksJ17_getChars_1 13 rfl rfl)
theorem dJ17_getChars_37 : decode cJ17_getChars 37 = .ok (.iload_n 0, 1) := dk_26 (dk_at dksJ17_getChars_1 14 rfl rfl)
theorem dJ17_getChars_38 : decode cJ17_getChars 38 = .ok (.isub, 1) := dk_100 (dk_at dksJ17_getChars_1 15 rfl rfl)
theorem dJ17_getChars_39 : decode cJ17_getChars 39 = .ok (.istore 4, 2) := dk_54 4 (dk_at dksJ17_getChars_1 16 rfl rfl)
theorem dJ17_getChars_41 : decode cJ17_getChars 41 = .ok (.iload_n 3, 1) := dk_29 (dk_at dksJ17_getChars_1 18 rfl rfl)
theorem dJ17_getChars_42 : decode cJ17_getChars 42 = .ok (.istore_n 0, 1) := dk_59 (dk_at dksJ17_getChars_1 19 rfl rfl)
theorem dJ17_getChars_43 : decode cJ17_getChars 43 = .ok (.aload_n 2, 1) := dk_44 (dk_at dksJ17_getChars_1 20 rfl rfl)
theorem dJ17_getChars_44 : decode cJ17_getChars 44 = .ok (.iinc 5 (-1), 3) := dk_132 5 255 (dk_at dksJ17_getChars_1 21 rfl rfl)
theorem dJ17_getChars_47 : decode cJ17_getChars 47 = .ok (.iload 5, 2) := dk_21 5 (dk_at dksJ17_getChars_2 0 rfl rfl)
theorem dJ17_getChars_49 : decode cJ17_getChars 49 = .ok (.getstatic 83, 3) := dk_178 0 83 (dk_at dksJ17_getChars_2 2 rfl rfl)
theorem dJ17_getChars_52 : decode cJ17_getChars 52 = .ok (.iload 4, 2) := dk_21 4 (dk_at dksJ17_getChars_2 5 rfl rfl)
theorem dJ17_getChars_54 : decode cJ17_getChars 54 = .ok (.baload, 1) := dk_51 (dk_at dksJ17_getChars_2 7 rfl rfl)
theorem dJ17_getChars_55 : decode cJ17_getChars 55 = .ok (.bastore, 1) := dk_84 (dk_at dksJ17_getChars_2 8 rfl rfl)
theorem dJ17_getChars_56 : decode cJ17_getChars 56 = .ok (.aload_n 2, 1) := dk_44 (dk_at dksJ17_getChars_2 9 rfl rfl)
theorem dJ17_getChars_57 : decode cJ17_getChars 57 = .ok (.iinc 5 (-1), 3) := dk_132 5 255 (dk_at dksJ17_getChars_2 10 rfl rfl)
theorem dJ17_getChars_60 : decode cJ17_getChars 60 = .ok (.iload 5, 2) := dk_21 5 (dk_at dksJ17_getChars_2 13 rfl rfl)
theorem dJ17_getChars_62 : decode cJ17_getChars 62 = .ok (.getstatic 87, 3) := dk_178 0 87 (dk_at dksJ17_getChars_2 15 rfl rfl)
theorem dJ17_getChars_65 : decode cJ17_getChars 65 = .ok (.iload 4, 2) := dk_21 4 (dk_at dksJ17_getChars_2 18 rfl rfl)
theorem dJ17_getChars_67 : decode cJ17_getChars 67 = .ok (.baload, 1) := dk_51 (dk_at dksJ17_getChars_2 20 rfl rfl)
theorem dJ17_getChars_68 : decode cJ17_getChars 68 = .ok (.bastore, 1) := dk_84 (dk_at dksJ17_getChars_2 21 rfl rfl)
theorem dJ17_getChars_69 : decode cJ17_getChars 69 = .ok (.goto (-47), 3) := dk_167 255 209 (dk_at dksJ17_getChars_3 0 rfl rfl)
theorem dJ17_getChars_72 : decode cJ17_getChars 72 = .ok (.aload_n 2, 1) := dk_44 (dk_at dksJ17_getChars_3 3 rfl rfl)
theorem dJ17_getChars_73 : decode cJ17_getChars 73 = .ok (.iinc 5 (-1), 3) := dk_132 5 255 (dk_at dksJ17_getChars_3 4 rfl rfl)
theorem dJ17_getChars_76 : decode cJ17_getChars 76 = .ok (.iload 5, 2) := dk_21 5 (dk_at dksJ17_getChars_3 7 rfl rfl)
theorem dJ17_getChars_78 : decode cJ17_getChars 78 = .ok (.getstatic 83, 3) := dk_178 0 83 (dk_at dksJ17_getChars_3 9 rfl rfl)
theorem dJ17_getChars_81 : decode cJ17_getChars 81 = .ok (.iload_n 0, 1) := dk_26 (dk_at dksJ17_getChars_3 12 rfl rfl)
theorem dJ17_getChars_82 : decode cJ17_getChars 82 = .ok (.ineg, 1) := dk_116 (dk_at dksJ17_getChars_3 13 rfl rfl)
theorem dJ17_getChars_83 : decode cJ17_getChars 83 = .ok (.baload, 1) := dk_51 (dk_at dksJ17_getChars_3 14 rfl rfl)
theorem dJ17_getChars_84 : decode cJ17_getChars 84 = .ok (.bastore, 1) := dk_84 (dk_at dksJ17_getChars_3 15 rfl rfl)
theorem dJ17_getChars_85 : decode cJ17_getChars 85 = .ok (.iload_n 0, 1) := dk_26 (dk_at dksJ17_getChars_3 16 rfl rfl)
theorem dJ17_getChars_86 : decode cJ17_getChars 86 = .ok (.bipush (-9), 2) := dk_16 247 (dk_at dksJ17_getChars_3 17 rfl rfl)
theorem dJ17_getChars_88 : decode cJ17_getChars 88 = .ok (.if_icmp .ge 16, 3) := dk_162 0 16 (dk_at dksJ17_getChars_3 19 rfl rfl)
theorem dJ17_getChars_91 : decode cJ17_getChars 91 = .ok (.aload_n 2, 1) := dk_44 (dk_at dksJ17_getChars_3 22 rfl rfl)
theorem dJ17_getChars_92 : decode cJ17_getChars 92 = .ok (.iinc 5 (-1), 3) := dk_132 5 255 (dk_at dksJ17_getChars_4 0 rfl rfl)
theorem dJ17_getChars_95 : decode cJ17_getChars 95 = .ok (.iload 5, 2) := dk_21 5 (dk_at dksJ17_getChars_4 3 rfl rfl)
theorem dJ17_getChars_97 : decode cJ17_getChars 97 = .ok (.getstatic 87, 3) := dk_178 0 87 (dk_at dksJ17_getChars_4 5 rfl rfl)
theorem dJ17_getChars_100 : decode cJ17_getChars 100 = .ok (.iload_n 0, 1) := dk_26 (dk_at dksJ17_getChars_4 8 rfl rfl)
theorem dJ17_getChars_101 : decode cJ17_getChars 101 = .ok (.ineg, 1) := dk_116 (dk_at dksJ17_getChars_4 9 rfl rfl)
theorem dJ17_getChars_102 : decode cJ17_getChars 102 = .ok (.baload, 1) := dk_51 (dk_at dksJ17_getChars_4 10 rfl rfl)
theorem dJ17_getChars_103 : decode cJ17_getChars 103 = .ok (.bastore, 1) := dk_84 (dk_at dksJ17_getChars_4 11 rfl rfl)
theorem dJ17_getChars_104 : decode cJ17_getChars 104 = .ok (.iload 6, 2) := dk_21 6 (dk_at dksJ17_getChars_4 12 rfl rfl)
theorem dJ17_getChars_106 : decode cJ17_getChars 106 = .ok (.ifCond .eq 12, 3) := dk_153 0 12 (dk_at dksJ17_getChars_4 14 rfl rfl)
theorem dJ17_getChars_109 : decode cJ17_getChars 109 = .ok (.aload_n 2, 1) := dk_44 (dk_at dksJ17_getChars_4 17 rfl rfl)
theorem dJ17_getChars_110 : decode cJ17_getChars 110 = .ok (.iinc 5 (-1), 3) := dk_132 5 255 (dk_at dksJ17_getChars_4 18 rfl rfl)
theorem dJ17_getChars_113 : decode cJ17_getChars 113 = .ok (.iload 5, 2) := dk_21 5 (dk_at dksJ17_getChars_4 21 rfl rfl)
theorem dJ17_getChars_115 : decode cJ17_getChars 115 = .ok (.bipush 45, 2) := dk_16 45 (dk_at dksJ17_getChars_5 0 rfl rfl)
theorem dJ17_getChars_117 : decode cJ17_getChars 117 = .ok (.bastore, 1) := dk_84 (dk_at dksJ17_getChars_5 2 rfl rfl)
theorem dJ17_getChars_118 : decode cJ17_getChars 118 = .ok (.iload 5, 2) := dk_21 5 (dk_at dksJ17_getChars_5 3 rfl rfl)
theorem dJ17_getChars_120 : decode cJ17_getChars 120 = .ok (.ireturn, 1) := dk_172 (dk_at dksJ17_getChars_5 5 rfl rfl)
theorem q111 : (Jvm.Cond.initialized "java/lang/Integer") ∈ lw_all := lw_g (lw_at lw_m1 29 rfl) rfl
theorem q561 : (Jvm.Cond.static ({ cls := "java/lang/Integer", name := "bitCount", desc := "(I)I" } : Jvm.MethodName)) ∈ lw_all := lw_g (lw_at lw_m2 239 rfl) rfl
theorem q562 : (Jvm.Cond.code ({ cls := "java/lang/Integer", name := "bitCount", desc := "(I)I" } : Jvm.MethodName) prog_35_method_49_code (1 : Nat) (Option.some Jvm.ClassFile.FieldType.int)) ∈ lw_all := lw_g (lw_at lw_m3 0 rfl) rfl
theorem q563 : (Jvm.Cond.constant "java/lang/Integer" (265 : Nat) (1431655765 : Int32)) ∈ lw_all := lw_g (lw_at lw_m3 1 rfl) rfl
theorem q564 : (Jvm.Cond.constant "java/lang/Integer" (266 : Nat) (858993459 : Int32)) ∈ lw_all := lw_g (lw_at lw_m3 2 rfl) rfl
theorem q565 : (Jvm.Cond.constant "java/lang/Integer" (267 : Nat) (252645135 : Int32)) ∈ lw_all := lw_g (lw_at lw_m3 3 rfl) rfl
theorem q1005 : (Jvm.Cond.static ({ cls := "java/lang/Integer", name := "stringSize", desc := "(I)I" } : Jvm.MethodName)) ∈ lw_all := lw_g (lw_at lw_m4 203 rfl) rfl
theorem q1006 : (Jvm.Cond.code ({ cls := "java/lang/Integer", name := "stringSize", desc := "(I)I" } : Jvm.MethodName) prog_35_method_13_code (4 : Nat) (Option.some Jvm.ClassFile.FieldType.int)) ∈ lw_all := lw_g (lw_at lw_m4 204 rfl) rfl
theorem q1008 : (Jvm.Cond.static ({ cls := "java/lang/Integer", name := "getChars", desc := "(II[B)I" } : Jvm.MethodName)) ∈ lw_all := lw_g (lw_at lw_m4 206 rfl) rfl
theorem q1009 : (Jvm.Cond.code ({ cls := "java/lang/Integer", name := "getChars", desc := "(II[B)I" } : Jvm.MethodName) prog_35_method_12_code (7 : Nat) (Option.some Jvm.ClassFile.FieldType.int)) ∈ lw_all := lw_g (lw_at lw_m4 207 rfl) rfl
theorem q1010 : (Jvm.Cond.fieldLink "java/lang/Integer" (83 : Nat) "java/lang/Integer" "DigitOnes" "[B") ∈ lw_all := lw_g (lw_at lw_m4 208 rfl) rfl
theorem q1011 : (Jvm.Cond.laysStatic "java/lang/Integer" "DigitOnes" "[B") ∈ lw_tbl := lw_at lw_m4 209 rfl
theorem q1012 : (Jvm.Cond.fieldLink "java/lang/Integer" (87 : Nat) "java/lang/Integer" "DigitTens" "[B") ∈ lw_all := lw_g (lw_at lw_m4 210 rfl) rfl
theorem q1013 : (Jvm.Cond.laysStatic "java/lang/Integer" "DigitTens" "[B") ∈ lw_tbl := lw_at lw_m4 211 rfl
/-! java/lang/Enum -/
set_option maxRecDepth 100000
def RJ18 : String := "java/lang/Enum"
abbrev cJ18_ordinal : ByteArray := prog_31_method_2_code
def yJ18_ordinal : MethodName := ⟨RJ18, "ordinal", "()I"⟩
theorem dJ18_ordinal_0 : decode cJ18_ordinal 0 = .ok (.aload_n 0, 1) := by decide +kernel
theorem dJ18_ordinal_1 : decode cJ18_ordinal 1 = .ok (.getfield 7, 3) := by decide +kernel
theorem dJ18_ordinal_4 : decode cJ18_ordinal 4 = .ok (.ireturn, 1) := by decide +kernel
theorem q113 : (Jvm.Cond.initialized "java/lang/Enum") ∈ lw_all := lw_g (lw_at lw_m1 31 rfl) rfl
theorem q521 : (Jvm.Cond.declares ({ cls := "java/lang/Enum", name := "ordinal", desc := "()I" } : Jvm.MethodName)) ∈ lw_tbl := lw_at lw_m2 199 rfl
theorem q523 : (Jvm.Cond.instanceMethod ({ cls := "java/lang/Enum", name := "ordinal", desc := "()I" } : Jvm.MethodName)) ∈ lw_all := lw_g (lw_at lw_m2 201 rfl) rfl
theorem q524 : (Jvm.Cond.code ({ cls := "java/lang/Enum", name := "ordinal", desc := "()I" } : Jvm.MethodName) prog_31_method_2_code (1 : Nat) (Option.some Jvm.ClassFile.FieldType.int)) ∈ lw_all := lw_g (lw_at lw_m2 202 rfl) rfl
theorem q2382 : (Jvm.Cond.fieldLink "java/lang/Enum" (7 : Nat) "java/lang/Enum" "ordinal" "I") ∈ lw_all := lw_g (lw_at lw_m10 140 rfl) rfl
/-! java/lang/UnsupportedOperationException -/
set_option maxRecDepth 100000
def RJ19 : String := "java/lang/UnsupportedOperationException"
def TJ19 : u_T := fun k => match k with
  | 0 => ("java/lang/Throwable", "cause", "Ljava/lang/Throwable;", false)
  | 1 => ("java/lang/Throwable", "stackTrace", "[Ljava/lang/StackTraceElement;", false)
  | 2 => ("java/lang/Throwable", "suppressedExceptions", "Ljava/util/List;", false)
  | 3 => ("java/lang/Throwable", "detailMessage", "Ljava/lang/String;", false)
  | 4 => ("java/lang/Throwable", "backtrace", "Ljava/lang/Object;", false)
  | _ => ("java/lang/Throwable", "depth", "I", false)
def tyJ19 : Nat → FieldType := fun k => match k with
  | 0 => .object "java/lang/Throwable"
  | 1 => .array (.object "java/lang/StackTraceElement")
  | 2 => .object "java/util/List"
  | 3 => .object "java/lang/String"
  | 4 => .object "java/lang/Object"
  | _ => .int
abbrev wsJ190 : List Cond := u_ws RJ19 TJ19 6
theorem nmJ19 : ∀ a, a < 6 → ∀ b, b < 6 → a ≠ b → (TJ19 a).2.1 ≠ (TJ19 b).2.1 := by decide +kernel
theorem tyJ19_ok : ∀ k, k < 6 → parseFieldDescriptor (TJ19 k).2.2.1 = some (tyJ19 k) := by decide +kernel
abbrev cJ19_init : ByteArray := prog_47_method_1_code
def yJ19_init : MethodName := ⟨RJ19, "<init>", "()V"⟩
theorem dJ19_init_0 : decode cJ19_init 0 = .ok (.aload_n 0, 1) := by decide +kernel
theorem dJ19_init_1 : decode cJ19_init 1 = .ok (.invokespecial 1, 3) := by decide +kernel
theorem dJ19_init_4 : decode cJ19_init 4 = .ok (.return_, 1) := by decide +kernel
theorem q116 : (Jvm.Cond.initialized "java/lang/UnsupportedOperationException") ∈ lw_all := lw_g (lw_at lw_m1 34 rfl) rfl
theorem q717 : (Jvm.Cond.selects "java/lang/UnsupportedOperationException" ({ cls := "java/lang/Object", name := "getClass", desc := "()Ljava/lang/Class;" } : Jvm.MethodName) ({ cls := "java/lang/Object", name := "getClass", desc := "()Ljava/lang/Class;" } : Jvm.MethodName)) ∈ lw_all := lw_g (lw_at lw_m3 155 rfl) rfl
theorem q987 : (Jvm.Cond.selects "java/lang/UnsupportedOperationException" ({ cls := "java/lang/Throwable", name := "fillInStackTrace", desc := "()Ljava/lang/Throwable;" } : Jvm.MethodName) ({ cls := "java/lang/Throwable", name := "fillInStackTrace", desc := "()Ljava/lang/Throwable;" } : Jvm.MethodName)) ∈ lw_all := lw_g (lw_at lw_m4 185 rfl) rfl
theorem q1330 : (Jvm.Cond.instantiable "java/lang/UnsupportedOperationException" (6 : Nat)) ∈ lw_all := lw_g (lw_at lw_m6 48 rfl) rfl
theorem q1331 : (Jvm.Cond.castable "java/lang/UnsupportedOperationException" "java/lang/UnsupportedOperationException") ∈ lw_tbl := lw_at lw_m6 49 rfl
theorem q1332 : (Jvm.Cond.selects "java/lang/UnsupportedOperationException" ({ cls := "java/lang/Throwable", name := "fillInStackTrace", desc := "(I)Ljava/lang/Throwable;" } : Jvm.MethodName) ({ cls := "java/lang/Throwable", name := "fillInStackTrace", desc := "(I)Ljava/lang/Throwable;" } : Jvm.MethodName)) ∈ lw_all := lw_g (lw_at lw_m6 50 rfl) rfl
theorem q1333 : (Jvm.Cond.lays "java/lang/UnsupportedOperationException" "java/lang/Throwable" "cause" "Ljava/lang/Throwable;") ∈ lw_all := lw_g (lw_at lw_m6 51 rfl) rfl
theorem q1334 : (Jvm.Cond.lays "java/lang/UnsupportedOperationException" "java/lang/Throwable" "stackTrace" "[Ljava/lang/StackTraceElement;") ∈ lw_all := lw_g (lw_at lw_m6 52 rfl) rfl
theorem q1335 : (Jvm.Cond.lays "java/lang/UnsupportedOperationException" "java/lang/Throwable" "suppressedExceptions" "Ljava/util/List;") ∈ lw_all := lw_g (lw_at lw_m6 53 rfl) rfl
theorem q1336 : (Jvm.Cond.lays "java/lang/UnsupportedOperationException" "java/lang/Throwable" "detailMessage" "Ljava/lang/String;") ∈ lw_all := lw_g (lw_at lw_m6 54 rfl) rfl
theorem q1337 : (Jvm.Cond.lays "java/lang/UnsupportedOperationException" "java/lang/Throwable" "backtrace" "Ljava/lang/Object;") ∈ lw_all := lw_g (lw_at lw_m6 55 rfl) rfl
theorem q1339 : (Jvm.Cond.instanceMethod ({ cls := "java/lang/UnsupportedOperationException", name := "<init>", desc := "()V" } : Jvm.MethodName)) ∈ lw_all := lw_g (lw_at lw_m6 57 rfl) rfl
theorem q1340 : (Jvm.Cond.code ({ cls := "java/lang/UnsupportedOperationException", name := "<init>", desc := "()V" } : Jvm.MethodName) prog_47_method_1_code (1 : Nat) (Option.none : Option Jvm.ClassFile.FieldType)) ∈ lw_all := lw_g (lw_at lw_m6 58 rfl) rfl
theorem q1341 : (Jvm.Cond.methodLink "java/lang/UnsupportedOperationException" (1 : Nat) ({ cls := "java/lang/RuntimeException", name := "<init>", desc := "()V" } : Jvm.MethodName)) ∈ lw_all := lw_g (lw_at lw_m6 59 rfl) rfl
theorem q1342 : (Jvm.Cond.lays "java/lang/UnsupportedOperationException" "java/lang/Throwable" "depth" "I") ∈ lw_all := lw_g (lw_at lw_m6 60 rfl) rfl
theorem q1343 : (Jvm.Cond.superclass "java/lang/UnsupportedOperationException" "java/lang/RuntimeException") ∈ lw_all := lw_g (lw_at lw_m6 61 rfl) rfl
theorem q2357 : (Jvm.Cond.castable "java/lang/UnsupportedOperationException" "java/lang/Object") ∈ lw_tbl := lw_at lw_m10 115 rfl
theorem in_J19 : ∀ w ∈ wsJ190, w ∈ lw_all := lw_in wsJ190 [1333, 1334, 1335, 1336, 1337, 1342] (by decide +kernel) (by decide +kernel)
/-! java/util/ArrayList -/
set_option maxRecDepth 100000
def RJ2 : String := "java/util/ArrayList"
def TJ2 : u_T := fun k => match k with
  | 0 => ("java/util/AbstractList", "modCount", "I", false)
  | 1 => ("java/util/ArrayList", "elementData", "[Ljava/lang/Object;", false)
  | _ => ("java/util/ArrayList", "size", "I", false)
def tyJ2 : Nat → FieldType := fun k => match k with
  | 0 => .int
  | 1 => .array (.object "java/lang/Object")
  | _ => .int
abbrev wsJ20 : List Cond := u_ws RJ2 TJ2 3
theorem nmJ2 : ∀ a, a < 3 → ∀ b, b < 3 → a ≠ b → (TJ2 a).2.1 ≠ (TJ2 b).2.1 := by decide +kernel
theorem tyJ2_ok : ∀ k, k < 3 → parseFieldDescriptor (TJ2 k).2.2.1 = some (tyJ2 k) := by decide +kernel
abbrev cJ2_init : ByteArray := prog_52_method_2_code
def yJ2_init : MethodName := ⟨RJ2, "<init>", "()V"⟩
def dkwJ2_init_0 : List UInt8 := [42, 183, 0, 1, 42, 178, 0, 39, 181, 0, 9, 177]
abbrev dktJ2_init_0 : List UInt8 := dkwJ2_init_0 ++ []
theorem dksJ2_init_0 : cJ2_init.data.toList.drop 0 = dktJ2_init_0 := by decide +kernel
theorem dJ2_init_0 : decode cJ2_init 0 = .ok (.aload_n 0, 1) := dk_42 (dk_at dksJ2_init_0 0 rfl rfl)
theorem dJ2_init_1 : decode cJ2_init 1 = .ok (.invokespecial 1, 3) := dk_183 0 1 (dk_at dksJ2_init_0 1 rfl rfl)
theorem dJ2_init_4 : decode cJ2_init 4 = .ok (.aload_n 0, 1) := dk_42 (dk_at dksJ2_init_0 4 rfl rfl)
theorem dJ2_init_5 : decode cJ2_init 5 = .ok (.getstatic 39, 3) := dk_178 0 39 (dk_at dksJ2_init_0 5 rfl rfl)
theorem dJ2_init_8 : decode cJ2_init 8 = .ok (.putfield 9, 3) := dk_181 0 9 (dk_at dksJ2_init_0 8 rfl rfl)
theorem dJ2_init_11 : decode cJ2_init 11 = .ok (.return_, 1) := dk_177 (dk_at dksJ2_init_0 11 rfl rfl)
abbrev cJ2_size : ByteArray := prog_52_method_8_code
def yJ2_size : MethodName := ⟨RJ2, "size", "()I"⟩
theorem dJ2_size_0 : decode cJ2_size 0 = .ok (.aload_n 0, 1) := by decide +kernel
theorem dJ2_size_1 : decode cJ2_size 1 = .ok (.getfield 48, 3) := by decide +kernel
theorem dJ2_size_4 : decode cJ2_size 4 = .ok (.ireturn, 1) := by decide +kernel
abbrev cJ2_get : ByteArray := prog_52_method_20_code
def yJ2_get : MethodName := ⟨RJ2, "get", "(I)Ljava/lang/Object;"⟩
def dkwJ2_get_0 : List UInt8 := [27, 42, 180, 0, 48, 184, 0, 118, 87, 42, 27, 182, 0, 123, 176]
abbrev dktJ2_get_0 : List UInt8 := dkwJ2_get_0 ++ []
theorem dksJ2_get_0 : cJ2_get.data.toList.drop 0 = dktJ2_get_0 := by decide +kernel
theorem dJ2_get_0 : decode cJ2_get 0 = .ok (.iload_n 1, 1) := dk_27 (dk_at dksJ2_get_0 0 rfl rfl)
theorem dJ2_get_1 : decode cJ2_get 1 = .ok (.aload_n 0, 1) := dk_42 (dk_at dksJ2_get_0 1 rfl rfl)
theorem dJ2_get_2 : decode cJ2_get 2 = .ok (.getfield 48, 3) := dk_180 0 48 (dk_at dksJ2_get_0 2 rfl rfl)
theorem dJ2_get_5 : decode cJ2_get 5 = .ok (.invokestatic 118, 3) := dk_184 0 118 (dk_at dksJ2_get_0 5 rfl rfl)
theorem dJ2_get_8 : decode cJ2_get 8 = .ok (.pop, 1) := dk_87 (dk_at dksJ2_get_0 8 rfl rfl)
theorem dJ2_get_9 : decode cJ2_get 9 = .ok (.aload_n 0, 1) := dk_42 (dk_at dksJ2_get_0 9 rfl rfl)
theorem dJ2_get_10 : decode cJ2_get 10 = .ok (.iload_n 1, 1) := dk_27 (dk_at dksJ2_get_0 10 rfl rfl)
theorem dJ2_get_11 : decode cJ2_get 11 = .ok (.invokevirtual 123, 3) := dk_182 0 123 (dk_at dksJ2_get_0 11 rfl rfl)
theorem dJ2_get_14 : decode cJ2_get 14 = .ok (.areturn, 1) := dk_176 (dk_at dksJ2_get_0 14 rfl rfl)
abbrev cJ2_elementData : ByteArray := prog_52_method_18_code
def yJ2_elementData : MethodName := ⟨RJ2, "elementData", "(I)Ljava/lang/Object;"⟩
def dkwJ2_elementData_0 : List UInt8 := [42, 180, 0, 9, 27, 50, 176]
abbrev dktJ2_elementData_0 : List UInt8 := dkwJ2_elementData_0 ++ []
theorem dksJ2_elementData_0 : cJ2_elementData.data.toList.drop 0 = dktJ2_elementData_0 := by decide +kernel
theorem dJ2_elementData_0 : decode cJ2_elementData 0 = .ok (.aload_n 0, 1) := dk_42 (dk_at dksJ2_elementData_0 0 rfl rfl)
theorem dJ2_elementData_1 : decode cJ2_elementData 1 = .ok (.getfield 9, 3) := dk_180 0 9 (dk_at dksJ2_elementData_0 1 rfl rfl)
theorem dJ2_elementData_4 : decode cJ2_elementData 4 = .ok (.iload_n 1, 1) := dk_27 (dk_at dksJ2_elementData_0 4 rfl rfl)
theorem dJ2_elementData_5 : decode cJ2_elementData 5 = .ok (.aaload, 1) := dk_50 (dk_at dksJ2_elementData_0 5 rfl rfl)
theorem dJ2_elementData_6 : decode cJ2_elementData 6 = .ok (.areturn, 1) := dk_176 (dk_at dksJ2_elementData_0 6 rfl rfl)
abbrev cJ2_add : ByteArray := prog_52_method_25_code
def yJ2_add : MethodName := ⟨RJ2, "add", "(Ljava/lang/Object;)Z"⟩
def dkwJ2_add_1 : List UInt8 := [172]
abbrev dktJ2_add_1 : List UInt8 := dkwJ2_add_1 ++ []
def dkwJ2_add_0 : List UInt8 := [42, 89, 180, 0, 63, 4, 96, 181, 0, 63, 42, 43, 42, 180, 0, 9, 42, 180, 0, 48, 182, 0, 131, 4]
abbrev dktJ2_add_0 : List UInt8 := dkwJ2_add_0 ++ dktJ2_add_1
theorem dksJ2_add_0 : cJ2_add.data.toList.drop 0 = dktJ2_add_0 := by decide +kernel
theorem dksJ2_add_1 : cJ2_add.data.toList.drop 24 = dktJ2_add_1 := dk_seg dksJ2_add_0 24 rfl rfl
theorem dJ2_add_0 : decode cJ2_add 0 = .ok (.aload_n 0, 1) := dk_42 (dk_at dksJ2_add_0 0 rfl rfl)
theorem dJ2_add_1 : decode cJ2_add 1 = .ok (.dup, 1) := dk_89 (dk_at dksJ2_add_0 1 rfl rfl)
theorem dJ2_add_2 : decode cJ2_add 2 = .ok (.getfield 63, 3) := dk_180 0 63 (dk_at dksJ2_add_0 2 rfl rfl)
theorem dJ2_add_5 : decode cJ2_add 5 = .ok (.iconst 1, 1) := dk_4 (dk_at dksJ2_add_0 5 rfl rfl)
theorem dJ2_add_6 : decode cJ2_add 6 = .ok (.iadd, 1) := dk_96 (dk_at dksJ2_add_0 6 rfl rfl)
theorem dJ2_add_7 : decode cJ2_add 7 = .ok (.putfield 63, 3) := dk_181 0 63 (dk_at dksJ2_add_0 7 rfl rfl)
theorem dJ2_add_10 : decode cJ2_add 10 = .ok (.aload_n 0, 1) := dk_42 (dk_at dksJ2_add_0 10 rfl rfl)
theorem dJ2_add_11 : decode cJ2_add 11 = .ok (.aload_n 1, 1) := dk_43 (dk_at dksJ2_add_0 11 rfl rfl)
theorem dJ2_add_12 : decode cJ2_add 12 = .ok (.aload_n 0, 1) := dk_42 (dk_at dksJ2_add_0 12 rfl rfl)
theorem dJ2_add_13 : decode cJ2_add 13 = .ok (.getfield 9, 3) := dk_180 0 9 (dk_at dksJ2_add_0 13 rfl rfl)
theorem dJ2_add_16 : decode cJ2_add 16 = .ok (.aload_n 0, 1) := dk_42 (dk_at dksJ2_add_0 16 rfl rfl)
theorem dJ2_add_17 : decode cJ2_add 17 = .ok (.getfield 48, 3) := dk_180 0 48 (dk_at dksJ2_add_0 17 rfl rfl)
theorem dJ2_add_20 : decode cJ2_add 20 = .ok (.invokevirtual 131, 3) := dk_182 0 131 (dk_at dksJ2_add_0 20 rfl rfl)
theorem dJ2_add_23 : decode cJ2_add 23 = .ok (.iconst 1, 1) := dk_4 (dk_at dksJ2_add_0 23 rfl rfl)
theorem dJ2_add_24 : decode cJ2_add 24 = .ok (.ireturn, 1) := dk_172 (dk_at dksJ2_add_1 0 rfl rfl)
abbrev cJ2_add_2 : ByteArray := prog_52_method_24_code
def yJ2_add_2 : MethodName := ⟨RJ2, "add", "(Ljava/lang/Object;[Ljava/lang/Object;I)V"⟩
def dkwJ2_add_2_0 : List UInt8 := [29, 44, 190, 160, 0, 8, 42, 182, 0, 129, 77, 44, 29, 43, 83, 42, 29, 4, 96, 181, 0, 48, 177]
abbrev dktJ2_add_2_0 : List UInt8 := dkwJ2_add_2_0 ++ []
theorem dksJ2_add_2_0 : cJ2_add_2.data.toList.drop 0 = dktJ2_add_2_0 := by decide +kernel
theorem dJ2_add_2_0 : decode cJ2_add_2 0 = .ok (.iload_n 3, 1) := dk_29 (dk_at dksJ2_add_2_0 0 rfl rfl)
theorem dJ2_add_2_1 : decode cJ2_add_2 1 = .ok (.aload_n 2, 1) := dk_44 (dk_at dksJ2_add_2_0 1 rfl rfl)
theorem dJ2_add_2_2 : decode cJ2_add_2 2 = .ok (.arraylength, 1) := dk_190 (dk_at dksJ2_add_2_0 2 rfl rfl)
theorem dJ2_add_2_3 : decode cJ2_add_2 3 = .ok (.if_icmp .ne 8, 3) := dk_160 0 8 (dk_at dksJ2_add_2_0 3 rfl rfl)
theorem dJ2_add_2_6 : decode cJ2_add_2 6 = .ok (.aload_n 0, 1) := dk_42 (dk_at dksJ2_add_2_0 6 rfl rfl)
theorem dJ2_add_2_7 : decode cJ2_add_2 7 = .ok (.invokevirtual 129, 3) := dk_182 0 129 (dk_at dksJ2_add_2_0 7 rfl rfl)
theorem dJ2_add_2_10 : decode cJ2_add_2 10 = .ok (.astore_n 2, 1) := dk_77 (dk_at dksJ2_add_2_0 10 rfl rfl)
theorem dJ2_add_2_11 : decode cJ2_add_2 11 = .ok (.aload_n 2, 1) := dk_44 (dk_at dksJ2_add_2_0 11 rfl rfl)
theorem dJ2_add_2_12 : decode cJ2_add_2 12 = .ok (.iload_n 3, 1) := dk_29 (dk_at dksJ2_add_2_0 12 rfl rfl)
theorem dJ2_add_2_13 : decode cJ2_add_2 13 = .ok (.aload_n 1, 1) := dk_43 (dk_at dksJ2_add_2_0 13 rfl rfl)
theorem dJ2_add_2_14 : decode cJ2_add_2 14 = .ok (.aastore, 1) := dk_83 (dk_at dksJ2_add_2_0 14 rfl rfl)
theorem dJ2_add_2_15 : decode cJ2_add_2 15 = .ok (.aload_n 0, 1) := dk_42 (dk_at dksJ2_add_2_0 15 rfl rfl)
theorem dJ2_add_2_16 : decode cJ2_add_2 16 = .ok (.iload_n 3, 1) := dk_29 (dk_at dksJ2_add_2_0 16 rfl rfl)
theorem dJ2_add_2_17 : decode cJ2_add_2 17 = .ok (.iconst 1, 1) := dk_4 (dk_at dksJ2_add_2_0 17 rfl rfl)
theorem dJ2_add_2_18 : decode cJ2_add_2 18 = .ok (.iadd, 1) := dk_96 (dk_at dksJ2_add_2_0 18 rfl rfl)
theorem dJ2_add_2_19 : decode cJ2_add_2 19 = .ok (.putfield 48, 3) := dk_181 0 48 (dk_at dksJ2_add_2_0 19 rfl rfl)
theorem dJ2_add_2_22 : decode cJ2_add_2 22 = .ok (.return_, 1) := dk_177 (dk_at dksJ2_add_2_0 22 rfl rfl)
abbrev cJ2_grow : ByteArray := prog_52_method_7_code
def yJ2_grow : MethodName := ⟨RJ2, "grow", "()[Ljava/lang/Object;"⟩
def dkwJ2_grow_0 : List UInt8 := [42, 42, 180, 0, 48, 4, 96, 182, 0, 69, 176]
abbrev dktJ2_grow_0 : List UInt8 := dkwJ2_grow_0 ++ []
theorem dksJ2_grow_0 : cJ2_grow.data.toList.drop 0 = dktJ2_grow_0 := by decide +kernel
theorem dJ2_grow_0 : decode cJ2_grow 0 = .ok (.aload_n 0, 1) := dk_42 (dk_at dksJ2_grow_0 0 rfl rfl)
theorem dJ2_grow_1 : decode cJ2_grow 1 = .ok (.aload_n 0, 1) := dk_42 (dk_at dksJ2_grow_0 1 rfl rfl)
theorem dJ2_grow_2 : decode cJ2_grow 2 = .ok (.getfield 48, 3) := dk_180 0 48 (dk_at dksJ2_grow_0 2 rfl rfl)
theorem dJ2_grow_5 : decode cJ2_grow 5 = .ok (.iconst 1, 1) := dk_4 (dk_at dksJ2_grow_0 5 rfl rfl)
theorem dJ2_grow_6 : decode cJ2_grow 6 = .ok (.iadd, 1) := dk_96 (dk_at dksJ2_grow_0 6 rfl rfl)
theorem dJ2_grow_7 : decode cJ2_grow 7 = .ok (.invokevirtual 69, 3) := dk_182 0 69 (dk_at dksJ2_grow_0 7 rfl rfl)
theorem dJ2_grow_10 : decode cJ2_grow 10 = .ok (.areturn, 1) := dk_176 (dk_at dksJ2_grow_0 10 rfl rfl)
abbrev cJ2_grow_2 : ByteArray := prog_52_method_6_code
def yJ2_grow_2 : MethodName := ⟨RJ2, "grow", "(I)[Ljava/lang/Object;"⟩
def dkwJ2_grow_2_2 : List UInt8 := [27, 184, 0, 79, 189, 0, 7, 90, 181, 0, 9, 176]
abbrev dktJ2_grow_2_2 : List UInt8 := dkwJ2_grow_2_2 ++ []
def dkwJ2_grow_2_1 : List UInt8 := [28, 4, 122, 184, 0, 73, 62, 42, 42, 180, 0, 9, 29, 184, 0, 66, 90, 181, 0, 9, 176, 42, 16, 10]
abbrev dktJ2_grow_2_1 : List UInt8 := dkwJ2_grow_2_1 ++ dktJ2_grow_2_2
def dkwJ2_grow_2_0 : List UInt8 := [42, 180, 0, 9, 190, 61, 28, 157, 0, 13, 42, 180, 0, 9, 178, 0, 39, 165, 0, 28, 28, 27, 28, 100]
abbrev dktJ2_grow_2_0 : List UInt8 := dkwJ2_grow_2_0 ++ dktJ2_grow_2_1
theorem dksJ2_grow_2_0 : cJ2_grow_2.data.toList.drop 0 = dktJ2_grow_2_0 := by decide +kernel
theorem dksJ2_grow_2_1 : cJ2_grow_2.data.toList.drop 24 = dktJ2_grow_2_1 := dk_seg dksJ2_grow_2_0 24 rfl rfl
theorem dksJ2_grow_2_2 : cJ2_grow_2.data.toList.drop 48 = dktJ2_grow_2_2 := dk_seg dksJ2_grow_2_1 24 rfl rfl
theorem dJ2_grow_2_0 : decode cJ2_grow_2 0 = .ok (.aload_n 0, 1) := dk_42 (dk_at dksJ2_grow_2_0 0 rfl rfl)
theorem dJ2_grow_2_1 : decode cJ2_grow_2 1 = .ok (.getfield 9, 3) := dk_180 0 9 (dk_at dksJ2_grow_2_0 1 rfl rfl)
theorem dJ2_grow_2_4 : decode cJ2_grow_2 4 = .ok (.arraylength, 1) := dk_190 (dk_at dksJ2_grow_2_0 4 rfl rfl)
theorem dJ2_grow_2_5 : decode cJ2_grow_2 5 = .ok (.istore_n 2, 1) := dk_61 (dk_at dksJ2_grow_2_0 5 rfl rfl)
theorem dJ2_grow_2_6 : decode cJ2_grow_2 6 = .ok (.iload_n 2, 1) := dk_28 (dk_at dksJ2_grow_2_0 6 rfl rfl)
theorem dJ2_grow_2_7 : decode cJ2_grow_2 7 = .ok (.ifCond .gt 13, 3) := dk_157 0 13 (dk_at dksJ2_grow_2_0 7 rfl rfl)
theorem dJ2_grow_2_10 : decode cJ2_grow_2 10 = .ok (.aload_n 0, 1) := dk_42 (dk_at dksJ2_grow_2_0 10 rfl rfl)
theorem dJ2_grow_2_11 : decode cJ2_grow_2 11 = .ok (.getfield 9, 3) := dk_180 0 9 (dk_at dksJ2_grow_2_0 11 rfl rfl)
theorem dJ2_grow_2_14 : decode cJ2_grow_2 14 = .ok (.getstatic 39, 3) := dk_178 0 39 (dk_at dksJ2_grow_2_0 14 rfl rfl)
theorem dJ2_grow_2_17 : decode cJ2_grow_2 17 = .ok (.if_acmp .eq 28, 3) := dk_165 0 28 (dk_at dksJ2_grow_2_0 17 rfl rfl)
theorem dJ2_grow_2_20 : decode cJ2_grow_2 20 = .ok (.iload_n 2, 1) := dk_28 (dk_at dksJ2_grow_2_0 20 rfl rfl)
theorem dJ2_grow_2_21 : decode cJ2_grow_2 21 = .ok (.iload_n 1, 1) := dk_27 (dk_at dksJ2_grow_2_0 21 rfl rfl)
theorem dJ2_grow_2_22 : decode cJ2_grow_2 22 = .ok (.iload_n 2, 1) := dk_28 (dk_at dksJ2_grow_2_0 22 rfl rfl)
theorem dJ2_grow_2_23 : decode cJ2_grow_2 23 = .ok (.isub, 1) := dk_100 (dk_at dksJ2_grow_2_0 23 rfl rfl)
theorem dJ2_grow_2_24 : decode cJ2_grow_2 24 = .ok (.iload_n 2, 1) := dk_28 (dk_at dksJ2_grow_2_1 0 rfl rfl)
theorem dJ2_grow_2_25 : decode cJ2_grow_2 25 = .ok (.iconst 1, 1) := dk_4 (dk_at dksJ2_grow_2_1 1 rfl rfl)
theorem dJ2_grow_2_26 : decode cJ2_grow_2 26 = .ok (.ishr, 1) := dk_122 (dk_at dksJ2_grow_2_1 2 rfl rfl)
theorem dJ2_grow_2_27 : decode cJ2_grow_2 27 = .ok (.invokestatic 73, 3) := dk_184 0 73 (dk_at dksJ2_grow_2_1 3 rfl rfl)
theorem dJ2_grow_2_30 : decode cJ2_grow_2 30 = .ok (.istore_n 3, 1) := dk_62 (dk_at dksJ2_grow_2_1 6 rfl rfl)
theorem dJ2_grow_2_31 : decode cJ2_grow_2 31 = .ok (.aload_n 0, 1) := dk_42 (dk_at dksJ2_grow_2_1 7 rfl rfl)
theorem dJ2_grow_2_32 : decode cJ2_grow_2 32 = .ok (.aload_n 0, 1) := dk_42 (dk_at dksJ2_grow_2_1 8 rfl rfl)
theorem dJ2_grow_2_33 : decode cJ2_grow_2 33 = .ok (.getfield 9, 3) := dk_180 0 9 (dk_at dksJ2_grow_2_1 9 rfl rfl)
theorem dJ2_grow_2_36 : decode cJ2_grow_2 36 = .ok (.iload_n 3, 1) := dk_29 (dk_at dksJ2_grow_2_1 12 rfl rfl)
theorem dJ2_grow_2_37 : decode cJ2_grow_2 37 = .ok (.invokestatic 66, 3) := dk_184 0 66 (dk_at dksJ2_grow_2_1 13 rfl rfl)
theorem dJ2_grow_2_40 : decode cJ2_grow_2 40 = .ok (.dup_x1, 1) := dk_90 (dk_at dksJ2_grow_2_1 16 rfl rfl)
theorem dJ2_grow_2_41 : decode cJ2_grow_2 41 = .ok (.putfield 9, 3) := dk_181 0 9 (dk_at dksJ2_grow_2_1 17 rfl rfl)
theorem dJ2_grow_2_44 : decode cJ2_grow_2 44 = .ok (.areturn, 1) := dk_176 (dk_at dksJ2_grow_2_1 20 rfl rfl)
theorem dJ2_grow_2_45 : decode cJ2_grow_2 45 = .ok (.aload_n 0, 1) := dk_42 (dk_at dksJ2_grow_2_1 21 rfl rfl)
theorem dJ2_grow_2_46 : decode cJ2_grow_2 46 = .ok (.bipush 10, 2) := dk_16 10 (dk_at dksJ2_grow_2_1 22 rfl rfl)
theorem dJ2_grow_2_48 : decode cJ2_grow_2 48 = .ok (.iload_n 1, 1) := dk_27 (dk_at dksJ2_grow_2_2 0 rfl rfl)
theorem dJ2_grow_2_49 : decode cJ2_grow_2 49 = .ok (.invokestatic 79, 3) := dk_184 0 79 (dk_at dksJ2_grow_2_2 1 rfl rfl)
theorem dJ2_grow_2_52 : decode cJ2_grow_2 52 = .ok (.anewarray 7, 3) := dk_189 0 7 (dk_at dksJ2_grow_2_2 4 rfl rfl)
theorem dJ2_grow_2_55 : decode cJ2_grow_2 55 = .ok (.dup_x1, 1) := dk_90 (dk_at dksJ2_grow_2_2 7 rfl rfl)
theorem dJ2_grow_2_56 : decode cJ2_grow_2 56 = .ok (.putfield 9, 3) := dk_181 0 9 (dk_at dksJ2_grow_2_2 8 rfl rfl)
theorem dJ2_grow_2_59 : decode cJ2_grow_2 59 = .ok (.areturn, 1) := dk_176 (dk_at dksJ2_grow_2_2 11 rfl rfl)
abbrev cJ2_addAll : ByteArray := prog_52_method_41_code
def yJ2_addAll : MethodName := ⟨RJ2, "addAll", "(Ljava/util/Collection;)Z"⟩
def dkwJ2_addAll_3 : List UInt8 := [181, 0, 48, 4, 172]
abbrev dktJ2_addAll_3 : List UInt8 := dkwJ2_addAll_3 ++ []
def dkwJ2_addAll_2 : List UInt8 := [21, 5, 29, 96, 182, 0, 69, 58, 4, 44, 3, 25, 4, 21, 5, 29, 184, 0, 112, 42, 21, 5, 29, 96]
abbrev dktJ2_addAll_2 : List UInt8 := dkwJ2_addAll_2 ++ dktJ2_addAll_3
def dkwJ2_addAll_1 : List UInt8 := [3, 172, 29, 42, 180, 0, 9, 89, 58, 4, 190, 42, 180, 0, 48, 89, 54, 5, 100, 164, 0, 13, 42]
abbrev dktJ2_addAll_1 : List UInt8 := dkwJ2_addAll_1 ++ dktJ2_addAll_2
def dkwJ2_addAll_0 : List UInt8 := [43, 185, 0, 42, 1, 0, 77, 42, 89, 180, 0, 63, 4, 96, 181, 0, 63, 44, 190, 62, 29, 154, 0, 5]
abbrev dktJ2_addAll_0 : List UInt8 := dkwJ2_addAll_0 ++ dktJ2_addAll_1
theorem dksJ2_addAll_0 : cJ2_addAll.data.toList.drop 0 = dktJ2_addAll_0 := by decide +kernel
theorem dksJ2_addAll_1 : cJ2_addAll.data.toList.drop 24 = dktJ2_addAll_1 := dk_seg dksJ2_addAll_0 24 rfl rfl
theorem dksJ2_addAll_2 : cJ2_addAll.data.toList.drop 47 = dktJ2_addAll_2 := dk_seg dksJ2_addAll_1 23 rfl rfl
theorem dksJ2_addAll_3 : cJ2_addAll.data.toList.drop 71 = dktJ2_addAll_3 := dk_seg dksJ2_addAll_2 24 rfl rfl
theorem dJ2_addAll_0 : decode cJ2_addAll 0 = .ok (.aload_n 1, 1) := dk_43 (dk_at dksJ2_addAll_0 0 rfl rfl)
theorem dJ2_addAll_1 : decode cJ2_addAll 1 = .ok (.invokeinterface 42 1, 5) := by decide +kernel
theorem dJ2_addAll_6 : decode cJ2_addAll 6 = .ok (.astore_n 2, 1) := dk_77 (dk_at dksJ2_addAll_0 6 rfl rfl)
theorem dJ2_addAll_7 : decode cJ2_addAll 7 = .ok (.aload_n 0, 1) := dk_42 (dk_at dksJ2_addAll_0 7 rfl rfl)
theorem dJ2_addAll_8 : decode cJ2_addAll 8 = .ok (.dup, 1) := dk_89 (dk_at dksJ2_addAll_0 8 rfl rfl)
theorem dJ2_addAll_9 : decode cJ2_addAll 9 = .ok (.getfield 63, 3) := dk_180 0 63 (dk_at dksJ2_addAll_0 9 rfl rfl)
theorem dJ2_addAll_12 : decode cJ2_addAll 12 = .ok (.iconst 1, 1) := dk_4 (dk_at dksJ2_addAll_0 12 rfl rfl)
theorem dJ2_addAll_13 : decode cJ2_addAll 13 = .ok (.iadd, 1) := dk_96 (dk_at dksJ2_addAll_0 13 rfl rfl)
theorem dJ2_addAll_14 : decode cJ2_addAll 14 = .ok (.putfield 63, 3) := dk_181 0 63 (dk_at dksJ2_addAll_0 14 rfl rfl)
theorem dJ2_addAll_17 : decode cJ2_addAll 17 = .ok (.aload_n 2, 1) := dk_44 (dk_at dksJ2_addAll_0 17 rfl rfl)
theorem dJ2_addAll_18 : decode cJ2_addAll 18 = .ok (.arraylength, 1) := dk_190 (dk_at dksJ2_addAll_0 18 rfl rfl)
theorem dJ2_addAll_19 : decode cJ2_addAll 19 = .ok (.istore_n 3, 1) := dk_62 (dk_at dksJ2_addAll_0 19 rfl rfl)
theorem dJ2_addAll_20 : decode cJ2_addAll 20 = .ok (.iload_n 3, 1) := dk_29 (dk_at dksJ2_addAll_0 20 rfl rfl)
theorem dJ2_addAll_21 : decode cJ2_addAll 21 = .ok (.ifCond .ne 5, 3) := dk_154 0 5 (dk_at dksJ2_addAll_0 21 rfl rfl)
theorem dJ2_addAll_24 : decode cJ2_addAll 24 = .ok (.iconst 0, 1) := dk_3 (dk_at dksJ2_addAll_1 0 rfl rfl)
theorem dJ2_addAll_25 : decode cJ2_addAll 25 = .ok (.ireturn, 1) := dk_172 (dk_at dksJ2_addAll_1 1 rfl rfl)
theorem dJ2_addAll_26 : decode cJ2_addAll 26 = .ok (.iload_n 3, 1) := dk_29 (dk_at dksJ2_addAll_1 2 rfl rfl)
theorem dJ2_addAll_27 : decode cJ2_addAll 27 = .ok (.aload_n 0, 1) := dk_42 (dk_at dksJ2_addAll_1 3 rfl rfl)
theorem dJ2_addAll_28 : decode cJ2_addAll 28 = .ok (.getfield 9, 3) := dk_180 0 9 (dk_at dksJ2_addAll_1 4 rfl rfl)
theorem dJ2_addAll_31 : decode cJ2_addAll 31 = .ok (.dup, 1) := dk_89 (dk_at dksJ2_addAll_1 7 rfl rfl)
theorem dJ2_addAll_32 : decode cJ2_addAll 32 = .ok (.astore 4, 2) := dk_58 4 (dk_at dksJ2_addAll_1 8 rfl rfl)
theorem dJ2_addAll_34 : decode cJ2_addAll 34 = .ok (.arraylength, 1) := dk_190 (dk_at dksJ2_addAll_1 10 rfl rfl)
theorem dJ2_addAll_35 : decode cJ2_addAll 35 = .ok (.aload_n 0, 1) := dk_42 (dk_at dksJ2_addAll_1 11 rfl rfl)
theorem dJ2_addAll_36 : decode cJ2_addAll 36 = .ok (.getfield 48, 3) := dk_180 0 48 (dk_at dksJ2_addAll_1 12 rfl rfl)
theorem dJ2_addAll_39 : decode cJ2_addAll 39 = .ok (.dup, 1) := dk_89 (dk_at dksJ2_addAll_1 15 rfl rfl)
theorem dJ2_addAll_40 : decode cJ2_addAll 40 = .ok (.istore 5, 2) := dk_54 5 (dk_at dksJ2_addAll_1 16 rfl rfl)
theorem dJ2_addAll_42 : decode cJ2_addAll 42 = .ok (.isub, 1) := dk_100 (dk_at dksJ2_addAll_1 18 rfl rfl)
theorem dJ2_addAll_43 : decode cJ2_addAll 43 = .ok (.if_icmp .le 13, 3) := dk_164 0 13 (dk_at dksJ2_addAll_1 19 rfl rfl)
theorem dJ2_addAll_46 : decode cJ2_addAll 46 = .ok (.aload_n 0, 1) := dk_42 (dk_at dksJ2_addAll_1 22 rfl rfl)
theorem dJ2_addAll_47 : decode cJ2_addAll 47 = .ok (.iload 5, 2) := dk_21 5 (dk_at dksJ2_addAll_2 0 rfl rfl)
theorem dJ2_addAll_49 : decode cJ2_addAll 49 = .ok (.iload_n 3, 1) := dk_29 (dk_at dksJ2_addAll_2 2 rfl rfl)
theorem dJ2_addAll_50 : decode cJ2_addAll 50 = .ok (.iadd, 1) := dk_96 (dk_at dksJ2_addAll_2 3 rfl rfl)
theorem dJ2_addAll_51 : decode cJ2_addAll 51 = .ok (.invokevirtual 69, 3) := dk_182 0 69 (dk_at dksJ2_addAll_2 4 rfl rfl)
theorem dJ2_addAll_54 : decode cJ2_addAll 54 = .ok (.astore 4, 2) := dk_58 4 (dk_at dksJ2_addAll_2 7 rfl rfl)
theorem dJ2_addAll_56 : decode cJ2_addAll 56 = .ok (.aload_n 2, 1) := dk_44 (dk_at dksJ2_addAll_2 9 rfl rfl)
theorem dJ2_addAll_57 : decode cJ2_addAll 57 = .ok (.iconst 0, 1) := dk_3 (dk_at dksJ2_addAll_2 10 rfl rfl)
theorem dJ2_addAll_58 : decode cJ2_addAll 58 = .ok (.aload 4, 2) := dk_25 4 (dk_at dksJ2_addAll_2 11 rfl rfl)
theorem dJ2_addAll_60 : decode cJ2_addAll 60 = .ok (.iload 5, 2) := dk_21 5 (dk_at dksJ2_addAll_2 13 rfl rfl)
theorem dJ2_addAll_62 : decode cJ2_addAll 62 = .ok (.iload_n 3, 1) := dk_29 (dk_at dksJ2_addAll_2 15 rfl rfl)
theorem dJ2_addAll_63 : decode cJ2_addAll 63 = .ok (.invokestatic 112, 3) := dk_184 0 112 (dk_at dksJ2_addAll_2 16 rfl rfl)
theorem dJ2_addAll_66 : decode cJ2_addAll 66 = .ok (.aload_n 0, 1) := dk_42 (dk_at dksJ2_addAll_2 19 rfl rfl)
theorem dJ2_addAll_67 : decode cJ2_addAll 67 = .ok (.iload 5, 2) := dk_21 5 (dk_at dksJ2_addAll_2 20 rfl rfl)
theorem dJ2_addAll_69 : decode cJ2_addAll 69 = .ok (.iload_n 3, 1) := dk_29 (dk_at dksJ2_addAll_2 22 rfl rfl)
theorem dJ2_addAll_70 : decode cJ2_addAll 70 = .ok (.iadd, 1) := dk_96 (dk_at dksJ2_addAll_2 23 rfl rfl)
theorem dJ2_addAll_71 : decode cJ2_addAll 71 = .ok (.putfield 48, 3) := dk_181 0 48 (dk_at dksJ2_addAll_3 0 rfl rfl)
theorem dJ2_addAll_74 : decode cJ2_addAll 74 = .ok (.iconst 1, 1) := dk_4 (dk_at dksJ2_addAll_3 3 rfl rfl)
theorem dJ2_addAll_75 : decode cJ2_addAll 75 = .ok (.ireturn, 1) := dk_172 (dk_at dksJ2_addAll_3 4 rfl rfl)
abbrev cJ2_toArray : ByteArray := prog_52_method_16_code
def yJ2_toArray : MethodName := ⟨RJ2, "toArray", "()[Ljava/lang/Object;"⟩
def dkwJ2_toArray_0 : List UInt8 := [42, 180, 0, 9, 42, 180, 0, 48, 184, 0, 66, 176]
abbrev dktJ2_toArray_0 : List UInt8 := dkwJ2_toArray_0 ++ []
theorem dksJ2_toArray_0 : cJ2_toArray.data.toList.drop 0 = dktJ2_toArray_0 := by decide +kernel
theorem dJ2_toArray_0 : decode cJ2_toArray 0 = .ok (.aload_n 0, 1) := dk_42 (dk_at dksJ2_toArray_0 0 rfl rfl)
theorem dJ2_toArray_1 : decode cJ2_toArray 1 = .ok (.getfield 9, 3) := dk_180 0 9 (dk_at dksJ2_toArray_0 1 rfl rfl)
theorem dJ2_toArray_4 : decode cJ2_toArray 4 = .ok (.aload_n 0, 1) := dk_42 (dk_at dksJ2_toArray_0 4 rfl rfl)
theorem dJ2_toArray_5 : decode cJ2_toArray 5 = .ok (.getfield 48, 3) := dk_180 0 48 (dk_at dksJ2_toArray_0 5 rfl rfl)
theorem dJ2_toArray_8 : decode cJ2_toArray 8 = .ok (.invokestatic 66, 3) := dk_184 0 66 (dk_at dksJ2_toArray_0 8 rfl rfl)
theorem dJ2_toArray_11 : decode cJ2_toArray 11 = .ok (.areturn, 1) := dk_176 (dk_at dksJ2_toArray_0 11 rfl rfl)
theorem q87 : (Jvm.Cond.initialized "java/util/ArrayList") ∈ lw_all := lw_g (lw_at lw_m1 5 rfl) rfl
theorem q146 : (Jvm.Cond.instantiable "java/util/ArrayList" (3 : Nat)) ∈ lw_all := lw_g (lw_at lw_m1 64 rfl) rfl
theorem q148 : (Jvm.Cond.instanceMethod ({ cls := "java/util/ArrayList", name := "<init>", desc := "()V" } : Jvm.MethodName)) ∈ lw_all := lw_g (lw_at lw_m1 66 rfl) rfl
theorem q149 : (Jvm.Cond.code ({ cls := "java/util/ArrayList", name := "<init>", desc := "()V" } : Jvm.MethodName) prog_52_method_2_code (1 : Nat) (Option.none : Option Jvm.ClassFile.FieldType)) ∈ lw_all := lw_g (lw_at lw_m1 67 rfl) rfl
theorem q150 : (Jvm.Cond.methodLink "java/util/ArrayList" (1 : Nat) ({ cls := "java/util/AbstractList", name := "<init>", desc := "()V" } : Jvm.MethodName)) ∈ lw_all := lw_g (lw_at lw_m1 68 rfl) rfl
theorem q157 : (Jvm.Cond.fieldLink "java/util/ArrayList" (39 : Nat) "java/util/ArrayList" "DEFAULTCAPACITY_EMPTY_ELEMENTDATA" "[Ljava/lang/Object;") ∈ lw_all := lw_g (lw_at lw_m1 75 rfl) rfl
theorem q158 : (Jvm.Cond.laysStatic "java/util/ArrayList" "DEFAULTCAPACITY_EMPTY_ELEMENTDATA" "[Ljava/lang/Object;") ∈ lw_tbl := lw_at lw_m1 76 rfl
theorem q159 : (Jvm.Cond.fieldLink "java/util/ArrayList" (9 : Nat) "java/util/ArrayList" "elementData" "[Ljava/lang/Object;") ∈ lw_all := lw_g (lw_at lw_m1 77 rfl) rfl
theorem q160 : (Jvm.Cond.fieldLink "java/util/ArrayList" (48 : Nat) "java/util/ArrayList" "size" "I") ∈ lw_all := lw_g (lw_at lw_m1 78 rfl) rfl
theorem q162 : (Jvm.Cond.fieldLink "java/util/ArrayList" (63 : Nat) "java/util/ArrayList" "modCount" "I") ∈ lw_all := lw_g (lw_at lw_m1 80 rfl) rfl
theorem q163 : (Jvm.Cond.sameField "java/util/ArrayList" "java/util/AbstractList" "modCount" "I") ∈ lw_all := lw_g (lw_at lw_m1 81 rfl) rfl
theorem q164 : (Jvm.Cond.lays "java/util/ArrayList" "java/util/ArrayList" "elementData" "[Ljava/lang/Object;") ∈ lw_all := lw_g (lw_at lw_m1 82 rfl) rfl
theorem q165 : (Jvm.Cond.soleField "java/util/ArrayList" "elementData") ∈ lw_all := lw_g (lw_at lw_m1 83 rfl) rfl
theorem q166 : (Jvm.Cond.lays "java/util/ArrayList" "java/util/ArrayList" "size" "I") ∈ lw_all := lw_g (lw_at lw_m1 84 rfl) rfl
theorem q167 : (Jvm.Cond.soleField "java/util/ArrayList" "size") ∈ lw_all := lw_g (lw_at lw_m1 85 rfl) rfl
theorem q168 : (Jvm.Cond.lays "java/util/ArrayList" "java/util/AbstractList" "modCount" "I") ∈ lw_all := lw_g (lw_at lw_m1 86 rfl) rfl
theorem q170 : (Jvm.Cond.superclass "java/util/ArrayList" "java/util/AbstractList") ∈ lw_all := lw_g (lw_at lw_m1 88 rfl) rfl
theorem q401 : (Jvm.Cond.instanceMethod ({ cls := "java/util/ArrayList", name := "size", desc := "()I" } : Jvm.MethodName)) ∈ lw_all := lw_g (lw_at lw_m2 79 rfl) rfl
theorem q402 : (Jvm.Cond.selects "java/util/ArrayList" ({ cls := "java/util/ArrayList", name := "size", desc := "()I" } : Jvm.MethodName) ({ cls := "java/util/ArrayList", name := "size", desc := "()I" } : Jvm.MethodName)) ∈ lw_all := lw_g (lw_at lw_m2 80 rfl) rfl
theorem q403 : (Jvm.Cond.code ({ cls := "java/util/ArrayList", name := "size", desc := "()I" } : Jvm.MethodName) prog_52_method_8_code (1 : Nat) (Option.some Jvm.ClassFile.FieldType.int)) ∈ lw_all := lw_g (lw_at lw_m2 81 rfl) rfl
theorem q405 : (Jvm.Cond.instanceMethod ({ cls := "java/util/ArrayList", name := "get", desc := "(I)Ljava/lang/Object;" } : Jvm.MethodName)) ∈ lw_all := lw_g (lw_at lw_m2 83 rfl) rfl
theorem q406 : (Jvm.Cond.selects "java/util/ArrayList" ({ cls := "java/util/ArrayList", name := "get", desc := "(I)Ljava/lang/Object;" } : Jvm.MethodName) ({ cls := "java/util/ArrayList", name := "get", desc := "(I)Ljava/lang/Object;" } : Jvm.MethodName)) ∈ lw_all := lw_g (lw_at lw_m2 84 rfl) rfl
theorem q407 : (Jvm.Cond.code ({ cls := "java/util/ArrayList", name := "get", desc := "(I)Ljava/lang/Object;" } : Jvm.MethodName) prog_52_method_20_code (2 : Nat) (Option.some (Jvm.ClassFile.FieldType.object "java/lang/Object"))) ∈ lw_all := lw_g (lw_at lw_m2 85 rfl) rfl
theorem q408 : (Jvm.Cond.methodLink "java/util/ArrayList" (118 : Nat) ({ cls := "java/util/Objects", name := "checkIndex", desc := "(II)I" } : Jvm.MethodName)) ∈ lw_all := lw_g (lw_at lw_m2 86 rfl) rfl
theorem q414 : (Jvm.Cond.methodLink "java/util/ArrayList" (123 : Nat) ({ cls := "java/util/ArrayList", name := "elementData", desc := "(I)Ljava/lang/Object;" } : Jvm.MethodName)) ∈ lw_all := lw_g (lw_at lw_m2 92 rfl) rfl
theorem q415 : (Jvm.Cond.instanceMethod ({ cls := "java/util/ArrayList", name := "elementData", desc := "(I)Ljava/lang/Object;" } : Jvm.MethodName)) ∈ lw_all := lw_g (lw_at lw_m2 93 rfl) rfl
theorem q416 : (Jvm.Cond.selects "java/util/ArrayList" ({ cls := "java/util/ArrayList", name := "elementData", desc := "(I)Ljava/lang/Object;" } : Jvm.MethodName) ({ cls := "java/util/ArrayList", name := "elementData", desc := "(I)Ljava/lang/Object;" } : Jvm.MethodName)) ∈ lw_all := lw_g (lw_at lw_m2 94 rfl) rfl
theorem q417 : (Jvm.Cond.code ({ cls := "java/util/ArrayList", name := "elementData", desc := "(I)Ljava/lang/Object;" } : Jvm.MethodName) prog_52_method_18_code (2 : Nat) (Option.some (Jvm.ClassFile.FieldType.object "java/lang/Object"))) ∈ lw_all := lw_g (lw_at lw_m2 95 rfl) rfl
theorem q659 : (Jvm.Cond.instanceMethod ({ cls := "java/util/ArrayList", name := "add", desc := "(Ljava/lang/Object;)Z" } : Jvm.MethodName)) ∈ lw_all := lw_g (lw_at lw_m3 97 rfl) rfl
theorem q660 : (Jvm.Cond.selects "java/util/ArrayList" ({ cls := "java/util/ArrayList", name := "add", desc := "(Ljava/lang/Object;)Z" } : Jvm.MethodName) ({ cls := "java/util/ArrayList", name := "add", desc := "(Ljava/lang/Object;)Z" } : Jvm.MethodName)) ∈ lw_all := lw_g (lw_at lw_m3 98 rfl) rfl
theorem q661 : (Jvm.Cond.code ({ cls := "java/util/ArrayList", name := "add", desc := "(Ljava/lang/Object;)Z" } : Jvm.MethodName) prog_52_method_25_code (2 : Nat) (Option.some Jvm.ClassFile.FieldType.boolean)) ∈ lw_all := lw_g (lw_at lw_m3 99 rfl) rfl
theorem q662 : (Jvm.Cond.methodLink "java/util/ArrayList" (131 : Nat) ({ cls := "java/util/ArrayList", name := "add", desc := "(Ljava/lang/Object;[Ljava/lang/Object;I)V" } : Jvm.MethodName)) ∈ lw_all := lw_g (lw_at lw_m3 100 rfl) rfl
theorem q663 : (Jvm.Cond.privateMethod ({ cls := "java/util/ArrayList", name := "add", desc := "(Ljava/lang/Object;[Ljava/lang/Object;I)V" } : Jvm.MethodName)) ∈ lw_tbl := lw_at lw_m3 101 rfl
theorem q664 : (Jvm.Cond.instanceMethod ({ cls := "java/util/ArrayList", name := "add", desc := "(Ljava/lang/Object;[Ljava/lang/Object;I)V" } : Jvm.MethodName)) ∈ lw_all := lw_g (lw_at lw_m3 102 rfl) rfl
theorem q665 : (Jvm.Cond.code ({ cls := "java/util/ArrayList", name := "add", desc := "(Ljava/lang/Object;[Ljava/lang/Object;I)V" } : Jvm.MethodName) prog_52_method_24_code (4 : Nat) (Option.none : Option Jvm.ClassFile.FieldType)) ∈ lw_all := lw_g (lw_at lw_m3 103 rfl) rfl
theorem q666 : (Jvm.Cond.methodLink "java/util/ArrayList" (129 : Nat) ({ cls := "java/util/ArrayList", name := "grow", desc := "()[Ljava/lang/Object;" } : Jvm.MethodName)) ∈ lw_all := lw_g (lw_at lw_m3 104 rfl) rfl
theorem q667 : (Jvm.Cond.privateMethod ({ cls := "java/util/ArrayList", name := "grow", desc := "()[Ljava/lang/Object;" } : Jvm.MethodName)) ∈ lw_tbl := lw_at lw_m3 105 rfl
theorem q668 : (Jvm.Cond.instanceMethod ({ cls := "java/util/ArrayList", name := "grow", desc := "()[Ljava/lang/Object;" } : Jvm.MethodName)) ∈ lw_all := lw_g (lw_at lw_m3 106 rfl) rfl
theorem q669 : (Jvm.Cond.code ({ cls := "java/util/ArrayList", name := "grow", desc := "()[Ljava/lang/Object;" } : Jvm.MethodName) prog_52_method_7_code (1 : Nat) (Option.some (Jvm.ClassFile.FieldType.array (Jvm.ClassFile.FieldType.object "java/lang/Object")))) ∈ lw_all := lw_g (lw_at lw_m3 107 rfl) rfl
theorem q670 : (Jvm.Cond.methodLink "java/util/ArrayList" (69 : Nat) ({ cls := "java/util/ArrayList", name := "grow", desc := "(I)[Ljava/lang/Object;" } : Jvm.MethodName)) ∈ lw_all := lw_g (lw_at lw_m3 108 rfl) rfl
theorem q671 : (Jvm.Cond.privateMethod ({ cls := "java/util/ArrayList", name := "grow", desc := "(I)[Ljava/lang/Object;" } : Jvm.MethodName)) ∈ lw_tbl := lw_at lw_m3 109 rfl
theorem q672 : (Jvm.Cond.instanceMethod ({ cls := "java/util/ArrayList", name := "grow", desc := "(I)[Ljava/lang/Object;" } : Jvm.MethodName)) ∈ lw_all := lw_g (lw_at lw_m3 110 rfl) rfl
theorem q673 : (Jvm.Cond.code ({ cls := "java/util/ArrayList", name := "grow", desc := "(I)[Ljava/lang/Object;" } : Jvm.MethodName) prog_52_method_6_code (4 : Nat) (Option.some (Jvm.ClassFile.FieldType.array (Jvm.ClassFile.FieldType.object "java/lang/Object")))) ∈ lw_all := lw_g (lw_at lw_m3 111 rfl) rfl
theorem q674 : (Jvm.Cond.methodLink "java/util/ArrayList" (73 : Nat) ({ cls := "jdk/internal/util/ArraysSupport", name := "newLength", desc := "(III)I" } : Jvm.MethodName)) ∈ lw_all := lw_g (lw_at lw_m3 112 rfl) rfl
theorem q684 : (Jvm.Cond.methodLink "java/util/ArrayList" (66 : Nat) ({ cls := "java/util/Arrays", name := "copyOf", desc := "([Ljava/lang/Object;I)[Ljava/lang/Object;" } : Jvm.MethodName)) ∈ lw_all := lw_g (lw_at lw_m3 122 rfl) rfl
theorem q718 : (Jvm.Cond.selects "java/util/ArrayList" ({ cls := "java/lang/Object", name := "getClass", desc := "()Ljava/lang/Class;" } : Jvm.MethodName) ({ cls := "java/lang/Object", name := "getClass", desc := "()Ljava/lang/Class;" } : Jvm.MethodName)) ∈ lw_all := lw_g (lw_at lw_m3 156 rfl) rfl
theorem q731 : (Jvm.Cond.methodLink "java/util/ArrayList" (79 : Nat) ({ cls := "java/lang/Math", name := "max", desc := "(II)I" } : Jvm.MethodName)) ∈ lw_all := lw_g (lw_at lw_m3 169 rfl) rfl
theorem q732 : (Jvm.Cond.classLink "java/util/ArrayList" (7 : Nat) "java/lang/Object") ∈ lw_all := lw_g (lw_at lw_m3 170 rfl) rfl
theorem q734 : (Jvm.Cond.instanceMethod ({ cls := "java/util/ArrayList", name := "addAll", desc := "(Ljava/util/Collection;)Z" } : Jvm.MethodName)) ∈ lw_all := lw_g (lw_at lw_m3 172 rfl) rfl
theorem q735 : (Jvm.Cond.selects "java/util/ArrayList" ({ cls := "java/util/ArrayList", name := "addAll", desc := "(Ljava/util/Collection;)Z" } : Jvm.MethodName) ({ cls := "java/util/ArrayList", name := "addAll", desc := "(Ljava/util/Collection;)Z" } : Jvm.MethodName)) ∈ lw_all := lw_g (lw_at lw_m3 173 rfl) rfl
theorem q736 : (Jvm.Cond.code ({ cls := "java/util/ArrayList", name := "addAll", desc := "(Ljava/util/Collection;)Z" } : Jvm.MethodName) prog_52_method_41_code (6 : Nat) (Option.some Jvm.ClassFile.FieldType.boolean)) ∈ lw_all := lw_g (lw_at lw_m3 174 rfl) rfl
theorem q737 : (Jvm.Cond.interfaceEntry "java/util/ArrayList" (42 : Nat)) ∈ lw_tbl := lw_at lw_m3 175 rfl
theorem q738 : (Jvm.Cond.methodLink "java/util/ArrayList" (42 : Nat) ({ cls := "java/util/Collection", name := "toArray", desc := "()[Ljava/lang/Object;" } : Jvm.MethodName)) ∈ lw_all := lw_g (lw_at lw_m3 176 rfl) rfl
theorem q741 : (Jvm.Cond.castable "java/util/ArrayList" "java/util/Collection") ∈ lw_tbl := lw_at lw_m3 179 rfl
theorem q742 : (Jvm.Cond.selects "java/util/ArrayList" ({ cls := "java/util/Collection", name := "toArray", desc := "()[Ljava/lang/Object;" } : Jvm.MethodName) ({ cls := "java/util/ArrayList", name := "toArray", desc := "()[Ljava/lang/Object;" } : Jvm.MethodName)) ∈ lw_all := lw_g (lw_at lw_m3 180 rfl) rfl
theorem q743 : (Jvm.Cond.unhidden "java/util/ArrayList" "toArray" "()[Ljava/lang/Object;") ∈ lw_tbl := lw_at lw_m3 181 rfl
theorem q744 : (Jvm.Cond.instanceMethod ({ cls := "java/util/ArrayList", name := "toArray", desc := "()[Ljava/lang/Object;" } : Jvm.MethodName)) ∈ lw_all := lw_g (lw_at lw_m3 182 rfl) rfl
theorem q745 : (Jvm.Cond.publicMethod ({ cls := "java/util/ArrayList", name := "toArray", desc := "()[Ljava/lang/Object;" } : Jvm.MethodName)) ∈ lw_tbl := lw_at lw_m3 183 rfl
theorem q746 : (Jvm.Cond.code ({ cls := "java/util/ArrayList", name := "toArray", desc := "()[Ljava/lang/Object;" } : Jvm.MethodName) prog_52_method_16_code (1 : Nat) (Option.some (Jvm.ClassFile.FieldType.array (Jvm.ClassFile.FieldType.object "java/lang/Object")))) ∈ lw_all := lw_g (lw_at lw_m3 184 rfl) rfl
theorem q747 : (Jvm.Cond.methodLink "java/util/ArrayList" (112 : Nat) ({ cls := "java/lang/System", name := "arraycopy", desc := "(Ljava/lang/Object;ILjava/lang/Object;II)V" } : Jvm.MethodName)) ∈ lw_all := lw_g (lw_at lw_m3 185 rfl) rfl
theorem q2343 : (Jvm.Cond.castable "java/util/ArrayList" "java/lang/Object") ∈ lw_tbl := lw_at lw_m10 101 rfl
theorem in_J2 : ∀ w ∈ wsJ20, w ∈ lw_all := lw_in wsJ20 [168, 164, 166] (by decide +kernel) (by decide +kernel)
/-! java/lang/IndexOutOfBoundsException -/
set_option maxRecDepth 100000
def RJ20 : String := "java/lang/IndexOutOfBoundsException"
def TJ20 : u_T := fun k => match k with
  | 0 => ("java/lang/Throwable", "cause", "Ljava/lang/Throwable;", false)
  | 1 => ("java/lang/Throwable", "stackTrace", "[Ljava/lang/StackTraceElement;", false)
  | 2 => ("java/lang/Throwable", "suppressedExceptions", "Ljava/util/List;", false)
  | 3 => ("java/lang/Throwable", "detailMessage", "Ljava/lang/String;", false)
  | 4 => ("java/lang/Throwable", "backtrace", "Ljava/lang/Object;", false)
  | _ => ("java/lang/Throwable", "depth", "I", false)
def tyJ20 : Nat → FieldType := fun k => match k with
  | 0 => .object "java/lang/Throwable"
  | 1 => .array (.object "java/lang/StackTraceElement")
  | 2 => .object "java/util/List"
  | 3 => .object "java/lang/String"
  | 4 => .object "java/lang/Object"
  | _ => .int
abbrev wsJ200 : List Cond := u_ws RJ20 TJ20 6
theorem nmJ20 : ∀ a, a < 6 → ∀ b, b < 6 → a ≠ b → (TJ20 a).2.1 ≠ (TJ20 b).2.1 := by decide +kernel
theorem tyJ20_ok : ∀ k, k < 6 → parseFieldDescriptor (TJ20 k).2.2.1 = some (tyJ20 k) := by decide +kernel
abbrev cJ20_init : ByteArray := prog_34_method_2_code
def yJ20_init : MethodName := ⟨RJ20, "<init>", "(Ljava/lang/String;)V"⟩
def dkwJ20_init_0 : List UInt8 := [42, 43, 183, 0, 7, 177]
abbrev dktJ20_init_0 : List UInt8 := dkwJ20_init_0 ++ []
theorem dksJ20_init_0 : cJ20_init.data.toList.drop 0 = dktJ20_init_0 := by decide +kernel
theorem dJ20_init_0 : decode cJ20_init 0 = .ok (.aload_n 0, 1) := dk_42 (dk_at dksJ20_init_0 0 rfl rfl)
theorem dJ20_init_1 : decode cJ20_init 1 = .ok (.aload_n 1, 1) := dk_43 (dk_at dksJ20_init_0 1 rfl rfl)
theorem dJ20_init_2 : decode cJ20_init 2 = .ok (.invokespecial 7, 3) := dk_183 0 7 (dk_at dksJ20_init_0 2 rfl rfl)
theorem dJ20_init_5 : decode cJ20_init 5 = .ok (.return_, 1) := dk_177 (dk_at dksJ20_init_0 5 rfl rfl)
abbrev cJ20_init_2 : ByteArray := prog_34_method_1_code
def yJ20_init_2 : MethodName := ⟨RJ20, "<init>", "()V"⟩
theorem dJ20_init_2_0 : decode cJ20_init_2 0 = .ok (.aload_n 0, 1) := by decide +kernel
theorem dJ20_init_2_1 : decode cJ20_init_2 1 = .ok (.invokespecial 1, 3) := by decide +kernel
theorem dJ20_init_2_4 : decode cJ20_init_2 4 = .ok (.return_, 1) := by decide +kernel
theorem q126 : (Jvm.Cond.initialized "java/lang/IndexOutOfBoundsException") ∈ lw_all := lw_g (lw_at lw_m1 44 rfl) rfl
theorem q713 : (Jvm.Cond.selects "java/lang/IndexOutOfBoundsException" ({ cls := "java/lang/Object", name := "getClass", desc := "()Ljava/lang/Class;" } : Jvm.MethodName) ({ cls := "java/lang/Object", name := "getClass", desc := "()Ljava/lang/Class;" } : Jvm.MethodName)) ∈ lw_all := lw_g (lw_at lw_m3 151 rfl) rfl
theorem q986 : (Jvm.Cond.selects "java/lang/IndexOutOfBoundsException" ({ cls := "java/lang/Throwable", name := "fillInStackTrace", desc := "()Ljava/lang/Throwable;" } : Jvm.MethodName) ({ cls := "java/lang/Throwable", name := "fillInStackTrace", desc := "()Ljava/lang/Throwable;" } : Jvm.MethodName)) ∈ lw_all := lw_g (lw_at lw_m4 184 rfl) rfl
theorem q1529 : (Jvm.Cond.instanceMethod ({ cls := "java/lang/IndexOutOfBoundsException", name := "<init>", desc := "(Ljava/lang/String;)V" } : Jvm.MethodName)) ∈ lw_all := lw_g (lw_at lw_m7 7 rfl) rfl
theorem q1530 : (Jvm.Cond.code ({ cls := "java/lang/IndexOutOfBoundsException", name := "<init>", desc := "(Ljava/lang/String;)V" } : Jvm.MethodName) prog_34_method_2_code (2 : Nat) (Option.none : Option Jvm.ClassFile.FieldType)) ∈ lw_all := lw_g (lw_at lw_m7 8 rfl) rfl
theorem q1531 : (Jvm.Cond.methodLink "java/lang/IndexOutOfBoundsException" (7 : Nat) ({ cls := "java/lang/RuntimeException", name := "<init>", desc := "(Ljava/lang/String;)V" } : Jvm.MethodName)) ∈ lw_all := lw_g (lw_at lw_m7 9 rfl) rfl
theorem q1540 : (Jvm.Cond.declares ({ cls := "java/lang/IndexOutOfBoundsException", name := "<init>", desc := "()V" } : Jvm.MethodName)) ∈ lw_tbl := lw_at lw_m7 18 rfl
theorem q1541 : (Jvm.Cond.declares ({ cls := "java/lang/IndexOutOfBoundsException", name := "<init>", desc := "(Ljava/lang/String;)V" } : Jvm.MethodName)) ∈ lw_tbl := lw_at lw_m7 19 rfl
theorem q1556 : (Jvm.Cond.instantiable "java/lang/IndexOutOfBoundsException" (6 : Nat)) ∈ lw_all := lw_g (lw_at lw_m7 34 rfl) rfl
theorem q1557 : (Jvm.Cond.castable "java/lang/IndexOutOfBoundsException" "java/lang/IndexOutOfBoundsException") ∈ lw_tbl := lw_at lw_m7 35 rfl
theorem q1558 : (Jvm.Cond.selects "java/lang/IndexOutOfBoundsException" ({ cls := "java/lang/Throwable", name := "fillInStackTrace", desc := "(I)Ljava/lang/Throwable;" } : Jvm.MethodName) ({ cls := "java/lang/Throwable", name := "fillInStackTrace", desc := "(I)Ljava/lang/Throwable;" } : Jvm.MethodName)) ∈ lw_all := lw_g (lw_at lw_m7 36 rfl) rfl
theorem q1559 : (Jvm.Cond.lays "java/lang/IndexOutOfBoundsException" "java/lang/Throwable" "cause" "Ljava/lang/Throwable;") ∈ lw_all := lw_g (lw_at lw_m7 37 rfl) rfl
theorem q1560 : (Jvm.Cond.lays "java/lang/IndexOutOfBoundsException" "java/lang/Throwable" "stackTrace" "[Ljava/lang/StackTraceElement;") ∈ lw_all := lw_g (lw_at lw_m7 38 rfl) rfl
theorem q1561 : (Jvm.Cond.lays "java/lang/IndexOutOfBoundsException" "java/lang/Throwable" "suppressedExceptions" "Ljava/util/List;") ∈ lw_all := lw_g (lw_at lw_m7 39 rfl) rfl
theorem q1562 : (Jvm.Cond.lays "java/lang/IndexOutOfBoundsException" "java/lang/Throwable" "detailMessage" "Ljava/lang/String;") ∈ lw_all := lw_g (lw_at lw_m7 40 rfl) rfl
theorem q1563 : (Jvm.Cond.lays "java/lang/IndexOutOfBoundsException" "java/lang/Throwable" "backtrace" "Ljava/lang/Object;") ∈ lw_all := lw_g (lw_at lw_m7 41 rfl) rfl
theorem q1565 : (Jvm.Cond.instanceMethod ({ cls := "java/lang/IndexOutOfBoundsException", name := "<init>", desc := "()V" } : Jvm.MethodName)) ∈ lw_all := lw_g (lw_at lw_m7 43 rfl) rfl
theorem q1566 : (Jvm.Cond.code ({ cls := "java/lang/IndexOutOfBoundsException", name := "<init>", desc := "()V" } : Jvm.MethodName) prog_34_method_1_code (1 : Nat) (Option.none : Option Jvm.ClassFile.FieldType)) ∈ lw_all := lw_g (lw_at lw_m7 44 rfl) rfl
theorem q1567 : (Jvm.Cond.methodLink "java/lang/IndexOutOfBoundsException" (1 : Nat) ({ cls := "java/lang/RuntimeException", name := "<init>", desc := "()V" } : Jvm.MethodName)) ∈ lw_all := lw_g (lw_at lw_m7 45 rfl) rfl
theorem q1568 : (Jvm.Cond.lays "java/lang/IndexOutOfBoundsException" "java/lang/Throwable" "depth" "I") ∈ lw_all := lw_g (lw_at lw_m7 46 rfl) rfl
theorem q1569 : (Jvm.Cond.superclass "java/lang/IndexOutOfBoundsException" "java/lang/RuntimeException") ∈ lw_all := lw_g (lw_at lw_m7 47 rfl) rfl
theorem q2368 : (Jvm.Cond.castable "java/lang/IndexOutOfBoundsException" "java/lang/Object") ∈ lw_tbl := lw_at lw_m10 126 rfl
theorem in_J20 : ∀ w ∈ wsJ200, w ∈ lw_all := lw_in wsJ200 [1559, 1560, 1561, 1562, 1563, 1568] (by decide +kernel) (by decide +kernel)
/-! java/lang/ArrayIndexOutOfBoundsException -/
set_option maxRecDepth 100000
def RJ21 : String := "java/lang/ArrayIndexOutOfBoundsException"
def TJ21 : u_T := fun k => match k with
  | 0 => ("java/lang/Throwable", "backtrace", "Ljava/lang/Object;", false)
  | 1 => ("java/lang/Throwable", "detailMessage", "Ljava/lang/String;", false)
  | 2 => ("java/lang/Throwable", "cause", "Ljava/lang/Throwable;", false)
  | 3 => ("java/lang/Throwable", "stackTrace", "[Ljava/lang/StackTraceElement;", false)
  | 4 => ("java/lang/Throwable", "depth", "I", false)
  | _ => ("java/lang/Throwable", "suppressedExceptions", "Ljava/util/List;", false)
def tyJ21 : Nat → FieldType := fun k => match k with
  | 0 => .object "java/lang/Object"
  | 1 => .object "java/lang/String"
  | 2 => .object "java/lang/Throwable"
  | 3 => .array (.object "java/lang/StackTraceElement")
  | 4 => .int
  | _ => .object "java/util/List"
abbrev wsJ210 : List Cond := u_ws RJ21 TJ21 6
theorem nmJ21 : ∀ a, a < 6 → ∀ b, b < 6 → a ≠ b → (TJ21 a).2.1 ≠ (TJ21 b).2.1 := by decide +kernel
theorem tyJ21_ok : ∀ k, k < 6 → parseFieldDescriptor (TJ21 k).2.2.1 = some (tyJ21 k) := by decide +kernel
abbrev cJ21_init : ByteArray := prog_27_method_2_code
def yJ21_init : MethodName := ⟨RJ21, "<init>", "(Ljava/lang/String;)V"⟩
def dkwJ21_init_0 : List UInt8 := [42, 43, 183, 0, 7, 177]
abbrev dktJ21_init_0 : List UInt8 := dkwJ21_init_0 ++ []
theorem dksJ21_init_0 : cJ21_init.data.toList.drop 0 = dktJ21_init_0 := by decide +kernel
theorem dJ21_init_0 : decode cJ21_init 0 = .ok (.aload_n 0, 1) := dk_42 (dk_at dksJ21_init_0 0 rfl rfl)
theorem dJ21_init_1 : decode cJ21_init 1 = .ok (.aload_n 1, 1) := dk_43 (dk_at dksJ21_init_0 1 rfl rfl)
theorem dJ21_init_2 : decode cJ21_init 2 = .ok (.invokespecial 7, 3) := dk_183 0 7 (dk_at dksJ21_init_0 2 rfl rfl)
theorem dJ21_init_5 : decode cJ21_init 5 = .ok (.return_, 1) := dk_177 (dk_at dksJ21_init_0 5 rfl rfl)
theorem q127 : (Jvm.Cond.initialized "java/lang/ArrayIndexOutOfBoundsException") ∈ lw_all := lw_g (lw_at lw_m1 45 rfl) rfl
theorem q711 : (Jvm.Cond.selects "java/lang/ArrayIndexOutOfBoundsException" ({ cls := "java/lang/Object", name := "getClass", desc := "()Ljava/lang/Class;" } : Jvm.MethodName) ({ cls := "java/lang/Object", name := "getClass", desc := "()Ljava/lang/Class;" } : Jvm.MethodName)) ∈ lw_all := lw_g (lw_at lw_m3 149 rfl) rfl
theorem q985 : (Jvm.Cond.selects "java/lang/ArrayIndexOutOfBoundsException" ({ cls := "java/lang/Throwable", name := "fillInStackTrace", desc := "()Ljava/lang/Throwable;" } : Jvm.MethodName) ({ cls := "java/lang/Throwable", name := "fillInStackTrace", desc := "()Ljava/lang/Throwable;" } : Jvm.MethodName)) ∈ lw_all := lw_g (lw_at lw_m4 183 rfl) rfl
theorem q1525 : (Jvm.Cond.instantiable "java/lang/ArrayIndexOutOfBoundsException" (6 : Nat)) ∈ lw_all := lw_g (lw_at lw_m7 3 rfl) rfl
theorem q1526 : (Jvm.Cond.instanceMethod ({ cls := "java/lang/ArrayIndexOutOfBoundsException", name := "<init>", desc := "(Ljava/lang/String;)V" } : Jvm.MethodName)) ∈ lw_all := lw_g (lw_at lw_m7 4 rfl) rfl
theorem q1527 : (Jvm.Cond.code ({ cls := "java/lang/ArrayIndexOutOfBoundsException", name := "<init>", desc := "(Ljava/lang/String;)V" } : Jvm.MethodName) prog_27_method_2_code (2 : Nat) (Option.none : Option Jvm.ClassFile.FieldType)) ∈ lw_all := lw_g (lw_at lw_m7 5 rfl) rfl
theorem q1528 : (Jvm.Cond.methodLink "java/lang/ArrayIndexOutOfBoundsException" (7 : Nat) ({ cls := "java/lang/IndexOutOfBoundsException", name := "<init>", desc := "(Ljava/lang/String;)V" } : Jvm.MethodName)) ∈ lw_all := lw_g (lw_at lw_m7 6 rfl) rfl
theorem q1532 : (Jvm.Cond.lays "java/lang/ArrayIndexOutOfBoundsException" "java/lang/Throwable" "backtrace" "Ljava/lang/Object;") ∈ lw_all := lw_g (lw_at lw_m7 10 rfl) rfl
theorem q1533 : (Jvm.Cond.lays "java/lang/ArrayIndexOutOfBoundsException" "java/lang/Throwable" "detailMessage" "Ljava/lang/String;") ∈ lw_all := lw_g (lw_at lw_m7 11 rfl) rfl
theorem q1534 : (Jvm.Cond.lays "java/lang/ArrayIndexOutOfBoundsException" "java/lang/Throwable" "cause" "Ljava/lang/Throwable;") ∈ lw_all := lw_g (lw_at lw_m7 12 rfl) rfl
theorem q1535 : (Jvm.Cond.lays "java/lang/ArrayIndexOutOfBoundsException" "java/lang/Throwable" "stackTrace" "[Ljava/lang/StackTraceElement;") ∈ lw_all := lw_g (lw_at lw_m7 13 rfl) rfl
theorem q1536 : (Jvm.Cond.lays "java/lang/ArrayIndexOutOfBoundsException" "java/lang/Throwable" "depth" "I") ∈ lw_all := lw_g (lw_at lw_m7 14 rfl) rfl
theorem q1537 : (Jvm.Cond.lays "java/lang/ArrayIndexOutOfBoundsException" "java/lang/Throwable" "suppressedExceptions" "Ljava/util/List;") ∈ lw_all := lw_g (lw_at lw_m7 15 rfl) rfl
theorem q1538 : (Jvm.Cond.superclass "java/lang/ArrayIndexOutOfBoundsException" "java/lang/IndexOutOfBoundsException") ∈ lw_all := lw_g (lw_at lw_m7 16 rfl) rfl
theorem q1539 : (Jvm.Cond.castable "java/lang/ArrayIndexOutOfBoundsException" "java/lang/ArrayIndexOutOfBoundsException") ∈ lw_tbl := lw_at lw_m7 17 rfl
theorem q1542 : (Jvm.Cond.selects "java/lang/ArrayIndexOutOfBoundsException" ({ cls := "java/lang/Throwable", name := "fillInStackTrace", desc := "(I)Ljava/lang/Throwable;" } : Jvm.MethodName) ({ cls := "java/lang/Throwable", name := "fillInStackTrace", desc := "(I)Ljava/lang/Throwable;" } : Jvm.MethodName)) ∈ lw_all := lw_g (lw_at lw_m7 20 rfl) rfl
theorem q2338 : (Jvm.Cond.castable "java/lang/ArrayIndexOutOfBoundsException" "java/lang/IndexOutOfBoundsException") ∈ lw_tbl := lw_at lw_m10 96 rfl
theorem q2367 : (Jvm.Cond.castable "java/lang/ArrayIndexOutOfBoundsException" "java/lang/Object") ∈ lw_tbl := lw_at lw_m10 125 rfl
theorem in_J21 : ∀ w ∈ wsJ210, w ∈ lw_all := lw_in wsJ210 [1532, 1533, 1534, 1535, 1536, 1537] (by decide +kernel) (by decide +kernel)
/-! java/util/NoSuchElementException -/
set_option maxRecDepth 100000
def RJ22 : String := "java/util/NoSuchElementException"
def TJ22 : u_T := fun k => match k with
  | 0 => ("java/lang/Throwable", "cause", "Ljava/lang/Throwable;", false)
  | 1 => ("java/lang/Throwable", "stackTrace", "[Ljava/lang/StackTraceElement;", false)
  | 2 => ("java/lang/Throwable", "suppressedExceptions", "Ljava/util/List;", false)
  | 3 => ("java/lang/Throwable", "detailMessage", "Ljava/lang/String;", false)
  | 4 => ("java/lang/Throwable", "backtrace", "Ljava/lang/Object;", false)
  | _ => ("java/lang/Throwable", "depth", "I", false)
def tyJ22 : Nat → FieldType := fun k => match k with
  | 0 => .object "java/lang/Throwable"
  | 1 => .array (.object "java/lang/StackTraceElement")
  | 2 => .object "java/util/List"
  | 3 => .object "java/lang/String"
  | 4 => .object "java/lang/Object"
  | _ => .int
abbrev wsJ220 : List Cond := u_ws RJ22 TJ22 6
theorem nmJ22 : ∀ a, a < 6 → ∀ b, b < 6 → a ≠ b → (TJ22 a).2.1 ≠ (TJ22 b).2.1 := by decide +kernel
theorem tyJ22_ok : ∀ k, k < 6 → parseFieldDescriptor (TJ22 k).2.2.1 = some (tyJ22 k) := by decide +kernel
abbrev cJ22_init : ByteArray := prog_56_method_1_code
def yJ22_init : MethodName := ⟨RJ22, "<init>", "()V"⟩
theorem dJ22_init_0 : decode cJ22_init 0 = .ok (.aload_n 0, 1) := by decide +kernel
theorem dJ22_init_1 : decode cJ22_init 1 = .ok (.invokespecial 1, 3) := by decide +kernel
theorem dJ22_init_4 : decode cJ22_init 4 = .ok (.return_, 1) := by decide +kernel
theorem q128 : (Jvm.Cond.initialized "java/util/NoSuchElementException") ∈ lw_all := lw_g (lw_at lw_m1 46 rfl) rfl
theorem q719 : (Jvm.Cond.selects "java/util/NoSuchElementException" ({ cls := "java/lang/Object", name := "getClass", desc := "()Ljava/lang/Class;" } : Jvm.MethodName) ({ cls := "java/lang/Object", name := "getClass", desc := "()Ljava/lang/Class;" } : Jvm.MethodName)) ∈ lw_all := lw_g (lw_at lw_m3 157 rfl) rfl
theorem q988 : (Jvm.Cond.selects "java/util/NoSuchElementException" ({ cls := "java/lang/Throwable", name := "fillInStackTrace", desc := "()Ljava/lang/Throwable;" } : Jvm.MethodName) ({ cls := "java/lang/Throwable", name := "fillInStackTrace", desc := "()Ljava/lang/Throwable;" } : Jvm.MethodName)) ∈ lw_all := lw_g (lw_at lw_m4 186 rfl) rfl
theorem q1622 : (Jvm.Cond.instantiable "java/util/NoSuchElementException" (6 : Nat)) ∈ lw_all := lw_g (lw_at lw_m7 100 rfl) rfl
theorem q1623 : (Jvm.Cond.castable "java/util/NoSuchElementException" "java/util/NoSuchElementException") ∈ lw_tbl := lw_at lw_m7 101 rfl
theorem q1624 : (Jvm.Cond.selects "java/util/NoSuchElementException" ({ cls := "java/lang/Throwable", name := "fillInStackTrace", desc := "(I)Ljava/lang/Throwable;" } : Jvm.MethodName) ({ cls := "java/lang/Throwable", name := "fillInStackTrace", desc := "(I)Ljava/lang/Throwable;" } : Jvm.MethodName)) ∈ lw_all := lw_g (lw_at lw_m7 102 rfl) rfl
theorem q1625 : (Jvm.Cond.lays "java/util/NoSuchElementException" "java/lang/Throwable" "cause" "Ljava/lang/Throwable;") ∈ lw_all := lw_g (lw_at lw_m7 103 rfl) rfl
theorem q1626 : (Jvm.Cond.lays "java/util/NoSuchElementException" "java/lang/Throwable" "stackTrace" "[Ljava/lang/StackTraceElement;") ∈ lw_all := lw_g (lw_at lw_m7 104 rfl) rfl
theorem q1627 : (Jvm.Cond.lays "java/util/NoSuchElementException" "java/lang/Throwable" "suppressedExceptions" "Ljava/util/List;") ∈ lw_all := lw_g (lw_at lw_m7 105 rfl) rfl
theorem q1628 : (Jvm.Cond.lays "java/util/NoSuchElementException" "java/lang/Throwable" "detailMessage" "Ljava/lang/String;") ∈ lw_all := lw_g (lw_at lw_m7 106 rfl) rfl
theorem q1629 : (Jvm.Cond.lays "java/util/NoSuchElementException" "java/lang/Throwable" "backtrace" "Ljava/lang/Object;") ∈ lw_all := lw_g (lw_at lw_m7 107 rfl) rfl
theorem q1631 : (Jvm.Cond.instanceMethod ({ cls := "java/util/NoSuchElementException", name := "<init>", desc := "()V" } : Jvm.MethodName)) ∈ lw_all := lw_g (lw_at lw_m7 109 rfl) rfl
theorem q1632 : (Jvm.Cond.code ({ cls := "java/util/NoSuchElementException", name := "<init>", desc := "()V" } : Jvm.MethodName) prog_56_method_1_code (1 : Nat) (Option.none : Option Jvm.ClassFile.FieldType)) ∈ lw_all := lw_g (lw_at lw_m7 110 rfl) rfl
theorem q1633 : (Jvm.Cond.methodLink "java/util/NoSuchElementException" (1 : Nat) ({ cls := "java/lang/RuntimeException", name := "<init>", desc := "()V" } : Jvm.MethodName)) ∈ lw_all := lw_g (lw_at lw_m7 111 rfl) rfl
theorem q1634 : (Jvm.Cond.lays "java/util/NoSuchElementException" "java/lang/Throwable" "depth" "I") ∈ lw_all := lw_g (lw_at lw_m7 112 rfl) rfl
theorem q1635 : (Jvm.Cond.superclass "java/util/NoSuchElementException" "java/lang/RuntimeException") ∈ lw_all := lw_g (lw_at lw_m7 113 rfl) rfl
theorem q2369 : (Jvm.Cond.castable "java/util/NoSuchElementException" "java/lang/Object") ∈ lw_tbl := lw_at lw_m10 127 rfl
theorem in_J22 : ∀ w ∈ wsJ220, w ∈ lw_all := lw_in wsJ220 [1625, 1626, 1627, 1628, 1629, 1634] (by decide +kernel) (by decide +kernel)
/-! java/lang/Object -/
set_option maxRecDepth 100000
def RJ23 : String := "java/lang/Object"
abbrev cJ23_init : ByteArray := object_method_1_code
def yJ23_init : MethodName := ⟨RJ23, "<init>", "()V"⟩
theorem dJ23_init_0 : decode cJ23_init 0 = .ok (.return_, 1) := by decide +kernel
theorem q135 : (Jvm.Cond.instanceMethod ({ cls := "java/lang/Object", name := "<init>", desc := "()V" } : Jvm.MethodName)) ∈ lw_all := lw_g (lw_at lw_m1 53 rfl) rfl
theorem q136 : (Jvm.Cond.code ({ cls := "java/lang/Object", name := "<init>", desc := "()V" } : Jvm.MethodName) object_method_1_code (1 : Nat) (Option.none : Option Jvm.ClassFile.FieldType)) ∈ lw_all := lw_g (lw_at lw_m1 54 rfl) rfl
theorem q688 : (Jvm.Cond.instanceMethod ({ cls := "java/lang/Object", name := "getClass", desc := "()Ljava/lang/Class;" } : Jvm.MethodName)) ∈ lw_all := lw_g (lw_at lw_m3 126 rfl) rfl
theorem q689 : (Jvm.Cond.sameMethod "java/lang/Object" "java/lang/Object" "getClass" "()Ljava/lang/Class;") ∈ lw_all := lw_g (lw_at lw_m3 127 rfl) rfl
theorem q720 : (Jvm.Cond.native ({ cls := "java/lang/Object", name := "getClass", desc := "()Ljava/lang/Class;" } : Jvm.MethodName)) ∈ lw_all := lw_g (lw_at lw_m3 158 rfl) rfl
theorem q859 : (Jvm.Cond.native ({ cls := "java/lang/Object", name := "clone", desc := "()Ljava/lang/Object;" } : Jvm.MethodName)) ∈ lw_all := lw_g (lw_at lw_m4 57 rfl) rfl
theorem q860 : (Jvm.Cond.instanceMethod ({ cls := "java/lang/Object", name := "clone", desc := "()Ljava/lang/Object;" } : Jvm.MethodName)) ∈ lw_all := lw_g (lw_at lw_m4 58 rfl) rfl
theorem q2337 : (Jvm.Cond.initialized "java/lang/Object") ∈ lw_all := lw_g (lw_at lw_m10 95 rfl) rfl
theorem q2373 : (Jvm.Cond.declares ({ cls := "java/lang/Object", name := "getClass", desc := "()Ljava/lang/Class;" } : Jvm.MethodName)) ∈ lw_tbl := lw_at lw_m10 131 rfl
/-! java/lang/System$2 -/
set_option maxRecDepth 100000
def RJ24 : String := "java/lang/System$2"
abbrev cJ24_getUTF16Char : ByteArray := prog_45_method_45_code
def yJ24_getUTF16Char : MethodName := ⟨RJ24, "getUTF16Char", "([BI)C"⟩
def dkwJ24_getUTF16Char_0 : List UInt8 := [43, 28, 184, 0, 185, 172]
abbrev dktJ24_getUTF16Char_0 : List UInt8 := dkwJ24_getUTF16Char_0 ++ []
theorem dksJ24_getUTF16Char_0 : cJ24_getUTF16Char.data.toList.drop 0 = dktJ24_getUTF16Char_0 := by decide +kernel
theorem dJ24_getUTF16Char_0 : decode cJ24_getUTF16Char 0 = .ok (.aload_n 1, 1) := dk_43 (dk_at dksJ24_getUTF16Char_0 0 rfl rfl)
theorem dJ24_getUTF16Char_1 : decode cJ24_getUTF16Char 1 = .ok (.iload_n 2, 1) := dk_28 (dk_at dksJ24_getUTF16Char_0 1 rfl rfl)
theorem dJ24_getUTF16Char_2 : decode cJ24_getUTF16Char 2 = .ok (.invokestatic 185, 3) := dk_184 0 185 (dk_at dksJ24_getUTF16Char_0 2 rfl rfl)
theorem dJ24_getUTF16Char_5 : decode cJ24_getUTF16Char 5 = .ok (.ireturn, 1) := dk_172 (dk_at dksJ24_getUTF16Char_0 5 rfl rfl)
theorem q716 : (Jvm.Cond.selects "java/lang/System$2" ({ cls := "java/lang/Object", name := "getClass", desc := "()Ljava/lang/Class;" } : Jvm.MethodName) ({ cls := "java/lang/Object", name := "getClass", desc := "()Ljava/lang/Class;" } : Jvm.MethodName)) ∈ lw_all := lw_g (lw_at lw_m3 154 rfl) rfl
theorem q1177 : (Jvm.Cond.castable "java/lang/System$2" "jdk/internal/access/JavaLangAccess") ∈ lw_tbl := lw_at lw_m5 135 rfl
theorem q1178 : (Jvm.Cond.selects "java/lang/System$2" ({ cls := "jdk/internal/access/JavaLangAccess", name := "getUTF16Char", desc := "([BI)C" } : Jvm.MethodName) ({ cls := "java/lang/System$2", name := "getUTF16Char", desc := "([BI)C" } : Jvm.MethodName)) ∈ lw_all := lw_g (lw_at lw_m5 136 rfl) rfl
theorem q1179 : (Jvm.Cond.unhidden "java/lang/System$2" "getUTF16Char" "([BI)C") ∈ lw_tbl := lw_at lw_m5 137 rfl
theorem q1180 : (Jvm.Cond.instanceMethod ({ cls := "java/lang/System$2", name := "getUTF16Char", desc := "([BI)C" } : Jvm.MethodName)) ∈ lw_all := lw_g (lw_at lw_m5 138 rfl) rfl
theorem q1181 : (Jvm.Cond.publicMethod ({ cls := "java/lang/System$2", name := "getUTF16Char", desc := "([BI)C" } : Jvm.MethodName)) ∈ lw_tbl := lw_at lw_m5 139 rfl
theorem q1182 : (Jvm.Cond.code ({ cls := "java/lang/System$2", name := "getUTF16Char", desc := "([BI)C" } : Jvm.MethodName) prog_45_method_45_code (3 : Nat) (Option.some Jvm.ClassFile.FieldType.char)) ∈ lw_all := lw_g (lw_at lw_m5 140 rfl) rfl
theorem q1183 : (Jvm.Cond.methodLink "java/lang/System$2" (185 : Nat) ({ cls := "java/lang/StringUTF16", name := "getChar", desc := "([BI)C" } : Jvm.MethodName)) ∈ lw_all := lw_g (lw_at lw_m5 141 rfl) rfl
theorem q2354 : (Jvm.Cond.castable "java/lang/System$2" "java/lang/Object") ∈ lw_tbl := lw_at lw_m10 112 rfl
/-! java/util/Objects -/
set_option maxRecDepth 100000
def RJ3 : String := "java/util/Objects"
abbrev cJ3_checkIndex : ByteArray := prog_57_method_17_code
def yJ3_checkIndex : MethodName := ⟨RJ3, "checkIndex", "(II)I"⟩
def dkwJ3_checkIndex_0 : List UInt8 := [26, 27, 1, 184, 0, 105, 172]
abbrev dktJ3_checkIndex_0 : List UInt8 := dkwJ3_checkIndex_0 ++ []
theorem dksJ3_checkIndex_0 : cJ3_checkIndex.data.toList.drop 0 = dktJ3_checkIndex_0 := by decide +kernel
theorem dJ3_checkIndex_0 : decode cJ3_checkIndex 0 = .ok (.iload_n 0, 1) := dk_26 (dk_at dksJ3_checkIndex_0 0 rfl rfl)
theorem dJ3_checkIndex_1 : decode cJ3_checkIndex 1 = .ok (.iload_n 1, 1) := dk_27 (dk_at dksJ3_checkIndex_0 1 rfl rfl)
theorem dJ3_checkIndex_2 : decode cJ3_checkIndex 2 = .ok (.aconst_null, 1) := dk_1 (dk_at dksJ3_checkIndex_0 2 rfl rfl)
theorem dJ3_checkIndex_3 : decode cJ3_checkIndex 3 = .ok (.invokestatic 105, 3) := dk_184 0 105 (dk_at dksJ3_checkIndex_0 3 rfl rfl)
theorem dJ3_checkIndex_6 : decode cJ3_checkIndex 6 = .ok (.ireturn, 1) := dk_172 (dk_at dksJ3_checkIndex_0 6 rfl rfl)
theorem q94 : (Jvm.Cond.initialized "java/util/Objects") ∈ lw_all := lw_g (lw_at lw_m1 12 rfl) rfl
theorem q409 : (Jvm.Cond.static ({ cls := "java/util/Objects", name := "checkIndex", desc := "(II)I" } : Jvm.MethodName)) ∈ lw_all := lw_g (lw_at lw_m2 87 rfl) rfl
theorem q410 : (Jvm.Cond.code ({ cls := "java/util/Objects", name := "checkIndex", desc := "(II)I" } : Jvm.MethodName) prog_57_method_17_code (2 : Nat) (Option.some Jvm.ClassFile.FieldType.int)) ∈ lw_all := lw_g (lw_at lw_m2 88 rfl) rfl
theorem q411 : (Jvm.Cond.methodLink "java/util/Objects" (105 : Nat) ({ cls := "jdk/internal/util/Preconditions", name := "checkIndex", desc := "(IILjava/util/function/BiFunction;)I" } : Jvm.MethodName)) ∈ lw_all := lw_g (lw_at lw_m2 89 rfl) rfl
/-! jdk/internal/util/Preconditions -/
set_option maxRecDepth 100000
def RJ4 : String := "jdk/internal/util/Preconditions"
abbrev cJ4_checkIndex : ByteArray := prog_62_method_11_code
def yJ4_checkIndex : MethodName := ⟨RJ4, "checkIndex", "(IILjava/util/function/BiFunction;)I"⟩
def dkwJ4_checkIndex_0 : List UInt8 := [26, 155, 0, 8, 26, 27, 161, 0, 10, 44, 26, 27, 184, 0, 95, 191, 26, 172]
abbrev dktJ4_checkIndex_0 : List UInt8 := dkwJ4_checkIndex_0 ++ []
theorem dksJ4_checkIndex_0 : cJ4_checkIndex.data.toList.drop 0 = dktJ4_checkIndex_0 := by decide +kernel
theorem dJ4_checkIndex_0 : decode cJ4_checkIndex 0 = .ok (.iload_n 0, 1) := dk_26 (dk_at dksJ4_checkIndex_0 0 rfl rfl)
theorem dJ4_checkIndex_1 : decode cJ4_checkIndex 1 = .ok (.ifCond .lt 8, 3) := dk_155 0 8 (dk_at dksJ4_checkIndex_0 1 rfl rfl)
theorem dJ4_checkIndex_4 : decode cJ4_checkIndex 4 = .ok (.iload_n 0, 1) := dk_26 (dk_at dksJ4_checkIndex_0 4 rfl rfl)
theorem dJ4_checkIndex_5 : decode cJ4_checkIndex 5 = .ok (.iload_n 1, 1) := dk_27 (dk_at dksJ4_checkIndex_0 5 rfl rfl)
theorem dJ4_checkIndex_6 : decode cJ4_checkIndex 6 = .ok (.if_icmp .lt 10, 3) := dk_161 0 10 (dk_at dksJ4_checkIndex_0 6 rfl rfl)
theorem dJ4_checkIndex_9 : decode cJ4_checkIndex 9 = .ok (.aload_n 2, 1) := dk_44 (dk_at dksJ4_checkIndex_0 9 rfl rfl)
theorem dJ4_checkIndex_10 : decode cJ4_checkIndex 10 = .ok (.iload_n 0, 1) := dk_26 (dk_at dksJ4_checkIndex_0 10 rfl rfl)
theorem dJ4_checkIndex_11 : decode cJ4_checkIndex 11 = .ok (.iload_n 1, 1) := dk_27 (dk_at dksJ4_checkIndex_0 11 rfl rfl)
theorem dJ4_checkIndex_12 : decode cJ4_checkIndex 12 = .ok (.invokestatic 95, 3) := dk_184 0 95 (dk_at dksJ4_checkIndex_0 12 rfl rfl)
theorem dJ4_checkIndex_15 : decode cJ4_checkIndex 15 = .ok (.athrow, 1) := dk_191 (dk_at dksJ4_checkIndex_0 15 rfl rfl)
theorem dJ4_checkIndex_16 : decode cJ4_checkIndex 16 = .ok (.iload_n 0, 1) := dk_26 (dk_at dksJ4_checkIndex_0 16 rfl rfl)
theorem dJ4_checkIndex_17 : decode cJ4_checkIndex 17 = .ok (.ireturn, 1) := dk_172 (dk_at dksJ4_checkIndex_0 17 rfl rfl)
abbrev cJ4_checkFromIndexSize : ByteArray := prog_62_method_13_code
def yJ4_checkFromIndexSize : MethodName := ⟨RJ4, "checkFromIndexSize", "(IIILjava/util/function/BiFunction;)I"⟩
def dkwJ4_checkFromIndexSize_1 : List UInt8 := [172]
abbrev dktJ4_checkFromIndexSize_1 : List UInt8 := dkwJ4_checkFromIndexSize_1 ++ []
def dkwJ4_checkFromIndexSize_0 : List UInt8 := [28, 26, 128, 27, 128, 155, 0, 10, 27, 28, 26, 100, 164, 0, 11, 45, 26, 27, 28, 184, 0, 103, 191, 26]
abbrev dktJ4_checkFromIndexSize_0 : List UInt8 := dkwJ4_checkFromIndexSize_0 ++ dktJ4_checkFromIndexSize_1
theorem dksJ4_checkFromIndexSize_0 : cJ4_checkFromIndexSize.data.toList.drop 0 = dktJ4_checkFromIndexSize_0 := by decide +kernel
theorem dksJ4_checkFromIndexSize_1 : cJ4_checkFromIndexSize.data.toList.drop 24 = dktJ4_checkFromIndexSize_1 := dk_seg dksJ4_checkFromIndexSize_0 24 rfl rfl
theorem dJ4_checkFromIndexSize_0 : decode cJ4_checkFromIndexSize 0 = .ok (.iload_n 2, 1) := dk_28 (dk_at dksJ4_checkFromIndexSize_0 0 rfl rfl)
theorem dJ4_checkFromIndexSize_1 : decode cJ4_checkFromIndexSize 1 = .ok (.iload_n 0, 1) := dk_26 (dk_at dksJ4_checkFromIndexSize_0 1 rfl rfl)
theorem dJ4_checkFromIndexSize_2 : decode cJ4_checkFromIndexSize 2 = .ok (.ior, 1) := dk_128 (dk_at dksJ4_checkFromIndexSize_0 2 rfl rfl)
theorem dJ4_checkFromIndexSize_3 : decode cJ4_checkFromIndexSize 3 = .ok (.iload_n 1, 1) := dk_27 (dk_at dksJ4_checkFromIndexSize_0 3 rfl rfl)
theorem dJ4_checkFromIndexSize_4 : decode cJ4_checkFromIndexSize 4 = .ok (.ior, 1) := dk_128 (dk_at dksJ4_checkFromIndexSize_0 4 rfl rfl)
theorem dJ4_checkFromIndexSize_5 : decode cJ4_checkFromIndexSize 5 = .ok (.ifCond .lt 10, 3) := dk_155 0 10 (dk_at dksJ4_checkFromIndexSize_0 5 rfl rfl)
theorem dJ4_checkFromIndexSize_8 : decode cJ4_checkFromIndexSize 8 = .ok (.iload_n 1, 1) := dk_27 (dk_at dksJ4_checkFromIndexSize_0 8 rfl rfl)
theorem dJ4_checkFromIndexSize_9 : decode cJ4_checkFromIndexSize 9 = .ok (.iload_n 2, 1) := dk_28 (dk_at dksJ4_checkFromIndexSize_0 9 rfl rfl)
theorem dJ4_checkFromIndexSize_10 : decode cJ4_checkFromIndexSize 10 = .ok (.iload_n 0, 1) := dk_26 (dk_at dksJ4_checkFromIndexSize_0 10 rfl rfl)
theorem dJ4_checkFromIndexSize_11 : decode cJ4_checkFromIndexSize 11 = .ok (.isub, 1) := dk_100 (dk_at dksJ4_checkFromIndexSize_0 11 rfl rfl)
theorem dJ4_checkFromIndexSize_12 : decode cJ4_checkFromIndexSize 12 = .ok (.if_icmp .le 11, 3) := dk_164 0 11 (dk_at dksJ4_checkFromIndexSize_0 12 rfl rfl)
theorem dJ4_checkFromIndexSize_15 : decode cJ4_checkFromIndexSize 15 = .ok (.aload_n 3, 1) := dk_45 (dk_at dksJ4_checkFromIndexSize_0 15 rfl rfl)
theorem dJ4_checkFromIndexSize_16 : decode cJ4_checkFromIndexSize 16 = .ok (.iload_n 0, 1) := dk_26 (dk_at dksJ4_checkFromIndexSize_0 16 rfl rfl)
theorem dJ4_checkFromIndexSize_17 : decode cJ4_checkFromIndexSize 17 = .ok (.iload_n 1, 1) := dk_27 (dk_at dksJ4_checkFromIndexSize_0 17 rfl rfl)
theorem dJ4_checkFromIndexSize_18 : decode cJ4_checkFromIndexSize 18 = .ok (.iload_n 2, 1) := dk_28 (dk_at dksJ4_checkFromIndexSize_0 18 rfl rfl)
theorem dJ4_checkFromIndexSize_19 : decode cJ4_checkFromIndexSize 19 = .ok (.invokestatic 103, 3) := dk_184 0 103 (dk_at dksJ4_checkFromIndexSize_0 19 rfl rfl)
theorem dJ4_checkFromIndexSize_22 : decode cJ4_checkFromIndexSize 22 = .ok (.athrow, 1) := dk_191 (dk_at dksJ4_checkFromIndexSize_0 22 rfl rfl)
theorem dJ4_checkFromIndexSize_23 : decode cJ4_checkFromIndexSize 23 = .ok (.iload_n 0, 1) := dk_26 (dk_at dksJ4_checkFromIndexSize_0 23 rfl rfl)
theorem dJ4_checkFromIndexSize_24 : decode cJ4_checkFromIndexSize 24 = .ok (.ireturn, 1) := dk_172 (dk_at dksJ4_checkFromIndexSize_1 0 rfl rfl)
abbrev cJ4_checkFromToIndex : ByteArray := prog_62_method_12_code
def yJ4_checkFromToIndex : MethodName := ⟨RJ4, "checkFromToIndex", "(IIILjava/util/function/BiFunction;)I"⟩
def dkwJ4_checkFromToIndex_0 : List UInt8 := [26, 155, 0, 13, 26, 27, 163, 0, 8, 27, 28, 164, 0, 11, 45, 26, 27, 28, 184, 0, 99, 191, 26, 172]
abbrev dktJ4_checkFromToIndex_0 : List UInt8 := dkwJ4_checkFromToIndex_0 ++ []
theorem dksJ4_checkFromToIndex_0 : cJ4_checkFromToIndex.data.toList.drop 0 = dktJ4_checkFromToIndex_0 := by decide +kernel
theorem dJ4_checkFromToIndex_0 : decode cJ4_checkFromToIndex 0 = .ok (.iload_n 0, 1) := dk_26 (dk_at dksJ4_checkFromToIndex_0 0 rfl rfl)
theorem dJ4_checkFromToIndex_1 : decode cJ4_checkFromToIndex 1 = .ok (.ifCond .lt 13, 3) := dk_155 0 13 (dk_at dksJ4_checkFromToIndex_0 1 rfl rfl)
theorem dJ4_checkFromToIndex_4 : decode cJ4_checkFromToIndex 4 = .ok (.iload_n 0, 1) := dk_26 (dk_at dksJ4_checkFromToIndex_0 4 rfl rfl)
theorem dJ4_checkFromToIndex_5 : decode cJ4_checkFromToIndex 5 = .ok (.iload_n 1, 1) := dk_27 (dk_at dksJ4_checkFromToIndex_0 5 rfl rfl)
theorem dJ4_checkFromToIndex_6 : decode cJ4_checkFromToIndex 6 = .ok (.if_icmp .gt 8, 3) := dk_163 0 8 (dk_at dksJ4_checkFromToIndex_0 6 rfl rfl)
theorem dJ4_checkFromToIndex_9 : decode cJ4_checkFromToIndex 9 = .ok (.iload_n 1, 1) := dk_27 (dk_at dksJ4_checkFromToIndex_0 9 rfl rfl)
theorem dJ4_checkFromToIndex_10 : decode cJ4_checkFromToIndex 10 = .ok (.iload_n 2, 1) := dk_28 (dk_at dksJ4_checkFromToIndex_0 10 rfl rfl)
theorem dJ4_checkFromToIndex_11 : decode cJ4_checkFromToIndex 11 = .ok (.if_icmp .le 11, 3) := dk_164 0 11 (dk_at dksJ4_checkFromToIndex_0 11 rfl rfl)
theorem dJ4_checkFromToIndex_14 : decode cJ4_checkFromToIndex 14 = .ok (.aload_n 3, 1) := dk_45 (dk_at dksJ4_checkFromToIndex_0 14 rfl rfl)
theorem dJ4_checkFromToIndex_15 : decode cJ4_checkFromToIndex 15 = .ok (.iload_n 0, 1) := dk_26 (dk_at dksJ4_checkFromToIndex_0 15 rfl rfl)
theorem dJ4_checkFromToIndex_16 : decode cJ4_checkFromToIndex 16 = .ok (.iload_n 1, 1) := dk_27 (dk_at dksJ4_checkFromToIndex_0 16 rfl rfl)
theorem dJ4_checkFromToIndex_17 : decode cJ4_checkFromToIndex 17 = .ok (.iload_n 2, 1) := dk_28 (dk_at dksJ4_checkFromToIndex_0 17 rfl rfl)
theorem dJ4_checkFromToIndex_18 : decode cJ4_checkFromToIndex 18 = .ok (.invokestatic 99, 3) := dk_184 0 99 (dk_at dksJ4_checkFromToIndex_0 18 rfl rfl)
theorem dJ4_checkFromToIndex_21 : decode cJ4_checkFromToIndex 21 = .ok (.athrow, 1) := dk_191 (dk_at dksJ4_checkFromToIndex_0 21 rfl rfl)
theorem dJ4_checkFromToIndex_22 : decode cJ4_checkFromToIndex 22 = .ok (.iload_n 0, 1) := dk_26 (dk_at dksJ4_checkFromToIndex_0 22 rfl rfl)
theorem dJ4_checkFromToIndex_23 : decode cJ4_checkFromToIndex 23 = .ok (.ireturn, 1) := dk_172 (dk_at dksJ4_checkFromToIndex_0 23 rfl rfl)
theorem q95 : (Jvm.Cond.initialized "jdk/internal/util/Preconditions") ∈ lw_all := lw_g (lw_at lw_m1 13 rfl) rfl
theorem q412 : (Jvm.Cond.static ({ cls := "jdk/internal/util/Preconditions", name := "checkIndex", desc := "(IILjava/util/function/BiFunction;)I" } : Jvm.MethodName)) ∈ lw_all := lw_g (lw_at lw_m2 90 rfl) rfl
theorem q413 : (Jvm.Cond.code ({ cls := "jdk/internal/util/Preconditions", name := "checkIndex", desc := "(IILjava/util/function/BiFunction;)I" } : Jvm.MethodName) prog_62_method_11_code (3 : Nat) (Option.some Jvm.ClassFile.FieldType.int)) ∈ lw_all := lw_g (lw_at lw_m2 91 rfl) rfl
theorem q892 : (Jvm.Cond.laysStatic "jdk/internal/util/Preconditions" "SIOOBE_FORMATTER" "Ljava/util/function/BiFunction;") ∈ lw_tbl := lw_at lw_m4 90 rfl
theorem q894 : (Jvm.Cond.static ({ cls := "jdk/internal/util/Preconditions", name := "checkFromIndexSize", desc := "(IIILjava/util/function/BiFunction;)I" } : Jvm.MethodName)) ∈ lw_all := lw_g (lw_at lw_m4 92 rfl) rfl
theorem q895 : (Jvm.Cond.code ({ cls := "jdk/internal/util/Preconditions", name := "checkFromIndexSize", desc := "(IIILjava/util/function/BiFunction;)I" } : Jvm.MethodName) prog_62_method_13_code (4 : Nat) (Option.some Jvm.ClassFile.FieldType.int)) ∈ lw_all := lw_g (lw_at lw_m4 93 rfl) rfl
theorem q1024 : (Jvm.Cond.static ({ cls := "jdk/internal/util/Preconditions", name := "checkFromToIndex", desc := "(IIILjava/util/function/BiFunction;)I" } : Jvm.MethodName)) ∈ lw_all := lw_g (lw_at lw_m4 222 rfl) rfl
theorem q1025 : (Jvm.Cond.code ({ cls := "jdk/internal/util/Preconditions", name := "checkFromToIndex", desc := "(IIILjava/util/function/BiFunction;)I" } : Jvm.MethodName) prog_62_method_12_code (4 : Nat) (Option.some Jvm.ClassFile.FieldType.int)) ∈ lw_all := lw_g (lw_at lw_m4 223 rfl) rfl
/-! jdk/internal/util/ArraysSupport -/
set_option maxRecDepth 100000
def RJ5 : String := "jdk/internal/util/ArraysSupport"
abbrev cJ5_newLength : ByteArray := prog_61_method_27_code
def yJ5_newLength : MethodName := ⟨RJ5, "newLength", "(III)I"⟩
def dkwJ5_newLength_1 : List UInt8 := [184, 0, 201, 172]
abbrev dktJ5_newLength_1 : List UInt8 := dkwJ5_newLength_1 ++ []
def dkwJ5_newLength_0 : List UInt8 := [26, 27, 28, 184, 0, 194, 96, 62, 3, 29, 162, 0, 11, 29, 18, 200, 163, 0, 5, 29, 172, 26, 27]
abbrev dktJ5_newLength_0 : List UInt8 := dkwJ5_newLength_0 ++ dktJ5_newLength_1
theorem dksJ5_newLength_0 : cJ5_newLength.data.toList.drop 0 = dktJ5_newLength_0 := by decide +kernel
theorem dksJ5_newLength_1 : cJ5_newLength.data.toList.drop 23 = dktJ5_newLength_1 := dk_seg dksJ5_newLength_0 23 rfl rfl
theorem dJ5_newLength_0 : decode cJ5_newLength 0 = .ok (.iload_n 0, 1) := dk_26 (dk_at dksJ5_newLength_0 0 rfl rfl)
theorem dJ5_newLength_1 : decode cJ5_newLength 1 = .ok (.iload_n 1, 1) := dk_27 (dk_at dksJ5_newLength_0 1 rfl rfl)
theorem dJ5_newLength_2 : decode cJ5_newLength 2 = .ok (.iload_n 2, 1) := dk_28 (dk_at dksJ5_newLength_0 2 rfl rfl)
theorem dJ5_newLength_3 : decode cJ5_newLength 3 = .ok (.invokestatic 194, 3) := dk_184 0 194 (dk_at dksJ5_newLength_0 3 rfl rfl)
theorem dJ5_newLength_6 : decode cJ5_newLength 6 = .ok (.iadd, 1) := dk_96 (dk_at dksJ5_newLength_0 6 rfl rfl)
theorem dJ5_newLength_7 : decode cJ5_newLength 7 = .ok (.istore_n 3, 1) := dk_62 (dk_at dksJ5_newLength_0 7 rfl rfl)
theorem dJ5_newLength_8 : decode cJ5_newLength 8 = .ok (.iconst 0, 1) := dk_3 (dk_at dksJ5_newLength_0 8 rfl rfl)
theorem dJ5_newLength_9 : decode cJ5_newLength 9 = .ok (.iload_n 3, 1) := dk_29 (dk_at dksJ5_newLength_0 9 rfl rfl)
theorem dJ5_newLength_10 : decode cJ5_newLength 10 = .ok (.if_icmp .ge 11, 3) := dk_162 0 11 (dk_at dksJ5_newLength_0 10 rfl rfl)
theorem dJ5_newLength_13 : decode cJ5_newLength 13 = .ok (.iload_n 3, 1) := dk_29 (dk_at dksJ5_newLength_0 13 rfl rfl)
theorem dJ5_newLength_14 : decode cJ5_newLength 14 = .ok (.ldc 200, 2) := dk_18 200 (dk_at dksJ5_newLength_0 14 rfl rfl)
theorem dJ5_newLength_16 : decode cJ5_newLength 16 = .ok (.if_icmp .gt 5, 3) := dk_163 0 5 (dk_at dksJ5_newLength_0 16 rfl rfl)
theorem dJ5_newLength_19 : decode cJ5_newLength 19 = .ok (.iload_n 3, 1) := dk_29 (dk_at dksJ5_newLength_0 19 rfl rfl)
theorem dJ5_newLength_20 : decode cJ5_newLength 20 = .ok (.ireturn, 1) := dk_172 (dk_at dksJ5_newLength_0 20 rfl rfl)
theorem dJ5_newLength_21 : decode cJ5_newLength 21 = .ok (.iload_n 0, 1) := dk_26 (dk_at dksJ5_newLength_0 21 rfl rfl)
theorem dJ5_newLength_22 : decode cJ5_newLength 22 = .ok (.iload_n 1, 1) := dk_27 (dk_at dksJ5_newLength_0 22 rfl rfl)
theorem dJ5_newLength_23 : decode cJ5_newLength 23 = .ok (.invokestatic 201, 3) := dk_184 0 201 (dk_at dksJ5_newLength_1 0 rfl rfl)
theorem dJ5_newLength_26 : decode cJ5_newLength 26 = .ok (.ireturn, 1) := dk_172 (dk_at dksJ5_newLength_1 3 rfl rfl)
abbrev cJ5_hugeLength : ByteArray := prog_61_method_28_code
def yJ5_hugeLength : MethodName := ⟨RJ5, "hugeLength", "(II)I"⟩
def dkwJ5_hugeLength_2 : List UInt8 := [191, 28, 18, 200, 163, 0, 6, 18, 200, 172, 28, 172]
abbrev dktJ5_hugeLength_2 : List UInt8 := dkwJ5_hugeLength_2 ++ []
def dkwJ5_hugeLength_1 : List UInt8 := [26, 182, 0, 98, 18, 208, 182, 0, 94, 27, 182, 0, 98, 18, 210, 182, 0, 94, 182, 0, 101, 183, 0, 212]
abbrev dktJ5_hugeLength_1 : List UInt8 := dkwJ5_hugeLength_1 ++ dktJ5_hugeLength_2
def dkwJ5_hugeLength_0 : List UInt8 := [26, 27, 96, 61, 28, 156, 0, 44, 187, 0, 204, 89, 187, 0, 89, 89, 183, 0, 91, 18, 206, 182, 0, 94]
abbrev dktJ5_hugeLength_0 : List UInt8 := dkwJ5_hugeLength_0 ++ dktJ5_hugeLength_1
theorem dksJ5_hugeLength_0 : cJ5_hugeLength.data.toList.drop 0 = dktJ5_hugeLength_0 := by decide +kernel
theorem dksJ5_hugeLength_1 : cJ5_hugeLength.data.toList.drop 24 = dktJ5_hugeLength_1 := dk_seg dksJ5_hugeLength_0 24 rfl rfl
theorem dksJ5_hugeLength_2 : cJ5_hugeLength.data.toList.drop 48 = dktJ5_hugeLength_2 := dk_seg dksJ5_hugeLength_1 24 rfl rfl
theorem dJ5_hugeLength_0 : decode cJ5_hugeLength 0 = .ok (.iload_n 0, 1) := dk_26 (dk_at dksJ5_hugeLength_0 0 rfl rfl)
theorem dJ5_hugeLength_1 : decode cJ5_hugeLength 1 = .ok (.iload_n 1, 1) := dk_27 (dk_at dksJ5_hugeLength_0 1 rfl rfl)
theorem dJ5_hugeLength_2 : decode cJ5_hugeLength 2 = .ok (.iadd, 1) := dk_96 (dk_at dksJ5_hugeLength_0 2 rfl rfl)
theorem dJ5_hugeLength_3 : decode cJ5_hugeLength 3 = .ok (.istore_n 2, 1) := dk_61 (dk_at dksJ5_hugeLength_0 3 rfl rfl)
theorem dJ5_hugeLength_4 : decode cJ5_hugeLength 4 = .ok (.iload_n 2, 1) := dk_28 (dk_at dksJ5_hugeLength_0 4 rfl rfl)
theorem dJ5_hugeLength_5 : decode cJ5_hugeLength 5 = .ok (.ifCond .ge 44, 3) := dk_156 0 44 (dk_at dksJ5_hugeLength_0 5 rfl rfl)
theorem dJ5_hugeLength_8 : decode cJ5_hugeLength 8 = .ok (.new 204, 3) := dk_187 0 204 (dk_at dksJ5_hugeLength_0 8 rfl rfl)
theorem dJ5_hugeLength_11 : decode cJ5_hugeLength 11 = .ok (.dup, 1) := dk_89 (dk_at dksJ5_hugeLength_0 11 rfl rfl)
theorem dJ5_hugeLength_12 : decode cJ5_hugeLength 12 = .ok (.new 89, 3) := dk_187 0 89 (dk_at dksJ5_hugeLength_0 12 rfl rfl)
theorem dJ5_hugeLength_15 : decode cJ5_hugeLength 15 = .ok (.dup, 1) := dk_89 (dk_at dksJ5_hugeLength_0 15 rfl rfl)
theorem dJ5_hugeLength_16 : decode cJ5_hugeLength 16 = .ok (.invokespecial 91, 3) := dk_183 0 91 (dk_at dksJ5_hugeLength_0 16 rfl rfl)
theorem dJ5_hugeLength_19 : decode cJ5_hugeLength 19 = .ok (.ldc 206, 2) := dk_18 206 (dk_at dksJ5_hugeLength_0 19 rfl rfl)
theorem dJ5_hugeLength_21 : decode cJ5_hugeLength 21 = .ok (.invokevirtual 94, 3) := dk_182 0 94 (dk_at dksJ5_hugeLength_0 21 rfl rfl)
theorem dJ5_hugeLength_24 : decode cJ5_hugeLength 24 = .ok (.iload_n 0, 1) := dk_26 (dk_at dksJ5_hugeLength_1 0 rfl rfl)
theorem dJ5_hugeLength_25 : decode cJ5_hugeLength 25 = .ok (.invokevirtual 98, 3) := dk_182 0 98 (dk_at dksJ5_hugeLength_1 1 rfl rfl)
theorem dJ5_hugeLength_28 : decode cJ5_hugeLength 28 = .ok (.ldc 208, 2) := dk_18 208 (dk_at dksJ5_hugeLength_1 4 rfl rfl)
theorem dJ5_hugeLength_30 : decode cJ5_hugeLength 30 = .ok (.invokevirtual 94, 3) := dk_182 0 94 (dk_at dksJ5_hugeLength_1 6 rfl rfl)
theorem dJ5_hugeLength_33 : decode cJ5_hugeLength 33 = .ok (.iload_n 1, 1) := dk_27 (dk_at dksJ5_hugeLength_1 9 rfl rfl)
theorem dJ5_hugeLength_34 : decode cJ5_hugeLength 34 = .ok (.invokevirtual 98, 3) := dk_182 0 98 (dk_at dksJ5_hugeLength_1 10 rfl rfl)
theorem dJ5_hugeLength_37 : decode cJ5_hugeLength 37 = .ok (.ldc 210, 2) := dk_18 210 (dk_at dksJ5_hugeLength_1 13 rfl rfl)
theorem dJ5_hugeLength_39 : decode cJ5_hugeLength 39 = .ok (.invokevirtual 94, 3) := dk_182 0 94 (dk_at dksJ5_hugeLength_1 15 rfl rfl)
theorem dJ5_hugeLength_42 : decode cJ5_hugeLength 42 = .ok (.invokevirtual 101, 3) := dk_182 0 101 (dk_at dksJ5_hugeLength_1 18 rfl rfl)
theorem dJ5_hugeLength_45 : decode cJ5_hugeLength 45 = .ok (.invokespecial 212, 3) := dk_183 0 212 (dk_at dksJ5_hugeLength_1 21 rfl rfl)
theorem dJ5_hugeLength_48 : decode cJ5_hugeLength 48 = .ok (.athrow, 1) := dk_191 (dk_at dksJ5_hugeLength_2 0 rfl rfl)
theorem dJ5_hugeLength_49 : decode cJ5_hugeLength 49 = .ok (.iload_n 2, 1) := dk_28 (dk_at dksJ5_hugeLength_2 1 rfl rfl)
theorem dJ5_hugeLength_50 : decode cJ5_hugeLength 50 = .ok (.ldc 200, 2) := dk_18 200 (dk_at dksJ5_hugeLength_2 2 rfl rfl)
theorem dJ5_hugeLength_52 : decode cJ5_hugeLength 52 = .ok (.if_icmp .gt 6, 3) := dk_163 0 6 (dk_at dksJ5_hugeLength_2 4 rfl rfl)
theorem dJ5_hugeLength_55 : decode cJ5_hugeLength 55 = .ok (.ldc 200, 2) := dk_18 200 (dk_at dksJ5_hugeLength_2 7 rfl rfl)
theorem dJ5_hugeLength_57 : decode cJ5_hugeLength 57 = .ok (.ireturn, 1) := dk_172 (dk_at dksJ5_hugeLength_2 9 rfl rfl)
theorem dJ5_hugeLength_58 : decode cJ5_hugeLength 58 = .ok (.iload_n 2, 1) := dk_28 (dk_at dksJ5_hugeLength_2 10 rfl rfl)
theorem dJ5_hugeLength_59 : decode cJ5_hugeLength 59 = .ok (.ireturn, 1) := dk_172 (dk_at dksJ5_hugeLength_2 11 rfl rfl)
abbrev cJ5_vectorizedHashCode : ByteArray := prog_61_method_4_code
def yJ5_vectorizedHashCode : MethodName := ⟨RJ5, "vectorizedHashCode", "(Ljava/lang/Object;IIII)I"⟩
def dkwJ5_vectorizedHashCode_6 : List UInt8 := [183, 0, 91, 18, 92, 182, 0, 94, 21, 4, 182, 0, 98, 182, 0, 101, 183, 0, 105, 191, 172]
abbrev dktJ5_vectorizedHashCode_6 : List UInt8 := dkwJ5_vectorizedHashCode_6 ++ []
def dkwJ5_vectorizedHashCode_5 : List UInt8 := [167, 0, 44, 29, 42, 192, 0, 82, 27, 28, 184, 0, 84, 167, 0, 31, 187, 0, 87, 89, 187, 0, 89, 89]
abbrev dktJ5_vectorizedHashCode_5 : List UInt8 := dkwJ5_vectorizedHashCode_5 ++ dktJ5_vectorizedHashCode_6
def dkwJ5_vectorizedHashCode_4 : List UInt8 := [29, 42, 192, 0, 60, 27, 28, 184, 0, 75, 167, 0, 57, 29, 42, 192, 0, 77, 27, 28, 184, 0, 79]
abbrev dktJ5_vectorizedHashCode_4 : List UInt8 := dkwJ5_vectorizedHashCode_4 ++ dktJ5_vectorizedHashCode_5
def dkwJ5_vectorizedHashCode_3 : List UInt8 := [192, 0, 60, 27, 28, 184, 0, 66, 167, 0, 83, 29, 42, 192, 0, 69, 27, 28, 184, 0, 71, 167, 0, 70]
abbrev dktJ5_vectorizedHashCode_3 : List UInt8 := dkwJ5_vectorizedHashCode_3 ++ dktJ5_vectorizedHashCode_4
def dkwJ5_vectorizedHashCode_2 : List UInt8 := [29, 42, 192, 0, 60, 27, 28, 184, 0, 62, 167, 0, 103, 42, 193, 0, 60, 153, 0, 16, 29, 42]
abbrev dktJ5_vectorizedHashCode_2 : List UInt8 := dkwJ5_vectorizedHashCode_2 ++ dktJ5_vectorizedHashCode_3
def dkwJ5_vectorizedHashCode_1 : List UInt8 := [170, 0, 0, 0, 0, 127, 0, 0, 0, 4, 0, 0, 0, 10, 0, 0, 0, 42, 0, 0, 0, 55, 0, 0, 0, 127, 0, 0, 0, 127, 0, 0, 0, 88, 0, 0, 0, 101, 0, 0, 0, 114]
abbrev dktJ5_vectorizedHashCode_1 : List UInt8 := dkwJ5_vectorizedHashCode_1 ++ dktJ5_vectorizedHashCode_2
def dkwJ5_vectorizedHashCode_0 : List UInt8 := [21, 4]
abbrev dktJ5_vectorizedHashCode_0 : List UInt8 := dkwJ5_vectorizedHashCode_0 ++ dktJ5_vectorizedHashCode_1
theorem dksJ5_vectorizedHashCode_0 : cJ5_vectorizedHashCode.data.toList.drop 0 = dktJ5_vectorizedHashCode_0 := by decide +kernel
theorem dksJ5_vectorizedHashCode_1 : cJ5_vectorizedHashCode.data.toList.drop 2 = dktJ5_vectorizedHashCode_1 := dk_seg dksJ5_vectorizedHashCode_0 2 rfl rfl
theorem dksJ5_vectorizedHashCode_2 : cJ5_vectorizedHashCode.data.toList.drop 44 = dktJ5_vectorizedHashCode_2 := dk_seg dksJ5_vectorizedHashCode_1 42 rfl rfl
theorem dksJ5_vectorizedHashCode_3 : cJ5_vectorizedHashCode.data.toList.drop 66 = dktJ5_vectorizedHashCode_3 := dk_seg dksJ5_vectorizedHashCode_2 22 rfl rfl
theorem dksJ5_vectorizedHashCode_4 : cJ5_vectorizedHashCode.data.toList.drop 90 = dktJ5_vectorizedHashCode_4 := dk_seg dksJ5_vectorizedHashCode_3 24 rfl rfl
theorem dksJ5_vectorizedHashCode_5 : cJ5_vectorizedHashCode.data.toList.drop 113 = dktJ5_vectorizedHashCode_5 := dk_seg dksJ5_vectorizedHashCode_4 23 rfl rfl
theorem dksJ5_vectorizedHashCode_6 : cJ5_vectorizedHashCode.data.toList.drop 137 = dktJ5_vectorizedHashCode_6 := dk_seg dksJ5_vectorizedHashCode_5 24 rfl rfl
theorem dJ5_vectorizedHashCode_0 : decode cJ5_vectorizedHashCode 0 = .ok (.iload 4, 2) := dk_21 4 (dk_at dksJ5_vectorizedHashCode_0 0 rfl rfl)
theorem dJ5_vectorizedHashCode_2 : decode cJ5_vectorizedHashCode 2 = .ok (.tableswitch 127 4 10 #[42, 55, 127, 127, 88, 101, 114], 42) := by decide +kernel
theorem dJ5_vectorizedHashCode_44 : decode cJ5_vectorizedHashCode 44 = .ok (.iload_n 3, 1) := dk_29 (dk_at dksJ5_vectorizedHashCode_2 0 rfl rfl)
theorem dJ5_vectorizedHashCode_45 : decode cJ5_vectorizedHashCode 45 = .ok (.aload_n 0, 1) := dk_42 (dk_at dksJ5_vectorizedHashCode_2 1 rfl rfl)
theorem dJ5_vectorizedHashCode_46 : decode cJ5_vectorizedHashCode 46 = .ok (.checkcast 60, 3) := dk_192 0 60 (dk_at dksJ5_vectorizedHashCode_2 2 rfl rfl)
theorem dJ5_vectorizedHashCode_49 : decode cJ5_vectorizedHashCode 49 = .ok (.iload_n 1, 1) := dk_27 (dk_at dksJ5_vectorizedHashCode_2 5 rfl rfl)
theorem dJ5_vectorizedHashCode_50 : decode cJ5_vectorizedHashCode 50 = .ok (.iload_n 2, 1) := dk_28 (dk_at dksJ5_vectorizedHashCode_2 6 rfl rfl)
theorem dJ5_vectorizedHashCode_51 : decode cJ5_vectorizedHashCode 51 = .ok (.invokestatic 62, 3) := dk_184 0 62 (dk_at dksJ5_vectorizedHashCode_2 7 rfl rfl)
theorem dJ5_vectorizedHashCode_54 : decode cJ5_vectorizedHashCode 54 = .ok (.goto 103, 3) := dk_167 0 103 (dk_at dksJ5_vectorizedHashCode_2 10 rfl rfl)
theorem dJ5_vectorizedHashCode_57 : decode cJ5_vectorizedHashCode 57 = .ok (.aload_n 0, 1) := dk_42 (dk_at dksJ5_vectorizedHashCode_2 13 rfl rfl)
theorem dJ5_vectorizedHashCode_58 : decode cJ5_vectorizedHashCode 58 = .ok (.instanceof 60, 3) := dk_193 0 60 (dk_at dksJ5_vectorizedHashCode_2 14 rfl rfl)
theorem dJ5_vectorizedHashCode_61 : decode cJ5_vectorizedHashCode 61 = .ok (.ifCond .eq 16, 3) := dk_153 0 16 (dk_at dksJ5_vectorizedHashCode_2 17 rfl rfl)
theorem dJ5_vectorizedHashCode_64 : decode cJ5_vectorizedHashCode 64 = .ok (.iload_n 3, 1) := dk_29 (dk_at dksJ5_vectorizedHashCode_2 20 rfl rfl)
theorem dJ5_vectorizedHashCode_65 : decode cJ5_vectorizedHashCode 65 = .ok (.aload_n 0, 1) := dk_42 (dk_at dksJ5_vectorizedHashCode_2 21 rfl rfl)
theorem dJ5_vectorizedHashCode_66 : decode cJ5_vectorizedHashCode 66 = .ok (.checkcast 60, 3) := dk_192 0 60 (dk_at dksJ5_vectorizedHashCode_3 0 rfl rfl)
theorem dJ5_vectorizedHashCode_69 : decode cJ5_vectorizedHashCode 69 = .ok (.iload_n 1, 1) := dk_27 (dk_at dksJ5_vectorizedHashCode_3 3 rfl rfl)
theorem dJ5_vectorizedHashCode_70 : decode cJ5_vectorizedHashCode 70 = .ok (.iload_n 2, 1) := dk_28 (dk_at dksJ5_vectorizedHashCode_3 4 rfl rfl)
theorem dJ5_vectorizedHashCode_71 : decode cJ5_vectorizedHashCode 71 = .ok (.invokestatic 66, 3) := dk_184 0 66 (dk_at dksJ5_vectorizedHashCode_3 5 rfl rfl)
theorem dJ5_vectorizedHashCode_74 : decode cJ5_vectorizedHashCode 74 = .ok (.goto 83, 3) := dk_167 0 83 (dk_at dksJ5_vectorizedHashCode_3 8 rfl rfl)
theorem dJ5_vectorizedHashCode_77 : decode cJ5_vectorizedHashCode 77 = .ok (.iload_n 3, 1) := dk_29 (dk_at dksJ5_vectorizedHashCode_3 11 rfl rfl)
theorem dJ5_vectorizedHashCode_78 : decode cJ5_vectorizedHashCode 78 = .ok (.aload_n 0, 1) := dk_42 (dk_at dksJ5_vectorizedHashCode_3 12 rfl rfl)
theorem dJ5_vectorizedHashCode_79 : decode cJ5_vectorizedHashCode 79 = .ok (.checkcast 69, 3) := dk_192 0 69 (dk_at dksJ5_vectorizedHashCode_3 13 rfl rfl)
theorem dJ5_vectorizedHashCode_82 : decode cJ5_vectorizedHashCode 82 = .ok (.iload_n 1, 1) := dk_27 (dk_at dksJ5_vectorizedHashCode_3 16 rfl rfl)
theorem dJ5_vectorizedHashCode_83 : decode cJ5_vectorizedHashCode 83 = .ok (.iload_n 2, 1) := dk_28 (dk_at dksJ5_vectorizedHashCode_3 17 rfl rfl)
theorem dJ5_vectorizedHashCode_84 : decode cJ5_vectorizedHashCode 84 = .ok (.invokestatic 71, 3) := dk_184 0 71 (dk_at dksJ5_vectorizedHashCode_3 18 rfl rfl)
theorem dJ5_vectorizedHashCode_87 : decode cJ5_vectorizedHashCode 87 = .ok (.goto 70, 3) := dk_167 0 70 (dk_at dksJ5_vectorizedHashCode_3 21 rfl rfl)
theorem dJ5_vectorizedHashCode_90 : decode cJ5_vectorizedHashCode 90 = .ok (.iload_n 3, 1) := dk_29 (dk_at dksJ5_vectorizedHashCode_4 0 rfl rfl)
theorem dJ5_vectorizedHashCode_91 : decode cJ5_vectorizedHashCode 91 = .ok (.aload_n 0, 1) := dk_42 (dk_at dksJ5_vectorizedHashCode_4 1 rfl rfl)
theorem dJ5_vectorizedHashCode_92 : decode cJ5_vectorizedHashCode 92 = .ok (.checkcast 60, 3) := dk_192 0 60 (dk_at dksJ5_vectorizedHashCode_4 2 rfl rfl)
theorem dJ5_vectorizedHashCode_95 : decode cJ5_vectorizedHashCode 95 = .ok (.iload_n 1, 1) := dk_27 (dk_at dksJ5_vectorizedHashCode_4 5 rfl rfl)
theorem dJ5_vectorizedHashCode_96 : decode cJ5_vectorizedHashCode 96 = .ok (.iload_n 2, 1) := dk_28 (dk_at dksJ5_vectorizedHashCode_4 6 rfl rfl)
theorem dJ5_vectorizedHashCode_97 : decode cJ5_vectorizedHashCode 97 = .ok (.invokestatic 75, 3) := dk_184 0 75 (dk_at dksJ5_vectorizedHashCode_4 7 rfl rfl)
theorem dJ5_vectorizedHashCode_100 : decode cJ5_vectorizedHashCode 100 = .ok (.goto 57, 3) := dk_167 0 57 (dk_at dksJ5_vectorizedHashCode_4 10 rfl rfl)
theorem dJ5_vectorizedHashCode_103 : decode cJ5_vectorizedHashCode 103 = .ok (.iload_n 3, 1) := dk_29 (dk_at dksJ5_vectorizedHashCode_4 13 rfl rfl)
theorem dJ5_vectorizedHashCode_104 : decode cJ5_vectorizedHashCode 104 = .ok (.aload_n 0, 1) := dk_42 (dk_at dksJ5_vectorizedHashCode_4 14 rfl rfl)
theorem dJ5_vectorizedHashCode_105 : decode cJ5_vectorizedHashCode 105 = .ok (.checkcast 77, 3) := dk_192 0 77 (dk_at dksJ5_vectorizedHashCode_4 15 rfl rfl)
theorem dJ5_vectorizedHashCode_108 : decode cJ5_vectorizedHashCode 108 = .ok (.iload_n 1, 1) := dk_27 (dk_at dksJ5_vectorizedHashCode_4 18 rfl rfl)
theorem dJ5_vectorizedHashCode_109 : decode cJ5_vectorizedHashCode 109 = .ok (.iload_n 2, 1) := dk_28 (dk_at dksJ5_vectorizedHashCode_4 19 rfl rfl)
theorem dJ5_vectorizedHashCode_110 : decode cJ5_vectorizedHashCode 110 = .ok (.invokestatic 79, 3) := dk_184 0 79 (dk_at dksJ5_vectorizedHashCode_4 20 rfl rfl)
theorem dJ5_vectorizedHashCode_113 : decode cJ5_vectorizedHashCode 113 = .ok (.goto 44, 3) := dk_167 0 44 (dk_at dksJ5_vectorizedHashCode_5 0 rfl rfl)
theorem dJ5_vectorizedHashCode_116 : decode cJ5_vectorizedHashCode 116 = .ok (.iload_n 3, 1) := dk_29 (dk_at dksJ5_vectorizedHashCode_5 3 rfl rfl)
theorem dJ5_vectorizedHashCode_117 : decode cJ5_vectorizedHashCode 117 = .ok (.aload_n 0, 1) := dk_42 (dk_at dksJ5_vectorizedHashCode_5 4 rfl rfl)
theorem dJ5_vectorizedHashCode_118 : decode cJ5_vectorizedHashCode 118 = .ok (.checkcast 82, 3) := dk_192 0 82 (dk_at dksJ5_vectorizedHashCode_5 5 rfl rfl)
theorem dJ5_vectorizedHashCode_121 : decode cJ5_vectorizedHashCode 121 = .ok (.iload_n 1, 1) := dk_27 (dk_at dksJ5_vectorizedHashCode_5 8 rfl rfl)
theorem dJ5_vectorizedHashCode_122 : decode cJ5_vectorizedHashCode 122 = .ok (.iload_n 2, 1) := dk_28 (dk_at dksJ5_vectorizedHashCode_5 9 rfl rfl)
theorem dJ5_vectorizedHashCode_123 : decode cJ5_vectorizedHashCode 123 = .ok (.invokestatic 84, 3) := dk_184 0 84 (dk_at dksJ5_vectorizedHashCode_5 10 rfl rfl)
theorem dJ5_vectorizedHashCode_126 : decode cJ5_vectorizedHashCode 126 = .ok (.goto 31, 3) := dk_167 0 31 (dk_at dksJ5_vectorizedHashCode_5 13 rfl rfl)
theorem dJ5_vectorizedHashCode_129 : decode cJ5_vectorizedHashCode 129 = .ok (.new 87, 3) := dk_187 0 87 (dk_at dksJ5_vectorizedHashCode_5 16 rfl rfl)
theorem dJ5_vectorizedHashCode_132 : decode cJ5_vectorizedHashCode 132 = .ok (.dup, 1) := dk_89 (dk_at dksJ5_vectorizedHashCode_5 19 rfl rfl)
theorem dJ5_vectorizedHashCode_133 : decode cJ5_vectorizedHashCode 133 = .ok (.new 89, 3) := dk_187 0 89 (dk_at dksJ5_vectorizedHashCode_5 20 rfl rfl)
theorem dJ5_vectorizedHashCode_136 : decode cJ5_vectorizedHashCode 136 = .ok (.dup, 1) := dk_89 (dk_at dksJ5_vectorizedHashCode_5 23 rfl rfl)
theorem dJ5_vectorizedHashCode_137 : decode cJ5_vectorizedHashCode 137 = .ok (.invokespecial 91, 3) := dk_183 0 91 (dk_at dksJ5_vectorizedHashCode_6 0 rfl rfl)
theorem dJ5_vectorizedHashCode_140 : decode cJ5_vectorizedHashCode 140 = .ok (.ldc 92, 2) := dk_18 92 (dk_at dksJ5_vectorizedHashCode_6 3 rfl rfl)
theorem dJ5_vectorizedHashCode_142 : decode cJ5_vectorizedHashCode 142 = .ok (.invokevirtual 94, 3) := dk_182 0 94 (dk_at dksJ5_vectorizedHashCode_6 5 rfl rfl)
theorem dJ5_vectorizedHashCode_145 : decode cJ5_vectorizedHashCode 145 = .ok (.iload 4, 2) := dk_21 4 (dk_at dksJ5_vectorizedHashCode_6 8 rfl rfl)
theorem dJ5_vectorizedHashCode_147 : decode cJ5_vectorizedHashCode 147 = .ok (.invokevirtual 98, 3) := dk_182 0 98 (dk_at dksJ5_vectorizedHashCode_6 10 rfl rfl)
theorem dJ5_vectorizedHashCode_150 : decode cJ5_vectorizedHashCode 150 = .ok (.invokevirtual 101, 3) := dk_182 0 101 (dk_at dksJ5_vectorizedHashCode_6 13 rfl rfl)
theorem dJ5_vectorizedHashCode_153 : decode cJ5_vectorizedHashCode 153 = .ok (.invokespecial 105, 3) := dk_183 0 105 (dk_at dksJ5_vectorizedHashCode_6 16 rfl rfl)
theorem dJ5_vectorizedHashCode_156 : decode cJ5_vectorizedHashCode 156 = .ok (.athrow, 1) := dk_191 (dk_at dksJ5_vectorizedHashCode_6 19 rfl rfl)
theorem dJ5_vectorizedHashCode_157 : decode cJ5_vectorizedHashCode 157 = .ok (.ireturn, 1) := dk_172 (dk_at dksJ5_vectorizedHashCode_6 20 rfl rfl)
abbrev cJ5_signedHashCode : ByteArray := prog_61_method_5_code
def yJ5_signedHashCode : MethodName := ⟨RJ5, "signedHashCode", "(I[BII)I"⟩
def dkwJ5_signedHashCode_1 : List UInt8 := [17, 0, 255, 126, 96, 59, 132, 5, 1, 167, 255, 232, 26, 172]
abbrev dktJ5_signedHashCode_1 : List UInt8 := dkwJ5_signedHashCode_1 ++ []
def dkwJ5_signedHashCode_0 : List UInt8 := [28, 29, 96, 54, 4, 28, 54, 5, 21, 5, 21, 4, 162, 0, 23, 16, 31, 26, 104, 43, 21, 5, 51]
abbrev dktJ5_signedHashCode_0 : List UInt8 := dkwJ5_signedHashCode_0 ++ dktJ5_signedHashCode_1
theorem dksJ5_signedHashCode_0 : cJ5_signedHashCode.data.toList.drop 0 = dktJ5_signedHashCode_0 := by decide +kernel
theorem dksJ5_signedHashCode_1 : cJ5_signedHashCode.data.toList.drop 23 = dktJ5_signedHashCode_1 := dk_seg dksJ5_signedHashCode_0 23 rfl rfl
theorem dJ5_signedHashCode_0 : decode cJ5_signedHashCode 0 = .ok (.iload_n 2, 1) := dk_28 (dk_at dksJ5_signedHashCode_0 0 rfl rfl)
theorem dJ5_signedHashCode_1 : decode cJ5_signedHashCode 1 = .ok (.iload_n 3, 1) := dk_29 (dk_at dksJ5_signedHashCode_0 1 rfl rfl)
theorem dJ5_signedHashCode_2 : decode cJ5_signedHashCode 2 = .ok (.iadd, 1) := dk_96 (dk_at dksJ5_signedHashCode_0 2 rfl rfl)
theorem dJ5_signedHashCode_3 : decode cJ5_signedHashCode 3 = .ok (.istore 4, 2) := dk_54 4 (dk_at dksJ5_signedHashCode_0 3 rfl rfl)
theorem dJ5_signedHashCode_5 : decode cJ5_signedHashCode 5 = .ok (.iload_n 2, 1) := dk_28 (dk_at dksJ5_signedHashCode_0 5 rfl rfl)
theorem dJ5_signedHashCode_6 : decode cJ5_signedHashCode 6 = .ok (.istore 5, 2) := dk_54 5 (dk_at dksJ5_signedHashCode_0 6 rfl rfl)
theorem dJ5_signedHashCode_8 : decode cJ5_signedHashCode 8 = .ok (.iload 5, 2) := dk_21 5 (dk_at dksJ5_signedHashCode_0 8 rfl rfl)
theorem dJ5_signedHashCode_10 : decode cJ5_signedHashCode 10 = .ok (.iload 4, 2) := dk_21 4 (dk_at dksJ5_signedHashCode_0 10 rfl rfl)
theorem dJ5_signedHashCode_12 : decode cJ5_signedHashCode 12 = .ok (.if_icmp .ge 23, 3) := dk_162 0 23 (dk_at dksJ5_signedHashCode_0 12 rfl rfl)
theorem dJ5_signedHashCode_15 : decode cJ5_signedHashCode 15 = .ok (.bipush 31, 2) := dk_16 31 (dk_at dksJ5_signedHashCode_0 15 rfl rfl)
theorem dJ5_signedHashCode_17 : decode cJ5_signedHashCode 17 = .ok (.iload_n 0, 1) := dk_26 (dk_at dksJ5_signedHashCode_0 17 rfl rfl)
theorem dJ5_signedHashCode_18 : decode cJ5_signedHashCode 18 = .ok (.imul, 1) := dk_104 (dk_at dksJ5_signedHashCode_0 18 rfl rfl)
theorem dJ5_signedHashCode_19 : decode cJ5_signedHashCode 19 = .ok (.aload_n 1, 1) := dk_43 (dk_at dksJ5_signedHashCode_0 19 rfl rfl)
theorem dJ5_signedHashCode_20 : decode cJ5_signedHashCode 20 = .ok (.iload 5, 2) := dk_21 5 (dk_at dksJ5_signedHashCode_0 20 rfl rfl)
theorem dJ5_signedHashCode_22 : decode cJ5_signedHashCode 22 = .ok (.baload, 1) := dk_51 (dk_at dksJ5_signedHashCode_0 22 rfl rfl)
theorem dJ5_signedHashCode_23 : decode cJ5_signedHashCode 23 = .ok (.sipush 255, 3) := dk_17 0 255 (dk_at dksJ5_signedHashCode_1 0 rfl rfl)
theorem dJ5_signedHashCode_26 : decode cJ5_signedHashCode 26 = .ok (.iand, 1) := dk_126 (dk_at dksJ5_signedHashCode_1 3 rfl rfl)
theorem dJ5_signedHashCode_27 : decode cJ5_signedHashCode 27 = .ok (.iadd, 1) := dk_96 (dk_at dksJ5_signedHashCode_1 4 rfl rfl)
theorem dJ5_signedHashCode_28 : decode cJ5_signedHashCode 28 = .ok (.istore_n 0, 1) := dk_59 (dk_at dksJ5_signedHashCode_1 5 rfl rfl)
theorem dJ5_signedHashCode_29 : decode cJ5_signedHashCode 29 = .ok (.iinc 5 1, 3) := dk_132 5 1 (dk_at dksJ5_signedHashCode_1 6 rfl rfl)
theorem dJ5_signedHashCode_32 : decode cJ5_signedHashCode 32 = .ok (.goto (-24), 3) := dk_167 255 232 (dk_at dksJ5_signedHashCode_1 9 rfl rfl)
theorem dJ5_signedHashCode_35 : decode cJ5_signedHashCode 35 = .ok (.iload_n 0, 1) := dk_26 (dk_at dksJ5_signedHashCode_1 12 rfl rfl)
theorem dJ5_signedHashCode_36 : decode cJ5_signedHashCode 36 = .ok (.ireturn, 1) := dk_172 (dk_at dksJ5_signedHashCode_1 13 rfl rfl)
abbrev cJ5_utf16hashCode : ByteArray := prog_61_method_10_code
def yJ5_utf16hashCode : MethodName := ⟨RJ5, "utf16hashCode", "(I[BII)I"⟩
def dkwJ5_utf16hashCode_1 : List UInt8 := [21, 5, 185, 0, 110, 3, 0, 96, 59, 132, 5, 1, 167, 255, 229, 26, 172]
abbrev dktJ5_utf16hashCode_1 : List UInt8 := dkwJ5_utf16hashCode_1 ++ []
def dkwJ5_utf16hashCode_0 : List UInt8 := [28, 29, 96, 54, 4, 28, 54, 5, 21, 5, 21, 4, 162, 0, 26, 16, 31, 26, 104, 178, 0, 106, 43]
abbrev dktJ5_utf16hashCode_0 : List UInt8 := dkwJ5_utf16hashCode_0 ++ dktJ5_utf16hashCode_1
theorem dksJ5_utf16hashCode_0 : cJ5_utf16hashCode.data.toList.drop 0 = dktJ5_utf16hashCode_0 := by decide +kernel
theorem dksJ5_utf16hashCode_1 : cJ5_utf16hashCode.data.toList.drop 23 = dktJ5_utf16hashCode_1 := dk_seg dksJ5_utf16hashCode_0 23 rfl rfl
theorem dJ5_utf16hashCode_0 : decode cJ5_utf16hashCode 0 = .ok (.iload_n 2, 1) := dk_28 (dk_at dksJ5_utf16hashCode_0 0 rfl rfl)
theorem dJ5_utf16hashCode_1 : decode cJ5_utf16hashCode 1 = .ok (.iload_n 3, 1) := dk_29 (dk_at dksJ5_utf16hashCode_0 1 rfl rfl)
theorem dJ5_utf16hashCode_2 : decode cJ5_utf16hashCode 2 = .ok (.iadd, 1) := dk_96 (dk_at dksJ5_utf16hashCode_0 2 rfl rfl)
theorem dJ5_utf16hashCode_3 : decode cJ5_utf16hashCode 3 = .ok (.istore 4, 2) := dk_54 4 (dk_at dksJ5_utf16hashCode_0 3 rfl rfl)
theorem dJ5_utf16hashCode_5 : decode cJ5_utf16hashCode 5 = .ok (.iload_n 2, 1) := dk_28 (dk_at dksJ5_utf16hashCode_0 5 rfl rfl)
theorem dJ5_utf16hashCode_6 : decode cJ5_utf16hashCode 6 = .ok (.istore 5, 2) := dk_54 5 (dk_at dksJ5_utf16hashCode_0 6 rfl rfl)
theorem dJ5_utf16hashCode_8 : decode cJ5_utf16hashCode 8 = .ok (.iload 5, 2) := dk_21 5 (dk_at dksJ5_utf16hashCode_0 8 rfl rfl)
theorem dJ5_utf16hashCode_10 : decode cJ5_utf16hashCode 10 = .ok (.iload 4, 2) := dk_21 4 (dk_at dksJ5_utf16hashCode_0 10 rfl rfl)
theorem dJ5_utf16hashCode_12 : decode cJ5_utf16hashCode 12 = .ok (.if_icmp .ge 26, 3) := dk_162 0 26 (dk_at dksJ5_utf16hashCode_0 12 rfl rfl)
theorem dJ5_utf16hashCode_15 : decode cJ5_utf16hashCode 15 = .ok (.bipush 31, 2) := dk_16 31 (dk_at dksJ5_utf16hashCode_0 15 rfl rfl)
theorem dJ5_utf16hashCode_17 : decode cJ5_utf16hashCode 17 = .ok (.iload_n 0, 1) := dk_26 (dk_at dksJ5_utf16hashCode_0 17 rfl rfl)
theorem dJ5_utf16hashCode_18 : decode cJ5_utf16hashCode 18 = .ok (.imul, 1) := dk_104 (dk_at dksJ5_utf16hashCode_0 18 rfl rfl)
theorem dJ5_utf16hashCode_19 : decode cJ5_utf16hashCode 19 = .ok (.getstatic 106, 3) := dk_178 0 106 (dk_at dksJ5_utf16hashCode_0 19 rfl rfl)
theorem dJ5_utf16hashCode_22 : decode cJ5_utf16hashCode 22 = .ok (.aload_n 1, 1) := dk_43 (dk_at dksJ5_utf16hashCode_0 22 rfl rfl)
theorem dJ5_utf16hashCode_23 : decode cJ5_utf16hashCode 23 = .ok (.iload 5, 2) := dk_21 5 (dk_at dksJ5_utf16hashCode_1 0 rfl rfl)
theorem dJ5_utf16hashCode_25 : decode cJ5_utf16hashCode 25 = .ok (.invokeinterface 110 3, 5) := by decide +kernel
theorem dJ5_utf16hashCode_30 : decode cJ5_utf16hashCode 30 = .ok (.iadd, 1) := dk_96 (dk_at dksJ5_utf16hashCode_1 7 rfl rfl)
theorem dJ5_utf16hashCode_31 : decode cJ5_utf16hashCode 31 = .ok (.istore_n 0, 1) := dk_59 (dk_at dksJ5_utf16hashCode_1 8 rfl rfl)
theorem dJ5_utf16hashCode_32 : decode cJ5_utf16hashCode 32 = .ok (.iinc 5 1, 3) := dk_132 5 1 (dk_at dksJ5_utf16hashCode_1 9 rfl rfl)
theorem dJ5_utf16hashCode_35 : decode cJ5_utf16hashCode 35 = .ok (.goto (-27), 3) := dk_167 255 229 (dk_at dksJ5_utf16hashCode_1 12 rfl rfl)
theorem dJ5_utf16hashCode_38 : decode cJ5_utf16hashCode 38 = .ok (.iload_n 0, 1) := dk_26 (dk_at dksJ5_utf16hashCode_1 15 rfl rfl)
theorem dJ5_utf16hashCode_39 : decode cJ5_utf16hashCode 39 = .ok (.ireturn, 1) := dk_172 (dk_at dksJ5_utf16hashCode_1 16 rfl rfl)
abbrev cJ5_hashCode : ByteArray := prog_61_method_7_code
def yJ5_hashCode : MethodName := ⟨RJ5, "hashCode", "(I[CII)I"⟩
def dkwJ5_hashCode_1 : List UInt8 := [59, 132, 5, 1, 167, 255, 236, 26, 172]
abbrev dktJ5_hashCode_1 : List UInt8 := dkwJ5_hashCode_1 ++ []
def dkwJ5_hashCode_0 : List UInt8 := [28, 29, 96, 54, 4, 28, 54, 5, 21, 5, 21, 4, 162, 0, 19, 16, 31, 26, 104, 43, 21, 5, 52, 96]
abbrev dktJ5_hashCode_0 : List UInt8 := dkwJ5_hashCode_0 ++ dktJ5_hashCode_1
theorem dksJ5_hashCode_0 : cJ5_hashCode.data.toList.drop 0 = dktJ5_hashCode_0 := by decide +kernel
theorem dksJ5_hashCode_1 : cJ5_hashCode.data.toList.drop 24 = dktJ5_hashCode_1 := dk_seg dksJ5_hashCode_0 24 rfl rfl
theorem dJ5_hashCode_0 : decode cJ5_hashCode 0 = .ok (.iload_n 2, 1) := dk_28 (dk_at dksJ5_hashCode_0 0 rfl rfl)
theorem dJ5_hashCode_1 : decode cJ5_hashCode 1 = .ok (.iload_n 3, 1) := dk_29 (dk_at dksJ5_hashCode_0 1 rfl rfl)
theorem dJ5_hashCode_2 : decode cJ5_hashCode 2 = .ok (.iadd, 1) := dk_96 (dk_at dksJ5_hashCode_0 2 rfl rfl)
theorem dJ5_hashCode_3 : decode cJ5_hashCode 3 = .ok (.istore 4, 2) := dk_54 4 (dk_at dksJ5_hashCode_0 3 rfl rfl)
theorem dJ5_hashCode_5 : decode cJ5_hashCode 5 = .ok (.iload_n 2, 1) := dk_28 (dk_at dksJ5_hashCode_0 5 rfl rfl)
theorem dJ5_hashCode_6 : decode cJ5_hashCode 6 = .ok (.istore 5, 2) := dk_54 5 (dk_at dksJ5_hashCode_0 6 rfl rfl)
theorem dJ5_hashCode_8 : decode cJ5_hashCode 8 = .ok (.iload 5, 2) := dk_21 5 (dk_at dksJ5_hashCode_0 8 rfl rfl)
theorem dJ5_hashCode_10 : decode cJ5_hashCode 10 = .ok (.iload 4, 2) := dk_21 4 (dk_at dksJ5_hashCode_0 10 rfl rfl)
theorem dJ5_hashCode_12 : decode cJ5_hashCode 12 = .ok (.if_icmp .ge 19, 3) := dk_162 0 19 (dk_at dksJ5_hashCode_0 12 rfl rfl)
theorem dJ5_hashCode_15 : decode cJ5_hashCode 15 = .ok (.bipush 31, 2) := dk_16 31 (dk_at dksJ5_hashCode_0 15 rfl rfl)
theorem dJ5_hashCode_17 : decode cJ5_hashCode 17 = .ok (.iload_n 0, 1) := dk_26 (dk_at dksJ5_hashCode_0 17 rfl rfl)
theorem dJ5_hashCode_18 : decode cJ5_hashCode 18 = .ok (.imul, 1) := dk_104 (dk_at dksJ5_hashCode_0 18 rfl rfl)
theorem dJ5_hashCode_19 : decode cJ5_hashCode 19 = .ok (.aload_n 1, 1) := dk_43 (dk_at dksJ5_hashCode_0 19 rfl rfl)
theorem dJ5_hashCode_20 : decode cJ5_hashCode 20 = .ok (.iload 5, 2) := dk_21 5 (dk_at dksJ5_hashCode_0 20 rfl rfl)
theorem dJ5_hashCode_22 : decode cJ5_hashCode 22 = .ok (.caload, 1) := dk_52 (dk_at dksJ5_hashCode_0 22 rfl rfl)
theorem dJ5_hashCode_23 : decode cJ5_hashCode 23 = .ok (.iadd, 1) := dk_96 (dk_at dksJ5_hashCode_0 23 rfl rfl)
theorem dJ5_hashCode_24 : decode cJ5_hashCode 24 = .ok (.istore_n 0, 1) := dk_59 (dk_at dksJ5_hashCode_1 0 rfl rfl)
theorem dJ5_hashCode_25 : decode cJ5_hashCode 25 = .ok (.iinc 5 1, 3) := dk_132 5 1 (dk_at dksJ5_hashCode_1 1 rfl rfl)
theorem dJ5_hashCode_28 : decode cJ5_hashCode 28 = .ok (.goto (-20), 3) := dk_167 255 236 (dk_at dksJ5_hashCode_1 4 rfl rfl)
theorem dJ5_hashCode_31 : decode cJ5_hashCode 31 = .ok (.iload_n 0, 1) := dk_26 (dk_at dksJ5_hashCode_1 7 rfl rfl)
theorem dJ5_hashCode_32 : decode cJ5_hashCode 32 = .ok (.ireturn, 1) := dk_172 (dk_at dksJ5_hashCode_1 8 rfl rfl)
abbrev cJ5_hashCode_2 : ByteArray := prog_61_method_6_code
def yJ5_hashCode_2 : MethodName := ⟨RJ5, "hashCode", "(I[BII)I"⟩
def dkwJ5_hashCode_2_1 : List UInt8 := [59, 132, 5, 1, 167, 255, 236, 26, 172]
abbrev dktJ5_hashCode_2_1 : List UInt8 := dkwJ5_hashCode_2_1 ++ []
def dkwJ5_hashCode_2_0 : List UInt8 := [28, 29, 96, 54, 4, 28, 54, 5, 21, 5, 21, 4, 162, 0, 19, 16, 31, 26, 104, 43, 21, 5, 51, 96]
abbrev dktJ5_hashCode_2_0 : List UInt8 := dkwJ5_hashCode_2_0 ++ dktJ5_hashCode_2_1
theorem dksJ5_hashCode_2_0 : cJ5_hashCode_2.data.toList.drop 0 = dktJ5_hashCode_2_0 := by decide +kernel
theorem dksJ5_hashCode_2_1 : cJ5_hashCode_2.data.toList.drop 24 = dktJ5_hashCode_2_1 := dk_seg dksJ5_hashCode_2_0 24 rfl rfl
theorem dJ5_hashCode_2_0 : decode cJ5_hashCode_2 0 = .ok (.iload_n 2, 1) := dk_28 (dk_at dksJ5_hashCode_2_0 0 rfl rfl)
theorem dJ5_hashCode_2_1 : decode cJ5_hashCode_2 1 = .ok (.iload_n 3, 1) := dk_29 (dk_at dksJ5_hashCode_2_0 1 rfl rfl)
theorem dJ5_hashCode_2_2 : decode cJ5_hashCode_2 2 = .ok (.iadd, 1) := dk_96 (dk_at dksJ5_hashCode_2_0 2 rfl rfl)
theorem dJ5_hashCode_2_3 : decode cJ5_hashCode_2 3 = .ok (.istore 4, 2) := dk_54 4 (dk_at dksJ5_hashCode_2_0 3 rfl rfl)
theorem dJ5_hashCode_2_5 : decode cJ5_hashCode_2 5 = .ok (.iload_n 2, 1) := dk_28 (dk_at dksJ5_hashCode_2_0 5 rfl rfl)
theorem dJ5_hashCode_2_6 : decode cJ5_hashCode_2 6 = .ok (.istore 5, 2) := dk_54 5 (dk_at dksJ5_hashCode_2_0 6 rfl rfl)
theorem dJ5_hashCode_2_8 : decode cJ5_hashCode_2 8 = .ok (.iload 5, 2) := dk_21 5 (dk_at dksJ5_hashCode_2_0 8 rfl rfl)
theorem dJ5_hashCode_2_10 : decode cJ5_hashCode_2 10 = .ok (.iload 4, 2) := dk_21 4 (dk_at dksJ5_hashCode_2_0 10 rfl rfl)
theorem dJ5_hashCode_2_12 : decode cJ5_hashCode_2 12 = .ok (.if_icmp .ge 19, 3) := dk_162 0 19 (dk_at dksJ5_hashCode_2_0 12 rfl rfl)
theorem dJ5_hashCode_2_15 : decode cJ5_hashCode_2 15 = .ok (.bipush 31, 2) := dk_16 31 (dk_at dksJ5_hashCode_2_0 15 rfl rfl)
theorem dJ5_hashCode_2_17 : decode cJ5_hashCode_2 17 = .ok (.iload_n 0, 1) := dk_26 (dk_at dksJ5_hashCode_2_0 17 rfl rfl)
theorem dJ5_hashCode_2_18 : decode cJ5_hashCode_2 18 = .ok (.imul, 1) := dk_104 (dk_at dksJ5_hashCode_2_0 18 rfl rfl)
theorem dJ5_hashCode_2_19 : decode cJ5_hashCode_2 19 = .ok (.aload_n 1, 1) := dk_43 (dk_at dksJ5_hashCode_2_0 19 rfl rfl)
theorem dJ5_hashCode_2_20 : decode cJ5_hashCode_2 20 = .ok (.iload 5, 2) := dk_21 5 (dk_at dksJ5_hashCode_2_0 20 rfl rfl)
theorem dJ5_hashCode_2_22 : decode cJ5_hashCode_2 22 = .ok (.baload, 1) := dk_51 (dk_at dksJ5_hashCode_2_0 22 rfl rfl)
theorem dJ5_hashCode_2_23 : decode cJ5_hashCode_2 23 = .ok (.iadd, 1) := dk_96 (dk_at dksJ5_hashCode_2_0 23 rfl rfl)
theorem dJ5_hashCode_2_24 : decode cJ5_hashCode_2 24 = .ok (.istore_n 0, 1) := dk_59 (dk_at dksJ5_hashCode_2_1 0 rfl rfl)
theorem dJ5_hashCode_2_25 : decode cJ5_hashCode_2 25 = .ok (.iinc 5 1, 3) := dk_132 5 1 (dk_at dksJ5_hashCode_2_1 1 rfl rfl)
theorem dJ5_hashCode_2_28 : decode cJ5_hashCode_2 28 = .ok (.goto (-20), 3) := dk_167 255 236 (dk_at dksJ5_hashCode_2_1 4 rfl rfl)
theorem dJ5_hashCode_2_31 : decode cJ5_hashCode_2 31 = .ok (.iload_n 0, 1) := dk_26 (dk_at dksJ5_hashCode_2_1 7 rfl rfl)
theorem dJ5_hashCode_2_32 : decode cJ5_hashCode_2 32 = .ok (.ireturn, 1) := dk_172 (dk_at dksJ5_hashCode_2_1 8 rfl rfl)
abbrev cJ5_hashCode_3 : ByteArray := prog_61_method_8_code
def yJ5_hashCode_3 : MethodName := ⟨RJ5, "hashCode", "(I[SII)I"⟩
def dkwJ5_hashCode_3_1 : List UInt8 := [59, 132, 5, 1, 167, 255, 236, 26, 172]
abbrev dktJ5_hashCode_3_1 : List UInt8 := dkwJ5_hashCode_3_1 ++ []
def dkwJ5_hashCode_3_0 : List UInt8 := [28, 29, 96, 54, 4, 28, 54, 5, 21, 5, 21, 4, 162, 0, 19, 16, 31, 26, 104, 43, 21, 5, 53, 96]
abbrev dktJ5_hashCode_3_0 : List UInt8 := dkwJ5_hashCode_3_0 ++ dktJ5_hashCode_3_1
theorem dksJ5_hashCode_3_0 : cJ5_hashCode_3.data.toList.drop 0 = dktJ5_hashCode_3_0 := by decide +kernel
theorem dksJ5_hashCode_3_1 : cJ5_hashCode_3.data.toList.drop 24 = dktJ5_hashCode_3_1 := dk_seg dksJ5_hashCode_3_0 24 rfl rfl
theorem dJ5_hashCode_3_0 : decode cJ5_hashCode_3 0 = .ok (.iload_n 2, 1) := dk_28 (dk_at dksJ5_hashCode_3_0 0 rfl rfl)
theorem dJ5_hashCode_3_1 : decode cJ5_hashCode_3 1 = .ok (.iload_n 3, 1) := dk_29 (dk_at dksJ5_hashCode_3_0 1 rfl rfl)
theorem dJ5_hashCode_3_2 : decode cJ5_hashCode_3 2 = .ok (.iadd, 1) := dk_96 (dk_at dksJ5_hashCode_3_0 2 rfl rfl)
theorem dJ5_hashCode_3_3 : decode cJ5_hashCode_3 3 = .ok (.istore 4, 2) := dk_54 4 (dk_at dksJ5_hashCode_3_0 3 rfl rfl)
theorem dJ5_hashCode_3_5 : decode cJ5_hashCode_3 5 = .ok (.iload_n 2, 1) := dk_28 (dk_at dksJ5_hashCode_3_0 5 rfl rfl)
theorem dJ5_hashCode_3_6 : decode cJ5_hashCode_3 6 = .ok (.istore 5, 2) := dk_54 5 (dk_at dksJ5_hashCode_3_0 6 rfl rfl)
theorem dJ5_hashCode_3_8 : decode cJ5_hashCode_3 8 = .ok (.iload 5, 2) := dk_21 5 (dk_at dksJ5_hashCode_3_0 8 rfl rfl)
theorem dJ5_hashCode_3_10 : decode cJ5_hashCode_3 10 = .ok (.iload 4, 2) := dk_21 4 (dk_at dksJ5_hashCode_3_0 10 rfl rfl)
theorem dJ5_hashCode_3_12 : decode cJ5_hashCode_3 12 = .ok (.if_icmp .ge 19, 3) := dk_162 0 19 (dk_at dksJ5_hashCode_3_0 12 rfl rfl)
theorem dJ5_hashCode_3_15 : decode cJ5_hashCode_3 15 = .ok (.bipush 31, 2) := dk_16 31 (dk_at dksJ5_hashCode_3_0 15 rfl rfl)
theorem dJ5_hashCode_3_17 : decode cJ5_hashCode_3 17 = .ok (.iload_n 0, 1) := dk_26 (dk_at dksJ5_hashCode_3_0 17 rfl rfl)
theorem dJ5_hashCode_3_18 : decode cJ5_hashCode_3 18 = .ok (.imul, 1) := dk_104 (dk_at dksJ5_hashCode_3_0 18 rfl rfl)
theorem dJ5_hashCode_3_19 : decode cJ5_hashCode_3 19 = .ok (.aload_n 1, 1) := dk_43 (dk_at dksJ5_hashCode_3_0 19 rfl rfl)
theorem dJ5_hashCode_3_20 : decode cJ5_hashCode_3 20 = .ok (.iload 5, 2) := dk_21 5 (dk_at dksJ5_hashCode_3_0 20 rfl rfl)
theorem dJ5_hashCode_3_22 : decode cJ5_hashCode_3 22 = .ok (.saload, 1) := dk_53 (dk_at dksJ5_hashCode_3_0 22 rfl rfl)
theorem dJ5_hashCode_3_23 : decode cJ5_hashCode_3 23 = .ok (.iadd, 1) := dk_96 (dk_at dksJ5_hashCode_3_0 23 rfl rfl)
theorem dJ5_hashCode_3_24 : decode cJ5_hashCode_3 24 = .ok (.istore_n 0, 1) := dk_59 (dk_at dksJ5_hashCode_3_1 0 rfl rfl)
theorem dJ5_hashCode_3_25 : decode cJ5_hashCode_3 25 = .ok (.iinc 5 1, 3) := dk_132 5 1 (dk_at dksJ5_hashCode_3_1 1 rfl rfl)
theorem dJ5_hashCode_3_28 : decode cJ5_hashCode_3 28 = .ok (.goto (-20), 3) := dk_167 255 236 (dk_at dksJ5_hashCode_3_1 4 rfl rfl)
theorem dJ5_hashCode_3_31 : decode cJ5_hashCode_3 31 = .ok (.iload_n 0, 1) := dk_26 (dk_at dksJ5_hashCode_3_1 7 rfl rfl)
theorem dJ5_hashCode_3_32 : decode cJ5_hashCode_3 32 = .ok (.ireturn, 1) := dk_172 (dk_at dksJ5_hashCode_3_1 8 rfl rfl)
abbrev cJ5_hashCode_4 : ByteArray := prog_61_method_9_code
def yJ5_hashCode_4 : MethodName := ⟨RJ5, "hashCode", "(I[III)I"⟩
def dkwJ5_hashCode_4_1 : List UInt8 := [59, 132, 5, 1, 167, 255, 236, 26, 172]
abbrev dktJ5_hashCode_4_1 : List UInt8 := dkwJ5_hashCode_4_1 ++ []
def dkwJ5_hashCode_4_0 : List UInt8 := [28, 29, 96, 54, 4, 28, 54, 5, 21, 5, 21, 4, 162, 0, 19, 16, 31, 26, 104, 43, 21, 5, 46, 96]
abbrev dktJ5_hashCode_4_0 : List UInt8 := dkwJ5_hashCode_4_0 ++ dktJ5_hashCode_4_1
theorem dksJ5_hashCode_4_0 : cJ5_hashCode_4.data.toList.drop 0 = dktJ5_hashCode_4_0 := by decide +kernel
theorem dksJ5_hashCode_4_1 : cJ5_hashCode_4.data.toList.drop 24 = dktJ5_hashCode_4_1 := dk_seg dksJ5_hashCode_4_0 24 rfl rfl
theorem dJ5_hashCode_4_0 : decode cJ5_hashCode_4 0 = .ok (.iload_n 2, 1) := dk_28 (dk_at dksJ5_hashCode_4_0 0 rfl rfl)
theorem dJ5_hashCode_4_1 : decode cJ5_hashCode_4 1 = .ok (.iload_n 3, 1) := dk_29 (dk_at dksJ5_hashCode_4_0 1 rfl rfl)
theorem dJ5_hashCode_4_2 : decode cJ5_hashCode_4 2 = .ok (.iadd, 1) := dk_96 (dk_at dksJ5_hashCode_4_0 2 rfl rfl)
theorem dJ5_hashCode_4_3 : decode cJ5_hashCode_4 3 = .ok (.istore 4, 2) := dk_54 4 (dk_at dksJ5_hashCode_4_0 3 rfl rfl)
theorem dJ5_hashCode_4_5 : decode cJ5_hashCode_4 5 = .ok (.iload_n 2, 1) := dk_28 (dk_at dksJ5_hashCode_4_0 5 rfl rfl)
theorem dJ5_hashCode_4_6 : decode cJ5_hashCode_4 6 = .ok (.istore 5, 2) := dk_54 5 (dk_at dksJ5_hashCode_4_0 6 rfl rfl)
theorem dJ5_hashCode_4_8 : decode cJ5_hashCode_4 8 = .ok (.iload 5, 2) := dk_21 5 (dk_at dksJ5_hashCode_4_0 8 rfl rfl)
theorem dJ5_hashCode_4_10 : decode cJ5_hashCode_4 10 = .ok (.iload 4, 2) := dk_21 4 (dk_at dksJ5_hashCode_4_0 10 rfl rfl)
theorem dJ5_hashCode_4_12 : decode cJ5_hashCode_4 12 = .ok (.if_icmp .ge 19, 3) := dk_162 0 19 (dk_at dksJ5_hashCode_4_0 12 rfl rfl)
theorem dJ5_hashCode_4_15 : decode cJ5_hashCode_4 15 = .ok (.bipush 31, 2) := dk_16 31 (dk_at dksJ5_hashCode_4_0 15 rfl rfl)
theorem dJ5_hashCode_4_17 : decode cJ5_hashCode_4 17 = .ok (.iload_n 0, 1) := dk_26 (dk_at dksJ5_hashCode_4_0 17 rfl rfl)
theorem dJ5_hashCode_4_18 : decode cJ5_hashCode_4 18 = .ok (.imul, 1) := dk_104 (dk_at dksJ5_hashCode_4_0 18 rfl rfl)
theorem dJ5_hashCode_4_19 : decode cJ5_hashCode_4 19 = .ok (.aload_n 1, 1) := dk_43 (dk_at dksJ5_hashCode_4_0 19 rfl rfl)
theorem dJ5_hashCode_4_20 : decode cJ5_hashCode_4 20 = .ok (.iload 5, 2) := dk_21 5 (dk_at dksJ5_hashCode_4_0 20 rfl rfl)
theorem dJ5_hashCode_4_22 : decode cJ5_hashCode_4 22 = .ok (.iaload, 1) := dk_46 (dk_at dksJ5_hashCode_4_0 22 rfl rfl)
theorem dJ5_hashCode_4_23 : decode cJ5_hashCode_4 23 = .ok (.iadd, 1) := dk_96 (dk_at dksJ5_hashCode_4_0 23 rfl rfl)
theorem dJ5_hashCode_4_24 : decode cJ5_hashCode_4 24 = .ok (.istore_n 0, 1) := dk_59 (dk_at dksJ5_hashCode_4_1 0 rfl rfl)
theorem dJ5_hashCode_4_25 : decode cJ5_hashCode_4 25 = .ok (.iinc 5 1, 3) := dk_132 5 1 (dk_at dksJ5_hashCode_4_1 1 rfl rfl)
theorem dJ5_hashCode_4_28 : decode cJ5_hashCode_4 28 = .ok (.goto (-20), 3) := dk_167 255 236 (dk_at dksJ5_hashCode_4_1 4 rfl rfl)
theorem dJ5_hashCode_4_31 : decode cJ5_hashCode_4 31 = .ok (.iload_n 0, 1) := dk_26 (dk_at dksJ5_hashCode_4_1 7 rfl rfl)
theorem dJ5_hashCode_4_32 : decode cJ5_hashCode_4 32 = .ok (.ireturn, 1) := dk_172 (dk_at dksJ5_hashCode_4_1 8 rfl rfl)
theorem q98 : (Jvm.Cond.initialized "jdk/internal/util/ArraysSupport") ∈ lw_all := lw_g (lw_at lw_m1 16 rfl) rfl
theorem q675 : (Jvm.Cond.static ({ cls := "jdk/internal/util/ArraysSupport", name := "newLength", desc := "(III)I" } : Jvm.MethodName)) ∈ lw_all := lw_g (lw_at lw_m3 113 rfl) rfl
theorem q676 : (Jvm.Cond.code ({ cls := "jdk/internal/util/ArraysSupport", name := "newLength", desc := "(III)I" } : Jvm.MethodName) prog_61_method_27_code (4 : Nat) (Option.some Jvm.ClassFile.FieldType.int)) ∈ lw_all := lw_g (lw_at lw_m3 114 rfl) rfl
theorem q677 : (Jvm.Cond.methodLink "jdk/internal/util/ArraysSupport" (194 : Nat) ({ cls := "java/lang/Math", name := "max", desc := "(II)I" } : Jvm.MethodName)) ∈ lw_all := lw_g (lw_at lw_m3 115 rfl) rfl
theorem q680 : (Jvm.Cond.constant "jdk/internal/util/ArraysSupport" (200 : Nat) (2147483639 : Int32)) ∈ lw_all := lw_g (lw_at lw_m3 118 rfl) rfl
theorem q681 : (Jvm.Cond.methodLink "jdk/internal/util/ArraysSupport" (201 : Nat) ({ cls := "jdk/internal/util/ArraysSupport", name := "hugeLength", desc := "(II)I" } : Jvm.MethodName)) ∈ lw_all := lw_g (lw_at lw_m3 119 rfl) rfl
theorem q682 : (Jvm.Cond.static ({ cls := "jdk/internal/util/ArraysSupport", name := "hugeLength", desc := "(II)I" } : Jvm.MethodName)) ∈ lw_all := lw_g (lw_at lw_m3 120 rfl) rfl
theorem q683 : (Jvm.Cond.code ({ cls := "jdk/internal/util/ArraysSupport", name := "hugeLength", desc := "(II)I" } : Jvm.MethodName) prog_61_method_28_code (3 : Nat) (Option.some Jvm.ClassFile.FieldType.int)) ∈ lw_all := lw_g (lw_at lw_m3 121 rfl) rfl
theorem q1162 : (Jvm.Cond.static ({ cls := "jdk/internal/util/ArraysSupport", name := "vectorizedHashCode", desc := "(Ljava/lang/Object;IIII)I" } : Jvm.MethodName)) ∈ lw_all := lw_g (lw_at lw_m5 120 rfl) rfl
theorem q1163 : (Jvm.Cond.code ({ cls := "jdk/internal/util/ArraysSupport", name := "vectorizedHashCode", desc := "(Ljava/lang/Object;IIII)I" } : Jvm.MethodName) prog_61_method_4_code (5 : Nat) (Option.some Jvm.ClassFile.FieldType.int)) ∈ lw_all := lw_g (lw_at lw_m5 121 rfl) rfl
theorem q1164 : (Jvm.Cond.classLink "jdk/internal/util/ArraysSupport" (60 : Nat) "[B") ∈ lw_all := lw_g (lw_at lw_m5 122 rfl) rfl
theorem q1165 : (Jvm.Cond.methodLink "jdk/internal/util/ArraysSupport" (62 : Nat) ({ cls := "jdk/internal/util/ArraysSupport", name := "signedHashCode", desc := "(I[BII)I" } : Jvm.MethodName)) ∈ lw_all := lw_g (lw_at lw_m5 123 rfl) rfl
theorem q1166 : (Jvm.Cond.static ({ cls := "jdk/internal/util/ArraysSupport", name := "signedHashCode", desc := "(I[BII)I" } : Jvm.MethodName)) ∈ lw_all := lw_g (lw_at lw_m5 124 rfl) rfl
theorem q1167 : (Jvm.Cond.code ({ cls := "jdk/internal/util/ArraysSupport", name := "signedHashCode", desc := "(I[BII)I" } : Jvm.MethodName) prog_61_method_5_code (6 : Nat) (Option.some Jvm.ClassFile.FieldType.int)) ∈ lw_all := lw_g (lw_at lw_m5 125 rfl) rfl
theorem q1168 : (Jvm.Cond.methodLink "jdk/internal/util/ArraysSupport" (66 : Nat) ({ cls := "jdk/internal/util/ArraysSupport", name := "utf16hashCode", desc := "(I[BII)I" } : Jvm.MethodName)) ∈ lw_all := lw_g (lw_at lw_m5 126 rfl) rfl
theorem q1169 : (Jvm.Cond.static ({ cls := "jdk/internal/util/ArraysSupport", name := "utf16hashCode", desc := "(I[BII)I" } : Jvm.MethodName)) ∈ lw_all := lw_g (lw_at lw_m5 127 rfl) rfl
theorem q1170 : (Jvm.Cond.code ({ cls := "jdk/internal/util/ArraysSupport", name := "utf16hashCode", desc := "(I[BII)I" } : Jvm.MethodName) prog_61_method_10_code (6 : Nat) (Option.some Jvm.ClassFile.FieldType.int)) ∈ lw_all := lw_g (lw_at lw_m5 128 rfl) rfl
theorem q1171 : (Jvm.Cond.fieldLink "jdk/internal/util/ArraysSupport" (106 : Nat) "jdk/internal/util/ArraysSupport" "JLA" "Ljdk/internal/access/JavaLangAccess;") ∈ lw_all := lw_g (lw_at lw_m5 129 rfl) rfl
theorem q1172 : (Jvm.Cond.laysStatic "jdk/internal/util/ArraysSupport" "JLA" "Ljdk/internal/access/JavaLangAccess;") ∈ lw_tbl := lw_at lw_m5 130 rfl
theorem q1173 : (Jvm.Cond.interfaceEntry "jdk/internal/util/ArraysSupport" (110 : Nat)) ∈ lw_tbl := lw_at lw_m5 131 rfl
theorem q1174 : (Jvm.Cond.methodLink "jdk/internal/util/ArraysSupport" (110 : Nat) ({ cls := "jdk/internal/access/JavaLangAccess", name := "getUTF16Char", desc := "([BI)C" } : Jvm.MethodName)) ∈ lw_all := lw_g (lw_at lw_m5 132 rfl) rfl
theorem q1184 : (Jvm.Cond.classLink "jdk/internal/util/ArraysSupport" (69 : Nat) "[C") ∈ lw_all := lw_g (lw_at lw_m5 142 rfl) rfl
theorem q1185 : (Jvm.Cond.methodLink "jdk/internal/util/ArraysSupport" (71 : Nat) ({ cls := "jdk/internal/util/ArraysSupport", name := "hashCode", desc := "(I[CII)I" } : Jvm.MethodName)) ∈ lw_all := lw_g (lw_at lw_m5 143 rfl) rfl
theorem q1186 : (Jvm.Cond.static ({ cls := "jdk/internal/util/ArraysSupport", name := "hashCode", desc := "(I[CII)I" } : Jvm.MethodName)) ∈ lw_all := lw_g (lw_at lw_m5 144 rfl) rfl
theorem q1187 : (Jvm.Cond.code ({ cls := "jdk/internal/util/ArraysSupport", name := "hashCode", desc := "(I[CII)I" } : Jvm.MethodName) prog_61_method_7_code (6 : Nat) (Option.some Jvm.ClassFile.FieldType.int)) ∈ lw_all := lw_g (lw_at lw_m5 145 rfl) rfl
theorem q1188 : (Jvm.Cond.methodLink "jdk/internal/util/ArraysSupport" (75 : Nat) ({ cls := "jdk/internal/util/ArraysSupport", name := "hashCode", desc := "(I[BII)I" } : Jvm.MethodName)) ∈ lw_all := lw_g (lw_at lw_m5 146 rfl) rfl
theorem q1189 : (Jvm.Cond.static ({ cls := "jdk/internal/util/ArraysSupport", name := "hashCode", desc := "(I[BII)I" } : Jvm.MethodName)) ∈ lw_all := lw_g (lw_at lw_m5 147 rfl) rfl
theorem q1190 : (Jvm.Cond.code ({ cls := "jdk/internal/util/ArraysSupport", name := "hashCode", desc := "(I[BII)I" } : Jvm.MethodName) prog_61_method_6_code (6 : Nat) (Option.some Jvm.ClassFile.FieldType.int)) ∈ lw_all := lw_g (lw_at lw_m5 148 rfl) rfl
theorem q1191 : (Jvm.Cond.classLink "jdk/internal/util/ArraysSupport" (77 : Nat) "[S") ∈ lw_all := lw_g (lw_at lw_m5 149 rfl) rfl
theorem q1192 : (Jvm.Cond.methodLink "jdk/internal/util/ArraysSupport" (79 : Nat) ({ cls := "jdk/internal/util/ArraysSupport", name := "hashCode", desc := "(I[SII)I" } : Jvm.MethodName)) ∈ lw_all := lw_g (lw_at lw_m5 150 rfl) rfl
theorem q1193 : (Jvm.Cond.static ({ cls := "jdk/internal/util/ArraysSupport", name := "hashCode", desc := "(I[SII)I" } : Jvm.MethodName)) ∈ lw_all := lw_g (lw_at lw_m5 151 rfl) rfl
theorem q1194 : (Jvm.Cond.code ({ cls := "jdk/internal/util/ArraysSupport", name := "hashCode", desc := "(I[SII)I" } : Jvm.MethodName) prog_61_method_8_code (6 : Nat) (Option.some Jvm.ClassFile.FieldType.int)) ∈ lw_all := lw_g (lw_at lw_m5 152 rfl) rfl
theorem q1195 : (Jvm.Cond.classLink "jdk/internal/util/ArraysSupport" (82 : Nat) "[I") ∈ lw_all := lw_g (lw_at lw_m5 153 rfl) rfl
theorem q1196 : (Jvm.Cond.methodLink "jdk/internal/util/ArraysSupport" (84 : Nat) ({ cls := "jdk/internal/util/ArraysSupport", name := "hashCode", desc := "(I[III)I" } : Jvm.MethodName)) ∈ lw_all := lw_g (lw_at lw_m5 154 rfl) rfl
theorem q1197 : (Jvm.Cond.static ({ cls := "jdk/internal/util/ArraysSupport", name := "hashCode", desc := "(I[III)I" } : Jvm.MethodName)) ∈ lw_all := lw_g (lw_at lw_m5 155 rfl) rfl
theorem q1198 : (Jvm.Cond.code ({ cls := "jdk/internal/util/ArraysSupport", name := "hashCode", desc := "(I[III)I" } : Jvm.MethodName) prog_61_method_9_code (6 : Nat) (Option.some Jvm.ClassFile.FieldType.int)) ∈ lw_all := lw_g (lw_at lw_m5 156 rfl) rfl
theorem q1199 : (Jvm.Cond.classLink "jdk/internal/util/ArraysSupport" (87 : Nat) "java/lang/IllegalArgumentException") ∈ lw_all := lw_g (lw_at lw_m5 157 rfl) rfl
theorem q1200 : (Jvm.Cond.classLink "jdk/internal/util/ArraysSupport" (89 : Nat) "java/lang/StringBuilder") ∈ lw_all := lw_g (lw_at lw_m5 158 rfl) rfl
theorem q1201 : (Jvm.Cond.methodLink "jdk/internal/util/ArraysSupport" (91 : Nat) ({ cls := "java/lang/StringBuilder", name := "<init>", desc := "()V" } : Jvm.MethodName)) ∈ lw_all := lw_g (lw_at lw_m5 159 rfl) rfl
theorem q1202 : (Jvm.Cond.stringRef "jdk/internal/util/ArraysSupport" (92 : Nat) "unrecognized basic type: ") ∈ lw_tbl := lw_at lw_m5 160 rfl
theorem q1203 : (Jvm.Cond.methodLink "jdk/internal/util/ArraysSupport" (94 : Nat) ({ cls := "java/lang/StringBuilder", name := "append", desc := "(Ljava/lang/String;)Ljava/lang/StringBuilder;" } : Jvm.MethodName)) ∈ lw_all := lw_g (lw_at lw_m5 161 rfl) rfl
theorem q1204 : (Jvm.Cond.methodLink "jdk/internal/util/ArraysSupport" (98 : Nat) ({ cls := "java/lang/StringBuilder", name := "append", desc := "(I)Ljava/lang/StringBuilder;" } : Jvm.MethodName)) ∈ lw_all := lw_g (lw_at lw_m5 162 rfl) rfl
theorem q1205 : (Jvm.Cond.methodLink "jdk/internal/util/ArraysSupport" (101 : Nat) ({ cls := "java/lang/StringBuilder", name := "toString", desc := "()Ljava/lang/String;" } : Jvm.MethodName)) ∈ lw_all := lw_g (lw_at lw_m5 163 rfl) rfl
theorem q1206 : (Jvm.Cond.methodLink "jdk/internal/util/ArraysSupport" (105 : Nat) ({ cls := "java/lang/IllegalArgumentException", name := "<init>", desc := "(Ljava/lang/String;)V" } : Jvm.MethodName)) ∈ lw_all := lw_g (lw_at lw_m5 164 rfl) rfl
/-! java/lang/Math -/
set_option maxRecDepth 100000
def RJ6 : String := "java/lang/Math"
abbrev cJ6_max : ByteArray := prog_37_method_65_code
def yJ6_max : MethodName := ⟨RJ6, "max", "(II)I"⟩
def dkwJ6_max_0 : List UInt8 := [26, 27, 161, 0, 7, 26, 167, 0, 4, 27, 172]
abbrev dktJ6_max_0 : List UInt8 := dkwJ6_max_0 ++ []
theorem dksJ6_max_0 : cJ6_max.data.toList.drop 0 = dktJ6_max_0 := by decide +kernel
theorem dJ6_max_0 : decode cJ6_max 0 = .ok (.iload_n 0, 1) := dk_26 (dk_at dksJ6_max_0 0 rfl rfl)
theorem dJ6_max_1 : decode cJ6_max 1 = .ok (.iload_n 1, 1) := dk_27 (dk_at dksJ6_max_0 1 rfl rfl)
theorem dJ6_max_2 : decode cJ6_max 2 = .ok (.if_icmp .lt 7, 3) := dk_161 0 7 (dk_at dksJ6_max_0 2 rfl rfl)
theorem dJ6_max_5 : decode cJ6_max 5 = .ok (.iload_n 0, 1) := dk_26 (dk_at dksJ6_max_0 5 rfl rfl)
theorem dJ6_max_6 : decode cJ6_max 6 = .ok (.goto 4, 3) := dk_167 0 4 (dk_at dksJ6_max_0 6 rfl rfl)
theorem dJ6_max_9 : decode cJ6_max 9 = .ok (.iload_n 1, 1) := dk_27 (dk_at dksJ6_max_0 9 rfl rfl)
theorem dJ6_max_10 : decode cJ6_max 10 = .ok (.ireturn, 1) := dk_172 (dk_at dksJ6_max_0 10 rfl rfl)
abbrev cJ6_min : ByteArray := prog_37_method_69_code
def yJ6_min : MethodName := ⟨RJ6, "min", "(II)I"⟩
def dkwJ6_min_0 : List UInt8 := [26, 27, 163, 0, 7, 26, 167, 0, 4, 27, 172]
abbrev dktJ6_min_0 : List UInt8 := dkwJ6_min_0 ++ []
theorem dksJ6_min_0 : cJ6_min.data.toList.drop 0 = dktJ6_min_0 := by decide +kernel
theorem dJ6_min_0 : decode cJ6_min 0 = .ok (.iload_n 0, 1) := dk_26 (dk_at dksJ6_min_0 0 rfl rfl)
theorem dJ6_min_1 : decode cJ6_min 1 = .ok (.iload_n 1, 1) := dk_27 (dk_at dksJ6_min_0 1 rfl rfl)
theorem dJ6_min_2 : decode cJ6_min 2 = .ok (.if_icmp .gt 7, 3) := dk_163 0 7 (dk_at dksJ6_min_0 2 rfl rfl)
theorem dJ6_min_5 : decode cJ6_min 5 = .ok (.iload_n 0, 1) := dk_26 (dk_at dksJ6_min_0 5 rfl rfl)
theorem dJ6_min_6 : decode cJ6_min 6 = .ok (.goto 4, 3) := dk_167 0 4 (dk_at dksJ6_min_0 6 rfl rfl)
theorem dJ6_min_9 : decode cJ6_min 9 = .ok (.iload_n 1, 1) := dk_27 (dk_at dksJ6_min_0 9 rfl rfl)
theorem dJ6_min_10 : decode cJ6_min 10 = .ok (.ireturn, 1) := dk_172 (dk_at dksJ6_min_0 10 rfl rfl)
theorem q99 : (Jvm.Cond.initialized "java/lang/Math") ∈ lw_all := lw_g (lw_at lw_m1 17 rfl) rfl
theorem q678 : (Jvm.Cond.static ({ cls := "java/lang/Math", name := "max", desc := "(II)I" } : Jvm.MethodName)) ∈ lw_all := lw_g (lw_at lw_m3 116 rfl) rfl
theorem q679 : (Jvm.Cond.code ({ cls := "java/lang/Math", name := "max", desc := "(II)I" } : Jvm.MethodName) prog_37_method_65_code (2 : Nat) (Option.some Jvm.ClassFile.FieldType.int)) ∈ lw_all := lw_g (lw_at lw_m3 117 rfl) rfl
theorem q728 : (Jvm.Cond.static ({ cls := "java/lang/Math", name := "min", desc := "(II)I" } : Jvm.MethodName)) ∈ lw_all := lw_g (lw_at lw_m3 166 rfl) rfl
theorem q729 : (Jvm.Cond.code ({ cls := "java/lang/Math", name := "min", desc := "(II)I" } : Jvm.MethodName) prog_37_method_69_code (2 : Nat) (Option.some Jvm.ClassFile.FieldType.int)) ∈ lw_all := lw_g (lw_at lw_m3 167 rfl) rfl
/-! java/util/Arrays -/
set_option maxRecDepth 100000
def RJ7 : String := "java/util/Arrays"
abbrev cJ7_copyOf : ByteArray := prog_53_method_119_code
def yJ7_copyOf : MethodName := ⟨RJ7, "copyOf", "([Ljava/lang/Object;I)[Ljava/lang/Object;"⟩
def dkwJ7_copyOf_0 : List UInt8 := [42, 27, 42, 182, 0, 86, 184, 1, 44, 176]
abbrev dktJ7_copyOf_0 : List UInt8 := dkwJ7_copyOf_0 ++ []
theorem dksJ7_copyOf_0 : cJ7_copyOf.data.toList.drop 0 = dktJ7_copyOf_0 := by decide +kernel
theorem dJ7_copyOf_0 : decode cJ7_copyOf 0 = .ok (.aload_n 0, 1) := dk_42 (dk_at dksJ7_copyOf_0 0 rfl rfl)
theorem dJ7_copyOf_1 : decode cJ7_copyOf 1 = .ok (.iload_n 1, 1) := dk_27 (dk_at dksJ7_copyOf_0 1 rfl rfl)
theorem dJ7_copyOf_2 : decode cJ7_copyOf 2 = .ok (.aload_n 0, 1) := dk_42 (dk_at dksJ7_copyOf_0 2 rfl rfl)
theorem dJ7_copyOf_3 : decode cJ7_copyOf 3 = .ok (.invokevirtual 86, 3) := dk_182 0 86 (dk_at dksJ7_copyOf_0 3 rfl rfl)
theorem dJ7_copyOf_6 : decode cJ7_copyOf 6 = .ok (.invokestatic 300, 3) := dk_184 1 44 (dk_at dksJ7_copyOf_0 6 rfl rfl)
theorem dJ7_copyOf_9 : decode cJ7_copyOf 9 = .ok (.areturn, 1) := dk_176 (dk_at dksJ7_copyOf_0 9 rfl rfl)
abbrev cJ7_copyOf_2 : ByteArray := prog_53_method_120_code
def yJ7_copyOf_2 : MethodName := ⟨RJ7, "copyOf", "([Ljava/lang/Object;ILjava/lang/Class;)[Ljava/lang/Object;"⟩
def dkwJ7_copyOf_2_1 : List UInt8 := [78, 42, 3, 45, 3, 42, 190, 27, 184, 1, 48, 184, 0, 150, 45, 176]
abbrev dktJ7_copyOf_2_1 : List UInt8 := dkwJ7_copyOf_2_1 ++ []
def dkwJ7_copyOf_2_0 : List UInt8 := [44, 18, 110, 166, 0, 10, 27, 189, 0, 2, 167, 0, 14, 44, 182, 0, 90, 27, 184, 0, 95, 192, 0, 110]
abbrev dktJ7_copyOf_2_0 : List UInt8 := dkwJ7_copyOf_2_0 ++ dktJ7_copyOf_2_1
theorem dksJ7_copyOf_2_0 : cJ7_copyOf_2.data.toList.drop 0 = dktJ7_copyOf_2_0 := by decide +kernel
theorem dksJ7_copyOf_2_1 : cJ7_copyOf_2.data.toList.drop 24 = dktJ7_copyOf_2_1 := dk_seg dksJ7_copyOf_2_0 24 rfl rfl
theorem dJ7_copyOf_2_0 : decode cJ7_copyOf_2 0 = .ok (.aload_n 2, 1) := dk_44 (dk_at dksJ7_copyOf_2_0 0 rfl rfl)
theorem dJ7_copyOf_2_1 : decode cJ7_copyOf_2 1 = .ok (.ldc 110, 2) := dk_18 110 (dk_at dksJ7_copyOf_2_0 1 rfl rfl)
theorem dJ7_copyOf_2_3 : decode cJ7_copyOf_2 3 = .ok (.if_acmp .ne 10, 3) := dk_166 0 10 (dk_at dksJ7_copyOf_2_0 3 rfl rfl)
theorem dJ7_copyOf_2_6 : decode cJ7_copyOf_2 6 = .ok (.iload_n 1, 1) := dk_27 (dk_at dksJ7_copyOf_2_0 6 rfl rfl)
theorem dJ7_copyOf_2_7 : decode cJ7_copyOf_2 7 = .ok (.anewarray 2, 3) := dk_189 0 2 (dk_at dksJ7_copyOf_2_0 7 rfl rfl)
theorem dJ7_copyOf_2_10 : decode cJ7_copyOf_2 10 = .ok (.goto 14, 3) := dk_167 0 14 (dk_at dksJ7_copyOf_2_0 10 rfl rfl)
theorem dJ7_copyOf_2_13 : decode cJ7_copyOf_2 13 = .ok (.aload_n 2, 1) := dk_44 (dk_at dksJ7_copyOf_2_0 13 rfl rfl)
theorem dJ7_copyOf_2_14 : decode cJ7_copyOf_2 14 = .ok (.invokevirtual 90, 3) := dk_182 0 90 (dk_at dksJ7_copyOf_2_0 14 rfl rfl)
theorem dJ7_copyOf_2_17 : decode cJ7_copyOf_2 17 = .ok (.iload_n 1, 1) := dk_27 (dk_at dksJ7_copyOf_2_0 17 rfl rfl)
theorem dJ7_copyOf_2_18 : decode cJ7_copyOf_2 18 = .ok (.invokestatic 95, 3) := dk_184 0 95 (dk_at dksJ7_copyOf_2_0 18 rfl rfl)
theorem dJ7_copyOf_2_21 : decode cJ7_copyOf_2 21 = .ok (.checkcast 110, 3) := dk_192 0 110 (dk_at dksJ7_copyOf_2_0 21 rfl rfl)
theorem dJ7_copyOf_2_24 : decode cJ7_copyOf_2 24 = .ok (.astore_n 3, 1) := dk_78 (dk_at dksJ7_copyOf_2_1 0 rfl rfl)
theorem dJ7_copyOf_2_25 : decode cJ7_copyOf_2 25 = .ok (.aload_n 0, 1) := dk_42 (dk_at dksJ7_copyOf_2_1 1 rfl rfl)
theorem dJ7_copyOf_2_26 : decode cJ7_copyOf_2 26 = .ok (.iconst 0, 1) := dk_3 (dk_at dksJ7_copyOf_2_1 2 rfl rfl)
theorem dJ7_copyOf_2_27 : decode cJ7_copyOf_2 27 = .ok (.aload_n 3, 1) := dk_45 (dk_at dksJ7_copyOf_2_1 3 rfl rfl)
theorem dJ7_copyOf_2_28 : decode cJ7_copyOf_2 28 = .ok (.iconst 0, 1) := dk_3 (dk_at dksJ7_copyOf_2_1 4 rfl rfl)
theorem dJ7_copyOf_2_29 : decode cJ7_copyOf_2 29 = .ok (.aload_n 0, 1) := dk_42 (dk_at dksJ7_copyOf_2_1 5 rfl rfl)
theorem dJ7_copyOf_2_30 : decode cJ7_copyOf_2 30 = .ok (.arraylength, 1) := dk_190 (dk_at dksJ7_copyOf_2_1 6 rfl rfl)
theorem dJ7_copyOf_2_31 : decode cJ7_copyOf_2 31 = .ok (.iload_n 1, 1) := dk_27 (dk_at dksJ7_copyOf_2_1 7 rfl rfl)
theorem dJ7_copyOf_2_32 : decode cJ7_copyOf_2 32 = .ok (.invokestatic 304, 3) := dk_184 1 48 (dk_at dksJ7_copyOf_2_1 8 rfl rfl)
theorem dJ7_copyOf_2_35 : decode cJ7_copyOf_2 35 = .ok (.invokestatic 150, 3) := dk_184 0 150 (dk_at dksJ7_copyOf_2_1 11 rfl rfl)
theorem dJ7_copyOf_2_38 : decode cJ7_copyOf_2 38 = .ok (.aload_n 3, 1) := dk_45 (dk_at dksJ7_copyOf_2_1 14 rfl rfl)
theorem dJ7_copyOf_2_39 : decode cJ7_copyOf_2 39 = .ok (.areturn, 1) := dk_176 (dk_at dksJ7_copyOf_2_1 15 rfl rfl)
abbrev cJ7_copyOf_3 : ByteArray := prog_53_method_121_code
def yJ7_copyOf_3 : MethodName := ⟨RJ7, "copyOf", "([BI)[B"⟩
def dkwJ7_copyOf_3_1 : List UInt8 := [27, 184, 1, 48, 184, 0, 150, 44, 176]
abbrev dktJ7_copyOf_3_1 : List UInt8 := dkwJ7_copyOf_3_1 ++ []
def dkwJ7_copyOf_3_0 : List UInt8 := [27, 42, 190, 160, 0, 11, 42, 182, 1, 54, 192, 1, 55, 176, 27, 188, 8, 77, 42, 3, 44, 3, 42, 190]
abbrev dktJ7_copyOf_3_0 : List UInt8 := dkwJ7_copyOf_3_0 ++ dktJ7_copyOf_3_1
theorem dksJ7_copyOf_3_0 : cJ7_copyOf_3.data.toList.drop 0 = dktJ7_copyOf_3_0 := by decide +kernel
theorem dksJ7_copyOf_3_1 : cJ7_copyOf_3.data.toList.drop 24 = dktJ7_copyOf_3_1 := dk_seg dksJ7_copyOf_3_0 24 rfl rfl
theorem dJ7_copyOf_3_0 : decode cJ7_copyOf_3 0 = .ok (.iload_n 1, 1) := dk_27 (dk_at dksJ7_copyOf_3_0 0 rfl rfl)
theorem dJ7_copyOf_3_1 : decode cJ7_copyOf_3 1 = .ok (.aload_n 0, 1) := dk_42 (dk_at dksJ7_copyOf_3_0 1 rfl rfl)
theorem dJ7_copyOf_3_2 : decode cJ7_copyOf_3 2 = .ok (.arraylength, 1) := dk_190 (dk_at dksJ7_copyOf_3_0 2 rfl rfl)
theorem dJ7_copyOf_3_3 : decode cJ7_copyOf_3 3 = .ok (.if_icmp .ne 11, 3) := dk_160 0 11 (dk_at dksJ7_copyOf_3_0 3 rfl rfl)
theorem dJ7_copyOf_3_6 : decode cJ7_copyOf_3 6 = .ok (.aload_n 0, 1) := dk_42 (dk_at dksJ7_copyOf_3_0 6 rfl rfl)
theorem dJ7_copyOf_3_7 : decode cJ7_copyOf_3 7 = .ok (.invokevirtual 310, 3) := dk_182 1 54 (dk_at dksJ7_copyOf_3_0 7 rfl rfl)
theorem dJ7_copyOf_3_10 : decode cJ7_copyOf_3 10 = .ok (.checkcast 311, 3) := dk_192 1 55 (dk_at dksJ7_copyOf_3_0 10 rfl rfl)
theorem dJ7_copyOf_3_13 : decode cJ7_copyOf_3 13 = .ok (.areturn, 1) := dk_176 (dk_at dksJ7_copyOf_3_0 13 rfl rfl)
theorem dJ7_copyOf_3_14 : decode cJ7_copyOf_3 14 = .ok (.iload_n 1, 1) := dk_27 (dk_at dksJ7_copyOf_3_0 14 rfl rfl)
theorem dJ7_copyOf_3_15 : decode cJ7_copyOf_3 15 = .ok (.newarray .byte, 2) := dk_188_8 (dk_at dksJ7_copyOf_3_0 15 rfl rfl)
theorem dJ7_copyOf_3_17 : decode cJ7_copyOf_3 17 = .ok (.astore_n 2, 1) := dk_77 (dk_at dksJ7_copyOf_3_0 17 rfl rfl)
theorem dJ7_copyOf_3_18 : decode cJ7_copyOf_3 18 = .ok (.aload_n 0, 1) := dk_42 (dk_at dksJ7_copyOf_3_0 18 rfl rfl)
theorem dJ7_copyOf_3_19 : decode cJ7_copyOf_3 19 = .ok (.iconst 0, 1) := dk_3 (dk_at dksJ7_copyOf_3_0 19 rfl rfl)
theorem dJ7_copyOf_3_20 : decode cJ7_copyOf_3 20 = .ok (.aload_n 2, 1) := dk_44 (dk_at dksJ7_copyOf_3_0 20 rfl rfl)
theorem dJ7_copyOf_3_21 : decode cJ7_copyOf_3 21 = .ok (.iconst 0, 1) := dk_3 (dk_at dksJ7_copyOf_3_0 21 rfl rfl)
theorem dJ7_copyOf_3_22 : decode cJ7_copyOf_3 22 = .ok (.aload_n 0, 1) := dk_42 (dk_at dksJ7_copyOf_3_0 22 rfl rfl)
theorem dJ7_copyOf_3_23 : decode cJ7_copyOf_3 23 = .ok (.arraylength, 1) := dk_190 (dk_at dksJ7_copyOf_3_0 23 rfl rfl)
theorem dJ7_copyOf_3_24 : decode cJ7_copyOf_3 24 = .ok (.iload_n 1, 1) := dk_27 (dk_at dksJ7_copyOf_3_1 0 rfl rfl)
theorem dJ7_copyOf_3_25 : decode cJ7_copyOf_3 25 = .ok (.invokestatic 304, 3) := dk_184 1 48 (dk_at dksJ7_copyOf_3_1 1 rfl rfl)
theorem dJ7_copyOf_3_28 : decode cJ7_copyOf_3 28 = .ok (.invokestatic 150, 3) := dk_184 0 150 (dk_at dksJ7_copyOf_3_1 4 rfl rfl)
theorem dJ7_copyOf_3_31 : decode cJ7_copyOf_3 31 = .ok (.aload_n 2, 1) := dk_44 (dk_at dksJ7_copyOf_3_1 7 rfl rfl)
theorem dJ7_copyOf_3_32 : decode cJ7_copyOf_3 32 = .ok (.areturn, 1) := dk_176 (dk_at dksJ7_copyOf_3_1 8 rfl rfl)
abbrev cJ7_copyOfRange : ByteArray := prog_53_method_132_code
def yJ7_copyOfRange : MethodName := ⟨RJ7, "copyOfRange", "([BII)[B"⟩
def dkwJ7_copyOfRange_1 : List UInt8 := [176]
abbrev dktJ7_copyOfRange_1 : List UInt8 := dkwJ7_copyOfRange_1 ++ []
def dkwJ7_copyOfRange_0 : List UInt8 := [27, 154, 0, 9, 28, 42, 190, 159, 0, 10, 42, 27, 28, 184, 1, 83, 176, 42, 182, 1, 54, 192, 1, 55]
abbrev dktJ7_copyOfRange_0 : List UInt8 := dkwJ7_copyOfRange_0 ++ dktJ7_copyOfRange_1
theorem dksJ7_copyOfRange_0 : cJ7_copyOfRange.data.toList.drop 0 = dktJ7_copyOfRange_0 := by decide +kernel
theorem dksJ7_copyOfRange_1 : cJ7_copyOfRange.data.toList.drop 24 = dktJ7_copyOfRange_1 := dk_seg dksJ7_copyOfRange_0 24 rfl rfl
theorem dJ7_copyOfRange_0 : decode cJ7_copyOfRange 0 = .ok (.iload_n 1, 1) := dk_27 (dk_at dksJ7_copyOfRange_0 0 rfl rfl)
theorem dJ7_copyOfRange_1 : decode cJ7_copyOfRange 1 = .ok (.ifCond .ne 9, 3) := dk_154 0 9 (dk_at dksJ7_copyOfRange_0 1 rfl rfl)
theorem dJ7_copyOfRange_4 : decode cJ7_copyOfRange 4 = .ok (.iload_n 2, 1) := dk_28 (dk_at dksJ7_copyOfRange_0 4 rfl rfl)
theorem dJ7_copyOfRange_5 : decode cJ7_copyOfRange 5 = .ok (.aload_n 0, 1) := dk_42 (dk_at dksJ7_copyOfRange_0 5 rfl rfl)
theorem dJ7_copyOfRange_6 : decode cJ7_copyOfRange 6 = .ok (.arraylength, 1) := dk_190 (dk_at dksJ7_copyOfRange_0 6 rfl rfl)
theorem dJ7_copyOfRange_7 : decode cJ7_copyOfRange 7 = .ok (.if_icmp .eq 10, 3) := dk_159 0 10 (dk_at dksJ7_copyOfRange_0 7 rfl rfl)
theorem dJ7_copyOfRange_10 : decode cJ7_copyOfRange 10 = .ok (.aload_n 0, 1) := dk_42 (dk_at dksJ7_copyOfRange_0 10 rfl rfl)
theorem dJ7_copyOfRange_11 : decode cJ7_copyOfRange 11 = .ok (.iload_n 1, 1) := dk_27 (dk_at dksJ7_copyOfRange_0 11 rfl rfl)
theorem dJ7_copyOfRange_12 : decode cJ7_copyOfRange 12 = .ok (.iload_n 2, 1) := dk_28 (dk_at dksJ7_copyOfRange_0 12 rfl rfl)
theorem dJ7_copyOfRange_13 : decode cJ7_copyOfRange 13 = .ok (.invokestatic 339, 3) := dk_184 1 83 (dk_at dksJ7_copyOfRange_0 13 rfl rfl)
theorem dJ7_copyOfRange_16 : decode cJ7_copyOfRange 16 = .ok (.areturn, 1) := dk_176 (dk_at dksJ7_copyOfRange_0 16 rfl rfl)
theorem dJ7_copyOfRange_17 : decode cJ7_copyOfRange 17 = .ok (.aload_n 0, 1) := dk_42 (dk_at dksJ7_copyOfRange_0 17 rfl rfl)
theorem dJ7_copyOfRange_18 : decode cJ7_copyOfRange 18 = .ok (.invokevirtual 310, 3) := dk_182 1 54 (dk_at dksJ7_copyOfRange_0 18 rfl rfl)
theorem dJ7_copyOfRange_21 : decode cJ7_copyOfRange 21 = .ok (.checkcast 311, 3) := dk_192 1 55 (dk_at dksJ7_copyOfRange_0 21 rfl rfl)
theorem dJ7_copyOfRange_24 : decode cJ7_copyOfRange 24 = .ok (.areturn, 1) := dk_176 (dk_at dksJ7_copyOfRange_1 0 rfl rfl)
abbrev cJ7_copyOfRangeByte : ByteArray := prog_53_method_133_code
def yJ7_copyOfRangeByte : MethodName := ⟨RJ7, "copyOfRangeByte", "([BII)[B"⟩
def dkwJ7_copyOfRangeByte_1 : List UInt8 := [184, 1, 48, 184, 0, 150, 25, 4, 176]
abbrev dktJ7_copyOfRangeByte_1 : List UInt8 := dkwJ7_copyOfRangeByte_1 ++ []
def dkwJ7_copyOfRangeByte_0 : List UInt8 := [27, 28, 184, 1, 87, 28, 27, 100, 62, 29, 188, 8, 58, 4, 42, 27, 25, 4, 3, 42, 190, 27, 100, 29]
abbrev dktJ7_copyOfRangeByte_0 : List UInt8 := dkwJ7_copyOfRangeByte_0 ++ dktJ7_copyOfRangeByte_1
theorem dksJ7_copyOfRangeByte_0 : cJ7_copyOfRangeByte.data.toList.drop 0 = dktJ7_copyOfRangeByte_0 := by decide +kernel
theorem dksJ7_copyOfRangeByte_1 : cJ7_copyOfRangeByte.data.toList.drop 24 = dktJ7_copyOfRangeByte_1 := dk_seg dksJ7_copyOfRangeByte_0 24 rfl rfl
theorem dJ7_copyOfRangeByte_0 : decode cJ7_copyOfRangeByte 0 = .ok (.iload_n 1, 1) := dk_27 (dk_at dksJ7_copyOfRangeByte_0 0 rfl rfl)
theorem dJ7_copyOfRangeByte_1 : decode cJ7_copyOfRangeByte 1 = .ok (.iload_n 2, 1) := dk_28 (dk_at dksJ7_copyOfRangeByte_0 1 rfl rfl)
theorem dJ7_copyOfRangeByte_2 : decode cJ7_copyOfRangeByte 2 = .ok (.invokestatic 343, 3) := dk_184 1 87 (dk_at dksJ7_copyOfRangeByte_0 2 rfl rfl)
theorem dJ7_copyOfRangeByte_5 : decode cJ7_copyOfRangeByte 5 = .ok (.iload_n 2, 1) := dk_28 (dk_at dksJ7_copyOfRangeByte_0 5 rfl rfl)
theorem dJ7_copyOfRangeByte_6 : decode cJ7_copyOfRangeByte 6 = .ok (.iload_n 1, 1) := dk_27 (dk_at dksJ7_copyOfRangeByte_0 6 rfl rfl)
theorem dJ7_copyOfRangeByte_7 : decode cJ7_copyOfRangeByte 7 = .ok (.isub, 1) := dk_100 (dk_at dksJ7_copyOfRangeByte_0 7 rfl rfl)
theorem dJ7_copyOfRangeByte_8 : decode cJ7_copyOfRangeByte 8 = .ok (.istore_n 3, 1) := dk_62 (dk_at dksJ7_copyOfRangeByte_0 8 rfl rfl)
theorem dJ7_copyOfRangeByte_9 : decode cJ7_copyOfRangeByte 9 = .ok (.iload_n 3, 1) := dk_29 (dk_at dksJ7_copyOfRangeByte_0 9 rfl rfl)
theorem dJ7_copyOfRangeByte_10 : decode cJ7_copyOfRangeByte 10 = .ok (.newarray .byte, 2) := dk_188_8 (dk_at dksJ7_copyOfRangeByte_0 10 rfl rfl)
theorem dJ7_copyOfRangeByte_12 : decode cJ7_copyOfRangeByte 12 = .ok (.astore 4, 2) := dk_58 4 (dk_at dksJ7_copyOfRangeByte_0 12 rfl rfl)
theorem dJ7_copyOfRangeByte_14 : decode cJ7_copyOfRangeByte 14 = .ok (.aload_n 0, 1) := dk_42 (dk_at dksJ7_copyOfRangeByte_0 14 rfl rfl)
theorem dJ7_copyOfRangeByte_15 : decode cJ7_copyOfRangeByte 15 = .ok (.iload_n 1, 1) := dk_27 (dk_at dksJ7_copyOfRangeByte_0 15 rfl rfl)
theorem dJ7_copyOfRangeByte_16 : decode cJ7_copyOfRangeByte 16 = .ok (.aload 4, 2) := dk_25 4 (dk_at dksJ7_copyOfRangeByte_0 16 rfl rfl)
theorem dJ7_copyOfRangeByte_18 : decode cJ7_copyOfRangeByte 18 = .ok (.iconst 0, 1) := dk_3 (dk_at dksJ7_copyOfRangeByte_0 18 rfl rfl)
theorem dJ7_copyOfRangeByte_19 : decode cJ7_copyOfRangeByte 19 = .ok (.aload_n 0, 1) := dk_42 (dk_at dksJ7_copyOfRangeByte_0 19 rfl rfl)
theorem dJ7_copyOfRangeByte_20 : decode cJ7_copyOfRangeByte 20 = .ok (.arraylength, 1) := dk_190 (dk_at dksJ7_copyOfRangeByte_0 20 rfl rfl)
theorem dJ7_copyOfRangeByte_21 : decode cJ7_copyOfRangeByte 21 = .ok (.iload_n 1, 1) := dk_27 (dk_at dksJ7_copyOfRangeByte_0 21 rfl rfl)
theorem dJ7_copyOfRangeByte_22 : decode cJ7_copyOfRangeByte 22 = .ok (.isub, 1) := dk_100 (dk_at dksJ7_copyOfRangeByte_0 22 rfl rfl)
theorem dJ7_copyOfRangeByte_23 : decode cJ7_copyOfRangeByte 23 = .ok (.iload_n 3, 1) := dk_29 (dk_at dksJ7_copyOfRangeByte_0 23 rfl rfl)
theorem dJ7_copyOfRangeByte_24 : decode cJ7_copyOfRangeByte 24 = .ok (.invokestatic 304, 3) := dk_184 1 48 (dk_at dksJ7_copyOfRangeByte_1 0 rfl rfl)
theorem dJ7_copyOfRangeByte_27 : decode cJ7_copyOfRangeByte 27 = .ok (.invokestatic 150, 3) := dk_184 0 150 (dk_at dksJ7_copyOfRangeByte_1 3 rfl rfl)
theorem dJ7_copyOfRangeByte_30 : decode cJ7_copyOfRangeByte 30 = .ok (.aload 4, 2) := dk_25 4 (dk_at dksJ7_copyOfRangeByte_1 6 rfl rfl)
theorem dJ7_copyOfRangeByte_32 : decode cJ7_copyOfRangeByte 32 = .ok (.areturn, 1) := dk_176 (dk_at dksJ7_copyOfRangeByte_1 8 rfl rfl)
abbrev cJ7_checkLength : ByteArray := prog_53_method_131_code
def yJ7_checkLength : MethodName := ⟨RJ7, "checkLength", "(II)V"⟩
def dkwJ7_checkLength_1 : List UInt8 := [182, 0, 50, 27, 182, 0, 54, 182, 0, 61, 183, 0, 65, 191, 177]
abbrev dktJ7_checkLength_1 : List UInt8 := dkwJ7_checkLength_1 ++ []
def dkwJ7_checkLength_0 : List UInt8 := [27, 26, 162, 0, 35, 187, 0, 43, 89, 187, 0, 45, 89, 183, 0, 47, 26, 182, 0, 54, 19, 1, 81]
abbrev dktJ7_checkLength_0 : List UInt8 := dkwJ7_checkLength_0 ++ dktJ7_checkLength_1
theorem dksJ7_checkLength_0 : cJ7_checkLength.data.toList.drop 0 = dktJ7_checkLength_0 := by decide +kernel
theorem dksJ7_checkLength_1 : cJ7_checkLength.data.toList.drop 23 = dktJ7_checkLength_1 := dk_seg dksJ7_checkLength_0 23 rfl rfl
theorem dJ7_checkLength_0 : decode cJ7_checkLength 0 = .ok (.iload_n 1, 1) := dk_27 (dk_at dksJ7_checkLength_0 0 rfl rfl)
theorem dJ7_checkLength_1 : decode cJ7_checkLength 1 = .ok (.iload_n 0, 1) := dk_26 (dk_at dksJ7_checkLength_0 1 rfl rfl)
theorem dJ7_checkLength_2 : decode cJ7_checkLength 2 = .ok (.if_icmp .ge 35, 3) := dk_162 0 35 (dk_at dksJ7_checkLength_0 2 rfl rfl)
theorem dJ7_checkLength_5 : decode cJ7_checkLength 5 = .ok (.new 43, 3) := dk_187 0 43 (dk_at dksJ7_checkLength_0 5 rfl rfl)
theorem dJ7_checkLength_8 : decode cJ7_checkLength 8 = .ok (.dup, 1) := dk_89 (dk_at dksJ7_checkLength_0 8 rfl rfl)
theorem dJ7_checkLength_9 : decode cJ7_checkLength 9 = .ok (.new 45, 3) := dk_187 0 45 (dk_at dksJ7_checkLength_0 9 rfl rfl)
theorem dJ7_checkLength_12 : decode cJ7_checkLength 12 = .ok (.dup, 1) := dk_89 (dk_at dksJ7_checkLength_0 12 rfl rfl)
theorem dJ7_checkLength_13 : decode cJ7_checkLength 13 = .ok (.invokespecial 47, 3) := dk_183 0 47 (dk_at dksJ7_checkLength_0 13 rfl rfl)
theorem dJ7_checkLength_16 : decode cJ7_checkLength 16 = .ok (.iload_n 0, 1) := dk_26 (dk_at dksJ7_checkLength_0 16 rfl rfl)
theorem dJ7_checkLength_17 : decode cJ7_checkLength 17 = .ok (.invokevirtual 54, 3) := dk_182 0 54 (dk_at dksJ7_checkLength_0 17 rfl rfl)
theorem dJ7_checkLength_20 : decode cJ7_checkLength 20 = .ok (.ldc_w 337, 3) := dk_19 1 81 (dk_at dksJ7_checkLength_0 20 rfl rfl)
theorem dJ7_checkLength_23 : decode cJ7_checkLength 23 = .ok (.invokevirtual 50, 3) := dk_182 0 50 (dk_at dksJ7_checkLength_1 0 rfl rfl)
theorem dJ7_checkLength_26 : decode cJ7_checkLength 26 = .ok (.iload_n 1, 1) := dk_27 (dk_at dksJ7_checkLength_1 3 rfl rfl)
theorem dJ7_checkLength_27 : decode cJ7_checkLength 27 = .ok (.invokevirtual 54, 3) := dk_182 0 54 (dk_at dksJ7_checkLength_1 4 rfl rfl)
theorem dJ7_checkLength_30 : decode cJ7_checkLength 30 = .ok (.invokevirtual 61, 3) := dk_182 0 61 (dk_at dksJ7_checkLength_1 7 rfl rfl)
theorem dJ7_checkLength_33 : decode cJ7_checkLength 33 = .ok (.invokespecial 65, 3) := dk_183 0 65 (dk_at dksJ7_checkLength_1 10 rfl rfl)
theorem dJ7_checkLength_36 : decode cJ7_checkLength 36 = .ok (.athrow, 1) := dk_191 (dk_at dksJ7_checkLength_1 13 rfl rfl)
theorem dJ7_checkLength_37 : decode cJ7_checkLength 37 = .ok (.return_, 1) := dk_177 (dk_at dksJ7_checkLength_1 14 rfl rfl)
abbrev cJ7_fill : ByteArray := prog_53_method_103_code
def yJ7_fill : MethodName := ⟨RJ7, "fill", "([II)V"⟩
def dkwJ7_fill_0 : List UInt8 := [3, 61, 42, 190, 62, 28, 29, 162, 0, 13, 42, 28, 27, 79, 132, 2, 1, 167, 255, 244, 177]
abbrev dktJ7_fill_0 : List UInt8 := dkwJ7_fill_0 ++ []
theorem dksJ7_fill_0 : cJ7_fill.data.toList.drop 0 = dktJ7_fill_0 := by decide +kernel
theorem dJ7_fill_0 : decode cJ7_fill 0 = .ok (.iconst 0, 1) := dk_3 (dk_at dksJ7_fill_0 0 rfl rfl)
theorem dJ7_fill_1 : decode cJ7_fill 1 = .ok (.istore_n 2, 1) := dk_61 (dk_at dksJ7_fill_0 1 rfl rfl)
theorem dJ7_fill_2 : decode cJ7_fill 2 = .ok (.aload_n 0, 1) := dk_42 (dk_at dksJ7_fill_0 2 rfl rfl)
theorem dJ7_fill_3 : decode cJ7_fill 3 = .ok (.arraylength, 1) := dk_190 (dk_at dksJ7_fill_0 3 rfl rfl)
theorem dJ7_fill_4 : decode cJ7_fill 4 = .ok (.istore_n 3, 1) := dk_62 (dk_at dksJ7_fill_0 4 rfl rfl)
theorem dJ7_fill_5 : decode cJ7_fill 5 = .ok (.iload_n 2, 1) := dk_28 (dk_at dksJ7_fill_0 5 rfl rfl)
theorem dJ7_fill_6 : decode cJ7_fill 6 = .ok (.iload_n 3, 1) := dk_29 (dk_at dksJ7_fill_0 6 rfl rfl)
theorem dJ7_fill_7 : decode cJ7_fill 7 = .ok (.if_icmp .ge 13, 3) := dk_162 0 13 (dk_at dksJ7_fill_0 7 rfl rfl)
theorem dJ7_fill_10 : decode cJ7_fill 10 = .ok (.aload_n 0, 1) := dk_42 (dk_at dksJ7_fill_0 10 rfl rfl)
theorem dJ7_fill_11 : decode cJ7_fill 11 = .ok (.iload_n 2, 1) := dk_28 (dk_at dksJ7_fill_0 11 rfl rfl)
theorem dJ7_fill_12 : decode cJ7_fill 12 = .ok (.iload_n 1, 1) := dk_27 (dk_at dksJ7_fill_0 12 rfl rfl)
theorem dJ7_fill_13 : decode cJ7_fill 13 = .ok (.iastore, 1) := dk_79 (dk_at dksJ7_fill_0 13 rfl rfl)
theorem dJ7_fill_14 : decode cJ7_fill 14 = .ok (.iinc 2 1, 3) := dk_132 2 1 (dk_at dksJ7_fill_0 14 rfl rfl)
theorem dJ7_fill_17 : decode cJ7_fill 17 = .ok (.goto (-12), 3) := dk_167 255 244 (dk_at dksJ7_fill_0 17 rfl rfl)
theorem dJ7_fill_20 : decode cJ7_fill 20 = .ok (.return_, 1) := dk_177 (dk_at dksJ7_fill_0 20 rfl rfl)
theorem q100 : (Jvm.Cond.initialized "java/util/Arrays") ∈ lw_all := lw_g (lw_at lw_m1 18 rfl) rfl
theorem q685 : (Jvm.Cond.static ({ cls := "java/util/Arrays", name := "copyOf", desc := "([Ljava/lang/Object;I)[Ljava/lang/Object;" } : Jvm.MethodName)) ∈ lw_all := lw_g (lw_at lw_m3 123 rfl) rfl
theorem q686 : (Jvm.Cond.code ({ cls := "java/util/Arrays", name := "copyOf", desc := "([Ljava/lang/Object;I)[Ljava/lang/Object;" } : Jvm.MethodName) prog_53_method_119_code (2 : Nat) (Option.some (Jvm.ClassFile.FieldType.array (Jvm.ClassFile.FieldType.object "java/lang/Object")))) ∈ lw_all := lw_g (lw_at lw_m3 124 rfl) rfl
theorem q687 : (Jvm.Cond.methodLink "java/util/Arrays" (86 : Nat) ({ cls := "java/lang/Object", name := "getClass", desc := "()Ljava/lang/Class;" } : Jvm.MethodName)) ∈ lw_all := lw_g (lw_at lw_m3 125 rfl) rfl
theorem q721 : (Jvm.Cond.methodLink "java/util/Arrays" (300 : Nat) ({ cls := "java/util/Arrays", name := "copyOf", desc := "([Ljava/lang/Object;ILjava/lang/Class;)[Ljava/lang/Object;" } : Jvm.MethodName)) ∈ lw_all := lw_g (lw_at lw_m3 159 rfl) rfl
theorem q722 : (Jvm.Cond.static ({ cls := "java/util/Arrays", name := "copyOf", desc := "([Ljava/lang/Object;ILjava/lang/Class;)[Ljava/lang/Object;" } : Jvm.MethodName)) ∈ lw_all := lw_g (lw_at lw_m3 160 rfl) rfl
theorem q723 : (Jvm.Cond.code ({ cls := "java/util/Arrays", name := "copyOf", desc := "([Ljava/lang/Object;ILjava/lang/Class;)[Ljava/lang/Object;" } : Jvm.MethodName) prog_53_method_120_code (4 : Nat) (Option.some (Jvm.ClassFile.FieldType.array (Jvm.ClassFile.FieldType.object "java/lang/Object")))) ∈ lw_all := lw_g (lw_at lw_m3 161 rfl) rfl
theorem q724 : (Jvm.Cond.classLink "java/util/Arrays" (110 : Nat) "[Ljava/lang/Object;") ∈ lw_all := lw_g (lw_at lw_m3 162 rfl) rfl
theorem q726 : (Jvm.Cond.classLink "java/util/Arrays" (2 : Nat) "java/lang/Object") ∈ lw_all := lw_g (lw_at lw_m3 164 rfl) rfl
theorem q727 : (Jvm.Cond.methodLink "java/util/Arrays" (304 : Nat) ({ cls := "java/lang/Math", name := "min", desc := "(II)I" } : Jvm.MethodName)) ∈ lw_all := lw_g (lw_at lw_m3 165 rfl) rfl
theorem q730 : (Jvm.Cond.methodLink "java/util/Arrays" (150 : Nat) ({ cls := "java/lang/System", name := "arraycopy", desc := "(Ljava/lang/Object;ILjava/lang/Object;II)V" } : Jvm.MethodName)) ∈ lw_all := lw_g (lw_at lw_m3 168 rfl) rfl
theorem q855 : (Jvm.Cond.static ({ cls := "java/util/Arrays", name := "copyOf", desc := "([BI)[B" } : Jvm.MethodName)) ∈ lw_all := lw_g (lw_at lw_m4 53 rfl) rfl
theorem q856 : (Jvm.Cond.code ({ cls := "java/util/Arrays", name := "copyOf", desc := "([BI)[B" } : Jvm.MethodName) prog_53_method_121_code (3 : Nat) (Option.some (Jvm.ClassFile.FieldType.array Jvm.ClassFile.FieldType.byte))) ∈ lw_all := lw_g (lw_at lw_m4 54 rfl) rfl
theorem q857 : (Jvm.Cond.methodLink "java/util/Arrays" (310 : Nat) ({ cls := "[B", name := "clone", desc := "()Ljava/lang/Object;" } : Jvm.MethodName)) ∈ lw_all := lw_g (lw_at lw_m4 55 rfl) rfl
theorem q863 : (Jvm.Cond.classLink "java/util/Arrays" (311 : Nat) "[B") ∈ lw_all := lw_g (lw_at lw_m4 61 rfl) rfl
theorem q943 : (Jvm.Cond.static ({ cls := "java/util/Arrays", name := "copyOfRange", desc := "([BII)[B" } : Jvm.MethodName)) ∈ lw_all := lw_g (lw_at lw_m4 141 rfl) rfl
theorem q944 : (Jvm.Cond.code ({ cls := "java/util/Arrays", name := "copyOfRange", desc := "([BII)[B" } : Jvm.MethodName) prog_53_method_132_code (3 : Nat) (Option.some (Jvm.ClassFile.FieldType.array Jvm.ClassFile.FieldType.byte))) ∈ lw_all := lw_g (lw_at lw_m4 142 rfl) rfl
theorem q945 : (Jvm.Cond.methodLink "java/util/Arrays" (339 : Nat) ({ cls := "java/util/Arrays", name := "copyOfRangeByte", desc := "([BII)[B" } : Jvm.MethodName)) ∈ lw_all := lw_g (lw_at lw_m4 143 rfl) rfl
theorem q946 : (Jvm.Cond.static ({ cls := "java/util/Arrays", name := "copyOfRangeByte", desc := "([BII)[B" } : Jvm.MethodName)) ∈ lw_all := lw_g (lw_at lw_m4 144 rfl) rfl
theorem q947 : (Jvm.Cond.code ({ cls := "java/util/Arrays", name := "copyOfRangeByte", desc := "([BII)[B" } : Jvm.MethodName) prog_53_method_133_code (5 : Nat) (Option.some (Jvm.ClassFile.FieldType.array Jvm.ClassFile.FieldType.byte))) ∈ lw_all := lw_g (lw_at lw_m4 145 rfl) rfl
theorem q948 : (Jvm.Cond.methodLink "java/util/Arrays" (343 : Nat) ({ cls := "java/util/Arrays", name := "checkLength", desc := "(II)V" } : Jvm.MethodName)) ∈ lw_all := lw_g (lw_at lw_m4 146 rfl) rfl
theorem q949 : (Jvm.Cond.static ({ cls := "java/util/Arrays", name := "checkLength", desc := "(II)V" } : Jvm.MethodName)) ∈ lw_all := lw_g (lw_at lw_m4 147 rfl) rfl
theorem q950 : (Jvm.Cond.code ({ cls := "java/util/Arrays", name := "checkLength", desc := "(II)V" } : Jvm.MethodName) prog_53_method_131_code (2 : Nat) (Option.none : Option Jvm.ClassFile.FieldType)) ∈ lw_all := lw_g (lw_at lw_m4 148 rfl) rfl
theorem q951 : (Jvm.Cond.classLink "java/util/Arrays" (43 : Nat) "java/lang/IllegalArgumentException") ∈ lw_all := lw_g (lw_at lw_m4 149 rfl) rfl
theorem q995 : (Jvm.Cond.classLink "java/util/Arrays" (45 : Nat) "java/lang/StringBuilder") ∈ lw_all := lw_g (lw_at lw_m4 193 rfl) rfl
theorem q996 : (Jvm.Cond.methodLink "java/util/Arrays" (47 : Nat) ({ cls := "java/lang/StringBuilder", name := "<init>", desc := "()V" } : Jvm.MethodName)) ∈ lw_all := lw_g (lw_at lw_m4 194 rfl) rfl
theorem q997 : (Jvm.Cond.methodLink "java/util/Arrays" (54 : Nat) ({ cls := "java/lang/StringBuilder", name := "append", desc := "(I)Ljava/lang/StringBuilder;" } : Jvm.MethodName)) ∈ lw_all := lw_g (lw_at lw_m4 195 rfl) rfl
theorem q1031 : (Jvm.Cond.stringRef "java/util/Arrays" (337 : Nat) " > ") ∈ lw_tbl := lw_at lw_m4 229 rfl
theorem q1032 : (Jvm.Cond.methodLink "java/util/Arrays" (50 : Nat) ({ cls := "java/lang/StringBuilder", name := "append", desc := "(Ljava/lang/String;)Ljava/lang/StringBuilder;" } : Jvm.MethodName)) ∈ lw_all := lw_g (lw_at lw_m4 230 rfl) rfl
theorem q1070 : (Jvm.Cond.methodLink "java/util/Arrays" (61 : Nat) ({ cls := "java/lang/StringBuilder", name := "toString", desc := "()Ljava/lang/String;" } : Jvm.MethodName)) ∈ lw_all := lw_g (lw_at lw_m5 28 rfl) rfl
theorem q1071 : (Jvm.Cond.methodLink "java/util/Arrays" (65 : Nat) ({ cls := "java/lang/IllegalArgumentException", name := "<init>", desc := "(Ljava/lang/String;)V" } : Jvm.MethodName)) ∈ lw_all := lw_g (lw_at lw_m5 29 rfl) rfl
theorem q1765 : (Jvm.Cond.static ({ cls := "java/util/Arrays", name := "fill", desc := "([II)V" } : Jvm.MethodName)) ∈ lw_all := lw_g (lw_at lw_m8 3 rfl) rfl
theorem q1766 : (Jvm.Cond.code ({ cls := "java/util/Arrays", name := "fill", desc := "([II)V" } : Jvm.MethodName) prog_53_method_103_code (4 : Nat) (Option.none : Option Jvm.ClassFile.FieldType)) ∈ lw_all := lw_g (lw_at lw_m8 4 rfl) rfl
/-! java/lang/AbstractStringBuilder -/
set_option maxRecDepth 100000
def RJ8 : String := "java/lang/AbstractStringBuilder"
abbrev cJ8_init : ByteArray := prog_25_method_2_code
def yJ8_init : MethodName := ⟨RJ8, "<init>", "(I)V"⟩
def dkwJ8_init_1 : List UInt8 := [167, 0, 16, 42, 27, 184, 0, 26, 181, 0, 15, 42, 4, 181, 0, 22, 177]
abbrev dktJ8_init_1 : List UInt8 := dkwJ8_init_1 ++ []
def dkwJ8_init_0 : List UInt8 := [42, 183, 0, 3, 178, 0, 18, 153, 0, 18, 42, 27, 188, 8, 181, 0, 15, 42, 3, 181, 0, 22]
abbrev dktJ8_init_0 : List UInt8 := dkwJ8_init_0 ++ dktJ8_init_1
theorem dksJ8_init_0 : cJ8_init.data.toList.drop 0 = dktJ8_init_0 := by decide +kernel
theorem dksJ8_init_1 : cJ8_init.data.toList.drop 22 = dktJ8_init_1 := dk_seg dksJ8_init_0 22 rfl rfl
theorem dJ8_init_0 : decode cJ8_init 0 = .ok (.aload_n 0, 1) := dk_42 (dk_at dksJ8_init_0 0 rfl rfl)
theorem dJ8_init_1 : decode cJ8_init 1 = .ok (.invokespecial 3, 3) := dk_183 0 3 (dk_at dksJ8_init_0 1 rfl rfl)
theorem dJ8_init_4 : decode cJ8_init 4 = .ok (.getstatic 18, 3) := dk_178 0 18 (dk_at dksJ8_init_0 4 rfl rfl)
theorem dJ8_init_7 : decode cJ8_init 7 = .ok (.ifCond .eq 18, 3) := dk_153 0 18 (dk_at dksJ8_init_0 7 rfl rfl)
theorem dJ8_init_10 : decode cJ8_init 10 = .ok (.aload_n 0, 1) := dk_42 (dk_at dksJ8_init_0 10 rfl rfl)
theorem dJ8_init_11 : decode cJ8_init 11 = .ok (.iload_n 1, 1) := dk_27 (dk_at dksJ8_init_0 11 rfl rfl)
theorem dJ8_init_12 : decode cJ8_init 12 = .ok (.newarray .byte, 2) := dk_188_8 (dk_at dksJ8_init_0 12 rfl rfl)
theorem dJ8_init_14 : decode cJ8_init 14 = .ok (.putfield 15, 3) := dk_181 0 15 (dk_at dksJ8_init_0 14 rfl rfl)
theorem dJ8_init_17 : decode cJ8_init 17 = .ok (.aload_n 0, 1) := dk_42 (dk_at dksJ8_init_0 17 rfl rfl)
theorem dJ8_init_18 : decode cJ8_init 18 = .ok (.iconst 0, 1) := dk_3 (dk_at dksJ8_init_0 18 rfl rfl)
theorem dJ8_init_19 : decode cJ8_init 19 = .ok (.putfield 22, 3) := dk_181 0 22 (dk_at dksJ8_init_0 19 rfl rfl)
theorem dJ8_init_22 : decode cJ8_init 22 = .ok (.goto 16, 3) := dk_167 0 16 (dk_at dksJ8_init_1 0 rfl rfl)
theorem dJ8_init_25 : decode cJ8_init 25 = .ok (.aload_n 0, 1) := dk_42 (dk_at dksJ8_init_1 3 rfl rfl)
theorem dJ8_init_26 : decode cJ8_init 26 = .ok (.iload_n 1, 1) := dk_27 (dk_at dksJ8_init_1 4 rfl rfl)
theorem dJ8_init_27 : decode cJ8_init 27 = .ok (.invokestatic 26, 3) := dk_184 0 26 (dk_at dksJ8_init_1 5 rfl rfl)
theorem dJ8_init_30 : decode cJ8_init 30 = .ok (.putfield 15, 3) := dk_181 0 15 (dk_at dksJ8_init_1 8 rfl rfl)
theorem dJ8_init_33 : decode cJ8_init 33 = .ok (.aload_n 0, 1) := dk_42 (dk_at dksJ8_init_1 11 rfl rfl)
theorem dJ8_init_34 : decode cJ8_init 34 = .ok (.iconst 1, 1) := dk_4 (dk_at dksJ8_init_1 12 rfl rfl)
theorem dJ8_init_35 : decode cJ8_init 35 = .ok (.putfield 22, 3) := dk_181 0 22 (dk_at dksJ8_init_1 13 rfl rfl)
theorem dJ8_init_38 : decode cJ8_init 38 = .ok (.return_, 1) := dk_177 (dk_at dksJ8_init_1 16 rfl rfl)
abbrev cJ8_append : ByteArray := prog_25_method_31_code
def yJ8_append : MethodName := ⟨RJ8, "append", "(C)Ljava/lang/AbstractStringBuilder;"⟩
def dkwJ8_append_3 : List UInt8 := [181, 0, 79, 27, 184, 0, 197, 42, 176]
abbrev dktJ8_append_3 : List UInt8 := dkwJ8_append_3 ++ []
def dkwJ8_append_2 : List UInt8 := [182, 0, 83, 153, 0, 7, 42, 182, 0, 195, 42, 180, 0, 15, 42, 89, 180, 0, 79, 90, 4, 96]
abbrev dktJ8_append_2 : List UInt8 := dkwJ8_append_2 ++ dktJ8_append_3
def dkwJ8_append_1 : List UInt8 := [42, 180, 0, 15, 42, 89, 180, 0, 79, 90, 4, 96, 181, 0, 79, 27, 145, 84, 167, 0, 33, 42]
abbrev dktJ8_append_1 : List UInt8 := dkwJ8_append_1 ++ dktJ8_append_2
def dkwJ8_append_0 : List UInt8 := [42, 42, 180, 0, 79, 4, 96, 182, 0, 100, 42, 182, 0, 83, 153, 0, 31, 27, 184, 0, 191, 153, 0, 24]
abbrev dktJ8_append_0 : List UInt8 := dkwJ8_append_0 ++ dktJ8_append_1
theorem dksJ8_append_0 : cJ8_append.data.toList.drop 0 = dktJ8_append_0 := by decide +kernel
theorem dksJ8_append_1 : cJ8_append.data.toList.drop 24 = dktJ8_append_1 := dk_seg dksJ8_append_0 24 rfl rfl
theorem dksJ8_append_2 : cJ8_append.data.toList.drop 46 = dktJ8_append_2 := dk_seg dksJ8_append_1 22 rfl rfl
theorem dksJ8_append_3 : cJ8_append.data.toList.drop 68 = dktJ8_append_3 := dk_seg dksJ8_append_2 22 rfl rfl
theorem dJ8_append_0 : decode cJ8_append 0 = .ok (.aload_n 0, 1) := dk_42 (dk_at dksJ8_append_0 0 rfl rfl)
theorem dJ8_append_1 : decode cJ8_append 1 = .ok (.aload_n 0, 1) := dk_42 (dk_at dksJ8_append_0 1 rfl rfl)
theorem dJ8_append_2 : decode cJ8_append 2 = .ok (.getfield 79, 3) := dk_180 0 79 (dk_at dksJ8_append_0 2 rfl rfl)
theorem dJ8_append_5 : decode cJ8_append 5 = .ok (.iconst 1, 1) := dk_4 (dk_at dksJ8_append_0 5 rfl rfl)
theorem dJ8_append_6 : decode cJ8_append 6 = .ok (.iadd, 1) := dk_96 (dk_at dksJ8_append_0 6 rfl rfl)
theorem dJ8_append_7 : decode cJ8_append 7 = .ok (.invokevirtual 100, 3) := dk_182 0 100 (dk_at dksJ8_append_0 7 rfl rfl)
theorem dJ8_append_10 : decode cJ8_append 10 = .ok (.aload_n 0, 1) := dk_42 (dk_at dksJ8_append_0 10 rfl rfl)
theorem dJ8_append_11 : decode cJ8_append 11 = .ok (.invokevirtual 83, 3) := dk_182 0 83 (dk_at dksJ8_append_0 11 rfl rfl)
theorem dJ8_append_14 : decode cJ8_append 14 = .ok (.ifCond .eq 31, 3) := dk_153 0 31 (dk_at dksJ8_append_0 14 rfl rfl)
theorem dJ8_append_17 : decode cJ8_append 17 = .ok (.iload_n 1, 1) := dk_27 (dk_at dksJ8_append_0 17 rfl rfl)
theorem dJ8_append_18 : decode cJ8_append 18 = .ok (.invokestatic 191, 3) := dk_184 0 191 (dk_at dksJ8_append_0 18 rfl rfl)
theorem dJ8_append_21 : decode cJ8_append 21 = .ok (.ifCond .eq 24, 3) := dk_153 0 24 (dk_at dksJ8_append_0 21 rfl rfl)
theorem dJ8_append_24 : decode cJ8_append 24 = .ok (.aload_n 0, 1) := dk_42 (dk_at dksJ8_append_1 0 rfl rfl)
theorem dJ8_append_25 : decode cJ8_append 25 = .ok (.getfield 15, 3) := dk_180 0 15 (dk_at dksJ8_append_1 1 rfl rfl)
theorem dJ8_append_28 : decode cJ8_append 28 = .ok (.aload_n 0, 1) := dk_42 (dk_at dksJ8_append_1 4 rfl rfl)
theorem dJ8_append_29 : decode cJ8_append 29 = .ok (.dup, 1) := dk_89 (dk_at dksJ8_append_1 5 rfl rfl)
theorem dJ8_append_30 : decode cJ8_append 30 = .ok (.getfield 79, 3) := dk_180 0 79 (dk_at dksJ8_append_1 6 rfl rfl)
theorem dJ8_append_33 : decode cJ8_append 33 = .ok (.dup_x1, 1) := dk_90 (dk_at dksJ8_append_1 9 rfl rfl)
theorem dJ8_append_34 : decode cJ8_append 34 = .ok (.iconst 1, 1) := dk_4 (dk_at dksJ8_append_1 10 rfl rfl)
theorem dJ8_append_35 : decode cJ8_append 35 = .ok (.iadd, 1) := dk_96 (dk_at dksJ8_append_1 11 rfl rfl)
theorem dJ8_append_36 : decode cJ8_append 36 = .ok (.putfield 79, 3) := dk_181 0 79 (dk_at dksJ8_append_1 12 rfl rfl)
theorem dJ8_append_39 : decode cJ8_append 39 = .ok (.iload_n 1, 1) := dk_27 (dk_at dksJ8_append_1 15 rfl rfl)
theorem dJ8_append_40 : decode cJ8_append 40 = .ok (.i2b, 1) := dk_145 (dk_at dksJ8_append_1 16 rfl rfl)
theorem dJ8_append_41 : decode cJ8_append 41 = .ok (.bastore, 1) := dk_84 (dk_at dksJ8_append_1 17 rfl rfl)
theorem dJ8_append_42 : decode cJ8_append 42 = .ok (.goto 33, 3) := dk_167 0 33 (dk_at dksJ8_append_1 18 rfl rfl)
theorem dJ8_append_45 : decode cJ8_append 45 = .ok (.aload_n 0, 1) := dk_42 (dk_at dksJ8_append_1 21 rfl rfl)
theorem dJ8_append_46 : decode cJ8_append 46 = .ok (.invokevirtual 83, 3) := dk_182 0 83 (dk_at dksJ8_append_2 0 rfl rfl)
theorem dJ8_append_49 : decode cJ8_append 49 = .ok (.ifCond .eq 7, 3) := dk_153 0 7 (dk_at dksJ8_append_2 3 rfl rfl)
theorem dJ8_append_52 : decode cJ8_append 52 = .ok (.aload_n 0, 1) := dk_42 (dk_at dksJ8_append_2 6 rfl rfl)
theorem dJ8_append_53 : decode cJ8_append 53 = .ok (.invokevirtual 195, 3) := dk_182 0 195 (dk_at dksJ8_append_2 7 rfl rfl)
theorem dJ8_append_56 : decode cJ8_append 56 = .ok (.aload_n 0, 1) := dk_42 (dk_at dksJ8_append_2 10 rfl rfl)
theorem dJ8_append_57 : decode cJ8_append 57 = .ok (.getfield 15, 3) := dk_180 0 15 (dk_at dksJ8_append_2 11 rfl rfl)
theorem dJ8_append_60 : decode cJ8_append 60 = .ok (.aload_n 0, 1) := dk_42 (dk_at dksJ8_append_2 14 rfl rfl)
theorem dJ8_append_61 : decode cJ8_append 61 = .ok (.dup, 1) := dk_89 (dk_at dksJ8_append_2 15 rfl rfl)
theorem dJ8_append_62 : decode cJ8_append 62 = .ok (.getfield 79, 3) := dk_180 0 79 (dk_at dksJ8_append_2 16 rfl rfl)
theorem dJ8_append_65 : decode cJ8_append 65 = .ok (.dup_x1, 1) := dk_90 (dk_at dksJ8_append_2 19 rfl rfl)
theorem dJ8_append_66 : decode cJ8_append 66 = .ok (.iconst 1, 1) := dk_4 (dk_at dksJ8_append_2 20 rfl rfl)
theorem dJ8_append_67 : decode cJ8_append 67 = .ok (.iadd, 1) := dk_96 (dk_at dksJ8_append_2 21 rfl rfl)
theorem dJ8_append_68 : decode cJ8_append 68 = .ok (.putfield 79, 3) := dk_181 0 79 (dk_at dksJ8_append_3 0 rfl rfl)
theorem dJ8_append_71 : decode cJ8_append 71 = .ok (.iload_n 1, 1) := dk_27 (dk_at dksJ8_append_3 3 rfl rfl)
theorem dJ8_append_72 : decode cJ8_append 72 = .ok (.invokestatic 197, 3) := dk_184 0 197 (dk_at dksJ8_append_3 4 rfl rfl)
theorem dJ8_append_75 : decode cJ8_append 75 = .ok (.aload_n 0, 1) := dk_42 (dk_at dksJ8_append_3 7 rfl rfl)
theorem dJ8_append_76 : decode cJ8_append 76 = .ok (.areturn, 1) := dk_176 (dk_at dksJ8_append_3 8 rfl rfl)
abbrev cJ8_ensureCapacityInternal : ByteArray := prog_25_method_9_code
def yJ8_ensureCapacityInternal : MethodName := ⟨RJ8, "ensureCapacityInternal", "(I)V"⟩
def dkwJ8_ensureCapacityInternal_1 : List UInt8 := [182, 0, 104, 42, 180, 0, 22, 120, 184, 0, 108, 181, 0, 15, 177]
abbrev dktJ8_ensureCapacityInternal_1 : List UInt8 := dkwJ8_ensureCapacityInternal_1 ++ []
def dkwJ8_ensureCapacityInternal_0 : List UInt8 := [42, 180, 0, 15, 190, 42, 180, 0, 22, 122, 61, 27, 28, 100, 158, 0, 24, 42, 42, 180, 0, 15, 42, 27]
abbrev dktJ8_ensureCapacityInternal_0 : List UInt8 := dkwJ8_ensureCapacityInternal_0 ++ dktJ8_ensureCapacityInternal_1
theorem dksJ8_ensureCapacityInternal_0 : cJ8_ensureCapacityInternal.data.toList.drop 0 = dktJ8_ensureCapacityInternal_0 := by decide +kernel
theorem dksJ8_ensureCapacityInternal_1 : cJ8_ensureCapacityInternal.data.toList.drop 24 = dktJ8_ensureCapacityInternal_1 := dk_seg dksJ8_ensureCapacityInternal_0 24 rfl rfl
theorem dJ8_ensureCapacityInternal_0 : decode cJ8_ensureCapacityInternal 0 = .ok (.aload_n 0, 1) := dk_42 (dk_at dksJ8_ensureCapacityInternal_0 0 rfl rfl)
theorem dJ8_ensureCapacityInternal_1 : decode cJ8_ensureCapacityInternal 1 = .ok (.getfield 15, 3) := dk_180 0 15 (dk_at dksJ8_ensureCapacityInternal_0 1 rfl rfl)
theorem dJ8_ensureCapacityInternal_4 : decode cJ8_ensureCapacityInternal 4 = .ok (.arraylength, 1) := dk_190 (dk_at dksJ8_ensureCapacityInternal_0 4 rfl rfl)
theorem dJ8_ensureCapacityInternal_5 : decode cJ8_ensureCapacityInternal 5 = .ok (.aload_n 0, 1) := dk_42 (dk_at dksJ8_ensureCapacityInternal_0 5 rfl rfl)
theorem dJ8_ensureCapacityInternal_6 : decode cJ8_ensureCapacityInternal 6 = .ok (.getfield 22, 3) := dk_180 0 22 (dk_at dksJ8_ensureCapacityInternal_0 6 rfl rfl)
theorem dJ8_ensureCapacityInternal_9 : decode cJ8_ensureCapacityInternal 9 = .ok (.ishr, 1) := dk_122 (dk_at dksJ8_ensureCapacityInternal_0 9 rfl rfl)
theorem dJ8_ensureCapacityInternal_10 : decode cJ8_ensureCapacityInternal 10 = .ok (.istore_n 2, 1) := dk_61 (dk_at dksJ8_ensureCapacityInternal_0 10 rfl rfl)
theorem dJ8_ensureCapacityInternal_11 : decode cJ8_ensureCapacityInternal 11 = .ok (.iload_n 1, 1) := dk_27 (dk_at dksJ8_ensureCapacityInternal_0 11 rfl rfl)
theorem dJ8_ensureCapacityInternal_12 : decode cJ8_ensureCapacityInternal 12 = .ok (.iload_n 2, 1) := dk_28 (dk_at dksJ8_ensureCapacityInternal_0 12 rfl rfl)
theorem dJ8_ensureCapacityInternal_13 : decode cJ8_ensureCapacityInternal 13 = .ok (.isub, 1) := dk_100 (dk_at dksJ8_ensureCapacityInternal_0 13 rfl rfl)
theorem dJ8_ensureCapacityInternal_14 : decode cJ8_ensureCapacityInternal 14 = .ok (.ifCond .le 24, 3) := dk_158 0 24 (dk_at dksJ8_ensureCapacityInternal_0 14 rfl rfl)
theorem dJ8_ensureCapacityInternal_17 : decode cJ8_ensureCapacityInternal 17 = .ok (.aload_n 0, 1) := dk_42 (dk_at dksJ8_ensureCapacityInternal_0 17 rfl rfl)
theorem dJ8_ensureCapacityInternal_18 : decode cJ8_ensureCapacityInternal 18 = .ok (.aload_n 0, 1) := dk_42 (dk_at dksJ8_ensureCapacityInternal_0 18 rfl rfl)
theorem dJ8_ensureCapacityInternal_19 : decode cJ8_ensureCapacityInternal 19 = .ok (.getfield 15, 3) := dk_180 0 15 (dk_at dksJ8_ensureCapacityInternal_0 19 rfl rfl)
theorem dJ8_ensureCapacityInternal_22 : decode cJ8_ensureCapacityInternal 22 = .ok (.aload_n 0, 1) := dk_42 (dk_at dksJ8_ensureCapacityInternal_0 22 rfl rfl)
theorem dJ8_ensureCapacityInternal_23 : decode cJ8_ensureCapacityInternal 23 = .ok (.iload_n 1, 1) := dk_27 (dk_at dksJ8_ensureCapacityInternal_0 23 rfl rfl)
theorem dJ8_ensureCapacityInternal_24 : decode cJ8_ensureCapacityInternal 24 = .ok (.invokevirtual 104, 3) := dk_182 0 104 (dk_at dksJ8_ensureCapacityInternal_1 0 rfl rfl)
theorem dJ8_ensureCapacityInternal_27 : decode cJ8_ensureCapacityInternal 27 = .ok (.aload_n 0, 1) := dk_42 (dk_at dksJ8_ensureCapacityInternal_1 3 rfl rfl)
theorem dJ8_ensureCapacityInternal_28 : decode cJ8_ensureCapacityInternal 28 = .ok (.getfield 22, 3) := dk_180 0 22 (dk_at dksJ8_ensureCapacityInternal_1 4 rfl rfl)
theorem dJ8_ensureCapacityInternal_31 : decode cJ8_ensureCapacityInternal 31 = .ok (.ishl, 1) := dk_120 (dk_at dksJ8_ensureCapacityInternal_1 7 rfl rfl)
theorem dJ8_ensureCapacityInternal_32 : decode cJ8_ensureCapacityInternal 32 = .ok (.invokestatic 108, 3) := dk_184 0 108 (dk_at dksJ8_ensureCapacityInternal_1 8 rfl rfl)
theorem dJ8_ensureCapacityInternal_35 : decode cJ8_ensureCapacityInternal 35 = .ok (.putfield 15, 3) := dk_181 0 15 (dk_at dksJ8_ensureCapacityInternal_1 11 rfl rfl)
theorem dJ8_ensureCapacityInternal_38 : decode cJ8_ensureCapacityInternal 38 = .ok (.return_, 1) := dk_177 (dk_at dksJ8_ensureCapacityInternal_1 14 rfl rfl)
abbrev cJ8_newCapacity : ByteArray := prog_25_method_10_code
def yJ8_newCapacity : MethodName := ⟨RJ8, "newCapacity", "(I)I"⟩
def dkwJ8_newCapacity_2 : List UInt8 := [183, 0, 124, 191, 21, 5, 42, 180, 0, 22, 122, 172]
abbrev dktJ8_newCapacity_2 : List UInt8 := dkwJ8_newCapacity_2 ++ []
def dkwJ8_newCapacity_1 : List UInt8 := [180, 0, 22, 120, 96, 184, 0, 114, 54, 5, 21, 5, 18, 39, 160, 0, 13, 187, 0, 120, 89, 18, 122]
abbrev dktJ8_newCapacity_1 : List UInt8 := dkwJ8_newCapacity_1 ++ dktJ8_newCapacity_2
def dkwJ8_newCapacity_0 : List UInt8 := [42, 180, 0, 15, 190, 61, 27, 42, 180, 0, 22, 120, 62, 29, 28, 100, 54, 4, 28, 21, 4, 28, 5, 42]
abbrev dktJ8_newCapacity_0 : List UInt8 := dkwJ8_newCapacity_0 ++ dktJ8_newCapacity_1
theorem dksJ8_newCapacity_0 : cJ8_newCapacity.data.toList.drop 0 = dktJ8_newCapacity_0 := by decide +kernel
theorem dksJ8_newCapacity_1 : cJ8_newCapacity.data.toList.drop 24 = dktJ8_newCapacity_1 := dk_seg dksJ8_newCapacity_0 24 rfl rfl
theorem dksJ8_newCapacity_2 : cJ8_newCapacity.data.toList.drop 47 = dktJ8_newCapacity_2 := dk_seg dksJ8_newCapacity_1 23 rfl rfl
theorem dJ8_newCapacity_0 : decode cJ8_newCapacity 0 = .ok (.aload_n 0, 1) := dk_42 (dk_at dksJ8_newCapacity_0 0 rfl rfl)
theorem dJ8_newCapacity_1 : decode cJ8_newCapacity 1 = .ok (.getfield 15, 3) := dk_180 0 15 (dk_at dksJ8_newCapacity_0 1 rfl rfl)
theorem dJ8_newCapacity_4 : decode cJ8_newCapacity 4 = .ok (.arraylength, 1) := dk_190 (dk_at dksJ8_newCapacity_0 4 rfl rfl)
theorem dJ8_newCapacity_5 : decode cJ8_newCapacity 5 = .ok (.istore_n 2, 1) := dk_61 (dk_at dksJ8_newCapacity_0 5 rfl rfl)
theorem dJ8_newCapacity_6 : decode cJ8_newCapacity 6 = .ok (.iload_n 1, 1) := dk_27 (dk_at dksJ8_newCapacity_0 6 rfl rfl)
theorem dJ8_newCapacity_7 : decode cJ8_newCapacity 7 = .ok (.aload_n 0, 1) := dk_42 (dk_at dksJ8_newCapacity_0 7 rfl rfl)
theorem dJ8_newCapacity_8 : decode cJ8_newCapacity 8 = .ok (.getfield 22, 3) := dk_180 0 22 (dk_at dksJ8_newCapacity_0 8 rfl rfl)
theorem dJ8_newCapacity_11 : decode cJ8_newCapacity 11 = .ok (.ishl, 1) := dk_120 (dk_at dksJ8_newCapacity_0 11 rfl rfl)
theorem dJ8_newCapacity_12 : decode cJ8_newCapacity 12 = .ok (.istore_n 3, 1) := dk_62 (dk_at dksJ8_newCapacity_0 12 rfl rfl)
theorem dJ8_newCapacity_13 : decode cJ8_newCapacity 13 = .ok (.iload_n 3, 1) := dk_29 (dk_at dksJ8_newCapacity_0 13 rfl rfl)
theorem dJ8_newCapacity_14 : decode cJ8_newCapacity 14 = .ok (.iload_n 2, 1) := dk_28 (dk_at dksJ8_newCapacity_0 14 rfl rfl)
theorem dJ8_newCapacity_15 : decode cJ8_newCapacity 15 = .ok (.isub, 1) := dk_100 (dk_at dksJ8_newCapacity_0 15 rfl rfl)
theorem dJ8_newCapacity_16 : decode cJ8_newCapacity 16 = .ok (.istore 4, 2) := dk_54 4 (dk_at dksJ8_newCapacity_0 16 rfl rfl)
theorem dJ8_newCapacity_18 : decode cJ8_newCapacity 18 = .ok (.iload_n 2, 1) := dk_28 (dk_at dksJ8_newCapacity_0 18 rfl rfl)
theorem dJ8_newCapacity_19 : decode cJ8_newCapacity 19 = .ok (.iload 4, 2) := dk_21 4 (dk_at dksJ8_newCapacity_0 19 rfl rfl)
theorem dJ8_newCapacity_21 : decode cJ8_newCapacity 21 = .ok (.iload_n 2, 1) := dk_28 (dk_at dksJ8_newCapacity_0 21 rfl rfl)
theorem dJ8_newCapacity_22 : decode cJ8_newCapacity 22 = .ok (.iconst 2, 1) := dk_5 (dk_at dksJ8_newCapacity_0 22 rfl rfl)
theorem dJ8_newCapacity_23 : decode cJ8_newCapacity 23 = .ok (.aload_n 0, 1) := dk_42 (dk_at dksJ8_newCapacity_0 23 rfl rfl)
theorem dJ8_newCapacity_24 : decode cJ8_newCapacity 24 = .ok (.getfield 22, 3) := dk_180 0 22 (dk_at dksJ8_newCapacity_1 0 rfl rfl)
theorem dJ8_newCapacity_27 : decode cJ8_newCapacity 27 = .ok (.ishl, 1) := dk_120 (dk_at dksJ8_newCapacity_1 3 rfl rfl)
theorem dJ8_newCapacity_28 : decode cJ8_newCapacity 28 = .ok (.iadd, 1) := dk_96 (dk_at dksJ8_newCapacity_1 4 rfl rfl)
theorem dJ8_newCapacity_29 : decode cJ8_newCapacity 29 = .ok (.invokestatic 114, 3) := dk_184 0 114 (dk_at dksJ8_newCapacity_1 5 rfl rfl)
theorem dJ8_newCapacity_32 : decode cJ8_newCapacity 32 = .ok (.istore 5, 2) := dk_54 5 (dk_at dksJ8_newCapacity_1 8 rfl rfl)
theorem dJ8_newCapacity_34 : decode cJ8_newCapacity 34 = .ok (.iload 5, 2) := dk_21 5 (dk_at dksJ8_newCapacity_1 10 rfl rfl)
theorem dJ8_newCapacity_36 : decode cJ8_newCapacity 36 = .ok (.ldc 39, 2) := dk_18 39 (dk_at dksJ8_newCapacity_1 12 rfl rfl)
theorem dJ8_newCapacity_38 : decode cJ8_newCapacity 38 = .ok (.if_icmp .ne 13, 3) := dk_160 0 13 (dk_at dksJ8_newCapacity_1 14 rfl rfl)
theorem dJ8_newCapacity_41 : decode cJ8_newCapacity 41 = .ok (.new 120, 3) := dk_187 0 120 (dk_at dksJ8_newCapacity_1 17 rfl rfl)
theorem dJ8_newCapacity_44 : decode cJ8_newCapacity 44 = .ok (.dup, 1) := dk_89 (dk_at dksJ8_newCapacity_1 20 rfl rfl)
theorem dJ8_newCapacity_45 : decode cJ8_newCapacity 45 = .ok (.ldc 122, 2) := dk_18 122 (dk_at dksJ8_newCapacity_1 21 rfl rfl)
theorem dJ8_newCapacity_47 : decode cJ8_newCapacity 47 = .ok (.invokespecial 124, 3) := dk_183 0 124 (dk_at dksJ8_newCapacity_2 0 rfl rfl)
theorem dJ8_newCapacity_50 : decode cJ8_newCapacity 50 = .ok (.athrow, 1) := dk_191 (dk_at dksJ8_newCapacity_2 3 rfl rfl)
theorem dJ8_newCapacity_51 : decode cJ8_newCapacity 51 = .ok (.iload 5, 2) := dk_21 5 (dk_at dksJ8_newCapacity_2 4 rfl rfl)
theorem dJ8_newCapacity_53 : decode cJ8_newCapacity 53 = .ok (.aload_n 0, 1) := dk_42 (dk_at dksJ8_newCapacity_2 6 rfl rfl)
theorem dJ8_newCapacity_54 : decode cJ8_newCapacity 54 = .ok (.getfield 22, 3) := dk_180 0 22 (dk_at dksJ8_newCapacity_2 7 rfl rfl)
theorem dJ8_newCapacity_57 : decode cJ8_newCapacity 57 = .ok (.ishr, 1) := dk_122 (dk_at dksJ8_newCapacity_2 10 rfl rfl)
theorem dJ8_newCapacity_58 : decode cJ8_newCapacity 58 = .ok (.ireturn, 1) := dk_172 (dk_at dksJ8_newCapacity_2 11 rfl rfl)
abbrev cJ8_isLatin1 : ByteArray := prog_25_method_68_code
def yJ8_isLatin1 : MethodName := ⟨RJ8, "isLatin1", "()Z"⟩
def dkwJ8_isLatin1_0 : List UInt8 := [178, 0, 18, 153, 0, 14, 42, 180, 0, 22, 154, 0, 7, 4, 167, 0, 4, 3, 172]
abbrev dktJ8_isLatin1_0 : List UInt8 := dkwJ8_isLatin1_0 ++ []
theorem dksJ8_isLatin1_0 : cJ8_isLatin1.data.toList.drop 0 = dktJ8_isLatin1_0 := by decide +kernel
theorem dJ8_isLatin1_0 : decode cJ8_isLatin1 0 = .ok (.getstatic 18, 3) := dk_178 0 18 (dk_at dksJ8_isLatin1_0 0 rfl rfl)
theorem dJ8_isLatin1_3 : decode cJ8_isLatin1 3 = .ok (.ifCond .eq 14, 3) := dk_153 0 14 (dk_at dksJ8_isLatin1_0 3 rfl rfl)
theorem dJ8_isLatin1_6 : decode cJ8_isLatin1 6 = .ok (.aload_n 0, 1) := dk_42 (dk_at dksJ8_isLatin1_0 6 rfl rfl)
theorem dJ8_isLatin1_7 : decode cJ8_isLatin1 7 = .ok (.getfield 22, 3) := dk_180 0 22 (dk_at dksJ8_isLatin1_0 7 rfl rfl)
theorem dJ8_isLatin1_10 : decode cJ8_isLatin1 10 = .ok (.ifCond .ne 7, 3) := dk_154 0 7 (dk_at dksJ8_isLatin1_0 10 rfl rfl)
theorem dJ8_isLatin1_13 : decode cJ8_isLatin1 13 = .ok (.iconst 1, 1) := dk_4 (dk_at dksJ8_isLatin1_0 13 rfl rfl)
theorem dJ8_isLatin1_14 : decode cJ8_isLatin1 14 = .ok (.goto 4, 3) := dk_167 0 4 (dk_at dksJ8_isLatin1_0 14 rfl rfl)
theorem dJ8_isLatin1_17 : decode cJ8_isLatin1 17 = .ok (.iconst 0, 1) := dk_3 (dk_at dksJ8_isLatin1_0 17 rfl rfl)
theorem dJ8_isLatin1_18 : decode cJ8_isLatin1 18 = .ok (.ireturn, 1) := dk_172 (dk_at dksJ8_isLatin1_0 18 rfl rfl)
abbrev cJ8_inflate : ByteArray := prog_25_method_11_code
def yJ8_inflate : MethodName := ⟨RJ8, "inflate", "()V"⟩
def dkwJ8_inflate_1 : List UInt8 := [42, 180, 0, 79, 184, 0, 125, 42, 43, 181, 0, 15, 42, 4, 181, 0, 22, 177]
abbrev dktJ8_inflate_1 : List UInt8 := dkwJ8_inflate_1 ++ []
def dkwJ8_inflate_0 : List UInt8 := [42, 182, 0, 83, 154, 0, 4, 177, 42, 180, 0, 15, 190, 184, 0, 26, 76, 42, 180, 0, 15, 3, 43, 3]
abbrev dktJ8_inflate_0 : List UInt8 := dkwJ8_inflate_0 ++ dktJ8_inflate_1
theorem dksJ8_inflate_0 : cJ8_inflate.data.toList.drop 0 = dktJ8_inflate_0 := by decide +kernel
theorem dksJ8_inflate_1 : cJ8_inflate.data.toList.drop 24 = dktJ8_inflate_1 := dk_seg dksJ8_inflate_0 24 rfl rfl
theorem dJ8_inflate_0 : decode cJ8_inflate 0 = .ok (.aload_n 0, 1) := dk_42 (dk_at dksJ8_inflate_0 0 rfl rfl)
theorem dJ8_inflate_1 : decode cJ8_inflate 1 = .ok (.invokevirtual 83, 3) := dk_182 0 83 (dk_at dksJ8_inflate_0 1 rfl rfl)
theorem dJ8_inflate_4 : decode cJ8_inflate 4 = .ok (.ifCond .ne 4, 3) := dk_154 0 4 (dk_at dksJ8_inflate_0 4 rfl rfl)
theorem dJ8_inflate_7 : decode cJ8_inflate 7 = .ok (.return_, 1) := dk_177 (dk_at dksJ8_inflate_0 7 rfl rfl)
theorem dJ8_inflate_8 : decode cJ8_inflate 8 = .ok (.aload_n 0, 1) := dk_42 (dk_at dksJ8_inflate_0 8 rfl rfl)
theorem dJ8_inflate_9 : decode cJ8_inflate 9 = .ok (.getfield 15, 3) := dk_180 0 15 (dk_at dksJ8_inflate_0 9 rfl rfl)
theorem dJ8_inflate_12 : decode cJ8_inflate 12 = .ok (.arraylength, 1) := dk_190 (dk_at dksJ8_inflate_0 12 rfl rfl)
theorem dJ8_inflate_13 : decode cJ8_inflate 13 = .ok (.invokestatic 26, 3) := dk_184 0 26 (dk_at dksJ8_inflate_0 13 rfl rfl)
theorem dJ8_inflate_16 : decode cJ8_inflate 16 = .ok (.astore_n 1, 1) := dk_76 (dk_at dksJ8_inflate_0 16 rfl rfl)
theorem dJ8_inflate_17 : decode cJ8_inflate 17 = .ok (.aload_n 0, 1) := dk_42 (dk_at dksJ8_inflate_0 17 rfl rfl)
theorem dJ8_inflate_18 : decode cJ8_inflate 18 = .ok (.getfield 15, 3) := dk_180 0 15 (dk_at dksJ8_inflate_0 18 rfl rfl)
theorem dJ8_inflate_21 : decode cJ8_inflate 21 = .ok (.iconst 0, 1) := dk_3 (dk_at dksJ8_inflate_0 21 rfl rfl)
theorem dJ8_inflate_22 : decode cJ8_inflate 22 = .ok (.aload_n 1, 1) := dk_43 (dk_at dksJ8_inflate_0 22 rfl rfl)
theorem dJ8_inflate_23 : decode cJ8_inflate 23 = .ok (.iconst 0, 1) := dk_3 (dk_at dksJ8_inflate_0 23 rfl rfl)
theorem dJ8_inflate_24 : decode cJ8_inflate 24 = .ok (.aload_n 0, 1) := dk_42 (dk_at dksJ8_inflate_1 0 rfl rfl)
theorem dJ8_inflate_25 : decode cJ8_inflate 25 = .ok (.getfield 79, 3) := dk_180 0 79 (dk_at dksJ8_inflate_1 1 rfl rfl)
theorem dJ8_inflate_28 : decode cJ8_inflate 28 = .ok (.invokestatic 125, 3) := dk_184 0 125 (dk_at dksJ8_inflate_1 4 rfl rfl)
theorem dJ8_inflate_31 : decode cJ8_inflate 31 = .ok (.aload_n 0, 1) := dk_42 (dk_at dksJ8_inflate_1 7 rfl rfl)
theorem dJ8_inflate_32 : decode cJ8_inflate 32 = .ok (.aload_n 1, 1) := dk_43 (dk_at dksJ8_inflate_1 8 rfl rfl)
theorem dJ8_inflate_33 : decode cJ8_inflate 33 = .ok (.putfield 15, 3) := dk_181 0 15 (dk_at dksJ8_inflate_1 9 rfl rfl)
theorem dJ8_inflate_36 : decode cJ8_inflate 36 = .ok (.aload_n 0, 1) := dk_42 (dk_at dksJ8_inflate_1 12 rfl rfl)
theorem dJ8_inflate_37 : decode cJ8_inflate 37 = .ok (.iconst 1, 1) := dk_4 (dk_at dksJ8_inflate_1 13 rfl rfl)
theorem dJ8_inflate_38 : decode cJ8_inflate 38 = .ok (.putfield 22, 3) := dk_181 0 22 (dk_at dksJ8_inflate_1 14 rfl rfl)
theorem dJ8_inflate_41 : decode cJ8_inflate 41 = .ok (.return_, 1) := dk_177 (dk_at dksJ8_inflate_1 17 rfl rfl)
abbrev cJ8_getValue : ByteArray := prog_25_method_64_code
def yJ8_getValue : MethodName := ⟨RJ8, "getValue", "()[B"⟩
theorem dJ8_getValue_0 : decode cJ8_getValue 0 = .ok (.aload_n 0, 1) := by decide +kernel
theorem dJ8_getValue_1 : decode cJ8_getValue 1 = .ok (.getfield 15, 3) := by decide +kernel
theorem dJ8_getValue_4 : decode cJ8_getValue 4 = .ok (.areturn, 1) := by decide +kernel
abbrev cJ8_length : ByteArray := prog_25_method_6_code
def yJ8_length : MethodName := ⟨RJ8, "length", "()I"⟩
theorem dJ8_length_0 : decode cJ8_length 0 = .ok (.aload_n 0, 1) := by decide +kernel
theorem dJ8_length_1 : decode cJ8_length 1 = .ok (.getfield 79, 3) := by decide +kernel
theorem dJ8_length_4 : decode cJ8_length 4 = .ok (.ireturn, 1) := by decide +kernel
abbrev cJ8_append_2 : ByteArray := prog_25_method_32_code
def yJ8_append_2 : MethodName := ⟨RJ8, "append", "(I)Ljava/lang/AbstractStringBuilder;"⟩
def dkwJ8_append_2_2 : List UInt8 := [42, 29, 181, 0, 79, 42, 176]
abbrev dktJ8_append_2_2 : List UInt8 := dkwJ8_append_2_2 ++ []
def dkwJ8_append_2_1 : List UInt8 := [27, 29, 42, 180, 0, 15, 184, 0, 248, 87, 167, 0, 14, 27, 28, 29, 42, 180, 0, 15, 184, 0, 251, 87]
abbrev dktJ8_append_2_1 : List UInt8 := dkwJ8_append_2_1 ++ dktJ8_append_2_2
def dkwJ8_append_2_0 : List UInt8 := [42, 180, 0, 79, 61, 28, 27, 184, 0, 245, 96, 62, 42, 29, 182, 0, 100, 42, 182, 0, 83, 153, 0, 16]
abbrev dktJ8_append_2_0 : List UInt8 := dkwJ8_append_2_0 ++ dktJ8_append_2_1
theorem dksJ8_append_2_0 : cJ8_append_2.data.toList.drop 0 = dktJ8_append_2_0 := by decide +kernel
theorem dksJ8_append_2_1 : cJ8_append_2.data.toList.drop 24 = dktJ8_append_2_1 := dk_seg dksJ8_append_2_0 24 rfl rfl
theorem dksJ8_append_2_2 : cJ8_append_2.data.toList.drop 48 = dktJ8_append_2_2 := dk_seg dksJ8_append_2_1 24 rfl rfl
theorem dJ8_append_2_0 : decode cJ8_append_2 0 = .ok (.aload_n 0, 1) := dk_42 (dk_at dksJ8_append_2_0 0 rfl rfl)
theorem dJ8_append_2_1 : decode cJ8_append_2 1 = .ok (.getfield 79, 3) := dk_180 0 79 (dk_at dksJ8_append_2_0 1 rfl rfl)
theorem dJ8_append_2_4 : decode cJ8_append_2 4 = .ok (.istore_n 2, 1) := dk_61 (dk_at dksJ8_append_2_0 4 rfl rfl)
theorem dJ8_append_2_5 : decode cJ8_append_2 5 = .ok (.iload_n 2, 1) := dk_28 (dk_at dksJ8_append_2_0 5 rfl rfl)
theorem dJ8_append_2_6 : decode cJ8_append_2 6 = .ok (.iload_n 1, 1) := dk_27 (dk_at dksJ8_append_2_0 6 rfl rfl)
theorem dJ8_append_2_7 : decode cJ8_append_2 7 = .ok (.invokestatic 245, 3) := dk_184 0 245 (dk_at dksJ8_append_2_0 7 rfl rfl)
theorem dJ8_append_2_10 : decode cJ8_append_2 10 = .ok (.iadd, 1) := dk_96 (dk_at dksJ8_append_2_0 10 rfl rfl)
theorem dJ8_append_2_11 : decode cJ8_append_2 11 = .ok (.istore_n 3, 1) := dk_62 (dk_at dksJ8_append_2_0 11 rfl rfl)
theorem dJ8_append_2_12 : decode cJ8_append_2 12 = .ok (.aload_n 0, 1) := dk_42 (dk_at dksJ8_append_2_0 12 rfl rfl)
theorem dJ8_append_2_13 : decode cJ8_append_2 13 = .ok (.iload_n 3, 1) := dk_29 (dk_at dksJ8_append_2_0 13 rfl rfl)
theorem dJ8_append_2_14 : decode cJ8_append_2 14 = .ok (.invokevirtual 100, 3) := dk_182 0 100 (dk_at dksJ8_append_2_0 14 rfl rfl)
theorem dJ8_append_2_17 : decode cJ8_append_2 17 = .ok (.aload_n 0, 1) := dk_42 (dk_at dksJ8_append_2_0 17 rfl rfl)
theorem dJ8_append_2_18 : decode cJ8_append_2 18 = .ok (.invokevirtual 83, 3) := dk_182 0 83 (dk_at dksJ8_append_2_0 18 rfl rfl)
theorem dJ8_append_2_21 : decode cJ8_append_2 21 = .ok (.ifCond .eq 16, 3) := dk_153 0 16 (dk_at dksJ8_append_2_0 21 rfl rfl)
theorem dJ8_append_2_24 : decode cJ8_append_2 24 = .ok (.iload_n 1, 1) := dk_27 (dk_at dksJ8_append_2_1 0 rfl rfl)
theorem dJ8_append_2_25 : decode cJ8_append_2 25 = .ok (.iload_n 3, 1) := dk_29 (dk_at dksJ8_append_2_1 1 rfl rfl)
theorem dJ8_append_2_26 : decode cJ8_append_2 26 = .ok (.aload_n 0, 1) := dk_42 (dk_at dksJ8_append_2_1 2 rfl rfl)
theorem dJ8_append_2_27 : decode cJ8_append_2 27 = .ok (.getfield 15, 3) := dk_180 0 15 (dk_at dksJ8_append_2_1 3 rfl rfl)
theorem dJ8_append_2_30 : decode cJ8_append_2 30 = .ok (.invokestatic 248, 3) := dk_184 0 248 (dk_at dksJ8_append_2_1 6 rfl rfl)
theorem dJ8_append_2_33 : decode cJ8_append_2 33 = .ok (.pop, 1) := dk_87 (dk_at dksJ8_append_2_1 9 rfl rfl)
theorem dJ8_append_2_34 : decode cJ8_append_2 34 = .ok (.goto 14, 3) := dk_167 0 14 (dk_at dksJ8_append_2_1 10 rfl rfl)
theorem dJ8_append_2_37 : decode cJ8_append_2 37 = .ok (.iload_n 1, 1) := dk_27 (dk_at dksJ8_append_2_1 13 rfl rfl)
theorem dJ8_append_2_38 : decode cJ8_append_2 38 = .ok (.iload_n 2, 1) := dk_28 (dk_at dksJ8_append_2_1 14 rfl rfl)
theorem dJ8_append_2_39 : decode cJ8_append_2 39 = .ok (.iload_n 3, 1) := dk_29 (dk_at dksJ8_append_2_1 15 rfl rfl)
theorem dJ8_append_2_40 : decode cJ8_append_2 40 = .ok (.aload_n 0, 1) := dk_42 (dk_at dksJ8_append_2_1 16 rfl rfl)
theorem dJ8_append_2_41 : decode cJ8_append_2 41 = .ok (.getfield 15, 3) := dk_180 0 15 (dk_at dksJ8_append_2_1 17 rfl rfl)
theorem dJ8_append_2_44 : decode cJ8_append_2 44 = .ok (.invokestatic 251, 3) := dk_184 0 251 (dk_at dksJ8_append_2_1 20 rfl rfl)
theorem dJ8_append_2_47 : decode cJ8_append_2 47 = .ok (.pop, 1) := dk_87 (dk_at dksJ8_append_2_1 23 rfl rfl)
theorem dJ8_append_2_48 : decode cJ8_append_2 48 = .ok (.aload_n 0, 1) := dk_42 (dk_at dksJ8_append_2_2 0 rfl rfl)
theorem dJ8_append_2_49 : decode cJ8_append_2 49 = .ok (.iload_n 3, 1) := dk_29 (dk_at dksJ8_append_2_2 1 rfl rfl)
theorem dJ8_append_2_50 : decode cJ8_append_2 50 = .ok (.putfield 79, 3) := dk_181 0 79 (dk_at dksJ8_append_2_2 2 rfl rfl)
theorem dJ8_append_2_53 : decode cJ8_append_2 53 = .ok (.aload_n 0, 1) := dk_42 (dk_at dksJ8_append_2_2 5 rfl rfl)
theorem dJ8_append_2_54 : decode cJ8_append_2 54 = .ok (.areturn, 1) := dk_176 (dk_at dksJ8_append_2_2 6 rfl rfl)
abbrev cJ8_append_3 : ByteArray := prog_25_method_22_code
def yJ8_append_3 : MethodName := ⟨RJ8, "append", "(Ljava/lang/String;)Ljava/lang/AbstractStringBuilder;"⟩
def dkwJ8_append_3_1 : List UInt8 := [42, 42, 180, 0, 79, 43, 182, 0, 208, 42, 89, 180, 0, 79, 28, 96, 181, 0, 79, 42, 176]
abbrev dktJ8_append_3_1 : List UInt8 := dkwJ8_append_3_1 ++ []
def dkwJ8_append_3_0 : List UInt8 := [43, 199, 0, 8, 42, 182, 0, 204, 176, 43, 182, 0, 32, 61, 42, 42, 180, 0, 79, 28, 96, 182, 0, 100]
abbrev dktJ8_append_3_0 : List UInt8 := dkwJ8_append_3_0 ++ dktJ8_append_3_1
theorem dksJ8_append_3_0 : cJ8_append_3.data.toList.drop 0 = dktJ8_append_3_0 := by decide +kernel
theorem dksJ8_append_3_1 : cJ8_append_3.data.toList.drop 24 = dktJ8_append_3_1 := dk_seg dksJ8_append_3_0 24 rfl rfl
theorem dJ8_append_3_0 : decode cJ8_append_3 0 = .ok (.aload_n 1, 1) := dk_43 (dk_at dksJ8_append_3_0 0 rfl rfl)
theorem dJ8_append_3_1 : decode cJ8_append_3 1 = .ok (.ifnonnull 8, 3) := dk_199 0 8 (dk_at dksJ8_append_3_0 1 rfl rfl)
theorem dJ8_append_3_4 : decode cJ8_append_3 4 = .ok (.aload_n 0, 1) := dk_42 (dk_at dksJ8_append_3_0 4 rfl rfl)
theorem dJ8_append_3_5 : decode cJ8_append_3 5 = .ok (.invokevirtual 204, 3) := dk_182 0 204 (dk_at dksJ8_append_3_0 5 rfl rfl)
theorem dJ8_append_3_8 : decode cJ8_append_3 8 = .ok (.areturn, 1) := dk_176 (dk_at dksJ8_append_3_0 8 rfl rfl)
theorem dJ8_append_3_9 : decode cJ8_append_3 9 = .ok (.aload_n 1, 1) := dk_43 (dk_at dksJ8_append_3_0 9 rfl rfl)
theorem dJ8_append_3_10 : decode cJ8_append_3 10 = .ok (.invokevirtual 32, 3) := dk_182 0 32 (dk_at dksJ8_append_3_0 10 rfl rfl)
theorem dJ8_append_3_13 : decode cJ8_append_3 13 = .ok (.istore_n 2, 1) := dk_61 (dk_at dksJ8_append_3_0 13 rfl rfl)
theorem dJ8_append_3_14 : decode cJ8_append_3 14 = .ok (.aload_n 0, 1) := dk_42 (dk_at dksJ8_append_3_0 14 rfl rfl)
theorem dJ8_append_3_15 : decode cJ8_append_3 15 = .ok (.aload_n 0, 1) := dk_42 (dk_at dksJ8_append_3_0 15 rfl rfl)
theorem dJ8_append_3_16 : decode cJ8_append_3 16 = .ok (.getfield 79, 3) := dk_180 0 79 (dk_at dksJ8_append_3_0 16 rfl rfl)
theorem dJ8_append_3_19 : decode cJ8_append_3 19 = .ok (.iload_n 2, 1) := dk_28 (dk_at dksJ8_append_3_0 19 rfl rfl)
theorem dJ8_append_3_20 : decode cJ8_append_3 20 = .ok (.iadd, 1) := dk_96 (dk_at dksJ8_append_3_0 20 rfl rfl)
theorem dJ8_append_3_21 : decode cJ8_append_3 21 = .ok (.invokevirtual 100, 3) := dk_182 0 100 (dk_at dksJ8_append_3_0 21 rfl rfl)
theorem dJ8_append_3_24 : decode cJ8_append_3 24 = .ok (.aload_n 0, 1) := dk_42 (dk_at dksJ8_append_3_1 0 rfl rfl)
theorem dJ8_append_3_25 : decode cJ8_append_3 25 = .ok (.aload_n 0, 1) := dk_42 (dk_at dksJ8_append_3_1 1 rfl rfl)
theorem dJ8_append_3_26 : decode cJ8_append_3 26 = .ok (.getfield 79, 3) := dk_180 0 79 (dk_at dksJ8_append_3_1 2 rfl rfl)
theorem dJ8_append_3_29 : decode cJ8_append_3 29 = .ok (.aload_n 1, 1) := dk_43 (dk_at dksJ8_append_3_1 5 rfl rfl)
theorem dJ8_append_3_30 : decode cJ8_append_3 30 = .ok (.invokevirtual 208, 3) := dk_182 0 208 (dk_at dksJ8_append_3_1 6 rfl rfl)
theorem dJ8_append_3_33 : decode cJ8_append_3 33 = .ok (.aload_n 0, 1) := dk_42 (dk_at dksJ8_append_3_1 9 rfl rfl)
theorem dJ8_append_3_34 : decode cJ8_append_3 34 = .ok (.dup, 1) := dk_89 (dk_at dksJ8_append_3_1 10 rfl rfl)
theorem dJ8_append_3_35 : decode cJ8_append_3 35 = .ok (.getfield 79, 3) := dk_180 0 79 (dk_at dksJ8_append_3_1 11 rfl rfl)
theorem dJ8_append_3_38 : decode cJ8_append_3 38 = .ok (.iload_n 2, 1) := dk_28 (dk_at dksJ8_append_3_1 14 rfl rfl)
theorem dJ8_append_3_39 : decode cJ8_append_3 39 = .ok (.iadd, 1) := dk_96 (dk_at dksJ8_append_3_1 15 rfl rfl)
theorem dJ8_append_3_40 : decode cJ8_append_3 40 = .ok (.putfield 79, 3) := dk_181 0 79 (dk_at dksJ8_append_3_1 16 rfl rfl)
theorem dJ8_append_3_43 : decode cJ8_append_3 43 = .ok (.aload_n 0, 1) := dk_42 (dk_at dksJ8_append_3_1 19 rfl rfl)
theorem dJ8_append_3_44 : decode cJ8_append_3 44 = .ok (.areturn, 1) := dk_176 (dk_at dksJ8_append_3_1 20 rfl rfl)
abbrev cJ8_appendNull : ByteArray := prog_25_method_26_code
def yJ8_appendNull : MethodName := ⟨RJ8, "appendNull", "()Ljava/lang/AbstractStringBuilder;"⟩
def dkwJ8_appendNull_3 : List UInt8 := [184, 0, 226, 60, 42, 27, 181, 0, 79, 42, 176]
abbrev dktJ8_appendNull_3 : List UInt8 := dkwJ8_appendNull_3 ++ []
def dkwJ8_appendNull_2 : List UInt8 := [16, 108, 84, 44, 27, 132, 1, 1, 16, 108, 84, 167, 0, 17, 44, 27, 16, 110, 16, 117, 16, 108, 16, 108]
abbrev dktJ8_appendNull_2 : List UInt8 := dkwJ8_appendNull_2 ++ dktJ8_appendNull_3
def dkwJ8_appendNull_1 : List UInt8 := [153, 0, 38, 44, 27, 132, 1, 1, 16, 110, 84, 44, 27, 132, 1, 1, 16, 117, 84, 44, 27, 132, 1, 1]
abbrev dktJ8_appendNull_1 : List UInt8 := dkwJ8_appendNull_1 ++ dktJ8_appendNull_2
def dkwJ8_appendNull_0 : List UInt8 := [42, 42, 180, 0, 79, 7, 96, 182, 0, 100, 42, 180, 0, 79, 60, 42, 180, 0, 15, 77, 42, 182, 0, 83]
abbrev dktJ8_appendNull_0 : List UInt8 := dkwJ8_appendNull_0 ++ dktJ8_appendNull_1
theorem dksJ8_appendNull_0 : cJ8_appendNull.data.toList.drop 0 = dktJ8_appendNull_0 := by decide +kernel
theorem dksJ8_appendNull_1 : cJ8_appendNull.data.toList.drop 24 = dktJ8_appendNull_1 := dk_seg dksJ8_appendNull_0 24 rfl rfl
theorem dksJ8_appendNull_2 : cJ8_appendNull.data.toList.drop 48 = dktJ8_appendNull_2 := dk_seg dksJ8_appendNull_1 24 rfl rfl
theorem dksJ8_appendNull_3 : cJ8_appendNull.data.toList.drop 72 = dktJ8_appendNull_3 := dk_seg dksJ8_appendNull_2 24 rfl rfl
theorem dJ8_appendNull_0 : decode cJ8_appendNull 0 = .ok (.aload_n 0, 1) := dk_42 (dk_at dksJ8_appendNull_0 0 rfl rfl)
theorem dJ8_appendNull_1 : decode cJ8_appendNull 1 = .ok (.aload_n 0, 1) := dk_42 (dk_at dksJ8_appendNull_0 1 rfl rfl)
theorem dJ8_appendNull_2 : decode cJ8_appendNull 2 = .ok (.getfield 79, 3) := dk_180 0 79 (dk_at dksJ8_appendNull_0 2 rfl rfl)
theorem dJ8_appendNull_5 : decode cJ8_appendNull 5 = .ok (.iconst 4, 1) := dk_7 (dk_at dksJ8_appendNull_0 5 rfl rfl)
theorem dJ8_appendNull_6 : decode cJ8_appendNull 6 = .ok (.iadd, 1) := dk_96 (dk_at dksJ8_appendNull_0 6 rfl rfl)
theorem dJ8_appendNull_7 : decode cJ8_appendNull 7 = .ok (.invokevirtual 100, 3) := dk_182 0 100 (dk_at dksJ8_appendNull_0 7 rfl rfl)
theorem dJ8_appendNull_10 : decode cJ8_appendNull 10 = .ok (.aload_n 0, 1) := dk_42 (dk_at dksJ8_appendNull_0 10 rfl rfl)
theorem dJ8_appendNull_11 : decode cJ8_appendNull 11 = .ok (.getfield 79, 3) := dk_180 0 79 (dk_at dksJ8_appendNull_0 11 rfl rfl)
theorem dJ8_appendNull_14 : decode cJ8_appendNull 14 = .ok (.istore_n 1, 1) := dk_60 (dk_at dksJ8_appendNull_0 14 rfl rfl)
theorem dJ8_appendNull_15 : decode cJ8_appendNull 15 = .ok (.aload_n 0, 1) := dk_42 (dk_at dksJ8_appendNull_0 15 rfl rfl)
theorem dJ8_appendNull_16 : decode cJ8_appendNull 16 = .ok (.getfield 15, 3) := dk_180 0 15 (dk_at dksJ8_appendNull_0 16 rfl rfl)
theorem dJ8_appendNull_19 : decode cJ8_appendNull 19 = .ok (.astore_n 2, 1) := dk_77 (dk_at dksJ8_appendNull_0 19 rfl rfl)
theorem dJ8_appendNull_20 : decode cJ8_appendNull 20 = .ok (.aload_n 0, 1) := dk_42 (dk_at dksJ8_appendNull_0 20 rfl rfl)
theorem dJ8_appendNull_21 : decode cJ8_appendNull 21 = .ok (.invokevirtual 83, 3) := dk_182 0 83 (dk_at dksJ8_appendNull_0 21 rfl rfl)
theorem dJ8_appendNull_24 : decode cJ8_appendNull 24 = .ok (.ifCond .eq 38, 3) := dk_153 0 38 (dk_at dksJ8_appendNull_1 0 rfl rfl)
theorem dJ8_appendNull_27 : decode cJ8_appendNull 27 = .ok (.aload_n 2, 1) := dk_44 (dk_at dksJ8_appendNull_1 3 rfl rfl)
theorem dJ8_appendNull_28 : decode cJ8_appendNull 28 = .ok (.iload_n 1, 1) := dk_27 (dk_at dksJ8_appendNull_1 4 rfl rfl)
theorem dJ8_appendNull_29 : decode cJ8_appendNull 29 = .ok (.iinc 1 1, 3) := dk_132 1 1 (dk_at dksJ8_appendNull_1 5 rfl rfl)
theorem dJ8_appendNull_32 : decode cJ8_appendNull 32 = .ok (.bipush 110, 2) := dk_16 110 (dk_at dksJ8_appendNull_1 8 rfl rfl)
theorem dJ8_appendNull_34 : decode cJ8_appendNull 34 = .ok (.bastore, 1) := dk_84 (dk_at dksJ8_appendNull_1 10 rfl rfl)
theorem dJ8_appendNull_35 : decode cJ8_appendNull 35 = .ok (.aload_n 2, 1) := dk_44 (dk_at dksJ8_appendNull_1 11 rfl rfl)
theorem dJ8_appendNull_36 : decode cJ8_appendNull 36 = .ok (.iload_n 1, 1) := dk_27 (dk_at dksJ8_appendNull_1 12 rfl rfl)
theorem dJ8_appendNull_37 : decode cJ8_appendNull 37 = .ok (.iinc 1 1, 3) := dk_132 1 1 (dk_at dksJ8_appendNull_1 13 rfl rfl)
theorem dJ8_appendNull_40 : decode cJ8_appendNull 40 = .ok (.bipush 117, 2) := dk_16 117 (dk_at dksJ8_appendNull_1 16 rfl rfl)
theorem dJ8_appendNull_42 : decode cJ8_appendNull 42 = .ok (.bastore, 1) := dk_84 (dk_at dksJ8_appendNull_1 18 rfl rfl)
theorem dJ8_appendNull_43 : decode cJ8_appendNull 43 = .ok (.aload_n 2, 1) := dk_44 (dk_at dksJ8_appendNull_1 19 rfl rfl)
theorem dJ8_appendNull_44 : decode cJ8_appendNull 44 = .ok (.iload_n 1, 1) := dk_27 (dk_at dksJ8_appendNull_1 20 rfl rfl)
theorem dJ8_appendNull_45 : decode cJ8_appendNull 45 = .ok (.iinc 1 1, 3) := dk_132 1 1 (dk_at dksJ8_appendNull_1 21 rfl rfl)
theorem dJ8_appendNull_48 : decode cJ8_appendNull 48 = .ok (.bipush 108, 2) := dk_16 108 (dk_at dksJ8_appendNull_2 0 rfl rfl)
theorem dJ8_appendNull_50 : decode cJ8_appendNull 50 = .ok (.bastore, 1) := dk_84 (dk_at dksJ8_appendNull_2 2 rfl rfl)
theorem dJ8_appendNull_51 : decode cJ8_appendNull 51 = .ok (.aload_n 2, 1) := dk_44 (dk_at dksJ8_appendNull_2 3 rfl rfl)
theorem dJ8_appendNull_52 : decode cJ8_appendNull 52 = .ok (.iload_n 1, 1) := dk_27 (dk_at dksJ8_appendNull_2 4 rfl rfl)
theorem dJ8_appendNull_53 : decode cJ8_appendNull 53 = .ok (.iinc 1 1, 3) := dk_132 1 1 (dk_at dksJ8_appendNull_2 5 rfl rfl)
theorem dJ8_appendNull_56 : decode cJ8_appendNull 56 = .ok (.bipush 108, 2) := dk_16 108 (dk_at dksJ8_appendNull_2 8 rfl rfl)
theorem dJ8_appendNull_58 : decode cJ8_appendNull 58 = .ok (.bastore, 1) := dk_84 (dk_at dksJ8_appendNull_2 10 rfl rfl)
theorem dJ8_appendNull_59 : decode cJ8_appendNull 59 = .ok (.goto 17, 3) := dk_167 0 17 (dk_at dksJ8_appendNull_2 11 rfl rfl)
theorem dJ8_appendNull_62 : decode cJ8_appendNull 62 = .ok (.aload_n 2, 1) := dk_44 (dk_at dksJ8_appendNull_2 14 rfl rfl)
theorem dJ8_appendNull_63 : decode cJ8_appendNull 63 = .ok (.iload_n 1, 1) := dk_27 (dk_at dksJ8_appendNull_2 15 rfl rfl)
theorem dJ8_appendNull_64 : decode cJ8_appendNull 64 = .ok (.bipush 110, 2) := dk_16 110 (dk_at dksJ8_appendNull_2 16 rfl rfl)
theorem dJ8_appendNull_66 : decode cJ8_appendNull 66 = .ok (.bipush 117, 2) := dk_16 117 (dk_at dksJ8_appendNull_2 18 rfl rfl)
theorem dJ8_appendNull_68 : decode cJ8_appendNull 68 = .ok (.bipush 108, 2) := dk_16 108 (dk_at dksJ8_appendNull_2 20 rfl rfl)
theorem dJ8_appendNull_70 : decode cJ8_appendNull 70 = .ok (.bipush 108, 2) := dk_16 108 (dk_at dksJ8_appendNull_2 22 rfl rfl)
theorem dJ8_appendNull_72 : decode cJ8_appendNull 72 = .ok (.invokestatic 226, 3) := dk_184 0 226 (dk_at dksJ8_appendNull_3 0 rfl rfl)
theorem dJ8_appendNull_75 : decode cJ8_appendNull 75 = .ok (.istore_n 1, 1) := dk_60 (dk_at dksJ8_appendNull_3 3 rfl rfl)
theorem dJ8_appendNull_76 : decode cJ8_appendNull 76 = .ok (.aload_n 0, 1) := dk_42 (dk_at dksJ8_appendNull_3 4 rfl rfl)
theorem dJ8_appendNull_77 : decode cJ8_appendNull 77 = .ok (.iload_n 1, 1) := dk_27 (dk_at dksJ8_appendNull_3 5 rfl rfl)
theorem dJ8_appendNull_78 : decode cJ8_appendNull 78 = .ok (.putfield 79, 3) := dk_181 0 79 (dk_at dksJ8_appendNull_3 6 rfl rfl)
theorem dJ8_appendNull_81 : decode cJ8_appendNull 81 = .ok (.aload_n 0, 1) := dk_42 (dk_at dksJ8_appendNull_3 9 rfl rfl)
theorem dJ8_appendNull_82 : decode cJ8_appendNull 82 = .ok (.areturn, 1) := dk_176 (dk_at dksJ8_appendNull_3 10 rfl rfl)
abbrev cJ8_putStringAt : ByteArray := prog_25_method_73_code
def yJ8_putStringAt : MethodName := ⟨RJ8, "putStringAt", "(ILjava/lang/String;)V"⟩
def dkwJ8_putStringAt_0 : List UInt8 := [42, 44, 182, 1, 141, 44, 42, 180, 0, 15, 27, 42, 180, 0, 22, 182, 1, 143, 177]
abbrev dktJ8_putStringAt_0 : List UInt8 := dkwJ8_putStringAt_0 ++ []
theorem dksJ8_putStringAt_0 : cJ8_putStringAt.data.toList.drop 0 = dktJ8_putStringAt_0 := by decide +kernel
theorem dJ8_putStringAt_0 : decode cJ8_putStringAt 0 = .ok (.aload_n 0, 1) := dk_42 (dk_at dksJ8_putStringAt_0 0 rfl rfl)
theorem dJ8_putStringAt_1 : decode cJ8_putStringAt 1 = .ok (.aload_n 2, 1) := dk_44 (dk_at dksJ8_putStringAt_0 1 rfl rfl)
theorem dJ8_putStringAt_2 : decode cJ8_putStringAt 2 = .ok (.invokevirtual 397, 3) := dk_182 1 141 (dk_at dksJ8_putStringAt_0 2 rfl rfl)
theorem dJ8_putStringAt_5 : decode cJ8_putStringAt 5 = .ok (.aload_n 2, 1) := dk_44 (dk_at dksJ8_putStringAt_0 5 rfl rfl)
theorem dJ8_putStringAt_6 : decode cJ8_putStringAt 6 = .ok (.aload_n 0, 1) := dk_42 (dk_at dksJ8_putStringAt_0 6 rfl rfl)
theorem dJ8_putStringAt_7 : decode cJ8_putStringAt 7 = .ok (.getfield 15, 3) := dk_180 0 15 (dk_at dksJ8_putStringAt_0 7 rfl rfl)
theorem dJ8_putStringAt_10 : decode cJ8_putStringAt 10 = .ok (.iload_n 1, 1) := dk_27 (dk_at dksJ8_putStringAt_0 10 rfl rfl)
theorem dJ8_putStringAt_11 : decode cJ8_putStringAt 11 = .ok (.aload_n 0, 1) := dk_42 (dk_at dksJ8_putStringAt_0 11 rfl rfl)
theorem dJ8_putStringAt_12 : decode cJ8_putStringAt 12 = .ok (.getfield 22, 3) := dk_180 0 22 (dk_at dksJ8_putStringAt_0 12 rfl rfl)
theorem dJ8_putStringAt_15 : decode cJ8_putStringAt 15 = .ok (.invokevirtual 399, 3) := dk_182 1 143 (dk_at dksJ8_putStringAt_0 15 rfl rfl)
theorem dJ8_putStringAt_18 : decode cJ8_putStringAt 18 = .ok (.return_, 1) := dk_177 (dk_at dksJ8_putStringAt_0 18 rfl rfl)
abbrev cJ8_inflateIfNeededFor : ByteArray := prog_25_method_71_code
def yJ8_inflateIfNeededFor : MethodName := ⟨RJ8, "inflateIfNeededFor", "(Ljava/lang/String;)V"⟩
def dkwJ8_inflateIfNeededFor_0 : List UInt8 := [178, 0, 18, 153, 0, 18, 42, 180, 0, 22, 43, 182, 0, 40, 159, 0, 7, 42, 182, 0, 195, 177]
abbrev dktJ8_inflateIfNeededFor_0 : List UInt8 := dkwJ8_inflateIfNeededFor_0 ++ []
theorem dksJ8_inflateIfNeededFor_0 : cJ8_inflateIfNeededFor.data.toList.drop 0 = dktJ8_inflateIfNeededFor_0 := by decide +kernel
theorem dJ8_inflateIfNeededFor_0 : decode cJ8_inflateIfNeededFor 0 = .ok (.getstatic 18, 3) := dk_178 0 18 (dk_at dksJ8_inflateIfNeededFor_0 0 rfl rfl)
theorem dJ8_inflateIfNeededFor_3 : decode cJ8_inflateIfNeededFor 3 = .ok (.ifCond .eq 18, 3) := dk_153 0 18 (dk_at dksJ8_inflateIfNeededFor_0 3 rfl rfl)
theorem dJ8_inflateIfNeededFor_6 : decode cJ8_inflateIfNeededFor 6 = .ok (.aload_n 0, 1) := dk_42 (dk_at dksJ8_inflateIfNeededFor_0 6 rfl rfl)
theorem dJ8_inflateIfNeededFor_7 : decode cJ8_inflateIfNeededFor 7 = .ok (.getfield 22, 3) := dk_180 0 22 (dk_at dksJ8_inflateIfNeededFor_0 7 rfl rfl)
theorem dJ8_inflateIfNeededFor_10 : decode cJ8_inflateIfNeededFor 10 = .ok (.aload_n 1, 1) := dk_43 (dk_at dksJ8_inflateIfNeededFor_0 10 rfl rfl)
theorem dJ8_inflateIfNeededFor_11 : decode cJ8_inflateIfNeededFor 11 = .ok (.invokevirtual 40, 3) := dk_182 0 40 (dk_at dksJ8_inflateIfNeededFor_0 11 rfl rfl)
theorem dJ8_inflateIfNeededFor_14 : decode cJ8_inflateIfNeededFor 14 = .ok (.if_icmp .eq 7, 3) := dk_159 0 7 (dk_at dksJ8_inflateIfNeededFor_0 14 rfl rfl)
theorem dJ8_inflateIfNeededFor_17 : decode cJ8_inflateIfNeededFor 17 = .ok (.aload_n 0, 1) := dk_42 (dk_at dksJ8_inflateIfNeededFor_0 17 rfl rfl)
theorem dJ8_inflateIfNeededFor_18 : decode cJ8_inflateIfNeededFor 18 = .ok (.invokevirtual 195, 3) := dk_182 0 195 (dk_at dksJ8_inflateIfNeededFor_0 18 rfl rfl)
theorem dJ8_inflateIfNeededFor_21 : decode cJ8_inflateIfNeededFor 21 = .ok (.return_, 1) := dk_177 (dk_at dksJ8_inflateIfNeededFor_0 21 rfl rfl)
theorem q101 : (Jvm.Cond.initialized "java/lang/AbstractStringBuilder") ∈ lw_all := lw_g (lw_at lw_m1 19 rfl) rfl
theorem q812 : (Jvm.Cond.instanceMethod ({ cls := "java/lang/AbstractStringBuilder", name := "<init>", desc := "(I)V" } : Jvm.MethodName)) ∈ lw_all := lw_g (lw_at lw_m4 10 rfl) rfl
theorem q813 : (Jvm.Cond.code ({ cls := "java/lang/AbstractStringBuilder", name := "<init>", desc := "(I)V" } : Jvm.MethodName) prog_25_method_2_code (2 : Nat) (Option.none : Option Jvm.ClassFile.FieldType)) ∈ lw_all := lw_g (lw_at lw_m4 11 rfl) rfl
theorem q814 : (Jvm.Cond.methodLink "java/lang/AbstractStringBuilder" (3 : Nat) ({ cls := "java/lang/Object", name := "<init>", desc := "()V" } : Jvm.MethodName)) ∈ lw_all := lw_g (lw_at lw_m4 12 rfl) rfl
theorem q815 : (Jvm.Cond.fieldLink "java/lang/AbstractStringBuilder" (18 : Nat) "java/lang/String" "COMPACT_STRINGS" "Z") ∈ lw_all := lw_g (lw_at lw_m4 13 rfl) rfl
theorem q817 : (Jvm.Cond.methodLink "java/lang/AbstractStringBuilder" (26 : Nat) ({ cls := "java/lang/StringUTF16", name := "newBytesFor", desc := "(I)[B" } : Jvm.MethodName)) ∈ lw_all := lw_g (lw_at lw_m4 15 rfl) rfl
theorem q824 : (Jvm.Cond.fieldLink "java/lang/AbstractStringBuilder" (15 : Nat) "java/lang/AbstractStringBuilder" "value" "[B") ∈ lw_all := lw_g (lw_at lw_m4 22 rfl) rfl
theorem q825 : (Jvm.Cond.fieldLink "java/lang/AbstractStringBuilder" (22 : Nat) "java/lang/AbstractStringBuilder" "coder" "B") ∈ lw_all := lw_g (lw_at lw_m4 23 rfl) rfl
theorem q827 : (Jvm.Cond.fieldLink "java/lang/AbstractStringBuilder" (79 : Nat) "java/lang/AbstractStringBuilder" "count" "I") ∈ lw_all := lw_g (lw_at lw_m4 25 rfl) rfl
theorem q829 : (Jvm.Cond.soleField "java/lang/AbstractStringBuilder" "value") ∈ lw_all := lw_g (lw_at lw_m4 27 rfl) rfl
theorem q831 : (Jvm.Cond.soleField "java/lang/AbstractStringBuilder" "coder") ∈ lw_all := lw_g (lw_at lw_m4 29 rfl) rfl
theorem q833 : (Jvm.Cond.soleField "java/lang/AbstractStringBuilder" "maybeLatin1") ∈ lw_all := lw_g (lw_at lw_m4 31 rfl) rfl
theorem q835 : (Jvm.Cond.soleField "java/lang/AbstractStringBuilder" "count") ∈ lw_all := lw_g (lw_at lw_m4 33 rfl) rfl
theorem q842 : (Jvm.Cond.instanceMethod ({ cls := "java/lang/AbstractStringBuilder", name := "append", desc := "(C)Ljava/lang/AbstractStringBuilder;" } : Jvm.MethodName)) ∈ lw_all := lw_g (lw_at lw_m4 40 rfl) rfl
theorem q843 : (Jvm.Cond.code ({ cls := "java/lang/AbstractStringBuilder", name := "append", desc := "(C)Ljava/lang/AbstractStringBuilder;" } : Jvm.MethodName) prog_25_method_31_code (2 : Nat) (Option.some (Jvm.ClassFile.FieldType.object "java/lang/AbstractStringBuilder"))) ∈ lw_all := lw_g (lw_at lw_m4 41 rfl) rfl
theorem q844 : (Jvm.Cond.methodLink "java/lang/AbstractStringBuilder" (100 : Nat) ({ cls := "java/lang/AbstractStringBuilder", name := "ensureCapacityInternal", desc := "(I)V" } : Jvm.MethodName)) ∈ lw_all := lw_g (lw_at lw_m4 42 rfl) rfl
theorem q845 : (Jvm.Cond.privateMethod ({ cls := "java/lang/AbstractStringBuilder", name := "ensureCapacityInternal", desc := "(I)V" } : Jvm.MethodName)) ∈ lw_tbl := lw_at lw_m4 43 rfl
theorem q846 : (Jvm.Cond.instanceMethod ({ cls := "java/lang/AbstractStringBuilder", name := "ensureCapacityInternal", desc := "(I)V" } : Jvm.MethodName)) ∈ lw_all := lw_g (lw_at lw_m4 44 rfl) rfl
theorem q847 : (Jvm.Cond.code ({ cls := "java/lang/AbstractStringBuilder", name := "ensureCapacityInternal", desc := "(I)V" } : Jvm.MethodName) prog_25_method_9_code (3 : Nat) (Option.none : Option Jvm.ClassFile.FieldType)) ∈ lw_all := lw_g (lw_at lw_m4 45 rfl) rfl
theorem q848 : (Jvm.Cond.methodLink "java/lang/AbstractStringBuilder" (104 : Nat) ({ cls := "java/lang/AbstractStringBuilder", name := "newCapacity", desc := "(I)I" } : Jvm.MethodName)) ∈ lw_all := lw_g (lw_at lw_m4 46 rfl) rfl
theorem q849 : (Jvm.Cond.privateMethod ({ cls := "java/lang/AbstractStringBuilder", name := "newCapacity", desc := "(I)I" } : Jvm.MethodName)) ∈ lw_tbl := lw_at lw_m4 47 rfl
theorem q850 : (Jvm.Cond.instanceMethod ({ cls := "java/lang/AbstractStringBuilder", name := "newCapacity", desc := "(I)I" } : Jvm.MethodName)) ∈ lw_all := lw_g (lw_at lw_m4 48 rfl) rfl
theorem q851 : (Jvm.Cond.code ({ cls := "java/lang/AbstractStringBuilder", name := "newCapacity", desc := "(I)I" } : Jvm.MethodName) prog_25_method_10_code (6 : Nat) (Option.some Jvm.ClassFile.FieldType.int)) ∈ lw_all := lw_g (lw_at lw_m4 49 rfl) rfl
theorem q852 : (Jvm.Cond.methodLink "java/lang/AbstractStringBuilder" (114 : Nat) ({ cls := "jdk/internal/util/ArraysSupport", name := "newLength", desc := "(III)I" } : Jvm.MethodName)) ∈ lw_all := lw_g (lw_at lw_m4 50 rfl) rfl
theorem q853 : (Jvm.Cond.constant "java/lang/AbstractStringBuilder" (39 : Nat) (2147483647 : Int32)) ∈ lw_all := lw_g (lw_at lw_m4 51 rfl) rfl
theorem q854 : (Jvm.Cond.methodLink "java/lang/AbstractStringBuilder" (108 : Nat) ({ cls := "java/util/Arrays", name := "copyOf", desc := "([BI)[B" } : Jvm.MethodName)) ∈ lw_all := lw_g (lw_at lw_m4 52 rfl) rfl
theorem q864 : (Jvm.Cond.methodLink "java/lang/AbstractStringBuilder" (83 : Nat) ({ cls := "java/lang/AbstractStringBuilder", name := "isLatin1", desc := "()Z" } : Jvm.MethodName)) ∈ lw_all := lw_g (lw_at lw_m4 62 rfl) rfl
theorem q865 : (Jvm.Cond.instanceMethod ({ cls := "java/lang/AbstractStringBuilder", name := "isLatin1", desc := "()Z" } : Jvm.MethodName)) ∈ lw_all := lw_g (lw_at lw_m4 63 rfl) rfl
theorem q866 : (Jvm.Cond.sameMethod "java/lang/AbstractStringBuilder" "java/lang/AbstractStringBuilder" "isLatin1" "()Z") ∈ lw_all := lw_g (lw_at lw_m4 64 rfl) rfl
theorem q868 : (Jvm.Cond.code ({ cls := "java/lang/AbstractStringBuilder", name := "isLatin1", desc := "()Z" } : Jvm.MethodName) prog_25_method_68_code (1 : Nat) (Option.some Jvm.ClassFile.FieldType.boolean)) ∈ lw_all := lw_g (lw_at lw_m4 66 rfl) rfl
theorem q869 : (Jvm.Cond.methodLink "java/lang/AbstractStringBuilder" (191 : Nat) ({ cls := "java/lang/StringLatin1", name := "canEncode", desc := "(C)Z" } : Jvm.MethodName)) ∈ lw_all := lw_g (lw_at lw_m4 67 rfl) rfl
theorem q872 : (Jvm.Cond.methodLink "java/lang/AbstractStringBuilder" (195 : Nat) ({ cls := "java/lang/AbstractStringBuilder", name := "inflate", desc := "()V" } : Jvm.MethodName)) ∈ lw_all := lw_g (lw_at lw_m4 70 rfl) rfl
theorem q873 : (Jvm.Cond.privateMethod ({ cls := "java/lang/AbstractStringBuilder", name := "inflate", desc := "()V" } : Jvm.MethodName)) ∈ lw_tbl := lw_at lw_m4 71 rfl
theorem q874 : (Jvm.Cond.instanceMethod ({ cls := "java/lang/AbstractStringBuilder", name := "inflate", desc := "()V" } : Jvm.MethodName)) ∈ lw_all := lw_g (lw_at lw_m4 72 rfl) rfl
theorem q875 : (Jvm.Cond.code ({ cls := "java/lang/AbstractStringBuilder", name := "inflate", desc := "()V" } : Jvm.MethodName) prog_25_method_11_code (2 : Nat) (Option.none : Option Jvm.ClassFile.FieldType)) ∈ lw_all := lw_g (lw_at lw_m4 73 rfl) rfl
theorem q876 : (Jvm.Cond.methodLink "java/lang/AbstractStringBuilder" (125 : Nat) ({ cls := "java/lang/StringLatin1", name := "inflate", desc := "([BI[BII)V" } : Jvm.MethodName)) ∈ lw_all := lw_g (lw_at lw_m4 74 rfl) rfl
theorem q905 : (Jvm.Cond.methodLink "java/lang/AbstractStringBuilder" (197 : Nat) ({ cls := "java/lang/StringUTF16", name := "putCharSB", desc := "([BII)V" } : Jvm.MethodName)) ∈ lw_all := lw_g (lw_at lw_m4 103 rfl) rfl
theorem q929 : (Jvm.Cond.instanceMethod ({ cls := "java/lang/AbstractStringBuilder", name := "getValue", desc := "()[B" } : Jvm.MethodName)) ∈ lw_all := lw_g (lw_at lw_m4 127 rfl) rfl
theorem q930 : (Jvm.Cond.sameMethod "java/lang/AbstractStringBuilder" "java/lang/AbstractStringBuilder" "getValue" "()[B") ∈ lw_all := lw_g (lw_at lw_m4 128 rfl) rfl
theorem q932 : (Jvm.Cond.code ({ cls := "java/lang/AbstractStringBuilder", name := "getValue", desc := "()[B" } : Jvm.MethodName) prog_25_method_64_code (1 : Nat) (Option.some (Jvm.ClassFile.FieldType.array Jvm.ClassFile.FieldType.byte))) ∈ lw_all := lw_g (lw_at lw_m4 130 rfl) rfl
theorem q934 : (Jvm.Cond.instanceMethod ({ cls := "java/lang/AbstractStringBuilder", name := "length", desc := "()I" } : Jvm.MethodName)) ∈ lw_all := lw_g (lw_at lw_m4 132 rfl) rfl
theorem q935 : (Jvm.Cond.sameMethod "java/lang/AbstractStringBuilder" "java/lang/AbstractStringBuilder" "length" "()I") ∈ lw_all := lw_g (lw_at lw_m4 133 rfl) rfl
theorem q940 : (Jvm.Cond.code ({ cls := "java/lang/AbstractStringBuilder", name := "length", desc := "()I" } : Jvm.MethodName) prog_25_method_6_code (1 : Nat) (Option.some Jvm.ClassFile.FieldType.int)) ∈ lw_all := lw_g (lw_at lw_m4 138 rfl) rfl
theorem q1002 : (Jvm.Cond.instanceMethod ({ cls := "java/lang/AbstractStringBuilder", name := "append", desc := "(I)Ljava/lang/AbstractStringBuilder;" } : Jvm.MethodName)) ∈ lw_all := lw_g (lw_at lw_m4 200 rfl) rfl
theorem q1003 : (Jvm.Cond.code ({ cls := "java/lang/AbstractStringBuilder", name := "append", desc := "(I)Ljava/lang/AbstractStringBuilder;" } : Jvm.MethodName) prog_25_method_32_code (4 : Nat) (Option.some (Jvm.ClassFile.FieldType.object "java/lang/AbstractStringBuilder"))) ∈ lw_all := lw_g (lw_at lw_m4 201 rfl) rfl
theorem q1004 : (Jvm.Cond.methodLink "java/lang/AbstractStringBuilder" (245 : Nat) ({ cls := "java/lang/Integer", name := "stringSize", desc := "(I)I" } : Jvm.MethodName)) ∈ lw_all := lw_g (lw_at lw_m4 202 rfl) rfl
theorem q1007 : (Jvm.Cond.methodLink "java/lang/AbstractStringBuilder" (248 : Nat) ({ cls := "java/lang/Integer", name := "getChars", desc := "(II[B)I" } : Jvm.MethodName)) ∈ lw_all := lw_g (lw_at lw_m4 205 rfl) rfl
theorem q1014 : (Jvm.Cond.methodLink "java/lang/AbstractStringBuilder" (251 : Nat) ({ cls := "java/lang/StringUTF16", name := "getChars", desc := "(III[B)I" } : Jvm.MethodName)) ∈ lw_all := lw_g (lw_at lw_m4 212 rfl) rfl
theorem q1037 : (Jvm.Cond.instanceMethod ({ cls := "java/lang/AbstractStringBuilder", name := "append", desc := "(Ljava/lang/String;)Ljava/lang/AbstractStringBuilder;" } : Jvm.MethodName)) ∈ lw_all := lw_g (lw_at lw_m4 235 rfl) rfl
theorem q1038 : (Jvm.Cond.code ({ cls := "java/lang/AbstractStringBuilder", name := "append", desc := "(Ljava/lang/String;)Ljava/lang/AbstractStringBuilder;" } : Jvm.MethodName) prog_25_method_22_code (3 : Nat) (Option.some (Jvm.ClassFile.FieldType.object "java/lang/AbstractStringBuilder"))) ∈ lw_all := lw_g (lw_at lw_m4 236 rfl) rfl
theorem q1039 : (Jvm.Cond.methodLink "java/lang/AbstractStringBuilder" (204 : Nat) ({ cls := "java/lang/AbstractStringBuilder", name := "appendNull", desc := "()Ljava/lang/AbstractStringBuilder;" } : Jvm.MethodName)) ∈ lw_all := lw_g (lw_at lw_m4 237 rfl) rfl
theorem q1040 : (Jvm.Cond.privateMethod ({ cls := "java/lang/AbstractStringBuilder", name := "appendNull", desc := "()Ljava/lang/AbstractStringBuilder;" } : Jvm.MethodName)) ∈ lw_tbl := lw_at lw_m4 238 rfl
theorem q1041 : (Jvm.Cond.instanceMethod ({ cls := "java/lang/AbstractStringBuilder", name := "appendNull", desc := "()Ljava/lang/AbstractStringBuilder;" } : Jvm.MethodName)) ∈ lw_all := lw_g (lw_at lw_m4 239 rfl) rfl
theorem q1042 : (Jvm.Cond.code ({ cls := "java/lang/AbstractStringBuilder", name := "appendNull", desc := "()Ljava/lang/AbstractStringBuilder;" } : Jvm.MethodName) prog_25_method_26_code (3 : Nat) (Option.some (Jvm.ClassFile.FieldType.object "java/lang/AbstractStringBuilder"))) ∈ lw_all := lw_g (lw_at lw_m5 0 rfl) rfl
theorem q1043 : (Jvm.Cond.methodLink "java/lang/AbstractStringBuilder" (226 : Nat) ({ cls := "java/lang/StringUTF16", name := "putCharsAt", desc := "([BICCCC)I" } : Jvm.MethodName)) ∈ lw_all := lw_g (lw_at lw_m5 1 rfl) rfl
theorem q1046 : (Jvm.Cond.methodLink "java/lang/AbstractStringBuilder" (32 : Nat) ({ cls := "java/lang/String", name := "length", desc := "()I" } : Jvm.MethodName)) ∈ lw_all := lw_g (lw_at lw_m5 4 rfl) rfl
theorem q1055 : (Jvm.Cond.methodLink "java/lang/AbstractStringBuilder" (208 : Nat) ({ cls := "java/lang/AbstractStringBuilder", name := "putStringAt", desc := "(ILjava/lang/String;)V" } : Jvm.MethodName)) ∈ lw_all := lw_g (lw_at lw_m5 13 rfl) rfl
theorem q1056 : (Jvm.Cond.privateMethod ({ cls := "java/lang/AbstractStringBuilder", name := "putStringAt", desc := "(ILjava/lang/String;)V" } : Jvm.MethodName)) ∈ lw_tbl := lw_at lw_m5 14 rfl
theorem q1057 : (Jvm.Cond.instanceMethod ({ cls := "java/lang/AbstractStringBuilder", name := "putStringAt", desc := "(ILjava/lang/String;)V" } : Jvm.MethodName)) ∈ lw_all := lw_g (lw_at lw_m5 15 rfl) rfl
theorem q1058 : (Jvm.Cond.code ({ cls := "java/lang/AbstractStringBuilder", name := "putStringAt", desc := "(ILjava/lang/String;)V" } : Jvm.MethodName) prog_25_method_73_code (3 : Nat) (Option.none : Option Jvm.ClassFile.FieldType)) ∈ lw_all := lw_g (lw_at lw_m5 16 rfl) rfl
theorem q1059 : (Jvm.Cond.methodLink "java/lang/AbstractStringBuilder" (397 : Nat) ({ cls := "java/lang/AbstractStringBuilder", name := "inflateIfNeededFor", desc := "(Ljava/lang/String;)V" } : Jvm.MethodName)) ∈ lw_all := lw_g (lw_at lw_m5 17 rfl) rfl
theorem q1060 : (Jvm.Cond.privateMethod ({ cls := "java/lang/AbstractStringBuilder", name := "inflateIfNeededFor", desc := "(Ljava/lang/String;)V" } : Jvm.MethodName)) ∈ lw_tbl := lw_at lw_m5 18 rfl
theorem q1061 : (Jvm.Cond.instanceMethod ({ cls := "java/lang/AbstractStringBuilder", name := "inflateIfNeededFor", desc := "(Ljava/lang/String;)V" } : Jvm.MethodName)) ∈ lw_all := lw_g (lw_at lw_m5 19 rfl) rfl
theorem q1062 : (Jvm.Cond.code ({ cls := "java/lang/AbstractStringBuilder", name := "inflateIfNeededFor", desc := "(Ljava/lang/String;)V" } : Jvm.MethodName) prog_25_method_71_code (2 : Nat) (Option.none : Option Jvm.ClassFile.FieldType)) ∈ lw_all := lw_g (lw_at lw_m5 20 rfl) rfl
theorem q1063 : (Jvm.Cond.methodLink "java/lang/AbstractStringBuilder" (40 : Nat) ({ cls := "java/lang/String", name := "coder", desc := "()B" } : Jvm.MethodName)) ∈ lw_all := lw_g (lw_at lw_m5 21 rfl) rfl
theorem q1064 : (Jvm.Cond.methodLink "java/lang/AbstractStringBuilder" (399 : Nat) ({ cls := "java/lang/String", name := "getBytes", desc := "([BIB)V" } : Jvm.MethodName)) ∈ lw_all := lw_g (lw_at lw_m5 22 rfl) rfl
theorem q2327 : (Jvm.Cond.sameMethod "java/lang/AbstractStringBuilder" "java/lang/AbstractStringBuilder" "append" "(C)Ljava/lang/AbstractStringBuilder;") ∈ lw_all := lw_g (lw_at lw_m10 85 rfl) rfl
theorem q2328 : (Jvm.Cond.sameMethod "java/lang/AbstractStringBuilder" "java/lang/AbstractStringBuilder" "ensureCapacityInternal" "(I)V") ∈ lw_all := lw_g (lw_at lw_m10 86 rfl) rfl
theorem q2329 : (Jvm.Cond.sameMethod "java/lang/AbstractStringBuilder" "java/lang/AbstractStringBuilder" "newCapacity" "(I)I") ∈ lw_all := lw_g (lw_at lw_m10 87 rfl) rfl
theorem q2330 : (Jvm.Cond.sameMethod "java/lang/AbstractStringBuilder" "java/lang/AbstractStringBuilder" "inflate" "()V") ∈ lw_all := lw_g (lw_at lw_m10 88 rfl) rfl
theorem q2332 : (Jvm.Cond.sameMethod "java/lang/AbstractStringBuilder" "java/lang/AbstractStringBuilder" "append" "(I)Ljava/lang/AbstractStringBuilder;") ∈ lw_all := lw_g (lw_at lw_m10 90 rfl) rfl
theorem q2333 : (Jvm.Cond.sameMethod "java/lang/AbstractStringBuilder" "java/lang/AbstractStringBuilder" "append" "(Ljava/lang/String;)Ljava/lang/AbstractStringBuilder;") ∈ lw_all := lw_g (lw_at lw_m10 91 rfl) rfl
theorem q2334 : (Jvm.Cond.sameMethod "java/lang/AbstractStringBuilder" "java/lang/AbstractStringBuilder" "appendNull" "()Ljava/lang/AbstractStringBuilder;") ∈ lw_all := lw_g (lw_at lw_m10 92 rfl) rfl
theorem q2335 : (Jvm.Cond.sameMethod "java/lang/AbstractStringBuilder" "java/lang/AbstractStringBuilder" "putStringAt" "(ILjava/lang/String;)V") ∈ lw_all := lw_g (lw_at lw_m10 93 rfl) rfl
theorem q2336 : (Jvm.Cond.sameMethod "java/lang/AbstractStringBuilder" "java/lang/AbstractStringBuilder" "inflateIfNeededFor" "(Ljava/lang/String;)V") ∈ lw_all := lw_g (lw_at lw_m10 94 rfl) rfl
/-! java/lang/StringBuilder -/
set_option maxRecDepth 100000
def RJ9 : String := "java/lang/StringBuilder"
def TJ9 : u_T := fun k => match k with
  | 0 => ("java/lang/AbstractStringBuilder", "value", "[B", false)
  | 1 => ("java/lang/AbstractStringBuilder", "coder", "B", false)
  | 2 => ("java/lang/AbstractStringBuilder", "maybeLatin1", "Z", false)
  | _ => ("java/lang/AbstractStringBuilder", "count", "I", false)
def tyJ9 : Nat → FieldType := fun k => match k with
  | 0 => .array .byte
  | 1 => .byte
  | 2 => .boolean
  | _ => .int
abbrev wsJ90 : List Cond := u_ws RJ9 TJ9 4
theorem nmJ9 : ∀ a, a < 4 → ∀ b, b < 4 → a ≠ b → (TJ9 a).2.1 ≠ (TJ9 b).2.1 := by decide +kernel
theorem tyJ9_ok : ∀ k, k < 4 → parseFieldDescriptor (TJ9 k).2.2.1 = some (tyJ9 k) := by decide +kernel
abbrev cJ9_init : ByteArray := prog_41_method_1_code
def yJ9_init : MethodName := ⟨RJ9, "<init>", "()V"⟩
def dkwJ9_init_0 : List UInt8 := [42, 16, 16, 183, 0, 1, 177]
abbrev dktJ9_init_0 : List UInt8 := dkwJ9_init_0 ++ []
theorem dksJ9_init_0 : cJ9_init.data.toList.drop 0 = dktJ9_init_0 := by decide +kernel
theorem dJ9_init_0 : decode cJ9_init 0 = .ok (.aload_n 0, 1) := dk_42 (dk_at dksJ9_init_0 0 rfl rfl)
theorem dJ9_init_1 : decode cJ9_init 1 = .ok (.bipush 16, 2) := dk_16 16 (dk_at dksJ9_init_0 1 rfl rfl)
theorem dJ9_init_3 : decode cJ9_init 3 = .ok (.invokespecial 1, 3) := dk_183 0 1 (dk_at dksJ9_init_0 3 rfl rfl)
theorem dJ9_init_6 : decode cJ9_init 6 = .ok (.return_, 1) := dk_177 (dk_at dksJ9_init_0 6 rfl rfl)
abbrev cJ9_append : ByteArray := prog_41_method_14_code
def yJ9_append : MethodName := ⟨RJ9, "append", "(C)Ljava/lang/StringBuilder;"⟩
def dkwJ9_append_0 : List UInt8 := [42, 27, 183, 0, 50, 87, 42, 176]
abbrev dktJ9_append_0 : List UInt8 := dkwJ9_append_0 ++ []
theorem dksJ9_append_0 : cJ9_append.data.toList.drop 0 = dktJ9_append_0 := by decide +kernel
theorem dJ9_append_0 : decode cJ9_append 0 = .ok (.aload_n 0, 1) := dk_42 (dk_at dksJ9_append_0 0 rfl rfl)
theorem dJ9_append_1 : decode cJ9_append 1 = .ok (.iload_n 1, 1) := dk_27 (dk_at dksJ9_append_0 1 rfl rfl)
theorem dJ9_append_2 : decode cJ9_append 2 = .ok (.invokespecial 50, 3) := dk_183 0 50 (dk_at dksJ9_append_0 2 rfl rfl)
theorem dJ9_append_5 : decode cJ9_append 5 = .ok (.pop, 1) := dk_87 (dk_at dksJ9_append_0 5 rfl rfl)
theorem dJ9_append_6 : decode cJ9_append 6 = .ok (.aload_n 0, 1) := dk_42 (dk_at dksJ9_append_0 6 rfl rfl)
theorem dJ9_append_7 : decode cJ9_append 7 = .ok (.areturn, 1) := dk_176 (dk_at dksJ9_append_0 7 rfl rfl)
abbrev cJ9_toString : ByteArray := prog_41_method_42_code
def yJ9_toString : MethodName := ⟨RJ9, "toString", "()Ljava/lang/String;"⟩
def dkwJ9_toString_0 : List UInt8 := [187, 0, 18, 89, 42, 183, 0, 137, 176]
abbrev dktJ9_toString_0 : List UInt8 := dkwJ9_toString_0 ++ []
theorem dksJ9_toString_0 : cJ9_toString.data.toList.drop 0 = dktJ9_toString_0 := by decide +kernel
theorem dJ9_toString_0 : decode cJ9_toString 0 = .ok (.new 18, 3) := dk_187 0 18 (dk_at dksJ9_toString_0 0 rfl rfl)
theorem dJ9_toString_3 : decode cJ9_toString 3 = .ok (.dup, 1) := dk_89 (dk_at dksJ9_toString_0 3 rfl rfl)
theorem dJ9_toString_4 : decode cJ9_toString 4 = .ok (.aload_n 0, 1) := dk_42 (dk_at dksJ9_toString_0 4 rfl rfl)
theorem dJ9_toString_5 : decode cJ9_toString 5 = .ok (.invokespecial 137, 3) := dk_183 0 137 (dk_at dksJ9_toString_0 5 rfl rfl)
theorem dJ9_toString_8 : decode cJ9_toString 8 = .ok (.areturn, 1) := dk_176 (dk_at dksJ9_toString_0 8 rfl rfl)
abbrev cJ9_length : ByteArray := prog_41_method_93_code
def yJ9_length : MethodName := ⟨RJ9, "length", "()I"⟩
theorem dJ9_length_0 : decode cJ9_length 0 = .ok (.aload_n 0, 1) := by decide +kernel
theorem dJ9_length_1 : decode cJ9_length 1 = .ok (.invokespecial 343, 3) := by decide +kernel
theorem dJ9_length_4 : decode cJ9_length 4 = .ok (.ireturn, 1) := by decide +kernel
abbrev cJ9_append_2 : ByteArray := prog_41_method_15_code
def yJ9_append_2 : MethodName := ⟨RJ9, "append", "(I)Ljava/lang/StringBuilder;"⟩
def dkwJ9_append_2_0 : List UInt8 := [42, 27, 183, 0, 53, 87, 42, 176]
abbrev dktJ9_append_2_0 : List UInt8 := dkwJ9_append_2_0 ++ []
theorem dksJ9_append_2_0 : cJ9_append_2.data.toList.drop 0 = dktJ9_append_2_0 := by decide +kernel
theorem dJ9_append_2_0 : decode cJ9_append_2 0 = .ok (.aload_n 0, 1) := dk_42 (dk_at dksJ9_append_2_0 0 rfl rfl)
theorem dJ9_append_2_1 : decode cJ9_append_2 1 = .ok (.iload_n 1, 1) := dk_27 (dk_at dksJ9_append_2_0 1 rfl rfl)
theorem dJ9_append_2_2 : decode cJ9_append_2 2 = .ok (.invokespecial 53, 3) := dk_183 0 53 (dk_at dksJ9_append_2_0 2 rfl rfl)
theorem dJ9_append_2_5 : decode cJ9_append_2 5 = .ok (.pop, 1) := dk_87 (dk_at dksJ9_append_2_0 5 rfl rfl)
theorem dJ9_append_2_6 : decode cJ9_append_2 6 = .ok (.aload_n 0, 1) := dk_42 (dk_at dksJ9_append_2_0 6 rfl rfl)
theorem dJ9_append_2_7 : decode cJ9_append_2 7 = .ok (.areturn, 1) := dk_176 (dk_at dksJ9_append_2_0 7 rfl rfl)
abbrev cJ9_append_3 : ByteArray := prog_41_method_7_code
def yJ9_append_3 : MethodName := ⟨RJ9, "append", "(Ljava/lang/String;)Ljava/lang/StringBuilder;"⟩
def dkwJ9_append_3_0 : List UInt8 := [42, 43, 183, 0, 29, 87, 42, 176]
abbrev dktJ9_append_3_0 : List UInt8 := dkwJ9_append_3_0 ++ []
theorem dksJ9_append_3_0 : cJ9_append_3.data.toList.drop 0 = dktJ9_append_3_0 := by decide +kernel
theorem dJ9_append_3_0 : decode cJ9_append_3 0 = .ok (.aload_n 0, 1) := dk_42 (dk_at dksJ9_append_3_0 0 rfl rfl)
theorem dJ9_append_3_1 : decode cJ9_append_3 1 = .ok (.aload_n 1, 1) := dk_43 (dk_at dksJ9_append_3_0 1 rfl rfl)
theorem dJ9_append_3_2 : decode cJ9_append_3 2 = .ok (.invokespecial 29, 3) := dk_183 0 29 (dk_at dksJ9_append_3_0 2 rfl rfl)
theorem dJ9_append_3_5 : decode cJ9_append_3 5 = .ok (.pop, 1) := dk_87 (dk_at dksJ9_append_3_0 5 rfl rfl)
theorem dJ9_append_3_6 : decode cJ9_append_3 6 = .ok (.aload_n 0, 1) := dk_42 (dk_at dksJ9_append_3_0 6 rfl rfl)
theorem dJ9_append_3_7 : decode cJ9_append_3 7 = .ok (.areturn, 1) := dk_176 (dk_at dksJ9_append_3_0 7 rfl rfl)
theorem q102 : (Jvm.Cond.initialized "java/lang/StringBuilder") ∈ lw_all := lw_g (lw_at lw_m1 20 rfl) rfl
theorem q715 : (Jvm.Cond.selects "java/lang/StringBuilder" ({ cls := "java/lang/Object", name := "getClass", desc := "()Ljava/lang/Class;" } : Jvm.MethodName) ({ cls := "java/lang/Object", name := "getClass", desc := "()Ljava/lang/Class;" } : Jvm.MethodName)) ∈ lw_all := lw_g (lw_at lw_m3 153 rfl) rfl
theorem q807 : (Jvm.Cond.instantiable "java/lang/StringBuilder" (4 : Nat)) ∈ lw_all := lw_g (lw_at lw_m4 5 rfl) rfl
theorem q809 : (Jvm.Cond.instanceMethod ({ cls := "java/lang/StringBuilder", name := "<init>", desc := "()V" } : Jvm.MethodName)) ∈ lw_all := lw_g (lw_at lw_m4 7 rfl) rfl
theorem q810 : (Jvm.Cond.code ({ cls := "java/lang/StringBuilder", name := "<init>", desc := "()V" } : Jvm.MethodName) prog_41_method_1_code (1 : Nat) (Option.none : Option Jvm.ClassFile.FieldType)) ∈ lw_all := lw_g (lw_at lw_m4 8 rfl) rfl
theorem q811 : (Jvm.Cond.methodLink "java/lang/StringBuilder" (1 : Nat) ({ cls := "java/lang/AbstractStringBuilder", name := "<init>", desc := "(I)V" } : Jvm.MethodName)) ∈ lw_all := lw_g (lw_at lw_m4 9 rfl) rfl
theorem q828 : (Jvm.Cond.lays "java/lang/StringBuilder" "java/lang/AbstractStringBuilder" "value" "[B") ∈ lw_all := lw_g (lw_at lw_m4 26 rfl) rfl
theorem q830 : (Jvm.Cond.lays "java/lang/StringBuilder" "java/lang/AbstractStringBuilder" "coder" "B") ∈ lw_all := lw_g (lw_at lw_m4 28 rfl) rfl
theorem q832 : (Jvm.Cond.lays "java/lang/StringBuilder" "java/lang/AbstractStringBuilder" "maybeLatin1" "Z") ∈ lw_all := lw_g (lw_at lw_m4 30 rfl) rfl
theorem q834 : (Jvm.Cond.lays "java/lang/StringBuilder" "java/lang/AbstractStringBuilder" "count" "I") ∈ lw_all := lw_g (lw_at lw_m4 32 rfl) rfl
theorem q836 : (Jvm.Cond.superclass "java/lang/StringBuilder" "java/lang/AbstractStringBuilder") ∈ lw_all := lw_g (lw_at lw_m4 34 rfl) rfl
theorem q838 : (Jvm.Cond.instanceMethod ({ cls := "java/lang/StringBuilder", name := "append", desc := "(C)Ljava/lang/StringBuilder;" } : Jvm.MethodName)) ∈ lw_all := lw_g (lw_at lw_m4 36 rfl) rfl
theorem q839 : (Jvm.Cond.selects "java/lang/StringBuilder" ({ cls := "java/lang/StringBuilder", name := "append", desc := "(C)Ljava/lang/StringBuilder;" } : Jvm.MethodName) ({ cls := "java/lang/StringBuilder", name := "append", desc := "(C)Ljava/lang/StringBuilder;" } : Jvm.MethodName)) ∈ lw_all := lw_g (lw_at lw_m4 37 rfl) rfl
theorem q840 : (Jvm.Cond.code ({ cls := "java/lang/StringBuilder", name := "append", desc := "(C)Ljava/lang/StringBuilder;" } : Jvm.MethodName) prog_41_method_14_code (2 : Nat) (Option.some (Jvm.ClassFile.FieldType.object "java/lang/StringBuilder"))) ∈ lw_all := lw_g (lw_at lw_m4 38 rfl) rfl
theorem q841 : (Jvm.Cond.methodLink "java/lang/StringBuilder" (50 : Nat) ({ cls := "java/lang/AbstractStringBuilder", name := "append", desc := "(C)Ljava/lang/AbstractStringBuilder;" } : Jvm.MethodName)) ∈ lw_all := lw_g (lw_at lw_m4 39 rfl) rfl
theorem q867 : (Jvm.Cond.selects "java/lang/StringBuilder" ({ cls := "java/lang/AbstractStringBuilder", name := "isLatin1", desc := "()Z" } : Jvm.MethodName) ({ cls := "java/lang/AbstractStringBuilder", name := "isLatin1", desc := "()Z" } : Jvm.MethodName)) ∈ lw_all := lw_g (lw_at lw_m4 65 rfl) rfl
theorem q916 : (Jvm.Cond.instanceMethod ({ cls := "java/lang/StringBuilder", name := "toString", desc := "()Ljava/lang/String;" } : Jvm.MethodName)) ∈ lw_all := lw_g (lw_at lw_m4 114 rfl) rfl
theorem q917 : (Jvm.Cond.selects "java/lang/StringBuilder" ({ cls := "java/lang/StringBuilder", name := "toString", desc := "()Ljava/lang/String;" } : Jvm.MethodName) ({ cls := "java/lang/StringBuilder", name := "toString", desc := "()Ljava/lang/String;" } : Jvm.MethodName)) ∈ lw_all := lw_g (lw_at lw_m4 115 rfl) rfl
theorem q918 : (Jvm.Cond.code ({ cls := "java/lang/StringBuilder", name := "toString", desc := "()Ljava/lang/String;" } : Jvm.MethodName) prog_41_method_42_code (1 : Nat) (Option.some (Jvm.ClassFile.FieldType.object "java/lang/String"))) ∈ lw_all := lw_g (lw_at lw_m4 116 rfl) rfl
theorem q919 : (Jvm.Cond.classLink "java/lang/StringBuilder" (18 : Nat) "java/lang/String") ∈ lw_all := lw_g (lw_at lw_m4 117 rfl) rfl
theorem q921 : (Jvm.Cond.methodLink "java/lang/StringBuilder" (137 : Nat) ({ cls := "java/lang/String", name := "<init>", desc := "(Ljava/lang/StringBuilder;)V" } : Jvm.MethodName)) ∈ lw_all := lw_g (lw_at lw_m4 119 rfl) rfl
theorem q931 : (Jvm.Cond.selects "java/lang/StringBuilder" ({ cls := "java/lang/AbstractStringBuilder", name := "getValue", desc := "()[B" } : Jvm.MethodName) ({ cls := "java/lang/AbstractStringBuilder", name := "getValue", desc := "()[B" } : Jvm.MethodName)) ∈ lw_all := lw_g (lw_at lw_m4 129 rfl) rfl
theorem q936 : (Jvm.Cond.selects "java/lang/StringBuilder" ({ cls := "java/lang/AbstractStringBuilder", name := "length", desc := "()I" } : Jvm.MethodName) ({ cls := "java/lang/StringBuilder", name := "length", desc := "()I" } : Jvm.MethodName)) ∈ lw_all := lw_g (lw_at lw_m4 134 rfl) rfl
theorem q937 : (Jvm.Cond.instanceMethod ({ cls := "java/lang/StringBuilder", name := "length", desc := "()I" } : Jvm.MethodName)) ∈ lw_all := lw_g (lw_at lw_m4 135 rfl) rfl
theorem q938 : (Jvm.Cond.code ({ cls := "java/lang/StringBuilder", name := "length", desc := "()I" } : Jvm.MethodName) prog_41_method_93_code (1 : Nat) (Option.some Jvm.ClassFile.FieldType.int)) ∈ lw_all := lw_g (lw_at lw_m4 136 rfl) rfl
theorem q939 : (Jvm.Cond.methodLink "java/lang/StringBuilder" (343 : Nat) ({ cls := "java/lang/AbstractStringBuilder", name := "length", desc := "()I" } : Jvm.MethodName)) ∈ lw_all := lw_g (lw_at lw_m4 137 rfl) rfl
theorem q998 : (Jvm.Cond.instanceMethod ({ cls := "java/lang/StringBuilder", name := "append", desc := "(I)Ljava/lang/StringBuilder;" } : Jvm.MethodName)) ∈ lw_all := lw_g (lw_at lw_m4 196 rfl) rfl
theorem q999 : (Jvm.Cond.selects "java/lang/StringBuilder" ({ cls := "java/lang/StringBuilder", name := "append", desc := "(I)Ljava/lang/StringBuilder;" } : Jvm.MethodName) ({ cls := "java/lang/StringBuilder", name := "append", desc := "(I)Ljava/lang/StringBuilder;" } : Jvm.MethodName)) ∈ lw_all := lw_g (lw_at lw_m4 197 rfl) rfl
theorem q1000 : (Jvm.Cond.code ({ cls := "java/lang/StringBuilder", name := "append", desc := "(I)Ljava/lang/StringBuilder;" } : Jvm.MethodName) prog_41_method_15_code (2 : Nat) (Option.some (Jvm.ClassFile.FieldType.object "java/lang/StringBuilder"))) ∈ lw_all := lw_g (lw_at lw_m4 198 rfl) rfl
theorem q1001 : (Jvm.Cond.methodLink "java/lang/StringBuilder" (53 : Nat) ({ cls := "java/lang/AbstractStringBuilder", name := "append", desc := "(I)Ljava/lang/AbstractStringBuilder;" } : Jvm.MethodName)) ∈ lw_all := lw_g (lw_at lw_m4 199 rfl) rfl
theorem q1033 : (Jvm.Cond.instanceMethod ({ cls := "java/lang/StringBuilder", name := "append", desc := "(Ljava/lang/String;)Ljava/lang/StringBuilder;" } : Jvm.MethodName)) ∈ lw_all := lw_g (lw_at lw_m4 231 rfl) rfl
theorem q1034 : (Jvm.Cond.selects "java/lang/StringBuilder" ({ cls := "java/lang/StringBuilder", name := "append", desc := "(Ljava/lang/String;)Ljava/lang/StringBuilder;" } : Jvm.MethodName) ({ cls := "java/lang/StringBuilder", name := "append", desc := "(Ljava/lang/String;)Ljava/lang/StringBuilder;" } : Jvm.MethodName)) ∈ lw_all := lw_g (lw_at lw_m4 232 rfl) rfl
theorem q1035 : (Jvm.Cond.code ({ cls := "java/lang/StringBuilder", name := "append", desc := "(Ljava/lang/String;)Ljava/lang/StringBuilder;" } : Jvm.MethodName) prog_41_method_7_code (2 : Nat) (Option.some (Jvm.ClassFile.FieldType.object "java/lang/StringBuilder"))) ∈ lw_all := lw_g (lw_at lw_m4 233 rfl) rfl
theorem q1036 : (Jvm.Cond.methodLink "java/lang/StringBuilder" (29 : Nat) ({ cls := "java/lang/AbstractStringBuilder", name := "append", desc := "(Ljava/lang/String;)Ljava/lang/AbstractStringBuilder;" } : Jvm.MethodName)) ∈ lw_all := lw_g (lw_at lw_m4 234 rfl) rfl
theorem q2350 : (Jvm.Cond.castable "java/lang/StringBuilder" "java/lang/Object") ∈ lw_tbl := lw_at lw_m10 108 rfl
theorem in_J9 : ∀ w ∈ wsJ90, w ∈ lw_all := lw_in wsJ90 [828, 830, 832, 834] (by decide +kernel) (by decide +kernel)
theorem q482 : (Jvm.Cond.interfaceMethod "FavourTown$Cond" "FavourTown$Cond" "holds" "(LFavourTown$Scene;)Z") ∈ lw_tbl := lw_at lw_m2 160 rfl
set_option maxRecDepth 100000
theorem q483 : (Jvm.Cond.declares ({ cls := "FavourTown$Cond", name := "holds", desc := "(LFavourTown$Scene;)Z" } : Jvm.MethodName)) ∈ lw_tbl := lw_at lw_m2 161 rfl
theorem q114 : (Jvm.Cond.initialized "FavourTown$Tag") ∈ lw_all := lw_g (lw_at lw_m1 32 rfl) rfl
set_option maxRecDepth 100000
theorem q495 : (Jvm.Cond.laysStatic "FavourTown$Tag" "NEAR" "LFavourTown$Tag;") ∈ lw_tbl := lw_at lw_m2 173 rfl
theorem q497 : (Jvm.Cond.laysStatic "FavourTown$Tag" "TIMED" "LFavourTown$Tag;") ∈ lw_tbl := lw_at lw_m2 175 rfl
theorem q705 : (Jvm.Cond.selects "FavourTown$Tag" ({ cls := "java/lang/Object", name := "getClass", desc := "()Ljava/lang/Class;" } : Jvm.MethodName) ({ cls := "java/lang/Object", name := "getClass", desc := "()Ljava/lang/Class;" } : Jvm.MethodName)) ∈ lw_all := lw_g (lw_at lw_m3 143 rfl) rfl
theorem q1439 : (Jvm.Cond.laysStatic "FavourTown$Tag" "AGAIN" "LFavourTown$Tag;") ∈ lw_tbl := lw_at lw_m6 157 rfl
theorem q2363 : (Jvm.Cond.castable "FavourTown$Tag" "java/lang/Object") ∈ lw_tbl := lw_at lw_m10 121 rfl
theorem q858 : (Jvm.Cond.sameMethod "[B" "java/lang/Object" "clone" "()Ljava/lang/Object;") ∈ lw_all := lw_g (lw_at lw_m4 56 rfl) rfl
set_option maxRecDepth 100000
theorem q861 : (Jvm.Cond.selects "[B" ({ cls := "[B", name := "clone", desc := "()Ljava/lang/Object;" } : Jvm.MethodName) ({ cls := "java/lang/Object", name := "clone", desc := "()Ljava/lang/Object;" } : Jvm.MethodName)) ∈ lw_all := lw_g (lw_at lw_m4 59 rfl) rfl
theorem q862 : (Jvm.Cond.castable "[B" "java/lang/Cloneable") ∈ lw_tbl := lw_at lw_m4 60 rfl
theorem q2376 : (Jvm.Cond.castable "[B" "java/lang/Object") ∈ lw_tbl := lw_at lw_m10 134 rfl
theorem q2375 : (Jvm.Cond.castable "[I" "java/lang/Object") ∈ lw_tbl := lw_at lw_m10 133 rfl
set_option maxRecDepth 100000
theorem q2379 : (Jvm.Cond.castable "[J" "java/lang/Object") ∈ lw_tbl := lw_at lw_m10 137 rfl
set_option maxRecDepth 100000
theorem q1487 : (Jvm.Cond.sameMethod "[LFavourTown$Fact;" "java/lang/Object" "clone" "()Ljava/lang/Object;") ∈ lw_all := lw_g (lw_at lw_m6 205 rfl) rfl
set_option maxRecDepth 100000
theorem q1488 : (Jvm.Cond.selects "[LFavourTown$Fact;" ({ cls := "[LFavourTown$Fact;", name := "clone", desc := "()Ljava/lang/Object;" } : Jvm.MethodName) ({ cls := "java/lang/Object", name := "clone", desc := "()Ljava/lang/Object;" } : Jvm.MethodName)) ∈ lw_all := lw_g (lw_at lw_m6 206 rfl) rfl
theorem q1489 : (Jvm.Cond.castable "[LFavourTown$Fact;" "java/lang/Cloneable") ∈ lw_tbl := lw_at lw_m6 207 rfl
theorem q2378 : (Jvm.Cond.castable "[LFavourTown$Fact;" "java/lang/Object") ∈ lw_tbl := lw_at lw_m10 136 rfl
theorem q2371 : (Jvm.Cond.sameMethod "[Ljava/lang/Object;" "java/lang/Object" "getClass" "()Ljava/lang/Class;") ∈ lw_all := lw_g (lw_at lw_m10 129 rfl) rfl
set_option maxRecDepth 100000
theorem q2372 : (Jvm.Cond.selects "[Ljava/lang/Object;" ({ cls := "java/lang/Object", name := "getClass", desc := "()Ljava/lang/Class;" } : Jvm.MethodName) ({ cls := "java/lang/Object", name := "getClass", desc := "()Ljava/lang/Class;" } : Jvm.MethodName)) ∈ lw_all := lw_g (lw_at lw_m10 130 rfl) rfl
theorem q2377 : (Jvm.Cond.castable "[Ljava/lang/Object;" "java/lang/Object") ∈ lw_tbl := lw_at lw_m10 135 rfl
theorem q2374 : (Jvm.Cond.castable "[[I" "java/lang/Object") ∈ lw_tbl := lw_at lw_m10 132 rfl
set_option maxRecDepth 100000
theorem q110 : (Jvm.Cond.initialized "java/lang/Number") ∈ lw_all := lw_g (lw_at lw_m1 28 rfl) rfl
set_option maxRecDepth 100000
theorem q93 : (Jvm.Cond.initialized "java/lang/System") ∈ lw_all := lw_g (lw_at lw_m1 11 rfl) rfl
set_option maxRecDepth 100000
theorem q584 : (Jvm.Cond.static ({ cls := "java/lang/System", name := "arraycopy", desc := "(Ljava/lang/Object;ILjava/lang/Object;II)V" } : Jvm.MethodName)) ∈ lw_all := lw_g (lw_at lw_m3 22 rfl) rfl
theorem q585 : (Jvm.Cond.native ({ cls := "java/lang/System", name := "arraycopy", desc := "(Ljava/lang/Object;ILjava/lang/Object;II)V" } : Jvm.MethodName)) ∈ lw_all := lw_g (lw_at lw_m3 23 rfl) rfl
theorem q739 : (Jvm.Cond.interfaceMethod "java/util/Collection" "java/util/Collection" "toArray" "()[Ljava/lang/Object;") ∈ lw_tbl := lw_at lw_m3 177 rfl
set_option maxRecDepth 100000
theorem q740 : (Jvm.Cond.declares ({ cls := "java/util/Collection", name := "toArray", desc := "()[Ljava/lang/Object;" } : Jvm.MethodName)) ∈ lw_tbl := lw_at lw_m3 178 rfl
theorem q1175 : (Jvm.Cond.interfaceMethod "jdk/internal/access/JavaLangAccess" "jdk/internal/access/JavaLangAccess" "getUTF16Char" "([BI)C") ∈ lw_tbl := lw_at lw_m5 133 rfl
set_option maxRecDepth 100000
theorem q1176 : (Jvm.Cond.declares ({ cls := "jdk/internal/access/JavaLangAccess", name := "getUTF16Char", desc := "([BI)C" } : Jvm.MethodName)) ∈ lw_tbl := lw_at lw_m5 134 rfl
theorem q144 : (Jvm.Cond.arrayOver (Jvm.ClassFile.FieldType.array Jvm.ClassFile.FieldType.int)) ∈ lw_tbl := lw_at lw_m1 62 rfl
set_option maxRecDepth 100000
theorem q171 : (Jvm.Cond.arrayClass Jvm.ClassFile.FieldType.int) ∈ lw_all := lw_g (lw_at lw_m1 89 rfl) rfl
theorem q305 : (Jvm.Cond.arrayClass Jvm.ClassFile.FieldType.byte) ∈ lw_all := lw_g (lw_at lw_m1 223 rfl) rfl
theorem q725 : (Jvm.Cond.arrayOver (Jvm.ClassFile.FieldType.object "java/lang/Object")) ∈ lw_tbl := lw_at lw_m3 163 rfl
theorem q1490 : (Jvm.Cond.arrayOver (Jvm.ClassFile.FieldType.object "FavourTown$Fact")) ∈ lw_tbl := lw_at lw_m6 208 rfl
theorem q2323 : (Jvm.Cond.arrayClass Jvm.ClassFile.FieldType.long) ∈ lw_all := lw_g (lw_at lw_m10 81 rfl) rfl
theorem q2380 : (Jvm.Cond.arrayClass Jvm.ClassFile.FieldType.char) ∈ lw_all := lw_g (lw_at lw_m10 138 rfl) rfl
theorem q2381 : (Jvm.Cond.arrayClass Jvm.ClassFile.FieldType.short) ∈ lw_all := lw_g (lw_at lw_m10 139 rfl) rfl
