set_option maxRecDepth 100000
/-! ===== trees; small facts ===== -/
def tn {α : Type} (k : Nat) (l r : Nat → Option α) : Nat → Option α := fun pc => bif Nat.blt pc k then l pc else r pc
def tl {α : Type} (k : Nat) (a : α) : Nat → Option α := fun pc => bif Nat.beq pc k then some a else none
def t0 {α : Type} : Nat → Option α := fun _ => none
def KOK (γ : AG) (q : AMi) (t : Nat → Option AOp) : Prop := ∀ pc op, t pc = some op → OpOK γ q pc op ∧ OpMono op
theorem kn_ok {γ : AG} {q : AMi} {k : Nat} {l r : Nat → Option AOp} (hl : KOK γ q l) (hr : KOK γ q r) : KOK γ q (tn k l r) := by
  intro pc op h
  unfold tn at h
  cases hb : Nat.blt pc k with
  | true => rw [hb] at h; exact hl pc op h
  | false => rw [hb] at h; exact hr pc op h
theorem kl_ok {γ : AG} {q : AMi} {k : Nat} {a : AOp} (h : OpOK γ q k a ∧ OpMono a) : KOK γ q (tl k a) := by
  intro pc op h1
  unfold tl at h1
  obtain ⟨h2, h3⟩ := bif_inv h1
  have := Nat.eq_of_beq_eq_true h2
  subst this
  cases h3
  exact h
def TOK (γ : AG) (t : Nat → Option AMth) : Prop := ∀ y a, t y = some a → MthOK γ (γ.2.2.2.2.1 y) a
theorem tn_ok {γ : AG} {k : Nat} {l r : Nat → Option AMth} (hl : TOK γ l) (hr : TOK γ r) : TOK γ (tn k l r) := by
  intro pc op h
  unfold tn at h
  cases hb : Nat.blt pc k with
  | true => rw [hb] at h; exact hl pc op h
  | false => rw [hb] at h; exact hr pc op h
theorem tl_ok {γ : AG} {k : Nat} {a : AMth} (h : MthOK γ (γ.2.2.2.2.1 k) a) : TOK γ (tl k a) := by
  intro pc op h1
  unfold tl at h1
  obtain ⟨h2, h3⟩ := bif_inv h1
  have := Nat.eq_of_beq_eq_true h2
  subst this
  cases h3
  exact h
theorem z_boolean (v : Int32) (h : (v == 0 || v == 1) = true) : narrow .boolean (.int v) = .int v := (vZ_ok (.int v) h).1
theorem z_byte (v : Int32) (h : (v == 0 || v == 1) = true) : narrow .byte (.int v) = .int v := (vB_ok (.int v) h).1
theorem z_char (v : Int32) (h : decide (narrow .char (.int v) = .int v) = true) : narrow .char (.int v) = .int v := of_decide_eq_true h
theorem ts345 : ∀ t ∈ [3, 4, 5], ∃ ty, tyT[t]? = some ty ∧ ty.isReference = true := List.forall_mem_cons.mpr ⟨⟨_, rfl, rfl⟩, List.forall_mem_cons.mpr ⟨⟨_, rfl, rfl⟩, List.forall_mem_cons.mpr ⟨⟨_, rfl, rfl⟩, fun _ h => absurd h List.not_mem_nil⟩⟩⟩
theorem na_int {γ : AG} {q : AMi} {pc nx : Nat} (hdg : decode q.2.1 pc = .ok (.newarray .int, 2)) (hn : pc + 2 = nx) : HpOK γ q pc (o_newa 0 (.inl (fun _ => 0)) nx) := ok_newa (ty := .int) (atype := .int) rfl rfl (fun _ _ h => h) (fun _ => rfl) (by decide) q171 hdg hn
theorem na_byte {γ : AG} {q : AMi} {pc nx : Nat} (hdg : decode q.2.1 pc = .ok (.newarray .byte, 2)) (hn : pc + 2 = nx) : HpOK γ q pc (o_newa 1 (.inl (fun _ => 0)) nx) := ok_newa (ty := .byte) (atype := .byte) rfl rfl (fun _ _ h => h) (fun _ => rfl) (by decide) q305 hdg hn
theorem na_long {γ : AG} {q : AMi} {pc nx : Nat} (hdg : decode q.2.1 pc = .ok (.newarray .long, 2)) (hn : pc + 2 = nx) : HpOK γ q pc (o_newa 2 (.inr (.inl (fun _ => 0))) nx) := ok_newa (ty := .long) (atype := .long) rfl rfl (fun _ _ h => h) (fun _ => rfl) (by decide) q2323 hdg hn
theorem fc_0 (γ : AG) (x : MC) (h : aTab γ (xs x)) : (xs x).vm.findClass "[I" = some (γ.2.1 0) := (h.1.2 0 _ (atys_at (γ := γ) (t := 0) rfl)).2
theorem fc_1 (γ : AG) (x : MC) (h : aTab γ (xs x)) : (xs x).vm.findClass "[B" = some (γ.2.1 1) := (h.1.2 1 _ (atys_at (γ := γ) (t := 1) rfl)).2
theorem fc_3 (γ : AG) (x : MC) (h : aTab γ (xs x)) : (xs x).vm.findClass "[Ljava/lang/Object;" = some (γ.2.1 3) := by
  obtain ⟨kA, comp, k1, k2, k3, k4⟩ := (h.1.2 3 _ (atys_at (γ := γ) (t := 3) rfl)).2
  exact k4
theorem fc_5 (γ : AG) (x : MC) (h : aTab γ (xs x)) : (xs x).vm.findClass "[LFavourTown$Fact;" = some (γ.2.1 5) := by
  obtain ⟨kA, comp, k1, k2, k3, k4⟩ := (h.1.2 5 _ (atys_at (γ := γ) (t := 5) rfl)).2
  exact k4
theorem ok_ldcSW {γ : AG} {q : AMi} {pc nx : Nat} {i index : Nat} {tx dd : String} (hk : γ.2.2.2.2.2[i]? = some (q.1.cls, tx, dd, index + 2)) (hdg : decode q.2.1 pc = .ok (.ldc_w index, 3)) (hn : pc + 3 = nx) : PfOK γ q pc (f_stat i nx) := by
  intro x k0 d1 C ls st h r hr H locs cells slots A Q I kk
  cases hr
  subst hn
  obtain ⟨a, h1, h2⟩ := C.2.2.2.2.2.1.2.2.2.2.2.2 i _ hk
  have kk := kk A I.2.2.2.2
  rw [I.1.2.2.2.1, h1] at kk
  intro T hT X
  obtain ⟨t, a1, b1⟩ := kk T hT X
  exact ⟨t, X.ldcStringW C.1 C.2.2.2.1 (text := tx) (a := a) h2.1 h2.2 (g := F0 (xm x) pc A st) rfl (by rw [C.2.1]; exact hdg) t a1, b1⟩
def anyC : List Nat := [5, 6, 7, 9, 10, 11, 12, 13, 15, 16]
def anyT : List Nat := [0]
theorem any_ok : anyOK anyC anyT := ⟨(List.forall_mem_cons.mpr ⟨⟨_, rfl, q2349⟩, (List.forall_mem_cons.mpr ⟨⟨_, rfl, q2355⟩, (List.forall_mem_cons.mpr ⟨⟨_, rfl, q2356⟩, (List.forall_mem_cons.mpr ⟨⟨_, rfl, q2358⟩, (List.forall_mem_cons.mpr ⟨⟨_, rfl, q2359⟩, (List.forall_mem_cons.mpr ⟨⟨_, rfl, q2360⟩, (List.forall_mem_cons.mpr ⟨⟨_, rfl, q2361⟩, (List.forall_mem_cons.mpr ⟨⟨_, rfl, q2362⟩, (List.forall_mem_cons.mpr ⟨⟨_, rfl, q2365⟩, (List.forall_mem_cons.mpr ⟨⟨_, rfl, q2366⟩, (fun _ h => absurd h List.not_mem_nil)⟩)⟩)⟩)⟩)⟩)⟩)⟩)⟩)⟩)⟩), List.forall_mem_cons.mpr ⟨⟨"[I", q2375, fc_0⟩, fun _ h => absurd h List.not_mem_nil⟩⟩
theorem nh_0 : "FavourTown" ≠ "java/lang/invoke/MethodHandle" ∧ "FavourTown" ≠ "java/lang/invoke/VarHandle" := by decide +kernel
theorem dl_0 : dLen "()V" 0 := by unfold dLen; decide +kernel
theorem nh_1 : "FavourTownModel" ≠ "java/lang/invoke/MethodHandle" ∧ "FavourTownModel" ≠ "java/lang/invoke/VarHandle" := by decide +kernel
theorem dl_1 : dLen "(IIIII)I" 5 := by unfold dLen; decide +kernel
theorem dl_2 : dLen "(I)Z" 1 := by unfold dLen; decide +kernel
theorem nh_2 : "FavourTownLaw" ≠ "java/lang/invoke/MethodHandle" ∧ "FavourTownLaw" ≠ "java/lang/invoke/VarHandle" := by decide +kernel
theorem dl_3 : dLen "(LFavourTown;[J)I" 2 := by unfold dLen; decide +kernel
theorem dl_4 : dLen "()I" 0 := by unfold dLen; decide +kernel
theorem dl_5 : dLen "(LFavourTown;II[J)I" 4 := by unfold dLen; decide +kernel
theorem dl_6 : dLen "(II)I" 2 := by unfold dLen; decide +kernel
theorem dl_7 : dLen "(LFavourTown;IIIIZ[J)I" 7 := by unfold dLen; decide +kernel
theorem dl_8 : dLen "(IIIIZ)I" 5 := by unfold dLen; decide +kernel
theorem dl_9 : dLen "(LFavourTown;I[J)I" 3 := by unfold dLen; decide +kernel
theorem dl_10 : dLen "(I)I" 1 := by unfold dLen; decide +kernel
theorem dl_11 : dLen "(II)Z" 2 := by unfold dLen; decide +kernel
theorem dl_12 : dLen "(LFavourTown;III[J)I" 5 := by unfold dLen; decide +kernel
theorem dl_13 : dLen "(III)I" 3 := by unfold dLen; decide +kernel
theorem dl_14 : dLen "(LFavourTown;IIII[J)I" 6 := by unfold dLen; decide +kernel
theorem dl_15 : dLen "(IIII)I" 4 := by unfold dLen; decide +kernel
theorem dl_16 : dLen "()Z" 0 := by unfold dLen; decide +kernel
theorem dl_17 : dLen "(III)Z" 3 := by unfold dLen; decide +kernel
theorem dl_18 : dLen "(Z)V" 1 := by unfold dLen; decide +kernel
theorem dl_19 : dLen "(II)V" 2 := by unfold dLen; decide +kernel
theorem fo_0 : fldOK [0] 0 "FavourTown" "world" "LFavourTown$World;" = true := by decide +kernel
theorem nh_3 : "FavourTown$World" ≠ "java/lang/invoke/MethodHandle" ∧ "FavourTown$World" ≠ "java/lang/invoke/VarHandle" := by decide +kernel
theorem dl_20 : dLen "()LFavourTown$World;" 0 := by unfold dLen; decide +kernel
theorem fo_1 : fldOK [1] 3 "FavourTown$World" "people" "I" = true := by decide +kernel
theorem fo_2 : fldOK [1] 9 "FavourTown$World" "favours" "Ljava/util/ArrayList;" = true := by decide +kernel
theorem nh_4 : "java/util/ArrayList" ≠ "java/lang/invoke/MethodHandle" ∧ "java/util/ArrayList" ≠ "java/lang/invoke/VarHandle" := by decide +kernel
theorem fo_3 : fldOK [19] 2 "java/util/ArrayList" "size" "I" = true := by decide +kernel
theorem dl_21 : dLen "(I)Ljava/lang/Object;" 1 := by unfold dLen; decide +kernel
theorem dl_22 : dLen "(LFavourTown$Favour;I)I" 2 := by unfold dLen; decide +kernel
theorem fo_4 : fldOK [5, 6] 4 "FavourTown$Favour" "holder" "I" = true := by decide +kernel
theorem fo_5 : fldOK [5, 6] 0 "FavourTown$Favour" "giver" "I" = true := by decide +kernel
theorem dl_23 : dLen "(LFavourTown$Favour;I)Z" 2 := by unfold dLen; decide +kernel
theorem fo_6 : fldOK [5, 6] 5 "FavourTown$Favour" "hands" "I" = true := by decide +kernel
theorem nh_5 : "FavourTown$Favour" ≠ "java/lang/invoke/MethodHandle" ∧ "FavourTown$Favour" ≠ "java/lang/invoke/VarHandle" := by decide +kernel
theorem dl_24 : dLen "(LFavourTown$Favour;)Z" 1 := by unfold dLen; decide +kernel
theorem fo_7 : fldOK [1] 2 "FavourTown$World" "law" "I" = true := by decide +kernel
theorem dl_25 : dLen "(ILFavourTown$Favour;)Z" 2 := by unfold dLen; decide +kernel
theorem fo_8 : fldOK [5, 6] 2 "FavourTown$Favour" "forced" "Z" = true := by decide +kernel
theorem fo_9 : fldOK [1] 7 "FavourTown$World" "temperOf" "[I" = true := by decide +kernel
theorem fo_10 : fldOK [5, 6] 1 "FavourTown$Favour" "amount" "I" = true := by decide +kernel
theorem dl_26 : dLen "(IIII)V" 4 := by unfold dLen; decide +kernel
theorem fo_11 : fldOK [1] 13 "FavourTown$World" "scene" "LFavourTown$Scene;" = true := by decide +kernel
theorem fo_12 : fldOK [8] 2 "FavourTown$Scene" "hands" "I" = true := by decide +kernel
theorem pd_0 : parseFieldDescriptor "I" = some (.int) := by decide +kernel
theorem fn_0 : finOK [8] 2 false = true := by decide +kernel
theorem fo_13 : fldOK [8] 0 "FavourTown$Scene" "worth" "I" = true := by decide +kernel
theorem fn_1 : finOK [8] 0 false = true := by decide +kernel
theorem fo_14 : fldOK [8] 8 "FavourTown$Scene" "again" "Z" = true := by decide +kernel
theorem pd_1 : parseFieldDescriptor "Z" = some (.boolean) := by decide +kernel
theorem fn_2 : finOK [8] 8 false = true := by decide +kernel
theorem fo_15 : fldOK [1] 11 "FavourTown$World" "tempers" "Ljava/util/ArrayList;" = true := by decide +kernel
theorem nh_6 : "FavourTown$Temper" ≠ "java/lang/invoke/MethodHandle" ∧ "FavourTown$Temper" ≠ "java/lang/invoke/VarHandle" := by decide +kernel
theorem dl_27 : dLen "(LFavourTown$Scene;)Z" 1 := by unfold dLen; decide +kernel
theorem fo_16 : fldOK [6] 6 "FavourTown$Timed" "end" "I" = true := by decide +kernel
theorem fo_17 : fldOK [9] 0 "FavourTown$Temper" "lines" "Ljava/util/ArrayList;" = true := by decide +kernel
theorem fo_18 : fldOK [10] 1 "FavourTown$Line" "when" "LFavourTown$Cond;" = true := by decide +kernel
theorem nh_7 : "FavourTown$Cond" ≠ "java/lang/invoke/MethodHandle" ∧ "FavourTown$Cond" ≠ "java/lang/invoke/VarHandle" := by decide +kernel
theorem fo_19 : fldOK [10] 0 "FavourTown$Line" "takes" "Z" = true := by decide +kernel
theorem fo_20 : fldOK [13] 0 "FavourTown$Is" "tag" "LFavourTown$Tag;" = true := by decide +kernel
theorem nh_8 : "FavourTown$Scene" ≠ "java/lang/invoke/MethodHandle" ∧ "FavourTown$Scene" ≠ "java/lang/invoke/VarHandle" := by decide +kernel
theorem dl_28 : dLen "(LFavourTown$Tag;)Z" 1 := by unfold dLen; decide +kernel
theorem fo_21 : fldOK [8] 6 "FavourTown$Scene" "near" "Z" = true := by decide +kernel
theorem fo_22 : fldOK [8] 7 "FavourTown$Scene" "timed" "Z" = true := by decide +kernel
theorem fo_23 : fldOK [12] 0 "FavourTown$Not" "a" "LFavourTown$Cond;" = true := by decide +kernel
theorem fo_24 : fldOK [11] 1 "FavourTown$Row" "row" "Ljava/util/ArrayList;" = true := by decide +kernel
theorem fo_25 : fldOK [11] 0 "FavourTown$Row" "all" "Z" = true := by decide +kernel
theorem fo_26 : fldOK [16] 0 "FavourTown$Less" "a" "LFavourTown$Sum;" = true := by decide +kernel
theorem nh_9 : "FavourTown$Sum" ≠ "java/lang/invoke/MethodHandle" ∧ "FavourTown$Sum" ≠ "java/lang/invoke/VarHandle" := by decide +kernel
theorem dl_29 : dLen "(LFavourTown$Scene;)I" 1 := by unfold dLen; decide +kernel
theorem fo_27 : fldOK [16] 1 "FavourTown$Less" "b" "LFavourTown$Sum;" = true := by decide +kernel
theorem fo_28 : fldOK [14] 0 "FavourTown$Sum" "parts" "Ljava/util/ArrayList;" = true := by decide +kernel
theorem nh_10 : "FavourTown$Part" ≠ "java/lang/invoke/MethodHandle" ∧ "FavourTown$Part" ≠ "java/lang/invoke/VarHandle" := by decide +kernel
theorem fo_29 : fldOK [15] 1 "FavourTown$Part" "fact" "LFavourTown$Fact;" = true := by decide +kernel
theorem fo_30 : fldOK [15] 0 "FavourTown$Part" "n" "I" = true := by decide +kernel
theorem dl_30 : dLen "(LFavourTown$Fact;)I" 1 := by unfold dLen; decide +kernel
theorem nh_11 : "java/lang/Enum" ≠ "java/lang/invoke/MethodHandle" ∧ "java/lang/Enum" ≠ "java/lang/invoke/VarHandle" := by decide +kernel
theorem fo_31 : fldOK [8] 1 "FavourTown$Scene" "amount" "I" = true := by decide +kernel
theorem fo_32 : fldOK [8] 3 "FavourTown$Scene" "left" "I" = true := by decide +kernel
theorem fo_33 : fldOK [8] 4 "FavourTown$Scene" "owed" "I" = true := by decide +kernel
theorem fo_34 : fldOK [8] 5 "FavourTown$Scene" "debt" "I" = true := by decide +kernel
theorem fo_35 : fldOK [26] 0 "java/lang/Enum" "ordinal" "I" = true := by decide +kernel
theorem nh_12 : "java/util/Objects" ≠ "java/lang/invoke/MethodHandle" ∧ "java/util/Objects" ≠ "java/lang/invoke/VarHandle" := by decide +kernel
theorem fo_36 : fldOK [19] 1 "java/util/ArrayList" "elementData" "[Ljava/lang/Object;" = true := by decide +kernel
theorem nh_13 : "jdk/internal/util/Preconditions" ≠ "java/lang/invoke/MethodHandle" ∧ "jdk/internal/util/Preconditions" ≠ "java/lang/invoke/VarHandle" := by decide +kernel
theorem dl_31 : dLen "(IILjava/util/function/BiFunction;)I" 3 := by unfold dLen; decide +kernel
theorem fo_37 : fldOK [5, 6] 3 "FavourTown$Favour" "row" "[I" = true := by decide +kernel
theorem fn_3 : finOK [8] 1 false = true := by decide +kernel
theorem fn_4 : finOK [8] 7 false = true := by decide +kernel
theorem fo_38 : fldOK [1] 1 "FavourTown$World" "day" "I" = true := by decide +kernel
theorem fn_5 : finOK [8] 3 false = true := by decide +kernel
theorem fn_6 : finOK [8] 4 false = true := by decide +kernel
theorem fn_7 : finOK [8] 5 false = true := by decide +kernel
theorem fo_39 : fldOK [1] 6 "FavourTown$World" "near" "[I" = true := by decide +kernel
theorem fn_8 : finOK [8] 6 false = true := by decide +kernel
theorem fo_40 : fldOK [1] 4 "FavourTown$World" "forgiving" "I" = true := by decide +kernel
theorem dl_32 : dLen "(I)V" 1 := by unfold dLen; decide +kernel
theorem fo_41 : fldOK [1] 8 "FavourTown$World" "loss" "[[I" = true := by decide +kernel
theorem fn_9 : finOK [5, 6] 5 false = true := by decide +kernel
theorem fn_10 : finOK [5, 6] 4 false = true := by decide +kernel
theorem dl_33 : dLen "(IIIIZ)Z" 5 := by unfold dLen; decide +kernel
theorem dl_34 : dLen "(IIIZ)V" 4 := by unfold dLen; decide +kernel
theorem nh_14 : "FavourTown$Timed" ≠ "java/lang/invoke/MethodHandle" ∧ "FavourTown$Timed" ≠ "java/lang/invoke/VarHandle" := by decide +kernel
theorem dl_35 : dLen "(IIIZI)V" 5 := by unfold dLen; decide +kernel
theorem dl_36 : dLen "(Ljava/lang/Object;)Z" 1 := by unfold dLen; decide +kernel
theorem fn_11 : finOK [6] 6 true = true := by decide +kernel
theorem pd_2 : parseFieldDescriptor "[I" = some (.array .int) := by decide +kernel
theorem fn_12 : finOK [5, 6] 3 true = true := by decide +kernel
theorem fn_13 : finOK [5, 6] 0 true = true := by decide +kernel
theorem fn_14 : finOK [5, 6] 1 true = true := by decide +kernel
theorem fn_15 : finOK [5, 6] 2 true = true := by decide +kernel
theorem fo_42 : fldOK [1] 5 "FavourTown$World" "limit" "[I" = true := by decide +kernel
theorem fo_43 : fldOK [19] 0 "java/util/AbstractList" "modCount" "I" = true := by decide +kernel
theorem fn_16 : finOK [19] 0 false = true := by decide +kernel
theorem dl_37 : dLen "(Ljava/lang/Object;[Ljava/lang/Object;I)V" 3 := by unfold dLen; decide +kernel
theorem dl_38 : dLen "()[Ljava/lang/Object;" 0 := by unfold dLen; decide +kernel
theorem fn_17 : finOK [19] 2 false = true := by decide +kernel
theorem dl_39 : dLen "(I)[Ljava/lang/Object;" 1 := by unfold dLen; decide +kernel
theorem nh_15 : "jdk/internal/util/ArraysSupport" ≠ "java/lang/invoke/MethodHandle" ∧ "jdk/internal/util/ArraysSupport" ≠ "java/lang/invoke/VarHandle" := by decide +kernel
theorem nh_16 : "java/util/Arrays" ≠ "java/lang/invoke/MethodHandle" ∧ "java/util/Arrays" ≠ "java/lang/invoke/VarHandle" := by decide +kernel
theorem dl_40 : dLen "([Ljava/lang/Object;I)[Ljava/lang/Object;" 2 := by unfold dLen; decide +kernel
theorem pd_3 : parseFieldDescriptor "[Ljava/lang/Object;" = some (.array (.object "java/lang/Object")) := by decide +kernel
theorem fn_18 : finOK [19] 1 false = true := by decide +kernel
theorem dl_41 : dLen "([Ljava/lang/Object;ILjava/lang/Class;)[Ljava/lang/Object;" 3 := by unfold dLen; decide +kernel
theorem fn_19 : finOK [1] 1 false = true := by decide +kernel
theorem fo_44 : fldOK [1] 0 "FavourTown$World" "texts" "I" = true := by decide +kernel
theorem fn_20 : finOK [1] 0 false = true := by decide +kernel
theorem fn_21 : finOK [1] 2 false = true := by decide +kernel
theorem fn_22 : finOK [1] 3 false = true := by decide +kernel
theorem dl_42 : dLen "()LFavourTown$Favour;" 0 := by unfold dLen; decide +kernel
theorem fo_45 : fldOK [1] 10 "FavourTown$World" "needs" "Ljava/util/ArrayList;" = true := by decide +kernel
theorem dl_43 : dLen "(Ljava/util/Collection;)Z" 1 := by unfold dLen; decide +kernel
theorem fo_46 : fldOK [1] 12 "FavourTown$World" "rings" "Ljava/util/ArrayList;" = true := by decide +kernel
theorem dl_44 : dLen "(LFavourTown$Favour;)LFavourTown$Favour;" 1 := by unfold dLen; decide +kernel
theorem fn_23 : finOK [1] 5 true = true := by decide +kernel
theorem fn_24 : finOK [1] 6 true = true := by decide +kernel
theorem fn_25 : finOK [1] 7 true = true := by decide +kernel
theorem pd_4 : parseFieldDescriptor "[[I" = some (.array (.array .int)) := by decide +kernel
theorem fn_26 : finOK [1] 8 true = true := by decide +kernel
theorem pd_5 : parseFieldDescriptor "Ljava/util/ArrayList;" = some (.object "java/util/ArrayList") := by decide +kernel
theorem fn_27 : finOK [1] 9 true = true := by decide +kernel
theorem fn_28 : finOK [1] 10 true = true := by decide +kernel
theorem fn_29 : finOK [1] 11 true = true := by decide +kernel
theorem fn_30 : finOK [1] 12 true = true := by decide +kernel
theorem pd_6 : parseFieldDescriptor "LFavourTown$Scene;" = some (.object "FavourTown$Scene") := by decide +kernel
theorem fn_31 : finOK [1] 13 true = true := by decide +kernel
theorem nh_17 : "java/util/AbstractList" ≠ "java/lang/invoke/MethodHandle" ∧ "java/util/AbstractList" ≠ "java/lang/invoke/VarHandle" := by decide +kernel
theorem nh_18 : "java/util/AbstractCollection" ≠ "java/lang/invoke/MethodHandle" ∧ "java/util/AbstractCollection" ≠ "java/lang/invoke/VarHandle" := by decide +kernel
theorem nh_19 : "java/util/Collection" ≠ "java/lang/invoke/MethodHandle" ∧ "java/util/Collection" ≠ "java/lang/invoke/VarHandle" := by decide +kernel
theorem fo_47 : fldOK [0] 2 "FavourTown" "reader" "LFavourTown$Reader;" = true := by decide +kernel
theorem nh_20 : "FavourTown$Reader" ≠ "java/lang/invoke/MethodHandle" ∧ "FavourTown$Reader" ≠ "java/lang/invoke/VarHandle" := by decide +kernel
theorem dl_45 : dLen "(I)LFavourTown$Favour;" 1 := by unfold dLen; decide +kernel
theorem fo_48 : fldOK [2] 2 "FavourTown$Reader" "end" "I" = true := by decide +kernel
theorem fo_49 : fldOK [2] 0 "FavourTown$Reader" "tape" "[B" = true := by decide +kernel
theorem fo_50 : fldOK [2] 1 "FavourTown$Reader" "length" "I" = true := by decide +kernel
theorem fn_32 : finOK [2] 2 false = true := by decide +kernel
theorem fn_33 : finOK [2] 1 false = true := by decide +kernel
theorem fo_51 : fldOK [2] 3 "FavourTown$Reader" "at" "I" = true := by decide +kernel
theorem fn_34 : finOK [2] 3 false = true := by decide +kernel
theorem fo_52 : fldOK [2] 6 "FavourTown$Reader" "deep" "I" = true := by decide +kernel
theorem fn_35 : finOK [2] 6 false = true := by decide +kernel
theorem fo_53 : fldOK [18] 0 "FavourTownModel" "thrown" "I" = true := by decide +kernel
theorem fn_36 : finOK [18] 0 false = true := by decide +kernel
theorem fo_54 : fldOK [18] 1 "FavourTownModel" "m" "[I" = true := by decide +kernel
theorem fo_55 : fldOK [18] 3 "FavourTownModel" "hasImage" "Z" = true := by decide +kernel
theorem fo_56 : fldOK [18] 2 "FavourTownModel" "kept" "[I" = true := by decide +kernel
theorem fn_37 : finOK [18] 3 false = true := by decide +kernel
theorem fo_57 : fldOK [18] 4 "FavourTownModel" "before" "[I" = true := by decide +kernel
theorem fo_58 : fldOK [18] 28 "FavourTownModel" "seed" "I" = true := by decide +kernel
theorem fn_38 : finOK [18] 28 false = true := by decide +kernel
theorem fo_59 : fldOK [18] 26 "FavourTownModel" "byPassing" "Z" = true := by decide +kernel
theorem dl_46 : dLen "(III)V" 3 := by unfold dLen; decide +kernel
theorem fn_39 : finOK [18] 26 false = true := by decide +kernel
theorem dl_47 : dLen "(IIIIIZZ)Z" 7 := by unfold dLen; decide +kernel
theorem fo_60 : fldOK [18] 13 "FavourTownModel" "fact" "[I" = true := by decide +kernel
theorem fo_61 : fldOK [18] 14 "FavourTownModel" "isNear" "Z" = true := by decide +kernel
theorem fn_40 : finOK [18] 14 false = true := by decide +kernel
theorem fo_62 : fldOK [18] 15 "FavourTownModel" "isTimed" "Z" = true := by decide +kernel
theorem fn_41 : finOK [18] 15 false = true := by decide +kernel
theorem fo_63 : fldOK [18] 16 "FavourTownModel" "isAgain" "Z" = true := by decide +kernel
theorem fn_42 : finOK [18] 16 false = true := by decide +kernel
theorem fo_64 : fldOK [18] 10 "FavourTownModel" "fault" "I" = true := by decide +kernel
theorem fo_65 : fldOK [18] 7 "FavourTownModel" "base" "I" = true := by decide +kernel
theorem fo_66 : fldOK [18] 8 "FavourTownModel" "end" "I" = true := by decide +kernel
theorem fo_67 : fldOK [18] 9 "FavourTownModel" "at" "I" = true := by decide +kernel
theorem fo_68 : fldOK [18] 12 "FavourTownModel" "lines" "I" = true := by decide +kernel
theorem fn_43 : finOK [18] 10 false = true := by decide +kernel
theorem fn_44 : finOK [18] 7 false = true := by decide +kernel
theorem fn_45 : finOK [18] 8 false = true := by decide +kernel
theorem fo_69 : fldOK [18] 17 "FavourTownModel" "says" "I" = true := by decide +kernel
theorem fn_46 : finOK [18] 17 false = true := by decide +kernel
theorem fn_47 : finOK [18] 9 false = true := by decide +kernel
theorem fn_48 : finOK [18] 12 false = true := by decide +kernel
theorem fo_70 : fldOK [18] 11 "FavourTownModel" "deep" "I" = true := by decide +kernel
theorem fn_49 : finOK [18] 11 false = true := by decide +kernel
theorem dl_48 : dLen "(Ljava/lang/String;)Z" 1 := by unfold dLen; decide +kernel
theorem fo_71 : fldOK [18] 5 "FavourTownModel" "tape" "[I" = true := by decide +kernel
theorem nh_21 : "java/lang/String" ≠ "java/lang/invoke/MethodHandle" ∧ "java/lang/String" ≠ "java/lang/invoke/VarHandle" := by decide +kernel
theorem dl_49 : dLen "(I)C" 1 := by unfold dLen; decide +kernel
theorem fo_72 : fldOK [21] 0 "java/lang/String" "value" "[B" = true := by decide +kernel
theorem nh_22 : "java/lang/StringLatin1" ≠ "java/lang/invoke/MethodHandle" ∧ "java/lang/StringLatin1" ≠ "java/lang/invoke/VarHandle" := by decide +kernel
theorem dl_50 : dLen "([BI)C" 2 := by unfold dLen; decide +kernel
theorem fo_73 : fldOK [21] 1 "java/lang/String" "coder" "B" = true := by decide +kernel
theorem dl_51 : dLen "()B" 0 := by unfold dLen; decide +kernel
theorem dl_52 : dLen "(Ljava/lang/String;)V" 1 := by unfold dLen; decide +kernel
theorem fo_74 : fldOK [18] 6 "FavourTownModel" "taped" "I" = true := by decide +kernel
theorem fn_50 : finOK [18] 6 false = true := by decide +kernel
theorem fo_75 : fldOK [18] 22 "FavourTownModel" "owed" "[I" = true := by decide +kernel
theorem fo_76 : fldOK [18] 25 "FavourTownModel" "most" "I" = true := by decide +kernel
theorem fn_51 : finOK [18] 25 false = true := by decide +kernel
theorem fo_77 : fldOK [18] 24 "FavourTownModel" "bestOrder" "[I" = true := by decide +kernel
theorem fo_78 : fldOK [18] 23 "FavourTownModel" "order" "[I" = true := by decide +kernel
theorem fo_79 : fldOK [18] 21 "FavourTownModel" "far" "[I" = true := by decide +kernel
theorem fo_80 : fldOK [18] 18 "FavourTownModel" "ports" "[I" = true := by decide +kernel
theorem fo_81 : fldOK [18] 20 "FavourTownModel" "queue" "[I" = true := by decide +kernel
theorem fo_82 : fldOK [18] 19 "FavourTownModel" "from" "[I" = true := by decide +kernel
theorem fo_83 : fldOK [18] 27 "FavourTownModel" "shelf" "[I" = true := by decide +kernel
theorem nh_23 : "java/lang/Integer" ≠ "java/lang/invoke/MethodHandle" ∧ "java/lang/Integer" ≠ "java/lang/invoke/VarHandle" := by decide +kernel
theorem fo_84 : fldOK [0] 1 "FavourTown" "image" "LFavourTown$World;" = true := by decide +kernel
theorem pd_7 : parseFieldDescriptor "LFavourTown$World;" = some (.object "FavourTown$World") := by decide +kernel
theorem fn_52 : finOK [0] 0 false = true := by decide +kernel
theorem fn_53 : finOK [0] 1 false = true := by decide +kernel
theorem fn_54 : finOK [1] 4 false = true := by decide +kernel
theorem fo_85 : fldOK [7] 0 "FavourTown$Need" "who" "I" = true := by decide +kernel
theorem fo_86 : fldOK [7] 1 "FavourTown$Need" "of" "I" = true := by decide +kernel
theorem fo_87 : fldOK [7] 2 "FavourTown$Need" "n" "I" = true := by decide +kernel
theorem fo_88 : fldOK [2] 5 "FavourTown$Reader" "fault" "I" = true := by decide +kernel
theorem dl_53 : dLen "([I)I" 1 := by unfold dLen; decide +kernel
theorem pd_8 : parseFieldDescriptor "LFavourTown$Reader;" = some (.object "FavourTown$Reader") := by decide +kernel
theorem fn_55 : finOK [0] 2 true = true := by decide +kernel
theorem nh_24 : "FavourTown$Flow" ≠ "java/lang/invoke/MethodHandle" ∧ "FavourTown$Flow" ≠ "java/lang/invoke/VarHandle" := by decide +kernel
theorem dl_54 : dLen "(LFavourTown;)V" 1 := by unfold dLen; decide +kernel
theorem fo_89 : fldOK [0] 3 "FavourTown" "flow" "LFavourTown$Flow;" = true := by decide +kernel
theorem pd_9 : parseFieldDescriptor "LFavourTown$Flow;" = some (.object "FavourTown$Flow") := by decide +kernel
theorem fn_56 : finOK [0] 3 true = true := by decide +kernel
theorem fo_90 : fldOK [0] 4 "FavourTown" "far" "[I" = true := by decide +kernel
theorem fn_57 : finOK [0] 4 true = true := by decide +kernel
theorem nh_25 : "FavourTown$Clearing" ≠ "java/lang/invoke/MethodHandle" ∧ "FavourTown$Clearing" ≠ "java/lang/invoke/VarHandle" := by decide +kernel
theorem fo_91 : fldOK [0] 5 "FavourTown" "clearing" "LFavourTown$Clearing;" = true := by decide +kernel
theorem pd_10 : parseFieldDescriptor "LFavourTown$Clearing;" = some (.object "FavourTown$Clearing") := by decide +kernel
theorem fn_58 : finOK [0] 5 true = true := by decide +kernel
theorem pd_11 : parseFieldDescriptor "[B" = some (.array .byte) := by decide +kernel
theorem fn_59 : finOK [2] 0 true = true := by decide +kernel
theorem fn_60 : finOK [2] 5 false = true := by decide +kernel
theorem fo_92 : fldOK [3] 3 "FavourTown$Flow" "this$0" "LFavourTown;" = true := by decide +kernel
theorem pd_12 : parseFieldDescriptor "LFavourTown;" = some (.object "FavourTown") := by decide +kernel
theorem fn_61 : finOK [3] 3 true = true := by decide +kernel
theorem fo_93 : fldOK [3] 0 "FavourTown$Flow" "room" "[[I" = true := by decide +kernel
theorem fn_62 : finOK [3] 0 true = true := by decide +kernel
theorem fo_94 : fldOK [3] 1 "FavourTown$Flow" "from" "[I" = true := by decide +kernel
theorem fn_63 : finOK [3] 1 true = true := by decide +kernel
theorem fo_95 : fldOK [3] 2 "FavourTown$Flow" "row" "[I" = true := by decide +kernel
theorem fn_64 : finOK [3] 2 true = true := by decide +kernel
theorem fo_96 : fldOK [4] 4 "FavourTown$Clearing" "this$0" "LFavourTown;" = true := by decide +kernel
theorem fn_65 : finOK [4] 4 true = true := by decide +kernel
theorem fo_97 : fldOK [4] 0 "FavourTown$Clearing" "owed" "[[I" = true := by decide +kernel
theorem fn_66 : finOK [4] 0 true = true := by decide +kernel
theorem fo_98 : fldOK [4] 1 "FavourTown$Clearing" "order" "[I" = true := by decide +kernel
theorem fn_67 : finOK [4] 1 true = true := by decide +kernel
theorem fo_99 : fldOK [4] 2 "FavourTown$Clearing" "best" "[I" = true := by decide +kernel
theorem fn_68 : finOK [4] 2 true = true := by decide +kernel
theorem fo_100 : fldOK [4] 3 "FavourTown$Clearing" "most" "I" = true := by decide +kernel
theorem fn_69 : finOK [4] 3 false = true := by decide +kernel
theorem dl_55 : dLen "([II)V" 2 := by unfold dLen; decide +kernel
theorem fn_70 : finOK [18] 1 true = true := by decide +kernel
theorem fn_71 : finOK [18] 2 true = true := by decide +kernel
theorem fn_72 : finOK [18] 4 true = true := by decide +kernel
theorem fn_73 : finOK [18] 5 true = true := by decide +kernel
theorem fn_74 : finOK [18] 13 true = true := by decide +kernel
theorem fn_75 : finOK [18] 18 true = true := by decide +kernel
theorem fn_76 : finOK [18] 19 true = true := by decide +kernel
theorem fn_77 : finOK [18] 20 true = true := by decide +kernel
theorem fn_78 : finOK [18] 21 true = true := by decide +kernel
theorem fn_79 : finOK [18] 22 true = true := by decide +kernel
theorem fn_80 : finOK [18] 23 true = true := by decide +kernel
theorem fn_81 : finOK [18] 24 true = true := by decide +kernel
theorem fn_82 : finOK [18] 27 true = true := by decide +kernel
theorem dl_56 : dLen "()LFavourTown$Flow;" 0 := by unfold dLen; decide +kernel
theorem dl_57 : dLen "(I)LFavourTown$Need;" 1 := by unfold dLen; decide +kernel
theorem dl_58 : dLen "()LFavourTown$Temper;" 0 := by unfold dLen; decide +kernel
theorem fo_101 : fldOK [2] 4 "FavourTown$Reader" "begin" "I" = true := by decide +kernel
theorem dl_59 : dLen "()LFavourTown$Line;" 0 := by unfold dLen; decide +kernel
theorem dl_60 : dLen "()LFavourTown$Wrong;" 0 := by unfold dLen; decide +kernel
theorem nh_26 : "FavourTown$Wrong" ≠ "java/lang/invoke/MethodHandle" ∧ "FavourTown$Wrong" ≠ "java/lang/invoke/VarHandle" := by decide +kernel
theorem nh_27 : "java/lang/Exception" ≠ "java/lang/invoke/MethodHandle" ∧ "java/lang/Exception" ≠ "java/lang/invoke/VarHandle" := by decide +kernel
theorem dl_61 : dLen "(Ljava/lang/String;Ljava/lang/Throwable;ZZ)V" 4 := by unfold dLen; decide +kernel
theorem nh_28 : "java/lang/Throwable" ≠ "java/lang/invoke/MethodHandle" ∧ "java/lang/Throwable" ≠ "java/lang/invoke/VarHandle" := by decide +kernel
theorem fo_102 : fldOK [17] 0 "java/lang/Throwable" "cause" "Ljava/lang/Throwable;" = true := by decide +kernel
theorem pd_13 : parseFieldDescriptor "Ljava/lang/Throwable;" = some (.object "java/lang/Throwable") := by decide +kernel
theorem fn_83 : finOK [17] 0 false = true := by decide +kernel
theorem fo_103 : fldOK [17] 1 "java/lang/Throwable" "stackTrace" "[Ljava/lang/StackTraceElement;" = true := by decide +kernel
theorem pd_14 : parseFieldDescriptor "[Ljava/lang/StackTraceElement;" = some (.array (.object "java/lang/StackTraceElement")) := by decide +kernel
theorem fn_84 : finOK [17] 1 false = true := by decide +kernel
theorem fo_104 : fldOK [17] 2 "java/lang/Throwable" "suppressedExceptions" "Ljava/util/List;" = true := by decide +kernel
theorem pd_15 : parseFieldDescriptor "Ljava/util/List;" = some (.object "java/util/List") := by decide +kernel
theorem fn_85 : finOK [17] 2 false = true := by decide +kernel
theorem fo_105 : fldOK [17] 3 "java/lang/Throwable" "detailMessage" "Ljava/lang/String;" = true := by decide +kernel
theorem pd_16 : parseFieldDescriptor "Ljava/lang/String;" = some (.object "java/lang/String") := by decide +kernel
theorem fn_86 : finOK [17] 3 false = true := by decide +kernel
theorem fn_87 : finOK [2] 4 false = true := by decide +kernel
theorem dl_62 : dLen "()Ljava/lang/String;" 0 := by unfold dLen; decide +kernel
theorem nh_29 : "java/lang/StringBuilder" ≠ "java/lang/invoke/MethodHandle" ∧ "java/lang/StringBuilder" ≠ "java/lang/invoke/VarHandle" := by decide +kernel
theorem dl_63 : dLen "(C)Ljava/lang/StringBuilder;" 1 := by unfold dLen; decide +kernel
theorem dl_64 : dLen "(Ljava/lang/StringBuilder;)V" 1 := by unfold dLen; decide +kernel
theorem dl_65 : dLen "(Ljava/lang/AbstractStringBuilder;Ljava/lang/Void;)V" 2 := by unfold dLen; decide +kernel
theorem nh_30 : "java/lang/AbstractStringBuilder" ≠ "java/lang/invoke/MethodHandle" ∧ "java/lang/AbstractStringBuilder" ≠ "java/lang/invoke/VarHandle" := by decide +kernel
theorem dl_66 : dLen "()[B" 0 := by unfold dLen; decide +kernel
theorem pd_17 : parseFieldDescriptor "B" = some (.byte) := by decide +kernel
theorem fn_88 : finOK [21] 1 true = true := by decide +kernel
theorem dl_67 : dLen "([BII)[B" 3 := by unfold dLen; decide +kernel
theorem fn_89 : finOK [21] 0 true = true := by decide +kernel
theorem fo_106 : fldOK [20] 2 "java/lang/AbstractStringBuilder" "maybeLatin1" "Z" = true := by decide +kernel
theorem fo_107 : fldOK [20] 3 "java/lang/AbstractStringBuilder" "count" "I" = true := by decide +kernel
theorem fo_108 : fldOK [20] 0 "java/lang/AbstractStringBuilder" "value" "[B" = true := by decide +kernel
theorem nh_31 : "java/lang/IllegalArgumentException" ≠ "java/lang/invoke/MethodHandle" ∧ "java/lang/IllegalArgumentException" ≠ "java/lang/invoke/VarHandle" := by decide +kernel
theorem nh_32 : "java/lang/RuntimeException" ≠ "java/lang/invoke/MethodHandle" ∧ "java/lang/RuntimeException" ≠ "java/lang/invoke/VarHandle" := by decide +kernel
theorem fn_90 : finOK [20] 0 false = true := by decide +kernel
theorem fo_109 : fldOK [20] 1 "java/lang/AbstractStringBuilder" "coder" "B" = true := by decide +kernel
theorem fn_91 : finOK [20] 1 false = true := by decide +kernel
theorem dl_68 : dLen "(C)Ljava/lang/AbstractStringBuilder;" 1 := by unfold dLen; decide +kernel
theorem dl_69 : dLen "(C)Z" 1 := by unfold dLen; decide +kernel
theorem fn_92 : finOK [20] 3 false = true := by decide +kernel
theorem dl_70 : dLen "([BI)[B" 2 := by unfold dLen; decide +kernel
theorem fn_93 : finOK [9] 0 true = true := by decide +kernel
theorem dl_71 : dLen "()LFavourTown$Cond;" 0 := by unfold dLen; decide +kernel
theorem nh_33 : "FavourTown$Line" ≠ "java/lang/invoke/MethodHandle" ∧ "FavourTown$Line" ≠ "java/lang/invoke/VarHandle" := by decide +kernel
theorem dl_72 : dLen "(ZLFavourTown$Cond;)V" 2 := by unfold dLen; decide +kernel
theorem dl_73 : dLen "([B[B)Z" 2 := by unfold dLen; decide +kernel
theorem fn_94 : finOK [10] 0 true = true := by decide +kernel
theorem pd_18 : parseFieldDescriptor "LFavourTown$Cond;" = some (.object "FavourTown$Cond") := by decide +kernel
theorem fn_95 : finOK [10] 1 true = true := by decide +kernel
theorem nh_34 : "FavourTown$Row" ≠ "java/lang/invoke/MethodHandle" ∧ "FavourTown$Row" ≠ "java/lang/invoke/VarHandle" := by decide +kernel
theorem fn_96 : finOK [11] 1 true = true := by decide +kernel
theorem fn_97 : finOK [11] 0 true = true := by decide +kernel
theorem nh_35 : "FavourTown$Not" ≠ "java/lang/invoke/MethodHandle" ∧ "FavourTown$Not" ≠ "java/lang/invoke/VarHandle" := by decide +kernel
theorem dl_74 : dLen "(LFavourTown$Cond;)V" 1 := by unfold dLen; decide +kernel
theorem nh_36 : "FavourTown$Is" ≠ "java/lang/invoke/MethodHandle" ∧ "FavourTown$Is" ≠ "java/lang/invoke/VarHandle" := by decide +kernel
theorem dl_75 : dLen "(LFavourTown$Tag;)V" 1 := by unfold dLen; decide +kernel
theorem dl_76 : dLen "()LFavourTown$Sum;" 0 := by unfold dLen; decide +kernel
theorem nh_37 : "FavourTown$Less" ≠ "java/lang/invoke/MethodHandle" ∧ "FavourTown$Less" ≠ "java/lang/invoke/VarHandle" := by decide +kernel
theorem dl_77 : dLen "(LFavourTown$Sum;LFavourTown$Sum;)V" 2 := by unfold dLen; decide +kernel
theorem pd_19 : parseFieldDescriptor "LFavourTown$Tag;" = some (.object "FavourTown$Tag") := by decide +kernel
theorem fn_98 : finOK [13] 0 true = true := by decide +kernel
theorem fn_99 : finOK [12] 0 true = true := by decide +kernel
theorem dl_78 : dLen "()LFavourTown$Part;" 0 := by unfold dLen; decide +kernel
theorem fn_100 : finOK [14] 0 true = true := by decide +kernel
theorem dl_79 : dLen "(ILFavourTown$Fact;)V" 2 := by unfold dLen; decide +kernel
theorem nh_38 : "FavourTown$Fact" ≠ "java/lang/invoke/MethodHandle" ∧ "FavourTown$Fact" ≠ "java/lang/invoke/VarHandle" := by decide +kernel
theorem dl_80 : dLen "(Ljava/lang/String;)LFavourTown$Fact;" 1 := by unfold dLen; decide +kernel
theorem fn_101 : finOK [15] 0 true = true := by decide +kernel
theorem pd_20 : parseFieldDescriptor "LFavourTown$Fact;" = some (.object "FavourTown$Fact") := by decide +kernel
theorem fn_102 : finOK [15] 1 true = true := by decide +kernel
theorem dl_81 : dLen "()[LFavourTown$Fact;" 0 := by unfold dLen; decide +kernel
theorem fo_110 : fldOK [26] 1 "FavourTown$Fact" "told" "Ljava/lang/String;" = true := by decide +kernel
theorem pd_21 : parseFieldDescriptor "LFavourTown$Sum;" = some (.object "FavourTown$Sum") := by decide +kernel
theorem fn_103 : finOK [16] 0 true = true := by decide +kernel
theorem fn_104 : finOK [16] 1 true = true := by decide +kernel
theorem dl_82 : dLen "(LFavourTown$World;)V" 1 := by unfold dLen; decide +kernel
theorem dl_83 : dLen "(LFavourTown$World;)I" 1 := by unfold dLen; decide +kernel
theorem dl_84 : dLen "(LFavourTown$World;I)I" 2 := by unfold dLen; decide +kernel
theorem dl_85 : dLen "(LFavourTown$World;)LFavourTown$Favour;" 1 := by unfold dLen; decide +kernel
theorem nh_39 : "FavourTown$Need" ≠ "java/lang/invoke/MethodHandle" ∧ "FavourTown$Need" ≠ "java/lang/invoke/VarHandle" := by decide +kernel
theorem fo_111 : fldOK [21] 2 "java/lang/String" "hash" "I" = true := by decide +kernel
theorem fo_112 : fldOK [21] 3 "java/lang/String" "hashIsZero" "Z" = true := by decide +kernel
theorem dl_86 : dLen "([B)I" 1 := by unfold dLen; decide +kernel
theorem fn_105 : finOK [21] 3 false = true := by decide +kernel
theorem fn_106 : finOK [21] 2 false = true := by decide +kernel
theorem dl_87 : dLen "(Ljava/lang/Object;IIII)I" 5 := by unfold dLen; decide +kernel
theorem dl_88 : dLen "(I[BII)I" 4 := by unfold dLen; decide +kernel
theorem fn_107 : finOK [7] 0 true = true := by decide +kernel
theorem fn_108 : finOK [7] 1 true = true := by decide +kernel
theorem fn_109 : finOK [7] 2 true = true := by decide +kernel
