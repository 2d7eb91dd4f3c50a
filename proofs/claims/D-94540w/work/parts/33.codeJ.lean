set_option maxRecDepth 100000
/-- 110: java/util/AbstractCollection.<init>()V -/
noncomputable def k_J0_init : Nat → Option AOp :=
 tn 1 (tl 0 (aP (f_aload 0 1)))
  (tn 4 (tl 1 (aP (f_objI 4)))
  (tl 4 (o_vret)))
theorem kok_J0_init {γ : AG} (hm : γ.2.2.2.2.1 = mTab) (hk : γ.2.2.2.2.2 = kTab) : KOK γ m_J0_init k_J0_init :=
 kn_ok
 (kl_ok (ok_aP (ok_aload_n dJ0_init_0 rfl rfl)))
 (kn_ok
 (kl_ok (ok_aP (ok_objI q156 q135 q136 dJ0_init_1 rfl)))
 (kl_ok (ok_vret rfl dJ0_init_4)))
/-- 111: java/util/AbstractList.<init>()V -/
noncomputable def k_J1_init : Nat → Option AOp :=
 tn 5 (tn 1 (tl 0 (aP (f_aload 0 1)))
  (tn 4 (tl 1 (o_callI 110 0 4))
  (tl 4 (aP (f_aload 0 5)))))
  (tn 6 (tl 5 (aP (f_const (.int (nI 0)) 6)))
  (tn 9 (tl 6 (o_putf [19] 0 vI 9))
  (tl 9 (o_vret))))
theorem kok_J1_init {γ : AG} (hm : γ.2.2.2.2.1 = mTab) (hk : γ.2.2.2.2.2 = kTab) : KOK γ m_J1_init k_J1_init :=
 kn_ok
 (kn_ok
 (kl_ok (ok_aP (ok_aload_n dJ1_init_0 rfl rfl)))
 (kn_ok
 (kl_ok (ok_callI (run_I (by rw [hm]; rfl) q153 q154 q85 q155 rfl ⟨nh_18, dl_0⟩ (by decide) dJ1_init_1) rfl))
 (kl_ok (ok_aP (ok_aload_n dJ1_init_4 rfl rfl)))))
 (kn_ok
 (kl_ok (ok_aP (ok_iconst dJ1_init_5 rfl rfl)))
 (kn_ok
 (kl_ok (ok_hp (ok_putf fo_43 fs_rf fn_16 (Or.inl q161) pd_0 vI_ok dJ1_init_6 rfl) le_putf))
 (kl_ok (ok_vret rfl dJ1_init_9))))
/-- 112: java/util/ArrayList.<init>()V -/
noncomputable def k_J2_init : Nat → Option AOp :=
 tn 5 (tn 1 (tl 0 (aP (f_aload 0 1)))
  (tn 4 (tl 1 (o_callI 111 0 4))
  (tl 4 (aP (f_aload 0 5)))))
  (tn 8 (tl 5 (aP (f_stat 5 8)))
  (tn 11 (tl 8 (o_putf [19] 1 vA 11))
  (tl 11 (o_vret))))
theorem kok_J2_init {γ : AG} (hm : γ.2.2.2.2.1 = mTab) (hk : γ.2.2.2.2.2 = kTab) : KOK γ m_J2_init k_J2_init :=
 kn_ok
 (kn_ok
 (kl_ok (ok_aP (ok_aload_n dJ2_init_0 rfl rfl)))
 (kn_ok
 (kl_ok (ok_callI (run_I (by rw [hm]; rfl) q150 q151 q86 q152 rfl ⟨nh_17, dl_0⟩ (by decide) dJ2_init_1) rfl))
 (kl_ok (ok_aP (ok_aload_n dJ2_init_4 rfl rfl)))))
 (kn_ok
 (kl_ok (ok_aP (ok_stat (C0 := "java/util/ArrayList") (by rw [hk]; rfl) (Or.inl q157) rfl dJ2_init_5 rfl)))
 (kn_ok
 (kl_ok (ok_hp (ok_putf fo_36 fs_rf fn_18 (Or.inl q159) pd_3 vA_okA dJ2_init_8 rfl) le_putf))
 (kl_ok (ok_vret rfl dJ2_init_11))))
/-- 113: java/util/ArrayList.size()I -/
noncomputable def k_J2_size : Nat → Option AOp :=
 tn 1 (tl 0 (aP (f_aload 0 1)))
  (tn 4 (tl 1 (aP (f_getf [19] 2 4)))
  (tl 4 (o_iret (fun _ => true))))
theorem kok_J2_size {γ : AG} (hm : γ.2.2.2.2.1 = mTab) (hk : γ.2.2.2.2.2 = kTab) : KOK γ m_J2_size k_J2_size :=
 kn_ok
 (kl_ok (ok_aP (ok_aload_n dJ2_size_0 rfl rfl)))
 (kn_ok
 (kl_ok (ok_aP (ok_getf fo_3 fs_rf (Or.inl q160) dJ2_size_1 rfl)))
 (kl_ok (ok_iret rfl dJ2_size_4)))
/-- 114: java/util/ArrayList.get(I)Ljava/lang/Object; -/
noncomputable def k_J2_get : Nat → Option AOp :=
 tn 8 (tn 2 (tn 1 (tl 0 (aP (f_iload 1 1)))
  (tl 1 (aP (f_aload 0 2))))
  (tn 5 (tl 2 (aP (f_getf [19] 2 5)))
  (tl 5 (o_callS 240 2 8))))
  (tn 10 (tn 9 (tl 8 (aP (f_pop 9)))
  (tl 9 (aP (f_aload 0 10))))
  (tn 11 (tl 10 (aP (f_iload 1 11)))
  (tn 14 (tl 11 (o_callV (lkN [(19, 115)]) 1 14))
  (tl 14 (o_aret)))))
theorem kok_J2_get {γ : AG} (hm : γ.2.2.2.2.1 = mTab) (hk : γ.2.2.2.2.2 = kTab) : KOK γ m_J2_get k_J2_get :=
 kn_ok
 (kn_ok
 (kn_ok
 (kl_ok (ok_aP (ok_iload_n dJ2_get_0 rfl rfl)))
 (kl_ok (ok_aP (ok_aload_n dJ2_get_1 rfl rfl))))
 (kn_ok
 (kl_ok (ok_aP (ok_getf fo_3 fs_rf (Or.inl q160) dJ2_get_2 rfl)))
 (kl_ok (ok_callS (run_S (by rw [hm]; rfl) q408 q409 q94 q410 ⟨nh_12, dl_6⟩ (by decide) dJ2_get_5) rfl))))
 (kn_ok
 (kn_ok
 (kl_ok (ok_aP (ok_pop dJ2_get_8 rfl)))
 (kl_ok (ok_aP (ok_aload_n dJ2_get_9 rfl rfl))))
 (kn_ok
 (kl_ok (ok_aP (ok_iload_n dJ2_get_10 rfl rfl)))
 (kn_ok
 (kl_ok (ok_callV (List.forall_mem_cons.mpr ⟨run_V (C0 := "java/util/ArrayList") rfl rfl (by rw [hm]; rfl) q414 q415 q416 q87 q417 ⟨nh_4, dl_21⟩ (by decide) dJ2_get_11, (fun _ h => absurd h List.not_mem_nil)⟩) rfl))
 (kl_ok (ok_aret rfl (Or.inl ⟨_, rfl⟩) dJ2_get_14)))))
/-- 115: java/util/ArrayList.elementData(I)Ljava/lang/Object; -/
noncomputable def k_J2_elementData : Nat → Option AOp :=
 tn 4 (tn 1 (tl 0 (aP (f_aload 0 1)))
  (tl 1 (aP (f_getf [19] 1 4))))
  (tn 5 (tl 4 (aP (f_iload 1 5)))
  (tn 6 (tl 5 (aP (f_aald [3, 4, 5] 6)))
  (tl 6 (o_aret))))
theorem kok_J2_elementData {γ : AG} (hm : γ.2.2.2.2.1 = mTab) (hk : γ.2.2.2.2.2 = kTab) : KOK γ m_J2_elementData k_J2_elementData :=
 kn_ok
 (kn_ok
 (kl_ok (ok_aP (ok_aload_n dJ2_elementData_0 rfl rfl)))
 (kl_ok (ok_aP (ok_getf fo_36 fs_rf (Or.inl q159) dJ2_elementData_1 rfl))))
 (kn_ok
 (kl_ok (ok_aP (ok_iload_n dJ2_elementData_4 rfl rfl)))
 (kn_ok
 (kl_ok (ok_aP (ok_aald ts345 dJ2_elementData_5 rfl)))
 (kl_ok (ok_aret rfl (Or.inl ⟨_, rfl⟩) dJ2_elementData_6))))
/-- 116: java/util/ArrayList.add(Ljava/lang/Object;)Z -/
noncomputable def k_J2_add : Nat → Option AOp :=
 tn 11 (tn 5 (tn 1 (tl 0 (aP (f_aload 0 1)))
  (tn 2 (tl 1 (aP (f_dup 2)))
  (tl 2 (aP (f_getf [19] 0 5)))))
  (tn 7 (tn 6 (tl 5 (aP (f_const (.int (nI 1)) 6)))
  (tl 6 (aP (f_bin (fun x y => x + y) 7))))
  (tn 10 (tl 7 (o_putf [19] 0 vI 10))
  (tl 10 (aP (f_aload 0 11))))))
  (tn 17 (tn 13 (tn 12 (tl 11 (aP (f_aload 1 12)))
  (tl 12 (aP (f_aload 0 13))))
  (tn 16 (tl 13 (aP (f_getf [19] 1 16)))
  (tl 16 (aP (f_aload 0 17)))))
  (tn 23 (tn 20 (tl 17 (aP (f_getf [19] 2 20)))
  (tl 20 (o_callV (lkN [(19, 117)]) 3 23)))
  (tn 24 (tl 23 (aP (f_const (.int (nI 1)) 24)))
  (tl 24 (o_iret (fun x => x == 0 || x == 1))))))
theorem kok_J2_add {γ : AG} (hm : γ.2.2.2.2.1 = mTab) (hk : γ.2.2.2.2.2 = kTab) : KOK γ m_J2_add k_J2_add :=
 kn_ok
 (kn_ok
 (kn_ok
 (kl_ok (ok_aP (ok_aload_n dJ2_add_0 rfl rfl)))
 (kn_ok
 (kl_ok (ok_aP (ok_dup dJ2_add_1 rfl)))
 (kl_ok (ok_aP (ok_getf fo_43 (fs_w q163) (Or.inl q162) dJ2_add_2 rfl)))))
 (kn_ok
 (kn_ok
 (kl_ok (ok_aP (ok_iconst dJ2_add_5 rfl rfl)))
 (kl_ok (ok_aP (ok_iadd dJ2_add_6 rfl))))
 (kn_ok
 (kl_ok (ok_hp (ok_putf fo_43 (fs_w q163) fn_16 (Or.inl q162) pd_0 vI_ok dJ2_add_7 rfl) le_putf))
 (kl_ok (ok_aP (ok_aload_n dJ2_add_10 rfl rfl))))))
 (kn_ok
 (kn_ok
 (kn_ok
 (kl_ok (ok_aP (ok_aload_n dJ2_add_11 rfl rfl)))
 (kl_ok (ok_aP (ok_aload_n dJ2_add_12 rfl rfl))))
 (kn_ok
 (kl_ok (ok_aP (ok_getf fo_36 fs_rf (Or.inl q159) dJ2_add_13 rfl)))
 (kl_ok (ok_aP (ok_aload_n dJ2_add_16 rfl rfl)))))
 (kn_ok
 (kn_ok
 (kl_ok (ok_aP (ok_getf fo_3 fs_rf (Or.inl q160) dJ2_add_17 rfl)))
 (kl_ok (ok_callV (List.forall_mem_cons.mpr ⟨run_V (C0 := "java/util/ArrayList") rfl rfl (by rw [hm]; rfl) q662 q664 qs2 q87 q665 ⟨nh_4, dl_37⟩ (by decide) dJ2_add_20, (fun _ h => absurd h List.not_mem_nil)⟩) rfl)))
 (kn_ok
 (kl_ok (ok_aP (ok_iconst dJ2_add_23 rfl rfl)))
 (kl_ok (ok_zret rfl z_boolean dJ2_add_24)))))
/-- 117: java/util/ArrayList.add(Ljava/lang/Object;[Ljava/lang/Object;I)V -/
noncomputable def k_J2_add_2 : Nat → Option AOp :=
 tn 12 (tn 6 (tn 2 (tn 1 (tl 0 (aP (f_iload 3 1)))
  (tl 1 (aP (f_aload 2 2))))
  (tn 3 (tl 2 (aP (f_alen 3)))
  (tl 3 (aP (f_icmp (fun x y => decide (¬ x = y)) 11 6)))))
  (tn 10 (tn 7 (tl 6 (aP (f_aload 0 7)))
  (tl 7 (o_callV (lkN [(19, 118)]) 0 10)))
  (tn 11 (tl 10 (aP (f_astore 2 11)))
  (tl 11 (aP (f_aload 2 12))))))
  (tn 16 (tn 14 (tn 13 (tl 12 (aP (f_iload 3 13)))
  (tl 13 (aP (f_aload 1 14))))
  (tn 15 (tl 14 (o_aast 3 anyC anyT 15))
  (tl 15 (aP (f_aload 0 16)))))
  (tn 18 (tn 17 (tl 16 (aP (f_iload 3 17)))
  (tl 17 (aP (f_const (.int (nI 1)) 18))))
  (tn 19 (tl 18 (aP (f_bin (fun x y => x + y) 19)))
  (tn 22 (tl 19 (o_putf [19] 2 vI 22))
  (tl 22 (o_vret))))))
theorem kok_J2_add_2 {γ : AG} (hm : γ.2.2.2.2.1 = mTab) (hk : γ.2.2.2.2.2 = kTab) : KOK γ m_J2_add_2 k_J2_add_2 :=
 kn_ok
 (kn_ok
 (kn_ok
 (kn_ok
 (kl_ok (ok_aP (ok_iload_n dJ2_add_2_0 rfl rfl)))
 (kl_ok (ok_aP (ok_aload_n dJ2_add_2_1 rfl rfl))))
 (kn_ok
 (kl_ok (ok_aP (ok_alen dJ2_add_2_2 rfl)))
 (kl_ok (ok_aP (ok_icmp_ne dJ2_add_2_3 rfl rfl)))))
 (kn_ok
 (kn_ok
 (kl_ok (ok_aP (ok_aload_n dJ2_add_2_6 rfl rfl)))
 (kl_ok (ok_callV (List.forall_mem_cons.mpr ⟨run_V (C0 := "java/util/ArrayList") rfl rfl (by rw [hm]; rfl) q666 q668 qs3 q87 q669 ⟨nh_4, dl_38⟩ (by decide) dJ2_add_2_7, (fun _ h => absurd h List.not_mem_nil)⟩) rfl)))
 (kn_ok
 (kl_ok (ok_aP (ok_astore_n dJ2_add_2_10 rfl rfl)))
 (kl_ok (ok_aP (ok_aload_n dJ2_add_2_11 rfl rfl))))))
 (kn_ok
 (kn_ok
 (kn_ok
 (kl_ok (ok_aP (ok_iload_n dJ2_add_2_12 rfl rfl)))
 (kl_ok (ok_aP (ok_aload_n dJ2_add_2_13 rfl rfl))))
 (kn_ok
 (kl_ok (ok_hp (ok_aast any_ok dJ2_add_2_14 rfl) le_aast))
 (kl_ok (ok_aP (ok_aload_n dJ2_add_2_15 rfl rfl)))))
 (kn_ok
 (kn_ok
 (kl_ok (ok_aP (ok_iload_n dJ2_add_2_16 rfl rfl)))
 (kl_ok (ok_aP (ok_iconst dJ2_add_2_17 rfl rfl))))
 (kn_ok
 (kl_ok (ok_aP (ok_iadd dJ2_add_2_18 rfl)))
 (kn_ok
 (kl_ok (ok_hp (ok_putf fo_3 fs_rf fn_17 (Or.inl q160) pd_0 vI_ok dJ2_add_2_19 rfl) le_putf))
 (kl_ok (ok_vret rfl dJ2_add_2_22))))))
/-- 118: java/util/ArrayList.grow()[Ljava/lang/Object; -/
noncomputable def k_J2_grow : Nat → Option AOp :=
 tn 5 (tn 1 (tl 0 (aP (f_aload 0 1)))
  (tn 2 (tl 1 (aP (f_aload 0 2)))
  (tl 2 (aP (f_getf [19] 2 5)))))
  (tn 7 (tn 6 (tl 5 (aP (f_const (.int (nI 1)) 6)))
  (tl 6 (aP (f_bin (fun x y => x + y) 7))))
  (tn 10 (tl 7 (o_callV (lkN [(19, 119)]) 1 10))
  (tl 10 (o_aret))))
theorem kok_J2_grow {γ : AG} (hm : γ.2.2.2.2.1 = mTab) (hk : γ.2.2.2.2.2 = kTab) : KOK γ m_J2_grow k_J2_grow :=
 kn_ok
 (kn_ok
 (kl_ok (ok_aP (ok_aload_n dJ2_grow_0 rfl rfl)))
 (kn_ok
 (kl_ok (ok_aP (ok_aload_n dJ2_grow_1 rfl rfl)))
 (kl_ok (ok_aP (ok_getf fo_3 fs_rf (Or.inl q160) dJ2_grow_2 rfl)))))
 (kn_ok
 (kn_ok
 (kl_ok (ok_aP (ok_iconst dJ2_grow_5 rfl rfl)))
 (kl_ok (ok_aP (ok_iadd dJ2_grow_6 rfl))))
 (kn_ok
 (kl_ok (ok_callV (List.forall_mem_cons.mpr ⟨run_V (C0 := "java/util/ArrayList") rfl rfl (by rw [hm]; rfl) q670 q672 qs4 q87 q673 ⟨nh_4, dl_39⟩ (by decide) dJ2_grow_7, (fun _ h => absurd h List.not_mem_nil)⟩) rfl))
 (kl_ok (ok_aret rfl (Or.inr ⟨_, rfl⟩) dJ2_grow_10))))
/-- 119: java/util/ArrayList.grow(I)[Ljava/lang/Object; -/
noncomputable def k_J2_grow_2 : Nat → Option AOp :=
 tn 27 (tn 14 (tn 6 (tn 4 (tn 1 (tl 0 (aP (f_aload 0 1)))
  (tl 1 (aP (f_getf [19] 1 4))))
  (tn 5 (tl 4 (aP (f_alen 5)))
  (tl 5 (aP (f_istore 2 6)))))
  (tn 10 (tn 7 (tl 6 (aP (f_iload 2 7)))
  (tl 7 (aP (f_if (fun x => decide (0 < x)) 20 10))))
  (tn 11 (tl 10 (aP (f_aload 0 11)))
  (tl 11 (aP (f_getf [19] 1 14))))))
  (tn 22 (tn 20 (tn 17 (tl 14 (aP (f_stat 5 17)))
  (tl 17 (aP (f_acmp 45 20))))
  (tn 21 (tl 20 (aP (f_iload 2 21)))
  (tl 21 (aP (f_iload 1 22)))))
  (tn 24 (tn 23 (tl 22 (aP (f_iload 2 23)))
  (tl 23 (aP (f_bin (fun x y => x - y) 24))))
  (tn 25 (tl 24 (aP (f_iload 2 25)))
  (tn 26 (tl 25 (aP (f_const (.int (nI 1)) 26)))
  (tl 26 (aP (f_bin (fun x y => x >>> (y &&& 31)) 27))))))))
  (tn 44 (tn 33 (tn 31 (tn 30 (tl 27 (o_callS 252 3 30))
  (tl 30 (aP (f_istore 3 31))))
  (tn 32 (tl 31 (aP (f_aload 0 32)))
  (tl 32 (aP (f_aload 0 33)))))
  (tn 37 (tn 36 (tl 33 (aP (f_getf [19] 1 36)))
  (tl 36 (aP (f_iload 3 37))))
  (tn 40 (tl 37 (o_callS 255 2 40))
  (tn 41 (tl 40 (aP (f_dupx1 41)))
  (tl 41 (o_putf [19] 1 vA 44))))))
  (tn 49 (tn 46 (tn 45 (tl 44 (o_aret))
  (tl 45 (aP (f_aload 0 46))))
  (tn 48 (tl 46 (aP (f_const (.int (nI 10)) 48)))
  (tl 48 (aP (f_iload 1 49)))))
  (tn 55 (tn 52 (tl 49 (o_mth (fun x y => if x < y then y else x) 52))
  (tl 52 (o_newa 3 (.inr (.inr (fun _ => none))) 55)))
  (tn 56 (tl 55 (aP (f_dupx1 56)))
  (tn 59 (tl 56 (o_putf [19] 1 vA 59))
  (tl 59 (o_aret)))))))
theorem kok_J2_grow_2 {γ : AG} (hm : γ.2.2.2.2.1 = mTab) (hk : γ.2.2.2.2.2 = kTab) : KOK γ m_J2_grow_2 k_J2_grow_2 :=
 kn_ok
 (kn_ok
 (kn_ok
 (kn_ok
 (kn_ok
 (kl_ok (ok_aP (ok_aload_n dJ2_grow_2_0 rfl rfl)))
 (kl_ok (ok_aP (ok_getf fo_36 fs_rf (Or.inl q159) dJ2_grow_2_1 rfl))))
 (kn_ok
 (kl_ok (ok_aP (ok_alen dJ2_grow_2_4 rfl)))
 (kl_ok (ok_aP (ok_istore_n dJ2_grow_2_5 rfl rfl)))))
 (kn_ok
 (kn_ok
 (kl_ok (ok_aP (ok_iload_n dJ2_grow_2_6 rfl rfl)))
 (kl_ok (ok_aP (ok_if_gt dJ2_grow_2_7 rfl rfl))))
 (kn_ok
 (kl_ok (ok_aP (ok_aload_n dJ2_grow_2_10 rfl rfl)))
 (kl_ok (ok_aP (ok_getf fo_36 fs_rf (Or.inl q159) dJ2_grow_2_11 rfl))))))
 (kn_ok
 (kn_ok
 (kn_ok
 (kl_ok (ok_aP (ok_stat (C0 := "java/util/ArrayList") (by rw [hk]; rfl) (Or.inl q157) rfl dJ2_grow_2_14 rfl)))
 (kl_ok (ok_aP (ok_acmp_eq dJ2_grow_2_17 rfl rfl))))
 (kn_ok
 (kl_ok (ok_aP (ok_iload_n dJ2_grow_2_20 rfl rfl)))
 (kl_ok (ok_aP (ok_iload_n dJ2_grow_2_21 rfl rfl)))))
 (kn_ok
 (kn_ok
 (kl_ok (ok_aP (ok_iload_n dJ2_grow_2_22 rfl rfl)))
 (kl_ok (ok_aP (ok_isub dJ2_grow_2_23 rfl))))
 (kn_ok
 (kl_ok (ok_aP (ok_iload_n dJ2_grow_2_24 rfl rfl)))
 (kn_ok
 (kl_ok (ok_aP (ok_iconst dJ2_grow_2_25 rfl rfl)))
 (kl_ok (ok_aP (ok_ishr dJ2_grow_2_26 rfl))))))))
 (kn_ok
 (kn_ok
 (kn_ok
 (kn_ok
 (kl_ok (ok_callS (run_S (by rw [hm]; rfl) q674 q675 q98 q676 ⟨nh_15, dl_13⟩ (by decide) dJ2_grow_2_27) rfl))
 (kl_ok (ok_aP (ok_istore_n dJ2_grow_2_30 rfl rfl))))
 (kn_ok
 (kl_ok (ok_aP (ok_aload_n dJ2_grow_2_31 rfl rfl)))
 (kl_ok (ok_aP (ok_aload_n dJ2_grow_2_32 rfl rfl)))))
 (kn_ok
 (kn_ok
 (kl_ok (ok_aP (ok_getf fo_36 fs_rf (Or.inl q159) dJ2_grow_2_33 rfl)))
 (kl_ok (ok_aP (ok_iload_n dJ2_grow_2_36 rfl rfl))))
 (kn_ok
 (kl_ok (ok_callS (run_S (by rw [hm]; rfl) q684 q685 q100 q686 ⟨nh_16, dl_40⟩ (by decide) dJ2_grow_2_37) rfl))
 (kn_ok
 (kl_ok (ok_aP (ok_dupx1 dJ2_grow_2_40 rfl)))
 (kl_ok (ok_hp (ok_putf fo_36 fs_rf fn_18 (Or.inl q159) pd_3 vA_okA dJ2_grow_2_41 rfl) le_putf))))))
 (kn_ok
 (kn_ok
 (kn_ok
 (kl_ok (ok_aret rfl (Or.inr ⟨_, rfl⟩) dJ2_grow_2_44))
 (kl_ok (ok_aP (ok_aload_n dJ2_grow_2_45 rfl rfl))))
 (kn_ok
 (kl_ok (ok_aP (ok_bipush dJ2_grow_2_46 (by decide +kernel) rfl)))
 (kl_ok (ok_aP (ok_iload_n dJ2_grow_2_48 rfl rfl)))))
 (kn_ok
 (kn_ok
 (kl_ok (ok_hp (ok_mmax q731 q678 q99 q679 dJ2_grow_2_49 rfl) le_mth))
 (kl_ok (ok_hp (ok_anew q732 dJ2_grow_2_52 rfl) le_newa)))
 (kn_ok
 (kl_ok (ok_aP (ok_dupx1 dJ2_grow_2_55 rfl)))
 (kn_ok
 (kl_ok (ok_hp (ok_putf fo_36 fs_rf fn_18 (Or.inl q159) pd_3 vA_okA dJ2_grow_2_56 rfl) le_putf))
 (kl_ok (ok_aret rfl (Or.inr ⟨_, rfl⟩) dJ2_grow_2_59)))))))
/-- 120: java/util/ArrayList.addAll(Ljava/util/Collection;)Z -/
noncomputable def k_J2_addAll : Nat → Option AOp :=
 tn 36 (tn 19 (tn 9 (tn 6 (tn 1 (tl 0 (aP (f_aload 1 1)))
  (tl 1 (o_callV (lkN [(19, 121)]) 0 6)))
  (tn 7 (tl 6 (aP (f_astore 2 7)))
  (tn 8 (tl 7 (aP (f_aload 0 8)))
  (tl 8 (aP (f_dup 9))))))
  (tn 14 (tn 12 (tl 9 (aP (f_getf [19] 0 12)))
  (tn 13 (tl 12 (aP (f_const (.int (nI 1)) 13)))
  (tl 13 (aP (f_bin (fun x y => x + y) 14)))))
  (tn 17 (tl 14 (o_putf [19] 0 vI 17))
  (tn 18 (tl 17 (aP (f_aload 2 18)))
  (tl 18 (aP (f_alen 19)))))))
  (tn 27 (tn 24 (tn 20 (tl 19 (aP (f_istore 3 20)))
  (tn 21 (tl 20 (aP (f_iload 3 21)))
  (tl 21 (aP (f_if (fun x => decide (¬ x = 0)) 26 24)))))
  (tn 25 (tl 24 (aP (f_const (.int (nI 0)) 25)))
  (tn 26 (tl 25 (o_iret (fun x => x == 0 || x == 1)))
  (tl 26 (aP (f_iload 3 27))))))
  (tn 32 (tn 28 (tl 27 (aP (f_aload 0 28)))
  (tn 31 (tl 28 (aP (f_getf [19] 1 31)))
  (tl 31 (aP (f_dup 32)))))
  (tn 34 (tl 32 (aP (f_astore 4 34)))
  (tn 35 (tl 34 (aP (f_alen 35)))
  (tl 35 (aP (f_aload 0 36))))))))
  (tn 57 (tn 47 (tn 42 (tn 39 (tl 36 (aP (f_getf [19] 2 39)))
  (tn 40 (tl 39 (aP (f_dup 40)))
  (tl 40 (aP (f_istore 5 42)))))
  (tn 43 (tl 42 (aP (f_bin (fun x y => x - y) 43)))
  (tn 46 (tl 43 (aP (f_icmp (fun x y => decide (x ≤ y)) 56 46)))
  (tl 46 (aP (f_aload 0 47))))))
  (tn 51 (tn 49 (tl 47 (aP (f_iload 5 49)))
  (tn 50 (tl 49 (aP (f_iload 3 50)))
  (tl 50 (aP (f_bin (fun x y => x + y) 51)))))
  (tn 54 (tl 51 (o_callV (lkN [(19, 119)]) 1 54))
  (tn 56 (tl 54 (aP (f_astore 4 56)))
  (tl 56 (aP (f_aload 2 57)))))))
  (tn 67 (tn 62 (tn 58 (tl 57 (aP (f_const (.int (nI 0)) 58)))
  (tn 60 (tl 58 (aP (f_aload 4 60)))
  (tl 60 (aP (f_iload 5 62)))))
  (tn 63 (tl 62 (aP (f_iload 3 63)))
  (tn 66 (tl 63 (o_copy anyC anyT 66))
  (tl 66 (aP (f_aload 0 67))))))
  (tn 71 (tn 69 (tl 67 (aP (f_iload 5 69)))
  (tn 70 (tl 69 (aP (f_iload 3 70)))
  (tl 70 (aP (f_bin (fun x y => x + y) 71)))))
  (tn 74 (tl 71 (o_putf [19] 2 vI 74))
  (tn 75 (tl 74 (aP (f_const (.int (nI 1)) 75)))
  (tl 75 (o_iret (fun x => x == 0 || x == 1))))))))
theorem kok_J2_addAll {γ : AG} (hm : γ.2.2.2.2.1 = mTab) (hk : γ.2.2.2.2.2 = kTab) : KOK γ m_J2_addAll k_J2_addAll :=
 kn_ok
 (kn_ok
 (kn_ok
 (kn_ok
 (kn_ok
 (kl_ok (ok_aP (ok_aload_n dJ2_addAll_0 rfl rfl)))
 (kl_ok (ok_callF (List.forall_mem_cons.mpr ⟨run_F (C0 := "java/util/ArrayList") (nx := ⟨"java/util/Collection", "toArray", "()[Ljava/lang/Object;"⟩) rfl (by decide +kernel) (by rw [hm]; rfl) q738 q742 q744 q87 q746 ⟨nh_19, dl_38⟩ (by decide) dJ2_addAll_1, (fun _ h => absurd h List.not_mem_nil)⟩) rfl)))
 (kn_ok
 (kl_ok (ok_aP (ok_astore_n dJ2_addAll_6 rfl rfl)))
 (kn_ok
 (kl_ok (ok_aP (ok_aload_n dJ2_addAll_7 rfl rfl)))
 (kl_ok (ok_aP (ok_dup dJ2_addAll_8 rfl))))))
 (kn_ok
 (kn_ok
 (kl_ok (ok_aP (ok_getf fo_43 (fs_w q163) (Or.inl q162) dJ2_addAll_9 rfl)))
 (kn_ok
 (kl_ok (ok_aP (ok_iconst dJ2_addAll_12 rfl rfl)))
 (kl_ok (ok_aP (ok_iadd dJ2_addAll_13 rfl)))))
 (kn_ok
 (kl_ok (ok_hp (ok_putf fo_43 (fs_w q163) fn_16 (Or.inl q162) pd_0 vI_ok dJ2_addAll_14 rfl) le_putf))
 (kn_ok
 (kl_ok (ok_aP (ok_aload_n dJ2_addAll_17 rfl rfl)))
 (kl_ok (ok_aP (ok_alen dJ2_addAll_18 rfl)))))))
 (kn_ok
 (kn_ok
 (kn_ok
 (kl_ok (ok_aP (ok_istore_n dJ2_addAll_19 rfl rfl)))
 (kn_ok
 (kl_ok (ok_aP (ok_iload_n dJ2_addAll_20 rfl rfl)))
 (kl_ok (ok_aP (ok_if_ne dJ2_addAll_21 rfl rfl)))))
 (kn_ok
 (kl_ok (ok_aP (ok_iconst dJ2_addAll_24 rfl rfl)))
 (kn_ok
 (kl_ok (ok_zret rfl z_boolean dJ2_addAll_25))
 (kl_ok (ok_aP (ok_iload_n dJ2_addAll_26 rfl rfl))))))
 (kn_ok
 (kn_ok
 (kl_ok (ok_aP (ok_aload_n dJ2_addAll_27 rfl rfl)))
 (kn_ok
 (kl_ok (ok_aP (ok_getf fo_36 fs_rf (Or.inl q159) dJ2_addAll_28 rfl)))
 (kl_ok (ok_aP (ok_dup dJ2_addAll_31 rfl)))))
 (kn_ok
 (kl_ok (ok_aP (ok_astore dJ2_addAll_32 rfl)))
 (kn_ok
 (kl_ok (ok_aP (ok_alen dJ2_addAll_34 rfl)))
 (kl_ok (ok_aP (ok_aload_n dJ2_addAll_35 rfl rfl))))))))
 (kn_ok
 (kn_ok
 (kn_ok
 (kn_ok
 (kl_ok (ok_aP (ok_getf fo_3 fs_rf (Or.inl q160) dJ2_addAll_36 rfl)))
 (kn_ok
 (kl_ok (ok_aP (ok_dup dJ2_addAll_39 rfl)))
 (kl_ok (ok_aP (ok_istore dJ2_addAll_40 rfl)))))
 (kn_ok
 (kl_ok (ok_aP (ok_isub dJ2_addAll_42 rfl)))
 (kn_ok
 (kl_ok (ok_aP (ok_icmp_le dJ2_addAll_43 rfl rfl)))
 (kl_ok (ok_aP (ok_aload_n dJ2_addAll_46 rfl rfl))))))
 (kn_ok
 (kn_ok
 (kl_ok (ok_aP (ok_iload dJ2_addAll_47 rfl)))
 (kn_ok
 (kl_ok (ok_aP (ok_iload_n dJ2_addAll_49 rfl rfl)))
 (kl_ok (ok_aP (ok_iadd dJ2_addAll_50 rfl)))))
 (kn_ok
 (kl_ok (ok_callV (List.forall_mem_cons.mpr ⟨run_V (C0 := "java/util/ArrayList") rfl rfl (by rw [hm]; rfl) q670 q672 qs4 q87 q673 ⟨nh_4, dl_39⟩ (by decide) dJ2_addAll_51, (fun _ h => absurd h List.not_mem_nil)⟩) rfl))
 (kn_ok
 (kl_ok (ok_aP (ok_astore dJ2_addAll_54 rfl)))
 (kl_ok (ok_aP (ok_aload_n dJ2_addAll_56 rfl rfl)))))))
 (kn_ok
 (kn_ok
 (kn_ok
 (kl_ok (ok_aP (ok_iconst dJ2_addAll_57 rfl rfl)))
 (kn_ok
 (kl_ok (ok_aP (ok_aload dJ2_addAll_58 rfl)))
 (kl_ok (ok_aP (ok_iload dJ2_addAll_60 rfl)))))
 (kn_ok
 (kl_ok (ok_aP (ok_iload_n dJ2_addAll_62 rfl rfl)))
 (kn_ok
 (kl_ok (ok_hp (ok_copy any_ok q747 q585 q584 q93 dJ2_addAll_63 rfl) le_copy))
 (kl_ok (ok_aP (ok_aload_n dJ2_addAll_66 rfl rfl))))))
 (kn_ok
 (kn_ok
 (kl_ok (ok_aP (ok_iload dJ2_addAll_67 rfl)))
 (kn_ok
 (kl_ok (ok_aP (ok_iload_n dJ2_addAll_69 rfl rfl)))
 (kl_ok (ok_aP (ok_iadd dJ2_addAll_70 rfl)))))
 (kn_ok
 (kl_ok (ok_hp (ok_putf fo_3 fs_rf fn_17 (Or.inl q160) pd_0 vI_ok dJ2_addAll_71 rfl) le_putf))
 (kn_ok
 (kl_ok (ok_aP (ok_iconst dJ2_addAll_74 rfl rfl)))
 (kl_ok (ok_zret rfl z_boolean dJ2_addAll_75)))))))
/-- 121: java/util/ArrayList.toArray()[Ljava/lang/Object; -/
noncomputable def k_J2_toArray : Nat → Option AOp :=
 tn 5 (tn 1 (tl 0 (aP (f_aload 0 1)))
  (tn 4 (tl 1 (aP (f_getf [19] 1 4)))
  (tl 4 (aP (f_aload 0 5)))))
  (tn 8 (tl 5 (aP (f_getf [19] 2 8)))
  (tn 11 (tl 8 (o_callS 255 2 11))
  (tl 11 (o_aret))))
theorem kok_J2_toArray {γ : AG} (hm : γ.2.2.2.2.1 = mTab) (hk : γ.2.2.2.2.2 = kTab) : KOK γ m_J2_toArray k_J2_toArray :=
 kn_ok
 (kn_ok
 (kl_ok (ok_aP (ok_aload_n dJ2_toArray_0 rfl rfl)))
 (kn_ok
 (kl_ok (ok_aP (ok_getf fo_36 fs_rf (Or.inl q159) dJ2_toArray_1 rfl)))
 (kl_ok (ok_aP (ok_aload_n dJ2_toArray_4 rfl rfl)))))
 (kn_ok
 (kl_ok (ok_aP (ok_getf fo_3 fs_rf (Or.inl q160) dJ2_toArray_5 rfl)))
 (kn_ok
 (kl_ok (ok_callS (run_S (by rw [hm]; rfl) q684 q685 q100 q686 ⟨nh_16, dl_40⟩ (by decide) dJ2_toArray_8) rfl))
 (kl_ok (ok_aret rfl (Or.inr ⟨_, rfl⟩) dJ2_toArray_11))))
/-- 240: java/util/Objects.checkIndex(II)I -/
noncomputable def k_J3_checkIndex : Nat → Option AOp :=
 tn 2 (tn 1 (tl 0 (aP (f_iload 0 1)))
  (tl 1 (aP (f_iload 1 2))))
  (tn 3 (tl 2 (aP (f_const .null 3)))
  (tn 6 (tl 3 (o_callS 241 3 6))
  (tl 6 (o_iret (fun _ => true)))))
theorem kok_J3_checkIndex {γ : AG} (hm : γ.2.2.2.2.1 = mTab) (hk : γ.2.2.2.2.2 = kTab) : KOK γ m_J3_checkIndex k_J3_checkIndex :=
 kn_ok
 (kn_ok
 (kl_ok (ok_aP (ok_iload_n dJ3_checkIndex_0 rfl rfl)))
 (kl_ok (ok_aP (ok_iload_n dJ3_checkIndex_1 rfl rfl))))
 (kn_ok
 (kl_ok (ok_aP (ok_null dJ3_checkIndex_2 rfl)))
 (kn_ok
 (kl_ok (ok_callS (run_S (by rw [hm]; rfl) q411 q412 q95 q413 ⟨nh_13, dl_31⟩ (by decide) dJ3_checkIndex_3) rfl))
 (kl_ok (ok_iret rfl dJ3_checkIndex_6))))
/-- 241: jdk/internal/util/Preconditions.checkIndex(IILjava/util/function/BiFunction;)I -/
noncomputable def k_J4_checkIndex : Nat → Option AOp :=
 tn 9 (tn 4 (tn 1 (tl 0 (aP (f_iload 0 1)))
  (tl 1 (aP (f_if (fun x => decide (x < 0)) 9 4))))
  (tn 5 (tl 4 (aP (f_iload 0 5)))
  (tn 6 (tl 5 (aP (f_iload 1 6)))
  (tl 6 (aP (f_icmp (fun x y => decide (x < y)) 16 9))))))
  (tn 15 (tn 10 (tl 9 (aP (f_aload 2 10)))
  (tn 11 (tl 10 (aP (f_iload 0 11)))
  (tl 11 (aP (f_iload 1 12)))))
  (tn 16 (tl 15 (o_athrow [17, 22, 23, 24, 25]))
  (tn 17 (tl 16 (aP (f_iload 0 17)))
  (tl 17 (o_iret (fun _ => true))))))
theorem kok_J4_checkIndex {γ : AG} (hm : γ.2.2.2.2.1 = mTab) (hk : γ.2.2.2.2.2 = kTab) : KOK γ m_J4_checkIndex k_J4_checkIndex :=
 kn_ok
 (kn_ok
 (kn_ok
 (kl_ok (ok_aP (ok_iload_n dJ4_checkIndex_0 rfl rfl)))
 (kl_ok (ok_aP (ok_if_lt dJ4_checkIndex_1 rfl rfl))))
 (kn_ok
 (kl_ok (ok_aP (ok_iload_n dJ4_checkIndex_4 rfl rfl)))
 (kn_ok
 (kl_ok (ok_aP (ok_iload_n dJ4_checkIndex_5 rfl rfl)))
 (kl_ok (ok_aP (ok_icmp_lt dJ4_checkIndex_6 rfl rfl))))))
 (kn_ok
 (kn_ok
 (kl_ok (ok_aP (ok_aload_n dJ4_checkIndex_9 rfl rfl)))
 (kn_ok
 (kl_ok (ok_aP (ok_iload_n dJ4_checkIndex_10 rfl rfl)))
 (kl_ok (ok_aP (ok_iload_n dJ4_checkIndex_11 rfl rfl)))))
 (kn_ok
 (kl_ok (ok_athrow dJ4_checkIndex_15))
 (kn_ok
 (kl_ok (ok_aP (ok_iload_n dJ4_checkIndex_16 rfl rfl)))
 (kl_ok (ok_iret rfl dJ4_checkIndex_17)))))
/-- 252: jdk/internal/util/ArraysSupport.newLength(III)I -/
noncomputable def k_J5_newLength : Nat → Option AOp :=
 tn 10 (tn 6 (tn 2 (tn 1 (tl 0 (aP (f_iload 0 1)))
  (tl 1 (aP (f_iload 1 2))))
  (tn 3 (tl 2 (aP (f_iload 2 3)))
  (tl 3 (o_mth (fun x y => if x < y then y else x) 6))))
  (tn 8 (tn 7 (tl 6 (aP (f_bin (fun x y => x + y) 7)))
  (tl 7 (aP (f_istore 3 8))))
  (tn 9 (tl 8 (aP (f_const (.int (nI 0)) 9)))
  (tl 9 (aP (f_iload 3 10))))))
  (tn 19 (tn 14 (tn 13 (tl 10 (aP (f_icmp (fun x y => decide (y ≤ x)) 21 13)))
  (tl 13 (aP (f_iload 3 14))))
  (tn 16 (tl 14 (aP (f_const (.int (2147483639 : Int32)) 16)))
  (tl 16 (aP (f_icmp (fun x y => decide (y < x)) 21 19)))))
  (tn 21 (tn 20 (tl 19 (aP (f_iload 3 20)))
  (tl 20 (o_iret (fun _ => true))))
  (tn 22 (tl 21 (aP (f_iload 0 22)))
  (tn 26 (tl 22 (aP (f_iload 1 23)))
  (tl 26 (o_iret (fun _ => true)))))))
theorem kok_J5_newLength {γ : AG} (hm : γ.2.2.2.2.1 = mTab) (hk : γ.2.2.2.2.2 = kTab) : KOK γ m_J5_newLength k_J5_newLength :=
 kn_ok
 (kn_ok
 (kn_ok
 (kn_ok
 (kl_ok (ok_aP (ok_iload_n dJ5_newLength_0 rfl rfl)))
 (kl_ok (ok_aP (ok_iload_n dJ5_newLength_1 rfl rfl))))
 (kn_ok
 (kl_ok (ok_aP (ok_iload_n dJ5_newLength_2 rfl rfl)))
 (kl_ok (ok_hp (ok_mmax q677 q678 q99 q679 dJ5_newLength_3 rfl) le_mth))))
 (kn_ok
 (kn_ok
 (kl_ok (ok_aP (ok_iadd dJ5_newLength_6 rfl)))
 (kl_ok (ok_aP (ok_istore_n dJ5_newLength_7 rfl rfl))))
 (kn_ok
 (kl_ok (ok_aP (ok_iconst dJ5_newLength_8 rfl rfl)))
 (kl_ok (ok_aP (ok_iload_n dJ5_newLength_9 rfl rfl))))))
 (kn_ok
 (kn_ok
 (kn_ok
 (kl_ok (ok_aP (ok_icmp_ge dJ5_newLength_10 rfl rfl)))
 (kl_ok (ok_aP (ok_iload_n dJ5_newLength_13 rfl rfl))))
 (kn_ok
 (kl_ok (ok_aP (ok_ldc q680 dJ5_newLength_14 rfl)))
 (kl_ok (ok_aP (ok_icmp_gt dJ5_newLength_16 rfl rfl)))))
 (kn_ok
 (kn_ok
 (kl_ok (ok_aP (ok_iload_n dJ5_newLength_19 rfl rfl)))
 (kl_ok (ok_iret rfl dJ5_newLength_20)))
 (kn_ok
 (kl_ok (ok_aP (ok_iload_n dJ5_newLength_21 rfl rfl)))
 (kn_ok
 (kl_ok (ok_aP (ok_iload_n dJ5_newLength_22 rfl rfl)))
 (kl_ok (ok_iret rfl dJ5_newLength_26))))))
/-- 253: jdk/internal/util/ArraysSupport.vectorizedHashCode(Ljava/lang/Object;IIII)I -/
noncomputable def k_J5_vectorizedHashCode : Nat → Option AOp :=
 tn 92 (tn 65 (tn 50 (tn 45 (tn 2 (tl 0 (aP (f_iload 4 2)))
  (tn 44 (tl 2 (aP (f_sw (fun x => if x.toInt < 4 ∨ 10 < x.toInt then 129 else [44, 57, 129, 129, 90, 103, 116].getD (x.toInt - 4).toNat 0))))
  (tl 44 (aP (f_iload 3 45)))))
  (tn 46 (tl 45 (aP (f_aload 0 46)))
  (tn 49 (tl 46 (aP (f_cast [] [1] 49)))
  (tl 49 (aP (f_iload 1 50))))))
  (tn 57 (tn 51 (tl 50 (aP (f_iload 2 51)))
  (tn 54 (tl 51 (o_callS 254 4 54))
  (tl 54 (aP (f_goto 157)))))
  (tn 61 (tl 57 (aP (f_aload 0 58)))
  (tn 64 (tl 61 (aP (f_if (fun x => decide (x = 0)) 77 64)))
  (tl 64 (aP (f_iload 3 65)))))))
  (tn 78 (tn 70 (tn 66 (tl 65 (aP (f_aload 0 66)))
  (tn 69 (tl 66 (aP (f_cast [] [1] 69)))
  (tl 69 (aP (f_iload 1 70)))))
  (tn 74 (tl 70 (aP (f_iload 2 71)))
  (tn 77 (tl 74 (aP (f_goto 157)))
  (tl 77 (aP (f_iload 3 78))))))
  (tn 87 (tn 82 (tl 78 (aP (f_aload 0 79)))
  (tn 83 (tl 82 (aP (f_iload 1 83)))
  (tl 83 (aP (f_iload 2 84)))))
  (tn 90 (tl 87 (aP (f_goto 157)))
  (tn 91 (tl 90 (aP (f_iload 3 91)))
  (tl 91 (aP (f_aload 0 92))))))))
  (tn 121 (tn 108 (tn 100 (tn 95 (tl 92 (aP (f_cast [] [1] 95)))
  (tn 96 (tl 95 (aP (f_iload 1 96)))
  (tl 96 (aP (f_iload 2 97)))))
  (tn 103 (tl 100 (aP (f_goto 157)))
  (tn 104 (tl 103 (aP (f_iload 3 104)))
  (tl 104 (aP (f_aload 0 105))))))
  (tn 116 (tn 109 (tl 108 (aP (f_iload 1 109)))
  (tn 113 (tl 109 (aP (f_iload 2 110)))
  (tl 113 (aP (f_goto 157)))))
  (tn 117 (tl 116 (aP (f_iload 3 117)))
  (tn 118 (tl 117 (aP (f_aload 0 118)))
  (tl 118 (aP (f_cast [] [0] 121)))))))
  (tn 137 (tn 132 (tn 122 (tl 121 (aP (f_iload 1 122)))
  (tn 126 (tl 122 (aP (f_iload 2 123)))
  (tl 126 (aP (f_goto 157)))))
  (tn 133 (tl 132 (aP (f_dup 133)))
  (tn 136 (tl 133 (o_new 20 [.null, .int 0, .int 0, .int 0] 136))
  (tl 136 (aP (f_dup 137))))))
  (tn 150 (tn 140 (tl 137 (o_callI 273 0 140))
  (tn 145 (tl 140 (aP (f_stat 63 142)))
  (tl 145 (aP (f_iload 4 147)))))
  (tn 156 (tn 153 (tl 150 (o_callV (lkN [(20, 275)]) 0 153))
  (tl 153 (o_callI 300 1 156)))
  (tn 157 (tl 156 (o_athrow [17, 22, 23, 24, 25]))
  (tl 157 (o_iret (fun _ => true))))))))
theorem kok_J5_vectorizedHashCode {γ : AG} (hm : γ.2.2.2.2.1 = mTab) (hk : γ.2.2.2.2.2 = kTab) : KOK γ m_J5_vectorizedHashCode k_J5_vectorizedHashCode :=
 kn_ok
 (kn_ok
 (kn_ok
 (kn_ok
 (kn_ok
 (kl_ok (ok_aP (ok_iload dJ5_vectorizedHashCode_0 rfl)))
 (kn_ok
 (kl_ok (ok_aP (ok_table (tg := [44, 57, 129, 129, 90, 103, 116]) (td := 129) dJ5_vectorizedHashCode_2 rfl rfl rfl rfl)))
 (kl_ok (ok_aP (ok_iload_n dJ5_vectorizedHashCode_44 rfl rfl)))))
 (kn_ok
 (kl_ok (ok_aP (ok_aload_n dJ5_vectorizedHashCode_45 rfl rfl)))
 (kn_ok
 (kl_ok (ok_aP (ok_cast q1164 (fun _ h => absurd h List.not_mem_nil) (List.forall_mem_cons.mpr ⟨fc_1 γ, (fun _ h => absurd h List.not_mem_nil)⟩) dJ5_vectorizedHashCode_46 rfl)))
 (kl_ok (ok_aP (ok_iload_n dJ5_vectorizedHashCode_49 rfl rfl))))))
 (kn_ok
 (kn_ok
 (kl_ok (ok_aP (ok_iload_n dJ5_vectorizedHashCode_50 rfl rfl)))
 (kn_ok
 (kl_ok (ok_callS (run_S (by rw [hm]; rfl) q1165 q1166 q98 q1167 ⟨nh_15, dl_88⟩ (by decide) dJ5_vectorizedHashCode_51) rfl))
 (kl_ok (ok_aP (ok_goto dJ5_vectorizedHashCode_54 rfl)))))
 (kn_ok
 (kl_ok (ok_aP (ok_aload_n dJ5_vectorizedHashCode_57 rfl rfl)))
 (kn_ok
 (kl_ok (ok_aP (ok_if_eq dJ5_vectorizedHashCode_61 rfl rfl)))
 (kl_ok (ok_aP (ok_iload_n dJ5_vectorizedHashCode_64 rfl rfl)))))))
 (kn_ok
 (kn_ok
 (kn_ok
 (kl_ok (ok_aP (ok_aload_n dJ5_vectorizedHashCode_65 rfl rfl)))
 (kn_ok
 (kl_ok (ok_aP (ok_cast q1164 (fun _ h => absurd h List.not_mem_nil) (List.forall_mem_cons.mpr ⟨fc_1 γ, (fun _ h => absurd h List.not_mem_nil)⟩) dJ5_vectorizedHashCode_66 rfl)))
 (kl_ok (ok_aP (ok_iload_n dJ5_vectorizedHashCode_69 rfl rfl)))))
 (kn_ok
 (kl_ok (ok_aP (ok_iload_n dJ5_vectorizedHashCode_70 rfl rfl)))
 (kn_ok
 (kl_ok (ok_aP (ok_goto dJ5_vectorizedHashCode_74 rfl)))
 (kl_ok (ok_aP (ok_iload_n dJ5_vectorizedHashCode_77 rfl rfl))))))
 (kn_ok
 (kn_ok
 (kl_ok (ok_aP (ok_aload_n dJ5_vectorizedHashCode_78 rfl rfl)))
 (kn_ok
 (kl_ok (ok_aP (ok_iload_n dJ5_vectorizedHashCode_82 rfl rfl)))
 (kl_ok (ok_aP (ok_iload_n dJ5_vectorizedHashCode_83 rfl rfl)))))
 (kn_ok
 (kl_ok (ok_aP (ok_goto dJ5_vectorizedHashCode_87 rfl)))
 (kn_ok
 (kl_ok (ok_aP (ok_iload_n dJ5_vectorizedHashCode_90 rfl rfl)))
 (kl_ok (ok_aP (ok_aload_n dJ5_vectorizedHashCode_91 rfl rfl))))))))
 (kn_ok
 (kn_ok
 (kn_ok
 (kn_ok
 (kl_ok (ok_aP (ok_cast q1164 (fun _ h => absurd h List.not_mem_nil) (List.forall_mem_cons.mpr ⟨fc_1 γ, (fun _ h => absurd h List.not_mem_nil)⟩) dJ5_vectorizedHashCode_92 rfl)))
 (kn_ok
 (kl_ok (ok_aP (ok_iload_n dJ5_vectorizedHashCode_95 rfl rfl)))
 (kl_ok (ok_aP (ok_iload_n dJ5_vectorizedHashCode_96 rfl rfl)))))
 (kn_ok
 (kl_ok (ok_aP (ok_goto dJ5_vectorizedHashCode_100 rfl)))
 (kn_ok
 (kl_ok (ok_aP (ok_iload_n dJ5_vectorizedHashCode_103 rfl rfl)))
 (kl_ok (ok_aP (ok_aload_n dJ5_vectorizedHashCode_104 rfl rfl))))))
 (kn_ok
 (kn_ok
 (kl_ok (ok_aP (ok_iload_n dJ5_vectorizedHashCode_108 rfl rfl)))
 (kn_ok
 (kl_ok (ok_aP (ok_iload_n dJ5_vectorizedHashCode_109 rfl rfl)))
 (kl_ok (ok_aP (ok_goto dJ5_vectorizedHashCode_113 rfl)))))
 (kn_ok
 (kl_ok (ok_aP (ok_iload_n dJ5_vectorizedHashCode_116 rfl rfl)))
 (kn_ok
 (kl_ok (ok_aP (ok_aload_n dJ5_vectorizedHashCode_117 rfl rfl)))
 (kl_ok (ok_aP (ok_cast q1195 (fun _ h => absurd h List.not_mem_nil) (List.forall_mem_cons.mpr ⟨fc_0 γ, (fun _ h => absurd h List.not_mem_nil)⟩) dJ5_vectorizedHashCode_118 rfl)))))))
 (kn_ok
 (kn_ok
 (kn_ok
 (kl_ok (ok_aP (ok_iload_n dJ5_vectorizedHashCode_121 rfl rfl)))
 (kn_ok
 (kl_ok (ok_aP (ok_iload_n dJ5_vectorizedHashCode_122 rfl rfl)))
 (kl_ok (ok_aP (ok_goto dJ5_vectorizedHashCode_126 rfl)))))
 (kn_ok
 (kl_ok (ok_aP (ok_dup dJ5_vectorizedHashCode_132 rfl)))
 (kn_ok
 (kl_ok (ok_hp (ok_new (by decide +kernel) rfl q1200 q807 q102 dJ5_vectorizedHashCode_133 rfl) le_new))
 (kl_ok (ok_aP (ok_dup dJ5_vectorizedHashCode_136 rfl))))))
 (kn_ok
 (kn_ok
 (kl_ok (ok_callI (run_I (by rw [hm]; rfl) q1201 q809 q102 q810 rfl ⟨nh_29, dl_0⟩ (by decide) dJ5_vectorizedHashCode_137) rfl))
 (kn_ok
 (kl_ok (ok_aP (ok_ldcS (tx := "unrecognized basic type: ") (dd := "") (by rw [hk]; rfl) dJ5_vectorizedHashCode_140 rfl)))
 (kl_ok (ok_aP (ok_iload dJ5_vectorizedHashCode_145 rfl)))))
 (kn_ok
 (kn_ok
 (kl_ok (ok_callV (List.forall_mem_cons.mpr ⟨run_V (C0 := "java/lang/StringBuilder") rfl rfl (by rw [hm]; rfl) q1205 q916 q917 q102 q918 ⟨nh_29, dl_62⟩ (by decide) dJ5_vectorizedHashCode_150, (fun _ h => absurd h List.not_mem_nil)⟩) rfl))
 (kl_ok (ok_callI (run_I (by rw [hm]; rfl) q1206 q1072 q109 q1073 rfl ⟨nh_31, dl_52⟩ (by decide) dJ5_vectorizedHashCode_153) rfl)))
 (kn_ok
 (kl_ok (ok_athrow dJ5_vectorizedHashCode_156))
 (kl_ok (ok_iret rfl dJ5_vectorizedHashCode_157)))))))
/-- 254: jdk/internal/util/ArraysSupport.signedHashCode(I[BII)I -/
noncomputable def k_J5_signedHashCode : Nat → Option AOp :=
 tn 18 (tn 6 (tn 2 (tn 1 (tl 0 (aP (f_iload 2 1)))
  (tl 1 (aP (f_iload 3 2))))
  (tn 3 (tl 2 (aP (f_bin (fun x y => x + y) 3)))
  (tn 5 (tl 3 (aP (f_istore 4 5)))
  (tl 5 (aP (f_iload 2 6))))))
  (tn 12 (tn 8 (tl 6 (aP (f_istore 5 8)))
  (tn 10 (tl 8 (aP (f_iload 5 10)))
  (tl 10 (aP (f_iload 4 12)))))
  (tn 15 (tl 12 (aP (f_icmp (fun x y => decide (y ≤ x)) 35 15)))
  (tn 17 (tl 15 (aP (f_const (.int (nI 31)) 17)))
  (tl 17 (aP (f_iload 0 18)))))))
  (tn 27 (tn 22 (tn 19 (tl 18 (aP (f_bin (fun x y => x * y) 19)))
  (tn 20 (tl 19 (aP (f_aload 1 20)))
  (tl 20 (aP (f_iload 5 22)))))
  (tn 23 (tl 22 (aP (f_iald 1 23)))
  (tn 26 (tl 23 (aP (f_const (.int (nI 255)) 26)))
  (tl 26 (aP (f_bin (fun x y => x &&& y) 27))))))
  (tn 32 (tn 28 (tl 27 (aP (f_bin (fun x y => x + y) 28)))
  (tn 29 (tl 28 (aP (f_istore 0 29)))
  (tl 29 (aP (f_iinc 5 (nI 1) 32)))))
  (tn 35 (tl 32 (aP (f_goto 8)))
  (tn 36 (tl 35 (aP (f_iload 0 36)))
  (tl 36 (o_iret (fun _ => true)))))))
theorem kok_J5_signedHashCode {γ : AG} (hm : γ.2.2.2.2.1 = mTab) (hk : γ.2.2.2.2.2 = kTab) : KOK γ m_J5_signedHashCode k_J5_signedHashCode :=
 kn_ok
 (kn_ok
 (kn_ok
 (kn_ok
 (kl_ok (ok_aP (ok_iload_n dJ5_signedHashCode_0 rfl rfl)))
 (kl_ok (ok_aP (ok_iload_n dJ5_signedHashCode_1 rfl rfl))))
 (kn_ok
 (kl_ok (ok_aP (ok_iadd dJ5_signedHashCode_2 rfl)))
 (kn_ok
 (kl_ok (ok_aP (ok_istore dJ5_signedHashCode_3 rfl)))
 (kl_ok (ok_aP (ok_iload_n dJ5_signedHashCode_5 rfl rfl))))))
 (kn_ok
 (kn_ok
 (kl_ok (ok_aP (ok_istore dJ5_signedHashCode_6 rfl)))
 (kn_ok
 (kl_ok (ok_aP (ok_iload dJ5_signedHashCode_8 rfl)))
 (kl_ok (ok_aP (ok_iload dJ5_signedHashCode_10 rfl)))))
 (kn_ok
 (kl_ok (ok_aP (ok_icmp_ge dJ5_signedHashCode_12 rfl rfl)))
 (kn_ok
 (kl_ok (ok_aP (ok_bipush dJ5_signedHashCode_15 (by decide +kernel) rfl)))
 (kl_ok (ok_aP (ok_iload_n dJ5_signedHashCode_17 rfl rfl)))))))
 (kn_ok
 (kn_ok
 (kn_ok
 (kl_ok (ok_aP (ok_imul dJ5_signedHashCode_18 rfl)))
 (kn_ok
 (kl_ok (ok_aP (ok_aload_n dJ5_signedHashCode_19 rfl rfl)))
 (kl_ok (ok_aP (ok_iload dJ5_signedHashCode_20 rfl)))))
 (kn_ok
 (kl_ok (ok_aP (ok_bald dJ5_signedHashCode_22 rfl)))
 (kn_ok
 (kl_ok (ok_aP (ok_sipush dJ5_signedHashCode_23 (by decide +kernel) rfl)))
 (kl_ok (ok_aP (ok_iand dJ5_signedHashCode_26 rfl))))))
 (kn_ok
 (kn_ok
 (kl_ok (ok_aP (ok_iadd dJ5_signedHashCode_27 rfl)))
 (kn_ok
 (kl_ok (ok_aP (ok_istore_n dJ5_signedHashCode_28 rfl rfl)))
 (kl_ok (ok_aP (ok_iinc dJ5_signedHashCode_29 (by decide +kernel) rfl)))))
 (kn_ok
 (kl_ok (ok_aP (ok_goto dJ5_signedHashCode_32 rfl)))
 (kn_ok
 (kl_ok (ok_aP (ok_iload_n dJ5_signedHashCode_35 rfl rfl)))
 (kl_ok (ok_iret rfl dJ5_signedHashCode_36))))))
/-- 255: java/util/Arrays.copyOf([Ljava/lang/Object;I)[Ljava/lang/Object; -/
noncomputable def k_J7_copyOf : Nat → Option AOp :=
 tn 3 (tn 1 (tl 0 (aP (f_aload 0 1)))
  (tn 2 (tl 1 (aP (f_iload 1 2)))
  (tl 2 (aP (f_aload 0 3)))))
  (tn 6 (tl 3 (aP (f_getC 8 6)))
  (tn 9 (tl 6 (o_callS 256 3 9))
  (tl 9 (o_aret))))
theorem kok_J7_copyOf {γ : AG} (hm : γ.2.2.2.2.1 = mTab) (hk : γ.2.2.2.2.2 = kTab) : KOK γ m_J7_copyOf k_J7_copyOf :=
 kn_ok
 (kn_ok
 (kl_ok (ok_aP (ok_aload_n dJ7_copyOf_0 rfl rfl)))
 (kn_ok
 (kl_ok (ok_aP (ok_iload_n dJ7_copyOf_1 rfl rfl)))
 (kl_ok (ok_aP (ok_aload_n dJ7_copyOf_2 rfl rfl)))))
 (kn_ok
 (kl_ok (ok_aP (ok_getC (n1 := "") (n2 := "") (by rw [hk]; rfl) q687 q2373 q2372 q688 q720 dJ7_copyOf_3 rfl)))
 (kn_ok
 (kl_ok (ok_callS (run_S (by rw [hm]; rfl) q721 q722 q100 q723 ⟨nh_16, dl_41⟩ (by decide) dJ7_copyOf_6) rfl))
 (kl_ok (ok_aret rfl (Or.inr ⟨_, rfl⟩) dJ7_copyOf_9))))
/-- 256: java/util/Arrays.copyOf([Ljava/lang/Object;ILjava/lang/Class;)[Ljava/lang/Object; -/
noncomputable def k_J7_copyOf_2 : Nat → Option AOp :=
 tn 25 (tn 10 (tn 3 (tn 1 (tl 0 (aP (f_aload 2 1)))
  (tl 1 (aP (f_stat 8 3))))
  (tn 6 (tl 3 (aP (f_acmp 6 13)))
  (tn 7 (tl 6 (aP (f_iload 1 7)))
  (tl 7 (o_newa 3 (.inr (.inr (fun _ => none))) 10)))))
  (tn 17 (tn 13 (tl 10 (aP (f_goto 24)))
  (tl 13 (aP (f_aload 2 14))))
  (tn 21 (tl 17 (aP (f_iload 1 18)))
  (tn 24 (tl 21 (aP (f_cast [] [3] 24)))
  (tl 24 (aP (f_astore 3 25)))))))
  (tn 30 (tn 27 (tn 26 (tl 25 (aP (f_aload 0 26)))
  (tl 26 (aP (f_const (.int (nI 0)) 27))))
  (tn 28 (tl 27 (aP (f_aload 3 28)))
  (tn 29 (tl 28 (aP (f_const (.int (nI 0)) 29)))
  (tl 29 (aP (f_aload 0 30))))))
  (tn 35 (tn 31 (tl 30 (aP (f_alen 31)))
  (tn 32 (tl 31 (aP (f_iload 1 32)))
  (tl 32 (o_mth (fun x y => if y < x then y else x) 35))))
  (tn 38 (tl 35 (o_copy anyC anyT 38))
  (tn 39 (tl 38 (aP (f_aload 3 39)))
  (tl 39 (o_aret))))))
theorem kok_J7_copyOf_2 {γ : AG} (hm : γ.2.2.2.2.1 = mTab) (hk : γ.2.2.2.2.2 = kTab) : KOK γ m_J7_copyOf_2 k_J7_copyOf_2 :=
 kn_ok
 (kn_ok
 (kn_ok
 (kn_ok
 (kl_ok (ok_aP (ok_aload_n dJ7_copyOf_2_0 rfl rfl)))
 (kl_ok (ok_aP (ok_ldcM (C0 := "[Ljava/lang/Object;") (n := "") (dd := "") (by rw [hk]; rfl) q724 dJ7_copyOf_2_1 rfl))))
 (kn_ok
 (kl_ok (ok_aP (ok_acmp_ne dJ7_copyOf_2_3 rfl rfl)))
 (kn_ok
 (kl_ok (ok_aP (ok_iload_n dJ7_copyOf_2_6 rfl rfl)))
 (kl_ok (ok_hp (ok_anew q726 dJ7_copyOf_2_7 rfl) le_newa)))))
 (kn_ok
 (kn_ok
 (kl_ok (ok_aP (ok_goto dJ7_copyOf_2_10 rfl)))
 (kl_ok (ok_aP (ok_aload_n dJ7_copyOf_2_13 rfl rfl))))
 (kn_ok
 (kl_ok (ok_aP (ok_iload_n dJ7_copyOf_2_17 rfl rfl)))
 (kn_ok
 (kl_ok (ok_aP (ok_cast q724 (fun _ h => absurd h List.not_mem_nil) (List.forall_mem_cons.mpr ⟨fc_3 γ, (fun _ h => absurd h List.not_mem_nil)⟩) dJ7_copyOf_2_21 rfl)))
 (kl_ok (ok_aP (ok_astore_n dJ7_copyOf_2_24 rfl rfl)))))))
 (kn_ok
 (kn_ok
 (kn_ok
 (kl_ok (ok_aP (ok_aload_n dJ7_copyOf_2_25 rfl rfl)))
 (kl_ok (ok_aP (ok_iconst dJ7_copyOf_2_26 rfl rfl))))
 (kn_ok
 (kl_ok (ok_aP (ok_aload_n dJ7_copyOf_2_27 rfl rfl)))
 (kn_ok
 (kl_ok (ok_aP (ok_iconst dJ7_copyOf_2_28 rfl rfl)))
 (kl_ok (ok_aP (ok_aload_n dJ7_copyOf_2_29 rfl rfl))))))
 (kn_ok
 (kn_ok
 (kl_ok (ok_aP (ok_alen dJ7_copyOf_2_30 rfl)))
 (kn_ok
 (kl_ok (ok_aP (ok_iload_n dJ7_copyOf_2_31 rfl rfl)))
 (kl_ok (ok_hp (ok_mmin q727 q728 q99 q729 dJ7_copyOf_2_32 rfl) le_mth))))
 (kn_ok
 (kl_ok (ok_hp (ok_copy any_ok q730 q585 q584 q93 dJ7_copyOf_2_35 rfl) le_copy))
 (kn_ok
 (kl_ok (ok_aP (ok_aload_n dJ7_copyOf_2_38 rfl rfl)))
 (kl_ok (ok_aret rfl (Or.inr ⟨_, rfl⟩) dJ7_copyOf_2_39))))))
/-- 257: java/util/Arrays.copyOf([BI)[B -/
noncomputable def k_J7_copyOf_3 : Nat → Option AOp :=
 tn 18 (tn 7 (tn 2 (tn 1 (tl 0 (aP (f_iload 1 1)))
  (tl 1 (aP (f_aload 0 2))))
  (tn 3 (tl 2 (aP (f_alen 3)))
  (tn 6 (tl 3 (aP (f_icmp (fun x y => decide (¬ x = y)) 14 6)))
  (tl 6 (aP (f_aload 0 7))))))
  (tn 14 (tn 10 (tl 7 (o_cloneB 10))
  (tn 13 (tl 10 (aP (f_cast [] [1] 13)))
  (tl 13 (o_aret))))
  (tn 15 (tl 14 (aP (f_iload 1 15)))
  (tn 17 (tl 15 (o_newa 1 (.inl (fun _ => 0)) 17))
  (tl 17 (aP (f_astore 2 18)))))))
  (tn 23 (tn 20 (tn 19 (tl 18 (aP (f_aload 0 19)))
  (tl 19 (aP (f_const (.int (nI 0)) 20))))
  (tn 21 (tl 20 (aP (f_aload 2 21)))
  (tn 22 (tl 21 (aP (f_const (.int (nI 0)) 22)))
  (tl 22 (aP (f_aload 0 23))))))
  (tn 28 (tn 24 (tl 23 (aP (f_alen 24)))
  (tn 25 (tl 24 (aP (f_iload 1 25)))
  (tl 25 (o_mth (fun x y => if y < x then y else x) 28))))
  (tn 31 (tl 28 (o_copy anyC anyT 31))
  (tn 32 (tl 31 (aP (f_aload 2 32)))
  (tl 32 (o_aret))))))
theorem kok_J7_copyOf_3 {γ : AG} (hm : γ.2.2.2.2.1 = mTab) (hk : γ.2.2.2.2.2 = kTab) : KOK γ m_J7_copyOf_3 k_J7_copyOf_3 :=
 kn_ok
 (kn_ok
 (kn_ok
 (kn_ok
 (kl_ok (ok_aP (ok_iload_n dJ7_copyOf_3_0 rfl rfl)))
 (kl_ok (ok_aP (ok_aload_n dJ7_copyOf_3_1 rfl rfl))))
 (kn_ok
 (kl_ok (ok_aP (ok_alen dJ7_copyOf_3_2 rfl)))
 (kn_ok
 (kl_ok (ok_aP (ok_icmp_ne dJ7_copyOf_3_3 rfl rfl)))
 (kl_ok (ok_aP (ok_aload_n dJ7_copyOf_3_6 rfl rfl))))))
 (kn_ok
 (kn_ok
 (kl_ok (ok_hp (ok_cloneB q857 q858 q859 q860 q861 q862 dJ7_copyOf_3_7 rfl) le_cloneB))
 (kn_ok
 (kl_ok (ok_aP (ok_cast q863 (fun _ h => absurd h List.not_mem_nil) (List.forall_mem_cons.mpr ⟨fc_1 γ, (fun _ h => absurd h List.not_mem_nil)⟩) dJ7_copyOf_3_10 rfl)))
 (kl_ok (ok_aret rfl (Or.inr ⟨_, rfl⟩) dJ7_copyOf_3_13))))
 (kn_ok
 (kl_ok (ok_aP (ok_iload_n dJ7_copyOf_3_14 rfl rfl)))
 (kn_ok
 (kl_ok (ok_hp (na_byte dJ7_copyOf_3_15 rfl) le_newa))
 (kl_ok (ok_aP (ok_astore_n dJ7_copyOf_3_17 rfl rfl)))))))
 (kn_ok
 (kn_ok
 (kn_ok
 (kl_ok (ok_aP (ok_aload_n dJ7_copyOf_3_18 rfl rfl)))
 (kl_ok (ok_aP (ok_iconst dJ7_copyOf_3_19 rfl rfl))))
 (kn_ok
 (kl_ok (ok_aP (ok_aload_n dJ7_copyOf_3_20 rfl rfl)))
 (kn_ok
 (kl_ok (ok_aP (ok_iconst dJ7_copyOf_3_21 rfl rfl)))
 (kl_ok (ok_aP (ok_aload_n dJ7_copyOf_3_22 rfl rfl))))))
 (kn_ok
 (kn_ok
 (kl_ok (ok_aP (ok_alen dJ7_copyOf_3_23 rfl)))
 (kn_ok
 (kl_ok (ok_aP (ok_iload_n dJ7_copyOf_3_24 rfl rfl)))
 (kl_ok (ok_hp (ok_mmin q727 q728 q99 q729 dJ7_copyOf_3_25 rfl) le_mth))))
 (kn_ok
 (kl_ok (ok_hp (ok_copy any_ok q730 q585 q584 q93 dJ7_copyOf_3_28 rfl) le_copy))
 (kn_ok
 (kl_ok (ok_aP (ok_aload_n dJ7_copyOf_3_31 rfl rfl)))
 (kl_ok (ok_aret rfl (Or.inr ⟨_, rfl⟩) dJ7_copyOf_3_32))))))
/-- 258: java/util/Arrays.copyOfRange([BII)[B -/
noncomputable def k_J7_copyOfRange : Nat → Option AOp :=
 tn 11 (tn 5 (tn 1 (tl 0 (aP (f_iload 1 1)))
  (tn 4 (tl 1 (aP (f_if (fun x => decide (¬ x = 0)) 10 4)))
  (tl 4 (aP (f_iload 2 5)))))
  (tn 7 (tn 6 (tl 5 (aP (f_aload 0 6)))
  (tl 6 (aP (f_alen 7))))
  (tn 10 (tl 7 (aP (f_icmp (fun x y => decide (x = y)) 17 10)))
  (tl 10 (aP (f_aload 0 11))))))
  (tn 17 (tn 13 (tn 12 (tl 11 (aP (f_iload 1 12)))
  (tl 12 (aP (f_iload 2 13))))
  (tn 16 (tl 13 (o_callS 259 3 16))
  (tl 16 (o_aret))))
  (tn 21 (tn 18 (tl 17 (aP (f_aload 0 18)))
  (tl 18 (o_cloneB 21)))
  (tn 24 (tl 21 (aP (f_cast [] [1] 24)))
  (tl 24 (o_aret)))))
theorem kok_J7_copyOfRange {γ : AG} (hm : γ.2.2.2.2.1 = mTab) (hk : γ.2.2.2.2.2 = kTab) : KOK γ m_J7_copyOfRange k_J7_copyOfRange :=
 kn_ok
 (kn_ok
 (kn_ok
 (kl_ok (ok_aP (ok_iload_n dJ7_copyOfRange_0 rfl rfl)))
 (kn_ok
 (kl_ok (ok_aP (ok_if_ne dJ7_copyOfRange_1 rfl rfl)))
 (kl_ok (ok_aP (ok_iload_n dJ7_copyOfRange_4 rfl rfl)))))
 (kn_ok
 (kn_ok
 (kl_ok (ok_aP (ok_aload_n dJ7_copyOfRange_5 rfl rfl)))
 (kl_ok (ok_aP (ok_alen dJ7_copyOfRange_6 rfl))))
 (kn_ok
 (kl_ok (ok_aP (ok_icmp_eq dJ7_copyOfRange_7 rfl rfl)))
 (kl_ok (ok_aP (ok_aload_n dJ7_copyOfRange_10 rfl rfl))))))
 (kn_ok
 (kn_ok
 (kn_ok
 (kl_ok (ok_aP (ok_iload_n dJ7_copyOfRange_11 rfl rfl)))
 (kl_ok (ok_aP (ok_iload_n dJ7_copyOfRange_12 rfl rfl))))
 (kn_ok
 (kl_ok (ok_callS (run_S (by rw [hm]; rfl) q945 q946 q100 q947 ⟨nh_16, dl_67⟩ (by decide) dJ7_copyOfRange_13) rfl))
 (kl_ok (ok_aret rfl (Or.inr ⟨_, rfl⟩) dJ7_copyOfRange_16))))
 (kn_ok
 (kn_ok
 (kl_ok (ok_aP (ok_aload_n dJ7_copyOfRange_17 rfl rfl)))
 (kl_ok (ok_hp (ok_cloneB q857 q858 q859 q860 q861 q862 dJ7_copyOfRange_18 rfl) le_cloneB)))
 (kn_ok
 (kl_ok (ok_aP (ok_cast q863 (fun _ h => absurd h List.not_mem_nil) (List.forall_mem_cons.mpr ⟨fc_1 γ, (fun _ h => absurd h List.not_mem_nil)⟩) dJ7_copyOfRange_21 rfl)))
 (kl_ok (ok_aret rfl (Or.inr ⟨_, rfl⟩) dJ7_copyOfRange_24)))))
/-- 259: java/util/Arrays.copyOfRangeByte([BII)[B -/
noncomputable def k_J7_copyOfRangeByte : Nat → Option AOp :=
 tn 15 (tn 7 (tn 2 (tn 1 (tl 0 (aP (f_iload 1 1)))
  (tl 1 (aP (f_iload 2 2))))
  (tn 5 (tl 2 (o_callS 260 2 5))
  (tn 6 (tl 5 (aP (f_iload 2 6)))
  (tl 6 (aP (f_iload 1 7))))))
  (tn 10 (tn 8 (tl 7 (aP (f_bin (fun x y => x - y) 8)))
  (tn 9 (tl 8 (aP (f_istore 3 9)))
  (tl 9 (aP (f_iload 3 10)))))
  (tn 12 (tl 10 (o_newa 1 (.inl (fun _ => 0)) 12))
  (tn 14 (tl 12 (aP (f_astore 4 14)))
  (tl 14 (aP (f_aload 0 15)))))))
  (tn 22 (tn 19 (tn 16 (tl 15 (aP (f_iload 1 16)))
  (tn 18 (tl 16 (aP (f_aload 4 18)))
  (tl 18 (aP (f_const (.int (nI 0)) 19)))))
  (tn 20 (tl 19 (aP (f_aload 0 20)))
  (tn 21 (tl 20 (aP (f_alen 21)))
  (tl 21 (aP (f_iload 1 22))))))
  (tn 27 (tn 23 (tl 22 (aP (f_bin (fun x y => x - y) 23)))
  (tn 24 (tl 23 (aP (f_iload 3 24)))
  (tl 24 (o_mth (fun x y => if y < x then y else x) 27))))
  (tn 30 (tl 27 (o_copy anyC anyT 30))
  (tn 32 (tl 30 (aP (f_aload 4 32)))
  (tl 32 (o_aret))))))
theorem kok_J7_copyOfRangeByte {γ : AG} (hm : γ.2.2.2.2.1 = mTab) (hk : γ.2.2.2.2.2 = kTab) : KOK γ m_J7_copyOfRangeByte k_J7_copyOfRangeByte :=
 kn_ok
 (kn_ok
 (kn_ok
 (kn_ok
 (kl_ok (ok_aP (ok_iload_n dJ7_copyOfRangeByte_0 rfl rfl)))
 (kl_ok (ok_aP (ok_iload_n dJ7_copyOfRangeByte_1 rfl rfl))))
 (kn_ok
 (kl_ok (ok_callS (run_S (by rw [hm]; rfl) q948 q949 q100 q950 ⟨nh_16, dl_19⟩ (by decide) dJ7_copyOfRangeByte_2) rfl))
 (kn_ok
 (kl_ok (ok_aP (ok_iload_n dJ7_copyOfRangeByte_5 rfl rfl)))
 (kl_ok (ok_aP (ok_iload_n dJ7_copyOfRangeByte_6 rfl rfl))))))
 (kn_ok
 (kn_ok
 (kl_ok (ok_aP (ok_isub dJ7_copyOfRangeByte_7 rfl)))
 (kn_ok
 (kl_ok (ok_aP (ok_istore_n dJ7_copyOfRangeByte_8 rfl rfl)))
 (kl_ok (ok_aP (ok_iload_n dJ7_copyOfRangeByte_9 rfl rfl)))))
 (kn_ok
 (kl_ok (ok_hp (na_byte dJ7_copyOfRangeByte_10 rfl) le_newa))
 (kn_ok
 (kl_ok (ok_aP (ok_astore dJ7_copyOfRangeByte_12 rfl)))
 (kl_ok (ok_aP (ok_aload_n dJ7_copyOfRangeByte_14 rfl rfl)))))))
 (kn_ok
 (kn_ok
 (kn_ok
 (kl_ok (ok_aP (ok_iload_n dJ7_copyOfRangeByte_15 rfl rfl)))
 (kn_ok
 (kl_ok (ok_aP (ok_aload dJ7_copyOfRangeByte_16 rfl)))
 (kl_ok (ok_aP (ok_iconst dJ7_copyOfRangeByte_18 rfl rfl)))))
 (kn_ok
 (kl_ok (ok_aP (ok_aload_n dJ7_copyOfRangeByte_19 rfl rfl)))
 (kn_ok
 (kl_ok (ok_aP (ok_alen dJ7_copyOfRangeByte_20 rfl)))
 (kl_ok (ok_aP (ok_iload_n dJ7_copyOfRangeByte_21 rfl rfl))))))
 (kn_ok
 (kn_ok
 (kl_ok (ok_aP (ok_isub dJ7_copyOfRangeByte_22 rfl)))
 (kn_ok
 (kl_ok (ok_aP (ok_iload_n dJ7_copyOfRangeByte_23 rfl rfl)))
 (kl_ok (ok_hp (ok_mmin q727 q728 q99 q729 dJ7_copyOfRangeByte_24 rfl) le_mth))))
 (kn_ok
 (kl_ok (ok_hp (ok_copy any_ok q730 q585 q584 q93 dJ7_copyOfRangeByte_27 rfl) le_copy))
 (kn_ok
 (kl_ok (ok_aP (ok_aload dJ7_copyOfRangeByte_30 rfl)))
 (kl_ok (ok_aret rfl (Or.inr ⟨_, rfl⟩) dJ7_copyOfRangeByte_32))))))
/-- 260: java/util/Arrays.checkLength(II)V -/
noncomputable def k_J7_checkLength : Nat → Option AOp :=
 tn 16 (tn 8 (tn 1 (tl 0 (aP (f_iload 1 1)))
  (tn 2 (tl 1 (aP (f_iload 0 2)))
  (tl 2 (aP (f_icmp (fun x y => decide (y ≤ x)) 37 5)))))
  (tn 12 (tn 9 (tl 8 (aP (f_dup 9)))
  (tl 9 (o_new 20 [.null, .int 0, .int 0, .int 0] 12)))
  (tn 13 (tl 12 (aP (f_dup 13)))
  (tl 13 (o_callI 273 0 16)))))
  (tn 30 (tn 20 (tl 16 (aP (f_iload 0 17)))
  (tn 26 (tl 20 (aP (f_stat 62 23)))
  (tl 26 (aP (f_iload 1 27)))))
  (tn 36 (tn 33 (tl 30 (o_callV (lkN [(20, 275)]) 0 33))
  (tl 33 (o_callI 300 1 36)))
  (tn 37 (tl 36 (o_athrow [17, 22, 23, 24, 25]))
  (tl 37 (o_vret)))))
theorem kok_J7_checkLength {γ : AG} (hm : γ.2.2.2.2.1 = mTab) (hk : γ.2.2.2.2.2 = kTab) : KOK γ m_J7_checkLength k_J7_checkLength :=
 kn_ok
 (kn_ok
 (kn_ok
 (kl_ok (ok_aP (ok_iload_n dJ7_checkLength_0 rfl rfl)))
 (kn_ok
 (kl_ok (ok_aP (ok_iload_n dJ7_checkLength_1 rfl rfl)))
 (kl_ok (ok_aP (ok_icmp_ge dJ7_checkLength_2 rfl rfl)))))
 (kn_ok
 (kn_ok
 (kl_ok (ok_aP (ok_dup dJ7_checkLength_8 rfl)))
 (kl_ok (ok_hp (ok_new (by decide +kernel) rfl q995 q807 q102 dJ7_checkLength_9 rfl) le_new)))
 (kn_ok
 (kl_ok (ok_aP (ok_dup dJ7_checkLength_12 rfl)))
 (kl_ok (ok_callI (run_I (by rw [hm]; rfl) q996 q809 q102 q810 rfl ⟨nh_29, dl_0⟩ (by decide) dJ7_checkLength_13) rfl)))))
 (kn_ok
 (kn_ok
 (kl_ok (ok_aP (ok_iload_n dJ7_checkLength_16 rfl rfl)))
 (kn_ok
 (kl_ok (ok_aP (ok_ldcSW (tx := " > ") (dd := "") (by rw [hk]; rfl) dJ7_checkLength_20 rfl)))
 (kl_ok (ok_aP (ok_iload_n dJ7_checkLength_26 rfl rfl)))))
 (kn_ok
 (kn_ok
 (kl_ok (ok_callV (List.forall_mem_cons.mpr ⟨run_V (C0 := "java/lang/StringBuilder") rfl rfl (by rw [hm]; rfl) q1070 q916 q917 q102 q918 ⟨nh_29, dl_62⟩ (by decide) dJ7_checkLength_30, (fun _ h => absurd h List.not_mem_nil)⟩) rfl))
 (kl_ok (ok_callI (run_I (by rw [hm]; rfl) q1071 q1072 q109 q1073 rfl ⟨nh_31, dl_52⟩ (by decide) dJ7_checkLength_33) rfl)))
 (kn_ok
 (kl_ok (ok_athrow dJ7_checkLength_36))
 (kl_ok (ok_vret rfl dJ7_checkLength_37)))))
/-- 261: java/util/Arrays.fill([II)V -/
noncomputable def k_J7_fill : Nat → Option AOp :=
 tn 7 (tn 3 (tn 1 (tl 0 (aP (f_const (.int (nI 0)) 1)))
  (tn 2 (tl 1 (aP (f_istore 2 2)))
  (tl 2 (aP (f_aload 0 3)))))
  (tn 5 (tn 4 (tl 3 (aP (f_alen 4)))
  (tl 4 (aP (f_istore 3 5))))
  (tn 6 (tl 5 (aP (f_iload 2 6)))
  (tl 6 (aP (f_iload 3 7))))))
  (tn 13 (tn 11 (tn 10 (tl 7 (aP (f_icmp (fun x y => decide (y ≤ x)) 20 10)))
  (tl 10 (aP (f_aload 0 11))))
  (tn 12 (tl 11 (aP (f_iload 2 12)))
  (tl 12 (aP (f_iload 1 13)))))
  (tn 17 (tn 14 (tl 13 (o_iast 0 (fun y => y) 14))
  (tl 14 (aP (f_iinc 2 (nI 1) 17))))
  (tn 20 (tl 17 (aP (f_goto 5)))
  (tl 20 (o_vret)))))
theorem kok_J7_fill {γ : AG} (hm : γ.2.2.2.2.1 = mTab) (hk : γ.2.2.2.2.2 = kTab) : KOK γ m_J7_fill k_J7_fill :=
 kn_ok
 (kn_ok
 (kn_ok
 (kl_ok (ok_aP (ok_iconst dJ7_fill_0 rfl rfl)))
 (kn_ok
 (kl_ok (ok_aP (ok_istore_n dJ7_fill_1 rfl rfl)))
 (kl_ok (ok_aP (ok_aload_n dJ7_fill_2 rfl rfl)))))
 (kn_ok
 (kn_ok
 (kl_ok (ok_aP (ok_alen dJ7_fill_3 rfl)))
 (kl_ok (ok_aP (ok_istore_n dJ7_fill_4 rfl rfl))))
 (kn_ok
 (kl_ok (ok_aP (ok_iload_n dJ7_fill_5 rfl rfl)))
 (kl_ok (ok_aP (ok_iload_n dJ7_fill_6 rfl rfl))))))
 (kn_ok
 (kn_ok
 (kn_ok
 (kl_ok (ok_aP (ok_icmp_ge dJ7_fill_7 rfl rfl)))
 (kl_ok (ok_aP (ok_aload_n dJ7_fill_10 rfl rfl))))
 (kn_ok
 (kl_ok (ok_aP (ok_iload_n dJ7_fill_11 rfl rfl)))
 (kl_ok (ok_aP (ok_iload_n dJ7_fill_12 rfl rfl)))))
 (kn_ok
 (kn_ok
 (kl_ok (ok_hp (ok_iast dJ7_fill_13 rfl) le_iast))
 (kl_ok (ok_aP (ok_iinc dJ7_fill_14 (by decide +kernel) rfl))))
 (kn_ok
 (kl_ok (ok_aP (ok_goto dJ7_fill_17 rfl)))
 (kl_ok (ok_vret rfl dJ7_fill_20)))))
/-- 262: java/lang/AbstractStringBuilder.<init>(I)V -/
noncomputable def k_J8_init : Nat → Option AOp :=
 tn 18 (tn 10 (tn 4 (tn 1 (tl 0 (aP (f_aload 0 1)))
  (tl 1 (aP (f_objI 4))))
  (tn 7 (tl 4 (aP (f_stat 4 7)))
  (tl 7 (aP (f_if (fun x => decide (x = 0)) 25 10)))))
  (tn 12 (tn 11 (tl 10 (aP (f_aload 0 11)))
  (tl 11 (aP (f_iload 1 12))))
  (tn 14 (tl 12 (o_newa 1 (.inl (fun _ => 0)) 14))
  (tn 17 (tl 14 (o_putf [20] 0 vA 17))
  (tl 17 (aP (f_aload 0 18)))))))
  (tn 30 (tn 22 (tn 19 (tl 18 (aP (f_const (.int (nI 0)) 19)))
  (tl 19 (o_putf [20] 1 vB 22)))
  (tn 25 (tl 22 (aP (f_goto 38)))
  (tn 26 (tl 25 (aP (f_aload 0 26)))
  (tl 26 (aP (f_iload 1 27))))))
  (tn 34 (tn 33 (tl 30 (o_putf [20] 0 vA 33))
  (tl 33 (aP (f_aload 0 34))))
  (tn 35 (tl 34 (aP (f_const (.int (nI 1)) 35)))
  (tn 38 (tl 35 (o_putf [20] 1 vB 38))
  (tl 38 (o_vret))))))
theorem kok_J8_init {γ : AG} (hm : γ.2.2.2.2.1 = mTab) (hk : γ.2.2.2.2.2 = kTab) : KOK γ m_J8_init k_J8_init :=
 kn_ok
 (kn_ok
 (kn_ok
 (kn_ok
 (kl_ok (ok_aP (ok_aload_n dJ8_init_0 rfl rfl)))
 (kl_ok (ok_aP (ok_objI q814 q135 q136 dJ8_init_1 rfl))))
 (kn_ok
 (kl_ok (ok_aP (ok_stat (C0 := "java/lang/String") (by rw [hk]; rfl) (Or.inl q815) rfl dJ8_init_4 rfl)))
 (kl_ok (ok_aP (ok_if_eq dJ8_init_7 rfl rfl)))))
 (kn_ok
 (kn_ok
 (kl_ok (ok_aP (ok_aload_n dJ8_init_10 rfl rfl)))
 (kl_ok (ok_aP (ok_iload_n dJ8_init_11 rfl rfl))))
 (kn_ok
 (kl_ok (ok_hp (na_byte dJ8_init_12 rfl) le_newa))
 (kn_ok
 (kl_ok (ok_hp (ok_putf fo_108 fs_rf fn_90 (Or.inl q824) pd_11 vA_okA dJ8_init_14 rfl) le_putf))
 (kl_ok (ok_aP (ok_aload_n dJ8_init_17 rfl rfl)))))))
 (kn_ok
 (kn_ok
 (kn_ok
 (kl_ok (ok_aP (ok_iconst dJ8_init_18 rfl rfl)))
 (kl_ok (ok_hp (ok_putf fo_109 fs_rf fn_91 (Or.inl q825) pd_17 vB_ok dJ8_init_19 rfl) le_putf)))
 (kn_ok
 (kl_ok (ok_aP (ok_goto dJ8_init_22 rfl)))
 (kn_ok
 (kl_ok (ok_aP (ok_aload_n dJ8_init_25 rfl rfl)))
 (kl_ok (ok_aP (ok_iload_n dJ8_init_26 rfl rfl))))))
 (kn_ok
 (kn_ok
 (kl_ok (ok_hp (ok_putf fo_108 fs_rf fn_90 (Or.inl q824) pd_11 vA_okA dJ8_init_30 rfl) le_putf))
 (kl_ok (ok_aP (ok_aload_n dJ8_init_33 rfl rfl))))
 (kn_ok
 (kl_ok (ok_aP (ok_iconst dJ8_init_34 rfl rfl)))
 (kn_ok
 (kl_ok (ok_hp (ok_putf fo_109 fs_rf fn_91 (Or.inl q825) pd_17 vB_ok dJ8_init_35 rfl) le_putf))
 (kl_ok (ok_vret rfl dJ8_init_38))))))
/-- 263: java/lang/AbstractStringBuilder.append(C)Ljava/lang/AbstractStringBuilder; -/
noncomputable def k_J8_append : Nat → Option AOp :=
 tn 36 (tn 18 (tn 7 (tn 2 (tn 1 (tl 0 (aP (f_aload 0 1)))
  (tl 1 (aP (f_aload 0 2))))
  (tn 5 (tl 2 (aP (f_getf [20] 3 5)))
  (tn 6 (tl 5 (aP (f_const (.int (nI 1)) 6)))
  (tl 6 (aP (f_bin (fun x y => x + y) 7))))))
  (tn 11 (tn 10 (tl 7 (o_callV (lkN [(20, 264)]) 1 10))
  (tl 10 (aP (f_aload 0 11))))
  (tn 14 (tl 11 (o_callV (lkN [(20, 266)]) 0 14))
  (tn 17 (tl 14 (aP (f_if (fun x => decide (x = 0)) 45 17)))
  (tl 17 (aP (f_iload 1 18)))))))
  (tn 29 (tn 24 (tn 21 (tl 18 (o_callS 287 1 21))
  (tl 21 (aP (f_if (fun x => decide (x = 0)) 45 24))))
  (tn 25 (tl 24 (aP (f_aload 0 25)))
  (tn 28 (tl 25 (aP (f_getf [20] 0 28)))
  (tl 28 (aP (f_aload 0 29))))))
  (tn 33 (tn 30 (tl 29 (aP (f_dup 30)))
  (tl 30 (aP (f_getf [20] 3 33))))
  (tn 34 (tl 33 (aP (f_dupx1 34)))
  (tn 35 (tl 34 (aP (f_const (.int (nI 1)) 35)))
  (tl 35 (aP (f_bin (fun x y => x + y) 36))))))))
  (tn 57 (tn 45 (tn 40 (tn 39 (tl 36 (o_putf [20] 3 vI 39))
  (tl 39 (aP (f_iload 1 40))))
  (tn 41 (tl 40 (aP (f_un (fun x => x.toInt8.toInt32) 41)))
  (tn 42 (tl 41 (o_iast 1 (fun y => y.toInt8.toInt32) 42))
  (tl 42 (aP (f_goto 75))))))
  (tn 49 (tn 46 (tl 45 (aP (f_aload 0 46)))
  (tl 46 (o_callV (lkN [(20, 266)]) 0 49)))
  (tn 52 (tl 49 (aP (f_if (fun x => decide (x = 0)) 56 52)))
  (tn 56 (tl 52 (aP (f_aload 0 53)))
  (tl 56 (aP (f_aload 0 57)))))))
  (tn 66 (tn 61 (tn 60 (tl 57 (aP (f_getf [20] 0 60)))
  (tl 60 (aP (f_aload 0 61))))
  (tn 62 (tl 61 (aP (f_dup 62)))
  (tn 65 (tl 62 (aP (f_getf [20] 3 65)))
  (tl 65 (aP (f_dupx1 66))))))
  (tn 71 (tn 67 (tl 66 (aP (f_const (.int (nI 1)) 67)))
  (tn 68 (tl 67 (aP (f_bin (fun x y => x + y) 68)))
  (tl 68 (o_putf [20] 3 vI 71))))
  (tn 75 (tl 71 (aP (f_iload 1 72)))
  (tn 76 (tl 75 (aP (f_aload 0 76)))
  (tl 76 (o_aret)))))))
theorem kok_J8_append {γ : AG} (hm : γ.2.2.2.2.1 = mTab) (hk : γ.2.2.2.2.2 = kTab) : KOK γ m_J8_append k_J8_append :=
 kn_ok
 (kn_ok
 (kn_ok
 (kn_ok
 (kn_ok
 (kl_ok (ok_aP (ok_aload_n dJ8_append_0 rfl rfl)))
 (kl_ok (ok_aP (ok_aload_n dJ8_append_1 rfl rfl))))
 (kn_ok
 (kl_ok (ok_aP (ok_getf fo_107 fs_rf (Or.inl q827) dJ8_append_2 rfl)))
 (kn_ok
 (kl_ok (ok_aP (ok_iconst dJ8_append_5 rfl rfl)))
 (kl_ok (ok_aP (ok_iadd dJ8_append_6 rfl))))))
 (kn_ok
 (kn_ok
 (kl_ok (ok_callV (List.forall_mem_cons.mpr ⟨run_Eci rfl (by decide +kernel) (by rw [hm]; rfl) q844 q2328 q846 q101 q847 ⟨nh_30, dl_32⟩ (by decide) dJ8_append_7, fun _ h => absurd h List.not_mem_nil⟩) rfl))
 (kl_ok (ok_aP (ok_aload_n dJ8_append_10 rfl rfl))))
 (kn_ok
 (kl_ok (ok_callV (List.forall_mem_cons.mpr ⟨run_U (C0 := "java/lang/StringBuilder") (owner := "java/lang/AbstractStringBuilder") (nx := ⟨"java/lang/AbstractStringBuilder", "isLatin1", "()Z"⟩) rfl rfl (by rw [hm]; rfl) q864 q866 q867 q865 q101 q868 ⟨nh_30, dl_16⟩ (by decide) dJ8_append_11, (fun _ h => absurd h List.not_mem_nil)⟩) rfl))
 (kn_ok
 (kl_ok (ok_aP (ok_if_eq dJ8_append_14 rfl rfl)))
 (kl_ok (ok_aP (ok_iload_n dJ8_append_17 rfl rfl)))))))
 (kn_ok
 (kn_ok
 (kn_ok
 (kl_ok (ok_callS (run_S (by rw [hm]; rfl) q869 q870 q105 q871 ⟨nh_22, dl_69⟩ (by decide) dJ8_append_18) rfl))
 (kl_ok (ok_aP (ok_if_eq dJ8_append_21 rfl rfl))))
 (kn_ok
 (kl_ok (ok_aP (ok_aload_n dJ8_append_24 rfl rfl)))
 (kn_ok
 (kl_ok (ok_aP (ok_getf fo_108 fs_rf (Or.inl q824) dJ8_append_25 rfl)))
 (kl_ok (ok_aP (ok_aload_n dJ8_append_28 rfl rfl))))))
 (kn_ok
 (kn_ok
 (kl_ok (ok_aP (ok_dup dJ8_append_29 rfl)))
 (kl_ok (ok_aP (ok_getf fo_107 fs_rf (Or.inl q827) dJ8_append_30 rfl))))
 (kn_ok
 (kl_ok (ok_aP (ok_dupx1 dJ8_append_33 rfl)))
 (kn_ok
 (kl_ok (ok_aP (ok_iconst dJ8_append_34 rfl rfl)))
 (kl_ok (ok_aP (ok_iadd dJ8_append_35 rfl))))))))
 (kn_ok
 (kn_ok
 (kn_ok
 (kn_ok
 (kl_ok (ok_hp (ok_putf fo_107 fs_rf fn_92 (Or.inl q827) pd_0 vI_ok dJ8_append_36 rfl) le_putf))
 (kl_ok (ok_aP (ok_iload_n dJ8_append_39 rfl rfl))))
 (kn_ok
 (kl_ok (ok_aP (ok_i2b dJ8_append_40 rfl)))
 (kn_ok
 (kl_ok (ok_hp (ok_bast dJ8_append_41 rfl) le_iast))
 (kl_ok (ok_aP (ok_goto dJ8_append_42 rfl))))))
 (kn_ok
 (kn_ok
 (kl_ok (ok_aP (ok_aload_n dJ8_append_45 rfl rfl)))
 (kl_ok (ok_callV (List.forall_mem_cons.mpr ⟨run_U (C0 := "java/lang/StringBuilder") (owner := "java/lang/AbstractStringBuilder") (nx := ⟨"java/lang/AbstractStringBuilder", "isLatin1", "()Z"⟩) rfl rfl (by rw [hm]; rfl) q864 q866 q867 q865 q101 q868 ⟨nh_30, dl_16⟩ (by decide) dJ8_append_46, (fun _ h => absurd h List.not_mem_nil)⟩) rfl)))
 (kn_ok
 (kl_ok (ok_aP (ok_if_eq dJ8_append_49 rfl rfl)))
 (kn_ok
 (kl_ok (ok_aP (ok_aload_n dJ8_append_52 rfl rfl)))
 (kl_ok (ok_aP (ok_aload_n dJ8_append_56 rfl rfl)))))))
 (kn_ok
 (kn_ok
 (kn_ok
 (kl_ok (ok_aP (ok_getf fo_108 fs_rf (Or.inl q824) dJ8_append_57 rfl)))
 (kl_ok (ok_aP (ok_aload_n dJ8_append_60 rfl rfl))))
 (kn_ok
 (kl_ok (ok_aP (ok_dup dJ8_append_61 rfl)))
 (kn_ok
 (kl_ok (ok_aP (ok_getf fo_107 fs_rf (Or.inl q827) dJ8_append_62 rfl)))
 (kl_ok (ok_aP (ok_dupx1 dJ8_append_65 rfl))))))
 (kn_ok
 (kn_ok
 (kl_ok (ok_aP (ok_iconst dJ8_append_66 rfl rfl)))
 (kn_ok
 (kl_ok (ok_aP (ok_iadd dJ8_append_67 rfl)))
 (kl_ok (ok_hp (ok_putf fo_107 fs_rf fn_92 (Or.inl q827) pd_0 vI_ok dJ8_append_68 rfl) le_putf))))
 (kn_ok
 (kl_ok (ok_aP (ok_iload_n dJ8_append_71 rfl rfl)))
 (kn_ok
 (kl_ok (ok_aP (ok_aload_n dJ8_append_75 rfl rfl)))
 (kl_ok (ok_aret rfl (Or.inl ⟨_, rfl⟩) dJ8_append_76)))))))
/-- 264: java/lang/AbstractStringBuilder.ensureCapacityInternal(I)V -/
noncomputable def k_J8_ensureCapacityInternal : Nat → Option AOp :=
 tn 17 (tn 9 (tn 4 (tn 1 (tl 0 (aP (f_aload 0 1)))
  (tl 1 (aP (f_getf [20] 0 4))))
  (tn 5 (tl 4 (aP (f_alen 5)))
  (tn 6 (tl 5 (aP (f_aload 0 6)))
  (tl 6 (aP (f_getf [20] 1 9))))))
  (tn 12 (tn 10 (tl 9 (aP (f_bin (fun x y => x >>> (y &&& 31)) 10)))
  (tn 11 (tl 10 (aP (f_istore 2 11)))
  (tl 11 (aP (f_iload 1 12)))))
  (tn 13 (tl 12 (aP (f_iload 2 13)))
  (tn 14 (tl 13 (aP (f_bin (fun x y => x - y) 14)))
  (tl 14 (aP (f_if (fun x => decide (x ≤ 0)) 38 17)))))))
  (tn 27 (tn 22 (tn 18 (tl 17 (aP (f_aload 0 18)))
  (tn 19 (tl 18 (aP (f_aload 0 19)))
  (tl 19 (aP (f_getf [20] 0 22)))))
  (tn 23 (tl 22 (aP (f_aload 0 23)))
  (tn 24 (tl 23 (aP (f_iload 1 24)))
  (tl 24 (o_callV (lkN [(20, 265)]) 1 27)))))
  (tn 32 (tn 28 (tl 27 (aP (f_aload 0 28)))
  (tn 31 (tl 28 (aP (f_getf [20] 1 31)))
  (tl 31 (aP (f_bin (fun x y => x <<< (y &&& 31)) 32)))))
  (tn 35 (tl 32 (o_callS 257 2 35))
  (tn 38 (tl 35 (o_putf [20] 0 vA 38))
  (tl 38 (o_vret))))))
theorem kok_J8_ensureCapacityInternal {γ : AG} (hm : γ.2.2.2.2.1 = mTab) (hk : γ.2.2.2.2.2 = kTab) : KOK γ m_J8_ensureCapacityInternal k_J8_ensureCapacityInternal :=
 kn_ok
 (kn_ok
 (kn_ok
 (kn_ok
 (kl_ok (ok_aP (ok_aload_n dJ8_ensureCapacityInternal_0 rfl rfl)))
 (kl_ok (ok_aP (ok_getf fo_108 fs_rf (Or.inl q824) dJ8_ensureCapacityInternal_1 rfl))))
 (kn_ok
 (kl_ok (ok_aP (ok_alen dJ8_ensureCapacityInternal_4 rfl)))
 (kn_ok
 (kl_ok (ok_aP (ok_aload_n dJ8_ensureCapacityInternal_5 rfl rfl)))
 (kl_ok (ok_aP (ok_getf fo_109 fs_rf (Or.inl q825) dJ8_ensureCapacityInternal_6 rfl))))))
 (kn_ok
 (kn_ok
 (kl_ok (ok_aP (ok_ishr dJ8_ensureCapacityInternal_9 rfl)))
 (kn_ok
 (kl_ok (ok_aP (ok_istore_n dJ8_ensureCapacityInternal_10 rfl rfl)))
 (kl_ok (ok_aP (ok_iload_n dJ8_ensureCapacityInternal_11 rfl rfl)))))
 (kn_ok
 (kl_ok (ok_aP (ok_iload_n dJ8_ensureCapacityInternal_12 rfl rfl)))
 (kn_ok
 (kl_ok (ok_aP (ok_isub dJ8_ensureCapacityInternal_13 rfl)))
 (kl_ok (ok_aP (ok_if_le dJ8_ensureCapacityInternal_14 rfl rfl)))))))
 (kn_ok
 (kn_ok
 (kn_ok
 (kl_ok (ok_aP (ok_aload_n dJ8_ensureCapacityInternal_17 rfl rfl)))
 (kn_ok
 (kl_ok (ok_aP (ok_aload_n dJ8_ensureCapacityInternal_18 rfl rfl)))
 (kl_ok (ok_aP (ok_getf fo_108 fs_rf (Or.inl q824) dJ8_ensureCapacityInternal_19 rfl)))))
 (kn_ok
 (kl_ok (ok_aP (ok_aload_n dJ8_ensureCapacityInternal_22 rfl rfl)))
 (kn_ok
 (kl_ok (ok_aP (ok_iload_n dJ8_ensureCapacityInternal_23 rfl rfl)))
 (kl_ok (ok_callV (List.forall_mem_cons.mpr ⟨run_Eci rfl (by decide +kernel) (by rw [hm]; rfl) q848 q2329 q850 q101 q851 ⟨nh_30, dl_10⟩ (by decide) dJ8_ensureCapacityInternal_24, fun _ h => absurd h List.not_mem_nil⟩) rfl)))))
 (kn_ok
 (kn_ok
 (kl_ok (ok_aP (ok_aload_n dJ8_ensureCapacityInternal_27 rfl rfl)))
 (kn_ok
 (kl_ok (ok_aP (ok_getf fo_109 fs_rf (Or.inl q825) dJ8_ensureCapacityInternal_28 rfl)))
 (kl_ok (ok_aP (ok_ishl dJ8_ensureCapacityInternal_31 rfl)))))
 (kn_ok
 (kl_ok (ok_callS (run_S (by rw [hm]; rfl) q854 q855 q100 q856 ⟨nh_16, dl_70⟩ (by decide) dJ8_ensureCapacityInternal_32) rfl))
 (kn_ok
 (kl_ok (ok_hp (ok_putf fo_108 fs_rf fn_90 (Or.inl q824) pd_11 vA_okA dJ8_ensureCapacityInternal_35 rfl) le_putf))
 (kl_ok (ok_vret rfl dJ8_ensureCapacityInternal_38))))))
/-- 265: java/lang/AbstractStringBuilder.newCapacity(I)I -/
noncomputable def k_J8_newCapacity : Nat → Option AOp :=
 tn 22 (tn 12 (tn 6 (tn 4 (tn 1 (tl 0 (aP (f_aload 0 1)))
  (tl 1 (aP (f_getf [20] 0 4))))
  (tn 5 (tl 4 (aP (f_alen 5)))
  (tl 5 (aP (f_istore 2 6)))))
  (tn 8 (tn 7 (tl 6 (aP (f_iload 1 7)))
  (tl 7 (aP (f_aload 0 8))))
  (tn 11 (tl 8 (aP (f_getf [20] 1 11)))
  (tl 11 (aP (f_bin (fun x y => x <<< (y &&& 31)) 12))))))
  (tn 16 (tn 14 (tn 13 (tl 12 (aP (f_istore 3 13)))
  (tl 13 (aP (f_iload 3 14))))
  (tn 15 (tl 14 (aP (f_iload 2 15)))
  (tl 15 (aP (f_bin (fun x y => x - y) 16)))))
  (tn 19 (tn 18 (tl 16 (aP (f_istore 4 18)))
  (tl 18 (aP (f_iload 2 19))))
  (tn 21 (tl 19 (aP (f_iload 4 21)))
  (tl 21 (aP (f_iload 2 22)))))))
  (tn 36 (tn 28 (tn 24 (tn 23 (tl 22 (aP (f_const (.int (nI 2)) 23)))
  (tl 23 (aP (f_aload 0 24))))
  (tn 27 (tl 24 (aP (f_getf [20] 1 27)))
  (tl 27 (aP (f_bin (fun x y => x <<< (y &&& 31)) 28)))))
  (tn 32 (tn 29 (tl 28 (aP (f_bin (fun x y => x + y) 29)))
  (tl 29 (o_callS 252 3 32)))
  (tn 34 (tl 32 (aP (f_istore 5 34)))
  (tl 34 (aP (f_iload 5 36))))))
  (tn 51 (tn 44 (tn 38 (tl 36 (aP (f_const (.int (2147483647 : Int32)) 38)))
  (tl 38 (aP (f_icmp (fun x y => decide (¬ x = y)) 51 41))))
  (tn 50 (tl 44 (aP (f_dup 45)))
  (tl 50 (o_athrow [17, 22, 23, 24, 25]))))
  (tn 54 (tn 53 (tl 51 (aP (f_iload 5 53)))
  (tl 53 (aP (f_aload 0 54))))
  (tn 57 (tl 54 (aP (f_getf [20] 1 57)))
  (tn 58 (tl 57 (aP (f_bin (fun x y => x >>> (y &&& 31)) 58)))
  (tl 58 (o_iret (fun _ => true))))))))
theorem kok_J8_newCapacity {γ : AG} (hm : γ.2.2.2.2.1 = mTab) (hk : γ.2.2.2.2.2 = kTab) : KOK γ m_J8_newCapacity k_J8_newCapacity :=
 kn_ok
 (kn_ok
 (kn_ok
 (kn_ok
 (kn_ok
 (kl_ok (ok_aP (ok_aload_n dJ8_newCapacity_0 rfl rfl)))
 (kl_ok (ok_aP (ok_getf fo_108 fs_rf (Or.inl q824) dJ8_newCapacity_1 rfl))))
 (kn_ok
 (kl_ok (ok_aP (ok_alen dJ8_newCapacity_4 rfl)))
 (kl_ok (ok_aP (ok_istore_n dJ8_newCapacity_5 rfl rfl)))))
 (kn_ok
 (kn_ok
 (kl_ok (ok_aP (ok_iload_n dJ8_newCapacity_6 rfl rfl)))
 (kl_ok (ok_aP (ok_aload_n dJ8_newCapacity_7 rfl rfl))))
 (kn_ok
 (kl_ok (ok_aP (ok_getf fo_109 fs_rf (Or.inl q825) dJ8_newCapacity_8 rfl)))
 (kl_ok (ok_aP (ok_ishl dJ8_newCapacity_11 rfl))))))
 (kn_ok
 (kn_ok
 (kn_ok
 (kl_ok (ok_aP (ok_istore_n dJ8_newCapacity_12 rfl rfl)))
 (kl_ok (ok_aP (ok_iload_n dJ8_newCapacity_13 rfl rfl))))
 (kn_ok
 (kl_ok (ok_aP (ok_iload_n dJ8_newCapacity_14 rfl rfl)))
 (kl_ok (ok_aP (ok_isub dJ8_newCapacity_15 rfl)))))
 (kn_ok
 (kn_ok
 (kl_ok (ok_aP (ok_istore dJ8_newCapacity_16 rfl)))
 (kl_ok (ok_aP (ok_iload_n dJ8_newCapacity_18 rfl rfl))))
 (kn_ok
 (kl_ok (ok_aP (ok_iload dJ8_newCapacity_19 rfl)))
 (kl_ok (ok_aP (ok_iload_n dJ8_newCapacity_21 rfl rfl)))))))
 (kn_ok
 (kn_ok
 (kn_ok
 (kn_ok
 (kl_ok (ok_aP (ok_iconst dJ8_newCapacity_22 rfl rfl)))
 (kl_ok (ok_aP (ok_aload_n dJ8_newCapacity_23 rfl rfl))))
 (kn_ok
 (kl_ok (ok_aP (ok_getf fo_109 fs_rf (Or.inl q825) dJ8_newCapacity_24 rfl)))
 (kl_ok (ok_aP (ok_ishl dJ8_newCapacity_27 rfl)))))
 (kn_ok
 (kn_ok
 (kl_ok (ok_aP (ok_iadd dJ8_newCapacity_28 rfl)))
 (kl_ok (ok_callS (run_S (by rw [hm]; rfl) q852 q675 q98 q676 ⟨nh_15, dl_13⟩ (by decide) dJ8_newCapacity_29) rfl)))
 (kn_ok
 (kl_ok (ok_aP (ok_istore dJ8_newCapacity_32 rfl)))
 (kl_ok (ok_aP (ok_iload dJ8_newCapacity_34 rfl))))))
 (kn_ok
 (kn_ok
 (kn_ok
 (kl_ok (ok_aP (ok_ldc q853 dJ8_newCapacity_36 rfl)))
 (kl_ok (ok_aP (ok_icmp_ne dJ8_newCapacity_38 rfl rfl))))
 (kn_ok
 (kl_ok (ok_aP (ok_dup dJ8_newCapacity_44 rfl)))
 (kl_ok (ok_athrow dJ8_newCapacity_50))))
 (kn_ok
 (kn_ok
 (kl_ok (ok_aP (ok_iload dJ8_newCapacity_51 rfl)))
 (kl_ok (ok_aP (ok_aload_n dJ8_newCapacity_53 rfl rfl))))
 (kn_ok
 (kl_ok (ok_aP (ok_getf fo_109 fs_rf (Or.inl q825) dJ8_newCapacity_54 rfl)))
 (kn_ok
 (kl_ok (ok_aP (ok_ishr dJ8_newCapacity_57 rfl)))
 (kl_ok (ok_iret rfl dJ8_newCapacity_58)))))))
/-- 266: java/lang/AbstractStringBuilder.isLatin1()Z -/
noncomputable def k_J8_isLatin1 : Nat → Option AOp :=
 tn 10 (tn 6 (tn 3 (tl 0 (aP (f_stat 4 3)))
  (tl 3 (aP (f_if (fun x => decide (x = 0)) 17 6))))
  (tn 7 (tl 6 (aP (f_aload 0 7)))
  (tl 7 (aP (f_getf [20] 1 10)))))
  (tn 14 (tn 13 (tl 10 (aP (f_if (fun x => decide (¬ x = 0)) 17 13)))
  (tl 13 (aP (f_const (.int (nI 1)) 14))))
  (tn 17 (tl 14 (aP (f_goto 18)))
  (tn 18 (tl 17 (aP (f_const (.int (nI 0)) 18)))
  (tl 18 (o_iret (fun x => x == 0 || x == 1))))))
theorem kok_J8_isLatin1 {γ : AG} (hm : γ.2.2.2.2.1 = mTab) (hk : γ.2.2.2.2.2 = kTab) : KOK γ m_J8_isLatin1 k_J8_isLatin1 :=
 kn_ok
 (kn_ok
 (kn_ok
 (kl_ok (ok_aP (ok_stat (C0 := "java/lang/String") (by rw [hk]; rfl) (Or.inl q815) rfl dJ8_isLatin1_0 rfl)))
 (kl_ok (ok_aP (ok_if_eq dJ8_isLatin1_3 rfl rfl))))
 (kn_ok
 (kl_ok (ok_aP (ok_aload_n dJ8_isLatin1_6 rfl rfl)))
 (kl_ok (ok_aP (ok_getf fo_109 fs_rf (Or.inl q825) dJ8_isLatin1_7 rfl)))))
 (kn_ok
 (kn_ok
 (kl_ok (ok_aP (ok_if_ne dJ8_isLatin1_10 rfl rfl)))
 (kl_ok (ok_aP (ok_iconst dJ8_isLatin1_13 rfl rfl))))
 (kn_ok
 (kl_ok (ok_aP (ok_goto dJ8_isLatin1_14 rfl)))
 (kn_ok
 (kl_ok (ok_aP (ok_iconst dJ8_isLatin1_17 rfl rfl)))
 (kl_ok (ok_zret rfl z_boolean dJ8_isLatin1_18)))))
/-- 268: java/lang/AbstractStringBuilder.getValue()[B -/
noncomputable def k_J8_getValue : Nat → Option AOp :=
 tn 1 (tl 0 (aP (f_aload 0 1)))
  (tn 4 (tl 1 (aP (f_getf [20] 0 4)))
  (tl 4 (o_aret)))
theorem kok_J8_getValue {γ : AG} (hm : γ.2.2.2.2.1 = mTab) (hk : γ.2.2.2.2.2 = kTab) : KOK γ m_J8_getValue k_J8_getValue :=
 kn_ok
 (kl_ok (ok_aP (ok_aload_n dJ8_getValue_0 rfl rfl)))
 (kn_ok
 (kl_ok (ok_aP (ok_getf fo_108 fs_rf (Or.inl q824) dJ8_getValue_1 rfl)))
 (kl_ok (ok_aret rfl (Or.inr ⟨_, rfl⟩) dJ8_getValue_4)))
/-- 269: java/lang/AbstractStringBuilder.length()I -/
noncomputable def k_J8_length : Nat → Option AOp :=
 tn 1 (tl 0 (aP (f_aload 0 1)))
  (tn 4 (tl 1 (aP (f_getf [20] 3 4)))
  (tl 4 (o_iret (fun _ => true))))
theorem kok_J8_length {γ : AG} (hm : γ.2.2.2.2.1 = mTab) (hk : γ.2.2.2.2.2 = kTab) : KOK γ m_J8_length k_J8_length :=
 kn_ok
 (kl_ok (ok_aP (ok_aload_n dJ8_length_0 rfl rfl)))
 (kn_ok
 (kl_ok (ok_aP (ok_getf fo_107 fs_rf (Or.inl q827) dJ8_length_1 rfl)))
 (kl_ok (ok_iret rfl dJ8_length_4)))
/-- 273: java/lang/StringBuilder.<init>()V -/
noncomputable def k_J9_init : Nat → Option AOp :=
 tn 3 (tn 1 (tl 0 (aP (f_aload 0 1)))
  (tl 1 (aP (f_const (.int (nI 16)) 3))))
  (tn 6 (tl 3 (o_callI 262 1 6))
  (tl 6 (o_vret)))
theorem kok_J9_init {γ : AG} (hm : γ.2.2.2.2.1 = mTab) (hk : γ.2.2.2.2.2 = kTab) : KOK γ m_J9_init k_J9_init :=
 kn_ok
 (kn_ok
 (kl_ok (ok_aP (ok_aload_n dJ9_init_0 rfl rfl)))
 (kl_ok (ok_aP (ok_bipush dJ9_init_1 (by decide +kernel) rfl))))
 (kn_ok
 (kl_ok (ok_callI (run_I (by rw [hm]; rfl) q811 q812 q101 q813 rfl ⟨nh_30, dl_32⟩ (by decide) dJ9_init_3) rfl))
 (kl_ok (ok_vret rfl dJ9_init_6)))
/-- 274: java/lang/StringBuilder.append(C)Ljava/lang/StringBuilder; -/
noncomputable def k_J9_append : Nat → Option AOp :=
 tn 5 (tn 1 (tl 0 (aP (f_aload 0 1)))
  (tn 2 (tl 1 (aP (f_iload 1 2)))
  (tl 2 (o_callV (lkN [(20, 263)]) 1 5))))
  (tn 6 (tl 5 (aP (f_pop 6)))
  (tn 7 (tl 6 (aP (f_aload 0 7)))
  (tl 7 (o_aret))))
theorem kok_J9_append {γ : AG} (hm : γ.2.2.2.2.1 = mTab) (hk : γ.2.2.2.2.2 = kTab) : KOK γ m_J9_append k_J9_append :=
 kn_ok
 (kn_ok
 (kl_ok (ok_aP (ok_aload_n dJ9_append_0 rfl rfl)))
 (kn_ok
 (kl_ok (ok_aP (ok_iload_n dJ9_append_1 rfl rfl)))
 (kl_ok (ok_callV (List.forall_mem_cons.mpr ⟨run_SU (C0 := "java/lang/StringBuilder") rfl (by rw [hm]; rfl) q841 q2327 q836 q842 q101 q843 ⟨by decide +kernel, dl_68⟩ (by decide) dJ9_append_2, fun _ h => absurd h List.not_mem_nil⟩) rfl))))
 (kn_ok
 (kl_ok (ok_aP (ok_pop dJ9_append_5 rfl)))
 (kn_ok
 (kl_ok (ok_aP (ok_aload_n dJ9_append_6 rfl rfl)))
 (kl_ok (ok_aret rfl (Or.inl ⟨_, rfl⟩) dJ9_append_7))))
/-- 275: java/lang/StringBuilder.toString()Ljava/lang/String; -/
noncomputable def k_J9_toString : Nat → Option AOp :=
 tn 4 (tn 3 (tl 0 (o_new 21 [.null, .int 0, .int 0, .int 0] 3))
  (tl 3 (aP (f_dup 4))))
  (tn 5 (tl 4 (aP (f_aload 0 5)))
  (tn 8 (tl 5 (o_callI 278 1 8))
  (tl 8 (o_aret))))
theorem kok_J9_toString {γ : AG} (hm : γ.2.2.2.2.1 = mTab) (hk : γ.2.2.2.2.2 = kTab) : KOK γ m_J9_toString k_J9_toString :=
 kn_ok
 (kn_ok
 (kl_ok (ok_hp (ok_new (by decide +kernel) rfl q919 q920 q103 dJ9_toString_0 rfl) le_new))
 (kl_ok (ok_aP (ok_dup dJ9_toString_3 rfl))))
 (kn_ok
 (kl_ok (ok_aP (ok_aload_n dJ9_toString_4 rfl rfl)))
 (kn_ok
 (kl_ok (ok_callI (run_I (by rw [hm]; rfl) q921 q922 q103 q923 rfl ⟨nh_21, dl_64⟩ (by decide) dJ9_toString_5) rfl))
 (kl_ok (ok_aret rfl (Or.inl ⟨_, rfl⟩) dJ9_toString_8))))
/-- 276: java/lang/StringBuilder.length()I -/
noncomputable def k_J9_length : Nat → Option AOp :=
 tn 1 (tl 0 (aP (f_aload 0 1)))
  (tn 4 (tl 1 (o_callV (lkN [(20, 269)]) 0 4))
  (tl 4 (o_iret (fun _ => true))))
theorem kok_J9_length {γ : AG} (hm : γ.2.2.2.2.1 = mTab) (hk : γ.2.2.2.2.2 = kTab) : KOK γ m_J9_length k_J9_length :=
 kn_ok
 (kl_ok (ok_aP (ok_aload_n dJ9_length_0 rfl rfl)))
 (kn_ok
 (kl_ok (ok_callV (List.forall_mem_cons.mpr ⟨run_SU (C0 := "java/lang/StringBuilder") rfl (by rw [hm]; rfl) q939 q935 q836 q934 q101 q940 ⟨by decide +kernel, dl_4⟩ (by decide) dJ9_length_1, fun _ h => absurd h List.not_mem_nil⟩) rfl))
 (kl_ok (ok_iret rfl dJ9_length_4)))
/-- 277: java/lang/String.checkIndex(II)V -/
noncomputable def k_J10_checkIndex : Nat → Option AOp :=
 tn 5 (tn 1 (tl 0 (aP (f_iload 0 1)))
  (tn 2 (tl 1 (aP (f_iload 1 2)))
  (tl 2 (aP (f_stat 9 5)))))
  (tn 8 (tl 5 (o_callS 241 3 8))
  (tn 9 (tl 8 (aP (f_pop 9)))
  (tl 9 (o_vret))))
theorem kok_J10_checkIndex {γ : AG} (hm : γ.2.2.2.2.1 = mTab) (hk : γ.2.2.2.2.2 = kTab) : KOK γ m_J10_checkIndex k_J10_checkIndex :=
 kn_ok
 (kn_ok
 (kl_ok (ok_aP (ok_iload_n dJ10_checkIndex_0 rfl rfl)))
 (kn_ok
 (kl_ok (ok_aP (ok_iload_n dJ10_checkIndex_1 rfl rfl)))
 (kl_ok (ok_aP (ok_stat (C0 := "jdk/internal/util/Preconditions") (by rw [hk]; rfl) (Or.inl q891) rfl dJ10_checkIndex_2 rfl)))))
 (kn_ok
 (kl_ok (ok_callS (run_S (by rw [hm]; rfl) q914 q412 q95 q413 ⟨nh_13, dl_31⟩ (by decide) dJ10_checkIndex_5) rfl))
 (kn_ok
 (kl_ok (ok_aP (ok_pop dJ10_checkIndex_8 rfl)))
 (kl_ok (ok_vret rfl dJ10_checkIndex_9))))
/-- 278: java/lang/String.<init>(Ljava/lang/StringBuilder;)V -/
noncomputable def k_J10_init : Nat → Option AOp :=
 tn 2 (tn 1 (tl 0 (aP (f_aload 0 1)))
  (tl 1 (aP (f_aload 1 2))))
  (tn 3 (tl 2 (aP (f_const .null 3)))
  (tn 6 (tl 3 (o_callI 279 2 6))
  (tl 6 (o_vret))))
theorem kok_J10_init {γ : AG} (hm : γ.2.2.2.2.1 = mTab) (hk : γ.2.2.2.2.2 = kTab) : KOK γ m_J10_init k_J10_init :=
 kn_ok
 (kn_ok
 (kl_ok (ok_aP (ok_aload_n dJ10_init_0 rfl rfl)))
 (kl_ok (ok_aP (ok_aload_n dJ10_init_1 rfl rfl))))
 (kn_ok
 (kl_ok (ok_aP (ok_null dJ10_init_2 rfl)))
 (kn_ok
 (kl_ok (ok_callI (run_I (by rw [hm]; rfl) q924 q925 q103 q926 rfl ⟨nh_21, dl_65⟩ (by decide) dJ10_init_3) rfl))
 (kl_ok (ok_vret rfl dJ10_init_6))))
/-- 279: java/lang/String.<init>(Ljava/lang/AbstractStringBuilder;Ljava/lang/Void;)V -/
noncomputable def k_J10_init_2 : Nat → Option AOp :=
 tn 48 (tn 23 (tn 10 (tn 5 (tn 1 (tl 0 (aP (f_aload 0 1)))
  (tn 4 (tl 1 (aP (f_objI 4)))
  (tl 4 (aP (f_aload 1 5)))))
  (tn 8 (tl 5 (o_callV (lkN [(20, 268)]) 0 8))
  (tn 9 (tl 8 (aP (f_astore 3 9)))
  (tl 9 (aP (f_aload 1 10))))))
  (tn 16 (tn 13 (tl 10 (o_callV (lkN [(20, 276)]) 0 13))
  (tn 15 (tl 13 (aP (f_istore 4 15)))
  (tl 15 (aP (f_aload 1 16)))))
  (tn 19 (tl 16 (o_callV (lkN [(20, 266)]) 0 19))
  (tn 22 (tl 19 (aP (f_if (fun x => decide (x = 0)) 41 22)))
  (tl 22 (aP (f_aload 0 23)))))))
  (tn 32 (tn 28 (tn 24 (tl 23 (aP (f_const (.int (nI 0)) 24)))
  (tn 27 (tl 24 (o_putf [21] 1 vB 27))
  (tl 27 (aP (f_aload 0 28)))))
  (tn 29 (tl 28 (aP (f_aload 3 29)))
  (tn 30 (tl 29 (aP (f_const (.int (nI 0)) 30)))
  (tl 30 (aP (f_iload 4 32))))))
  (tn 41 (tn 35 (tl 32 (o_callS 258 3 35))
  (tn 38 (tl 35 (o_putf [21] 0 vA 38))
  (tl 38 (aP (f_goto 97)))))
  (tn 44 (tl 41 (aP (f_stat 4 44)))
  (tn 47 (tl 44 (aP (f_if (fun x => decide (x = 0)) 79 47)))
  (tl 47 (aP (f_aload 1 48))))))))
  (tn 78 (tn 62 (tn 55 (tn 51 (tl 48 (aP (f_getf [20] 2 51)))
  (tn 54 (tl 51 (aP (f_if (fun x => decide (x = 0)) 79 54)))
  (tl 54 (aP (f_aload 0 55)))))
  (tn 56 (tl 55 (aP (f_aload 3 56)))
  (tn 57 (tl 56 (aP (f_const (.int (nI 0)) 57)))
  (tl 57 (aP (f_iload 4 59))))))
  (tn 67 (tn 65 (tl 62 (o_putf [21] 0 vA 65))
  (tn 66 (tl 65 (aP (f_aload 0 66)))
  (tl 66 (aP (f_aload 0 67)))))
  (tn 70 (tl 67 (aP (f_getf [21] 0 70)))
  (tn 75 (tl 70 (aP (f_iload 4 72)))
  (tl 75 (o_putf [21] 1 vB 78))))))
  (tn 86 (tn 81 (tn 79 (tl 78 (o_vret))
  (tn 80 (tl 79 (aP (f_aload 0 80)))
  (tl 80 (aP (f_const (.int (nI 1)) 81)))))
  (tn 84 (tl 81 (o_putf [21] 1 vB 84))
  (tn 85 (tl 84 (aP (f_aload 0 85)))
  (tl 85 (aP (f_aload 3 86))))))
  (tn 90 (tn 87 (tl 86 (aP (f_const (.int (nI 0)) 87)))
  (tn 89 (tl 87 (aP (f_iload 4 89)))
  (tl 89 (aP (f_const (.int (nI 1)) 90)))))
  (tn 94 (tn 91 (tl 90 (aP (f_bin (fun x y => x <<< (y &&& 31)) 91)))
  (tl 91 (o_callS 258 3 94)))
  (tn 97 (tl 94 (o_putf [21] 0 vA 97))
  (tl 97 (o_vret)))))))
theorem kok_J10_init_2 {γ : AG} (hm : γ.2.2.2.2.1 = mTab) (hk : γ.2.2.2.2.2 = kTab) : KOK γ m_J10_init_2 k_J10_init_2 :=
 kn_ok
 (kn_ok
 (kn_ok
 (kn_ok
 (kn_ok
 (kl_ok (ok_aP (ok_aload_n dJ10_init_2_0 rfl rfl)))
 (kn_ok
 (kl_ok (ok_aP (ok_objI q927 q135 q136 dJ10_init_2_1 rfl)))
 (kl_ok (ok_aP (ok_aload_n dJ10_init_2_4 rfl rfl)))))
 (kn_ok
 (kl_ok (ok_callV (List.forall_mem_cons.mpr ⟨run_U (C0 := "java/lang/StringBuilder") (owner := "java/lang/AbstractStringBuilder") (nx := ⟨"java/lang/AbstractStringBuilder", "getValue", "()[B"⟩) rfl rfl (by rw [hm]; rfl) q928 q930 q931 q929 q101 q932 ⟨nh_30, dl_66⟩ (by decide) dJ10_init_2_5, (fun _ h => absurd h List.not_mem_nil)⟩) rfl))
 (kn_ok
 (kl_ok (ok_aP (ok_astore_n dJ10_init_2_8 rfl rfl)))
 (kl_ok (ok_aP (ok_aload_n dJ10_init_2_9 rfl rfl))))))
 (kn_ok
 (kn_ok
 (kl_ok (ok_callV (List.forall_mem_cons.mpr ⟨run_O (C0 := "java/lang/StringBuilder") (owner := "java/lang/AbstractStringBuilder") (nx := ⟨"java/lang/AbstractStringBuilder", "length", "()I"⟩) rfl (by rw [hm]; rfl) q933 q935 q934 q936 q937 q102 q938 q940 ⟨nh_30, dl_4⟩ (by decide) dJ10_init_2_10, (fun _ h => absurd h List.not_mem_nil)⟩) rfl))
 (kn_ok
 (kl_ok (ok_aP (ok_istore dJ10_init_2_13 rfl)))
 (kl_ok (ok_aP (ok_aload_n dJ10_init_2_15 rfl rfl)))))
 (kn_ok
 (kl_ok (ok_callV (List.forall_mem_cons.mpr ⟨run_U (C0 := "java/lang/StringBuilder") (owner := "java/lang/AbstractStringBuilder") (nx := ⟨"java/lang/AbstractStringBuilder", "isLatin1", "()Z"⟩) rfl rfl (by rw [hm]; rfl) q941 q866 q867 q865 q101 q868 ⟨nh_30, dl_16⟩ (by decide) dJ10_init_2_16, (fun _ h => absurd h List.not_mem_nil)⟩) rfl))
 (kn_ok
 (kl_ok (ok_aP (ok_if_eq dJ10_init_2_19 rfl rfl)))
 (kl_ok (ok_aP (ok_aload_n dJ10_init_2_22 rfl rfl)))))))
 (kn_ok
 (kn_ok
 (kn_ok
 (kl_ok (ok_aP (ok_iconst dJ10_init_2_23 rfl rfl)))
 (kn_ok
 (kl_ok (ok_hp (ok_putF fo_73 fn_88 q1110 rfl pd_17 vB_ok dJ10_init_2_24 rfl) le_putf))
 (kl_ok (ok_aP (ok_aload_n dJ10_init_2_27 rfl rfl)))))
 (kn_ok
 (kl_ok (ok_aP (ok_aload_n dJ10_init_2_28 rfl rfl)))
 (kn_ok
 (kl_ok (ok_aP (ok_iconst dJ10_init_2_29 rfl rfl)))
 (kl_ok (ok_aP (ok_iload dJ10_init_2_30 rfl))))))
 (kn_ok
 (kn_ok
 (kl_ok (ok_callS (run_S (by rw [hm]; rfl) q942 q943 q100 q944 ⟨nh_16, dl_67⟩ (by decide) dJ10_init_2_32) rfl))
 (kn_ok
 (kl_ok (ok_hp (ok_putF fo_72 fn_89 q1109 rfl pd_11 vA_okA dJ10_init_2_35 rfl) le_putf))
 (kl_ok (ok_aP (ok_goto dJ10_init_2_38 rfl)))))
 (kn_ok
 (kl_ok (ok_aP (ok_stat (C0 := "java/lang/String") (by rw [hk]; rfl) (Or.inl q1054) rfl dJ10_init_2_41 rfl)))
 (kn_ok
 (kl_ok (ok_aP (ok_if_eq dJ10_init_2_44 rfl rfl)))
 (kl_ok (ok_aP (ok_aload_n dJ10_init_2_47 rfl rfl))))))))
 (kn_ok
 (kn_ok
 (kn_ok
 (kn_ok
 (kl_ok (ok_aP (ok_getf fo_106 fs_rf (Or.inl q826) dJ10_init_2_48 rfl)))
 (kn_ok
 (kl_ok (ok_aP (ok_if_eq dJ10_init_2_51 rfl rfl)))
 (kl_ok (ok_aP (ok_aload_n dJ10_init_2_54 rfl rfl)))))
 (kn_ok
 (kl_ok (ok_aP (ok_aload_n dJ10_init_2_55 rfl rfl)))
 (kn_ok
 (kl_ok (ok_aP (ok_iconst dJ10_init_2_56 rfl rfl)))
 (kl_ok (ok_aP (ok_iload dJ10_init_2_57 rfl))))))
 (kn_ok
 (kn_ok
 (kl_ok (ok_hp (ok_putF fo_72 fn_89 q1109 rfl pd_11 vA_okA dJ10_init_2_62 rfl) le_putf))
 (kn_ok
 (kl_ok (ok_aP (ok_aload_n dJ10_init_2_65 rfl rfl)))
 (kl_ok (ok_aP (ok_aload_n dJ10_init_2_66 rfl rfl)))))
 (kn_ok
 (kl_ok (ok_aP (ok_getf fo_72 fs_rf (Or.inl q1109) dJ10_init_2_67 rfl)))
 (kn_ok
 (kl_ok (ok_aP (ok_iload dJ10_init_2_70 rfl)))
 (kl_ok (ok_hp (ok_putF fo_73 fn_88 q1110 rfl pd_17 vB_ok dJ10_init_2_75 rfl) le_putf))))))
 (kn_ok
 (kn_ok
 (kn_ok
 (kl_ok (ok_vret rfl dJ10_init_2_78))
 (kn_ok
 (kl_ok (ok_aP (ok_aload_n dJ10_init_2_79 rfl rfl)))
 (kl_ok (ok_aP (ok_iconst dJ10_init_2_80 rfl rfl)))))
 (kn_ok
 (kl_ok (ok_hp (ok_putF fo_73 fn_88 q1110 rfl pd_17 vB_ok dJ10_init_2_81 rfl) le_putf))
 (kn_ok
 (kl_ok (ok_aP (ok_aload_n dJ10_init_2_84 rfl rfl)))
 (kl_ok (ok_aP (ok_aload_n dJ10_init_2_85 rfl rfl))))))
 (kn_ok
 (kn_ok
 (kl_ok (ok_aP (ok_iconst dJ10_init_2_86 rfl rfl)))
 (kn_ok
 (kl_ok (ok_aP (ok_iload dJ10_init_2_87 rfl)))
 (kl_ok (ok_aP (ok_iconst dJ10_init_2_89 rfl rfl)))))
 (kn_ok
 (kn_ok
 (kl_ok (ok_aP (ok_ishl dJ10_init_2_90 rfl)))
 (kl_ok (ok_callS (run_S (by rw [hm]; rfl) q942 q943 q100 q944 ⟨nh_16, dl_67⟩ (by decide) dJ10_init_2_91) rfl)))
 (kn_ok
 (kl_ok (ok_hp (ok_putF fo_72 fn_89 q1109 rfl pd_11 vA_okA dJ10_init_2_94 rfl) le_putf))
 (kl_ok (ok_vret rfl dJ10_init_2_97)))))))
/-- 280: java/lang/String.length()I -/
noncomputable def k_J10_length : Nat → Option AOp :=
 tn 5 (tn 1 (tl 0 (aP (f_aload 0 1)))
  (tn 4 (tl 1 (aP (f_getf [21] 0 4)))
  (tl 4 (aP (f_alen 5)))))
  (tn 9 (tn 6 (tl 5 (aP (f_aload 0 6)))
  (tl 6 (o_callV (lkN [(21, 281)]) 0 9)))
  (tn 10 (tl 9 (aP (f_bin (fun x y => x >>> (y &&& 31)) 10)))
  (tl 10 (o_iret (fun _ => true)))))
theorem kok_J10_length {γ : AG} (hm : γ.2.2.2.2.1 = mTab) (hk : γ.2.2.2.2.2 = kTab) : KOK γ m_J10_length k_J10_length :=
 kn_ok
 (kn_ok
 (kl_ok (ok_aP (ok_aload_n dJ10_length_0 rfl rfl)))
 (kn_ok
 (kl_ok (ok_aP (ok_getf fo_72 fs_rf (Or.inl q1109) dJ10_length_1 rfl)))
 (kl_ok (ok_aP (ok_alen dJ10_length_4 rfl)))))
 (kn_ok
 (kn_ok
 (kl_ok (ok_aP (ok_aload_n dJ10_length_5 rfl rfl)))
 (kl_ok (ok_callV (List.forall_mem_cons.mpr ⟨run_V (C0 := "java/lang/String") rfl rfl (by rw [hm]; rfl) q1050 q1051 q1052 q103 q1053 ⟨nh_21, dl_51⟩ (by decide) dJ10_length_6, (fun _ h => absurd h List.not_mem_nil)⟩) rfl)))
 (kn_ok
 (kl_ok (ok_aP (ok_ishr dJ10_length_9 rfl)))
 (kl_ok (ok_iret rfl dJ10_length_10))))
/-- 281: java/lang/String.coder()B -/
noncomputable def k_J10_coder : Nat → Option AOp :=
 tn 7 (tn 3 (tl 0 (aP (f_stat 4 3)))
  (tn 6 (tl 3 (aP (f_if (fun x => decide (x = 0)) 13 6)))
  (tl 6 (aP (f_aload 0 7)))))
  (tn 13 (tn 10 (tl 7 (aP (f_getf [21] 1 10)))
  (tl 10 (aP (f_goto 14))))
  (tn 14 (tl 13 (aP (f_const (.int (nI 1)) 14)))
  (tl 14 (o_iret (fun x => x == 0 || x == 1)))))
theorem kok_J10_coder {γ : AG} (hm : γ.2.2.2.2.1 = mTab) (hk : γ.2.2.2.2.2 = kTab) : KOK γ m_J10_coder k_J10_coder :=
 kn_ok
 (kn_ok
 (kl_ok (ok_aP (ok_stat (C0 := "java/lang/String") (by rw [hk]; rfl) (Or.inl q1054) rfl dJ10_coder_0 rfl)))
 (kn_ok
 (kl_ok (ok_aP (ok_if_eq dJ10_coder_3 rfl rfl)))
 (kl_ok (ok_aP (ok_aload_n dJ10_coder_6 rfl rfl)))))
 (kn_ok
 (kn_ok
 (kl_ok (ok_aP (ok_getf fo_73 fs_rf (Or.inl q1110) dJ10_coder_7 rfl)))
 (kl_ok (ok_aP (ok_goto dJ10_coder_10 rfl))))
 (kn_ok
 (kl_ok (ok_aP (ok_iconst dJ10_coder_13 rfl rfl)))
 (kl_ok (ok_zret rfl z_byte dJ10_coder_14))))
/-- 283: java/lang/String.hashCode()I -/
noncomputable def k_J10_hashCode : Nat → Option AOp :=
 tn 30 (tn 13 (tn 5 (tn 1 (tl 0 (aP (f_aload 0 1)))
  (tn 4 (tl 1 (aP (f_getf [21] 2 4)))
  (tl 4 (aP (f_istore 1 5)))))
  (tn 9 (tn 6 (tl 5 (aP (f_iload 1 6)))
  (tl 6 (aP (f_if (fun x => decide (¬ x = 0)) 58 9))))
  (tn 10 (tl 9 (aP (f_aload 0 10)))
  (tl 10 (aP (f_getf [21] 3 13))))))
  (tn 20 (tn 16 (tl 13 (aP (f_if (fun x => decide (¬ x = 0)) 58 16)))
  (tn 17 (tl 16 (aP (f_aload 0 17)))
  (tl 17 (o_callV (lkN [(21, 284)]) 0 20))))
  (tn 24 (tn 23 (tl 20 (aP (f_if (fun x => decide (x = 0)) 33 23)))
  (tl 23 (aP (f_aload 0 24))))
  (tn 27 (tl 24 (aP (f_getf [21] 0 27)))
  (tl 27 (o_callS 289 1 30))))))
  (tn 46 (tn 40 (tn 33 (tl 30 (aP (f_goto 40)))
  (tn 34 (tl 33 (aP (f_aload 0 34)))
  (tl 34 (aP (f_getf [21] 0 37)))))
  (tn 42 (tn 41 (tl 40 (aP (f_istore 1 41)))
  (tl 41 (aP (f_iload 1 42))))
  (tn 45 (tl 42 (aP (f_if (fun x => decide (¬ x = 0)) 53 45)))
  (tl 45 (aP (f_aload 0 46))))))
  (tn 54 (tn 50 (tn 47 (tl 46 (aP (f_const (.int (nI 1)) 47)))
  (tl 47 (o_putf [21] 3 vZ 50)))
  (tn 53 (tl 50 (aP (f_goto 58)))
  (tl 53 (aP (f_aload 0 54)))))
  (tn 58 (tn 55 (tl 54 (aP (f_iload 1 55)))
  (tl 55 (o_putf [21] 2 vI 58)))
  (tn 59 (tl 58 (aP (f_iload 1 59)))
  (tl 59 (o_iret (fun _ => true)))))))
theorem kok_J10_hashCode {γ : AG} (hm : γ.2.2.2.2.1 = mTab) (hk : γ.2.2.2.2.2 = kTab) : KOK γ m_J10_hashCode k_J10_hashCode :=
 kn_ok
 (kn_ok
 (kn_ok
 (kn_ok
 (kl_ok (ok_aP (ok_aload_n dJ10_hashCode_0 rfl rfl)))
 (kn_ok
 (kl_ok (ok_aP (ok_getf fo_111 fs_rf (Or.inl q1111) dJ10_hashCode_1 rfl)))
 (kl_ok (ok_aP (ok_istore_n dJ10_hashCode_4 rfl rfl)))))
 (kn_ok
 (kn_ok
 (kl_ok (ok_aP (ok_iload_n dJ10_hashCode_5 rfl rfl)))
 (kl_ok (ok_aP (ok_if_ne dJ10_hashCode_6 rfl rfl))))
 (kn_ok
 (kl_ok (ok_aP (ok_aload_n dJ10_hashCode_9 rfl rfl)))
 (kl_ok (ok_aP (ok_getf fo_112 fs_rf (Or.inl q1112) dJ10_hashCode_10 rfl))))))
 (kn_ok
 (kn_ok
 (kl_ok (ok_aP (ok_if_ne dJ10_hashCode_13 rfl rfl)))
 (kn_ok
 (kl_ok (ok_aP (ok_aload_n dJ10_hashCode_16 rfl rfl)))
 (kl_ok (ok_callV (List.forall_mem_cons.mpr ⟨run_V (C0 := "java/lang/String") rfl rfl (by rw [hm]; rfl) q1154 q1155 q1156 q103 q1157 ⟨nh_21, dl_16⟩ (by decide) dJ10_hashCode_17, (fun _ h => absurd h List.not_mem_nil)⟩) rfl))))
 (kn_ok
 (kn_ok
 (kl_ok (ok_aP (ok_if_eq dJ10_hashCode_20 rfl rfl)))
 (kl_ok (ok_aP (ok_aload_n dJ10_hashCode_23 rfl rfl))))
 (kn_ok
 (kl_ok (ok_aP (ok_getf fo_72 fs_rf (Or.inl q1109) dJ10_hashCode_24 rfl)))
 (kl_ok (ok_callS (run_S (by rw [hm]; rfl) q1158 q1159 q105 q1160 ⟨nh_22, dl_86⟩ (by decide) dJ10_hashCode_27) rfl))))))
 (kn_ok
 (kn_ok
 (kn_ok
 (kl_ok (ok_aP (ok_goto dJ10_hashCode_30 rfl)))
 (kn_ok
 (kl_ok (ok_aP (ok_aload_n dJ10_hashCode_33 rfl rfl)))
 (kl_ok (ok_aP (ok_getf fo_72 fs_rf (Or.inl q1109) dJ10_hashCode_34 rfl)))))
 (kn_ok
 (kn_ok
 (kl_ok (ok_aP (ok_istore_n dJ10_hashCode_40 rfl rfl)))
 (kl_ok (ok_aP (ok_iload_n dJ10_hashCode_41 rfl rfl))))
 (kn_ok
 (kl_ok (ok_aP (ok_if_ne dJ10_hashCode_42 rfl rfl)))
 (kl_ok (ok_aP (ok_aload_n dJ10_hashCode_45 rfl rfl))))))
 (kn_ok
 (kn_ok
 (kn_ok
 (kl_ok (ok_aP (ok_iconst dJ10_hashCode_46 rfl rfl)))
 (kl_ok (ok_hp (ok_putf fo_112 fs_rf fn_105 (Or.inl q1112) pd_1 vZ_ok dJ10_hashCode_47 rfl) le_putf)))
 (kn_ok
 (kl_ok (ok_aP (ok_goto dJ10_hashCode_50 rfl)))
 (kl_ok (ok_aP (ok_aload_n dJ10_hashCode_53 rfl rfl)))))
 (kn_ok
 (kn_ok
 (kl_ok (ok_aP (ok_iload_n dJ10_hashCode_54 rfl rfl)))
 (kl_ok (ok_hp (ok_putf fo_111 fs_rf fn_106 (Or.inl q1111) pd_0 vI_ok dJ10_hashCode_55 rfl) le_putf)))
 (kn_ok
 (kl_ok (ok_aP (ok_iload_n dJ10_hashCode_58 rfl rfl)))
 (kl_ok (ok_iret rfl dJ10_hashCode_59))))))
/-- 284: java/lang/String.isLatin1()Z -/
noncomputable def k_J10_isLatin1 : Nat → Option AOp :=
 tn 10 (tn 6 (tn 3 (tl 0 (aP (f_stat 4 3)))
  (tl 3 (aP (f_if (fun x => decide (x = 0)) 17 6))))
  (tn 7 (tl 6 (aP (f_aload 0 7)))
  (tl 7 (aP (f_getf [21] 1 10)))))
  (tn 14 (tn 13 (tl 10 (aP (f_if (fun x => decide (¬ x = 0)) 17 13)))
  (tl 13 (aP (f_const (.int (nI 1)) 14))))
  (tn 17 (tl 14 (aP (f_goto 18)))
  (tn 18 (tl 17 (aP (f_const (.int (nI 0)) 18)))
  (tl 18 (o_iret (fun x => x == 0 || x == 1))))))
theorem kok_J10_isLatin1 {γ : AG} (hm : γ.2.2.2.2.1 = mTab) (hk : γ.2.2.2.2.2 = kTab) : KOK γ m_J10_isLatin1 k_J10_isLatin1 :=
 kn_ok
 (kn_ok
 (kn_ok
 (kl_ok (ok_aP (ok_stat (C0 := "java/lang/String") (by rw [hk]; rfl) (Or.inl q1054) rfl dJ10_isLatin1_0 rfl)))
 (kl_ok (ok_aP (ok_if_eq dJ10_isLatin1_3 rfl rfl))))
 (kn_ok
 (kl_ok (ok_aP (ok_aload_n dJ10_isLatin1_6 rfl rfl)))
 (kl_ok (ok_aP (ok_getf fo_73 fs_rf (Or.inl q1110) dJ10_isLatin1_7 rfl)))))
 (kn_ok
 (kn_ok
 (kl_ok (ok_aP (ok_if_ne dJ10_isLatin1_10 rfl rfl)))
 (kl_ok (ok_aP (ok_iconst dJ10_isLatin1_13 rfl rfl))))
 (kn_ok
 (kl_ok (ok_aP (ok_goto dJ10_isLatin1_14 rfl)))
 (kn_ok
 (kl_ok (ok_aP (ok_iconst dJ10_isLatin1_17 rfl rfl)))
 (kl_ok (ok_zret rfl z_boolean dJ10_isLatin1_18)))))
/-- 285: java/lang/String.equals(Ljava/lang/Object;)Z -/
noncomputable def k_J10_equals : Nat → Option AOp :=
 tn 26 (tn 11 (tn 5 (tn 1 (tl 0 (aP (f_aload 0 1)))
  (tn 2 (tl 1 (aP (f_aload 1 2)))
  (tl 2 (aP (f_acmp 5 7)))))
  (tn 7 (tn 6 (tl 5 (aP (f_const (.int (nI 1)) 6)))
  (tl 6 (o_iret (fun x => x == 0 || x == 1))))
  (tn 8 (tl 7 (aP (f_aload 1 8)))
  (tl 8 (aP (f_inst [21] 11))))))
  (tn 18 (tn 14 (tl 11 (aP (f_if (fun x => decide (x = 0)) 54 14)))
  (tn 15 (tl 14 (aP (f_aload 1 15)))
  (tl 15 (aP (f_cast [21] [] 18)))))
  (tn 22 (tn 19 (tl 18 (aP (f_astore 2 19)))
  (tl 19 (aP (f_stat 4 22))))
  (tn 25 (tl 22 (aP (f_if (fun x => decide (x = 0)) 36 25)))
  (tl 25 (aP (f_aload 0 26)))))))
  (tn 41 (tn 33 (tn 29 (tl 26 (aP (f_getf [21] 1 29)))
  (tn 30 (tl 29 (aP (f_aload 2 30)))
  (tl 30 (aP (f_getf [21] 1 33)))))
  (tn 37 (tn 36 (tl 33 (aP (f_icmp (fun x y => decide (¬ x = y)) 54 36)))
  (tl 36 (aP (f_aload 0 37))))
  (tn 40 (tl 37 (aP (f_getf [21] 0 40)))
  (tl 40 (aP (f_aload 2 41))))))
  (tn 50 (tn 44 (tl 41 (aP (f_getf [21] 0 44)))
  (tn 47 (tl 44 (o_callS 290 2 47))
  (tl 47 (aP (f_if (fun x => decide (x = 0)) 54 50)))))
  (tn 54 (tn 51 (tl 50 (aP (f_const (.int (nI 1)) 51)))
  (tl 51 (aP (f_goto 55))))
  (tn 55 (tl 54 (aP (f_const (.int (nI 0)) 55)))
  (tl 55 (o_iret (fun x => x == 0 || x == 1)))))))
theorem kok_J10_equals {γ : AG} (hm : γ.2.2.2.2.1 = mTab) (hk : γ.2.2.2.2.2 = kTab) : KOK γ m_J10_equals k_J10_equals :=
 kn_ok
 (kn_ok
 (kn_ok
 (kn_ok
 (kl_ok (ok_aP (ok_aload_n dJ10_equals_0 rfl rfl)))
 (kn_ok
 (kl_ok (ok_aP (ok_aload_n dJ10_equals_1 rfl rfl)))
 (kl_ok (ok_aP (ok_acmp_ne dJ10_equals_2 rfl rfl)))))
 (kn_ok
 (kn_ok
 (kl_ok (ok_aP (ok_iconst dJ10_equals_5 rfl rfl)))
 (kl_ok (ok_zret rfl z_boolean dJ10_equals_6)))
 (kn_ok
 (kl_ok (ok_aP (ok_aload_n dJ10_equals_7 rfl rfl)))
 (kl_ok (ok_aP (ok_inst q1216 (List.forall_mem_cons.mpr ⟨⟨_, rfl, rfl⟩, fun _ h => absurd h List.not_mem_nil⟩) dJ10_equals_8 rfl))))))
 (kn_ok
 (kn_ok
 (kl_ok (ok_aP (ok_if_eq dJ10_equals_11 rfl rfl)))
 (kn_ok
 (kl_ok (ok_aP (ok_aload_n dJ10_equals_14 rfl rfl)))
 (kl_ok (ok_aP (ok_cast q1216 (List.forall_mem_cons.mpr ⟨Or.inr ⟨_, rfl, rfl⟩, (fun _ h => absurd h List.not_mem_nil)⟩) (fun _ h => absurd h List.not_mem_nil) dJ10_equals_15 rfl)))))
 (kn_ok
 (kn_ok
 (kl_ok (ok_aP (ok_astore_n dJ10_equals_18 rfl rfl)))
 (kl_ok (ok_aP (ok_stat (C0 := "java/lang/String") (by rw [hk]; rfl) (Or.inl q1054) rfl dJ10_equals_19 rfl))))
 (kn_ok
 (kl_ok (ok_aP (ok_if_eq dJ10_equals_22 rfl rfl)))
 (kl_ok (ok_aP (ok_aload_n dJ10_equals_25 rfl rfl)))))))
 (kn_ok
 (kn_ok
 (kn_ok
 (kl_ok (ok_aP (ok_getf fo_73 fs_rf (Or.inl q1110) dJ10_equals_26 rfl)))
 (kn_ok
 (kl_ok (ok_aP (ok_aload_n dJ10_equals_29 rfl rfl)))
 (kl_ok (ok_aP (ok_getf fo_73 fs_rf (Or.inl q1110) dJ10_equals_30 rfl)))))
 (kn_ok
 (kn_ok
 (kl_ok (ok_aP (ok_icmp_ne dJ10_equals_33 rfl rfl)))
 (kl_ok (ok_aP (ok_aload_n dJ10_equals_36 rfl rfl))))
 (kn_ok
 (kl_ok (ok_aP (ok_getf fo_72 fs_rf (Or.inl q1109) dJ10_equals_37 rfl)))
 (kl_ok (ok_aP (ok_aload_n dJ10_equals_40 rfl rfl))))))
 (kn_ok
 (kn_ok
 (kl_ok (ok_aP (ok_getf fo_72 fs_rf (Or.inl q1109) dJ10_equals_41 rfl)))
 (kn_ok
 (kl_ok (ok_callS (run_S (by rw [hm]; rfl) q1217 q1218 q105 q1219 ⟨nh_22, dl_73⟩ (by decide) dJ10_equals_44) rfl))
 (kl_ok (ok_aP (ok_if_eq dJ10_equals_47 rfl rfl)))))
 (kn_ok
 (kn_ok
 (kl_ok (ok_aP (ok_iconst dJ10_equals_50 rfl rfl)))
 (kl_ok (ok_aP (ok_goto dJ10_equals_51 rfl))))
 (kn_ok
 (kl_ok (ok_aP (ok_iconst dJ10_equals_54 rfl rfl)))
 (kl_ok (ok_zret rfl z_boolean dJ10_equals_55))))))
/-- 286: java/lang/String.charAt(I)C -/
noncomputable def k_J10_charAt : Nat → Option AOp :=
 tn 12 (tn 7 (tn 1 (tl 0 (aP (f_aload 0 1)))
  (tn 4 (tl 1 (o_callV (lkN [(21, 284)]) 0 4))
  (tl 4 (aP (f_if (fun x => decide (x = 0)) 16 7)))))
  (tn 8 (tl 7 (aP (f_aload 0 8)))
  (tn 11 (tl 8 (aP (f_getf [21] 0 11)))
  (tl 11 (aP (f_iload 1 12))))))
  (tn 17 (tn 15 (tl 12 (o_callS 291 2 15))
  (tn 16 (tl 15 (o_iret (fun x => decide (narrow .char (.int x) = .int x))))
  (tl 16 (aP (f_aload 0 17)))))
  (tn 20 (tl 17 (aP (f_getf [21] 0 20)))
  (tn 24 (tl 20 (aP (f_iload 1 21)))
  (tl 24 (o_iret (fun x => decide (narrow .char (.int x) = .int x)))))))
theorem kok_J10_charAt {γ : AG} (hm : γ.2.2.2.2.1 = mTab) (hk : γ.2.2.2.2.2 = kTab) : KOK γ m_J10_charAt k_J10_charAt :=
 kn_ok
 (kn_ok
 (kn_ok
 (kl_ok (ok_aP (ok_aload_n dJ10_charAt_0 rfl rfl)))
 (kn_ok
 (kl_ok (ok_callV (List.forall_mem_cons.mpr ⟨run_V (C0 := "java/lang/String") rfl rfl (by rw [hm]; rfl) q1154 q1155 q1156 q103 q1157 ⟨nh_21, dl_16⟩ (by decide) dJ10_charAt_1, (fun _ h => absurd h List.not_mem_nil)⟩) rfl))
 (kl_ok (ok_aP (ok_if_eq dJ10_charAt_4 rfl rfl)))))
 (kn_ok
 (kl_ok (ok_aP (ok_aload_n dJ10_charAt_7 rfl rfl)))
 (kn_ok
 (kl_ok (ok_aP (ok_getf fo_72 fs_rf (Or.inl q1109) dJ10_charAt_8 rfl)))
 (kl_ok (ok_aP (ok_iload_n dJ10_charAt_11 rfl rfl))))))
 (kn_ok
 (kn_ok
 (kl_ok (ok_callS (run_S (by rw [hm]; rfl) q1976 q1977 q105 q1978 ⟨nh_22, dl_50⟩ (by decide) dJ10_charAt_12) rfl))
 (kn_ok
 (kl_ok (ok_zret rfl z_char dJ10_charAt_15))
 (kl_ok (ok_aP (ok_aload_n dJ10_charAt_16 rfl rfl)))))
 (kn_ok
 (kl_ok (ok_aP (ok_getf fo_72 fs_rf (Or.inl q1109) dJ10_charAt_17 rfl)))
 (kn_ok
 (kl_ok (ok_aP (ok_iload_n dJ10_charAt_20 rfl rfl)))
 (kl_ok (ok_zret rfl z_char dJ10_charAt_24)))))
/-- 287: java/lang/StringLatin1.canEncode(C)Z -/
noncomputable def k_J12_canEncode : Nat → Option AOp :=
 tn 7 (tn 1 (tl 0 (aP (f_iload 0 1)))
  (tn 4 (tl 1 (aP (f_const (.int (nI 255)) 4)))
  (tl 4 (aP (f_icmp (fun x y => decide (y < x)) 11 7)))))
  (tn 11 (tn 8 (tl 7 (aP (f_const (.int (nI 1)) 8)))
  (tl 8 (aP (f_goto 12))))
  (tn 12 (tl 11 (aP (f_const (.int (nI 0)) 12)))
  (tl 12 (o_iret (fun x => x == 0 || x == 1)))))
theorem kok_J12_canEncode {γ : AG} (hm : γ.2.2.2.2.1 = mTab) (hk : γ.2.2.2.2.2 = kTab) : KOK γ m_J12_canEncode k_J12_canEncode :=
 kn_ok
 (kn_ok
 (kl_ok (ok_aP (ok_iload_n dJ12_canEncode_0 rfl rfl)))
 (kn_ok
 (kl_ok (ok_aP (ok_sipush dJ12_canEncode_1 (by decide +kernel) rfl)))
 (kl_ok (ok_aP (ok_icmp_gt dJ12_canEncode_4 rfl rfl)))))
 (kn_ok
 (kn_ok
 (kl_ok (ok_aP (ok_iconst dJ12_canEncode_7 rfl rfl)))
 (kl_ok (ok_aP (ok_goto dJ12_canEncode_8 rfl))))
 (kn_ok
 (kl_ok (ok_aP (ok_iconst dJ12_canEncode_11 rfl rfl)))
 (kl_ok (ok_zret rfl z_boolean dJ12_canEncode_12))))
/-- 289: java/lang/StringLatin1.hashCode([B)I -/
noncomputable def k_J12_hashCode : Nat → Option AOp :=
 tn 38 (tn 29 (tn 2 (tn 1 (tl 0 (aP (f_aload 0 1)))
  (tl 1 (aP (f_alen 2))))
  (tn 28 (tl 2 (aP (f_sw (fun x => if (0 : Int) = x.toInt then 28 else if (1 : Int) = x.toInt then 32 else 42))))
  (tl 28 (aP (f_const (.int (nI 0)) 29)))))
  (tn 33 (tn 32 (tl 29 (aP (f_goto 51)))
  (tl 32 (aP (f_aload 0 33))))
  (tn 34 (tl 33 (aP (f_const (.int (nI 0)) 34)))
  (tn 35 (tl 34 (aP (f_iald 1 35)))
  (tl 35 (aP (f_const (.int (nI 255)) 38)))))))
  (tn 45 (tn 42 (tn 39 (tl 38 (aP (f_bin (fun x y => x &&& y) 39)))
  (tl 39 (aP (f_goto 51))))
  (tn 43 (tl 42 (aP (f_aload 0 43)))
  (tn 44 (tl 43 (aP (f_const (.int (nI 0)) 44)))
  (tl 44 (aP (f_aload 0 45))))))
  (tn 47 (tn 46 (tl 45 (aP (f_alen 46)))
  (tl 46 (aP (f_const (.int (nI 0)) 47))))
  (tn 48 (tl 47 (aP (f_const (.int (nI 4)) 48)))
  (tn 51 (tl 48 (o_callS 253 5 51))
  (tl 51 (o_iret (fun _ => true)))))))
theorem kok_J12_hashCode {γ : AG} (hm : γ.2.2.2.2.1 = mTab) (hk : γ.2.2.2.2.2 = kTab) : KOK γ m_J12_hashCode k_J12_hashCode :=
 kn_ok
 (kn_ok
 (kn_ok
 (kn_ok
 (kl_ok (ok_aP (ok_aload_n dJ12_hashCode_0 rfl rfl)))
 (kl_ok (ok_aP (ok_alen dJ12_hashCode_1 rfl))))
 (kn_ok
 (kl_ok (ok_aP (ok_lookup dJ12_hashCode_2 (by decide +kernel) (lp := [(0, 26), (1, 30)]) rfl (fun v => by
   simp only [Op.lookupswitch.offset_cons, Op.lookupswitch.offset_nil]
   by_cases h0 : (0 : Int) = v.toInt
   · simp only [if_pos h0]; rfl
   by_cases h1 : (1 : Int) = v.toInt
   · simp only [if_neg h0, if_pos h1]; rfl
   simp only [if_neg h0, if_neg h1]; rfl))))
 (kl_ok (ok_aP (ok_iconst dJ12_hashCode_28 rfl rfl)))))
 (kn_ok
 (kn_ok
 (kl_ok (ok_aP (ok_goto dJ12_hashCode_29 rfl)))
 (kl_ok (ok_aP (ok_aload_n dJ12_hashCode_32 rfl rfl))))
 (kn_ok
 (kl_ok (ok_aP (ok_iconst dJ12_hashCode_33 rfl rfl)))
 (kn_ok
 (kl_ok (ok_aP (ok_bald dJ12_hashCode_34 rfl)))
 (kl_ok (ok_aP (ok_sipush dJ12_hashCode_35 (by decide +kernel) rfl)))))))
 (kn_ok
 (kn_ok
 (kn_ok
 (kl_ok (ok_aP (ok_iand dJ12_hashCode_38 rfl)))
 (kl_ok (ok_aP (ok_goto dJ12_hashCode_39 rfl))))
 (kn_ok
 (kl_ok (ok_aP (ok_aload_n dJ12_hashCode_42 rfl rfl)))
 (kn_ok
 (kl_ok (ok_aP (ok_iconst dJ12_hashCode_43 rfl rfl)))
 (kl_ok (ok_aP (ok_aload_n dJ12_hashCode_44 rfl rfl))))))
 (kn_ok
 (kn_ok
 (kl_ok (ok_aP (ok_alen dJ12_hashCode_45 rfl)))
 (kl_ok (ok_aP (ok_iconst dJ12_hashCode_46 rfl rfl))))
 (kn_ok
 (kl_ok (ok_aP (ok_iconst dJ12_hashCode_47 rfl rfl)))
 (kn_ok
 (kl_ok (ok_callS (run_S (by rw [hm]; rfl) q1161 q1162 q98 q1163 ⟨nh_15, dl_87⟩ (by decide) dJ12_hashCode_48) rfl))
 (kl_ok (ok_iret rfl dJ12_hashCode_51))))))
/-- 290: java/lang/StringLatin1.equals([B[B)Z -/
noncomputable def k_J12_equals : Nat → Option AOp :=
 tn 17 (tn 8 (tn 3 (tn 1 (tl 0 (aP (f_aload 0 1)))
  (tn 2 (tl 1 (aP (f_alen 2)))
  (tl 2 (aP (f_aload 1 3)))))
  (tn 4 (tl 3 (aP (f_alen 4)))
  (tn 7 (tl 4 (aP (f_icmp (fun x y => decide (¬ x = y)) 34 7)))
  (tl 7 (aP (f_const (.int (nI 0)) 8))))))
  (tn 11 (tn 9 (tl 8 (aP (f_istore 2 9)))
  (tn 10 (tl 9 (aP (f_iload 2 10)))
  (tl 10 (aP (f_aload 0 11)))))
  (tn 15 (tn 12 (tl 11 (aP (f_alen 12)))
  (tl 12 (aP (f_icmp (fun x y => decide (y ≤ x)) 32 15))))
  (tn 16 (tl 15 (aP (f_aload 0 16)))
  (tl 16 (aP (f_iload 2 17)))))))
  (tn 25 (tn 20 (tn 18 (tl 17 (aP (f_iald 1 18)))
  (tn 19 (tl 18 (aP (f_aload 1 19)))
  (tl 19 (aP (f_iload 2 20)))))
  (tn 21 (tl 20 (aP (f_iald 1 21)))
  (tn 24 (tl 21 (aP (f_icmp (fun x y => decide (x = y)) 26 24)))
  (tl 24 (aP (f_const (.int (nI 0)) 25))))))
  (tn 32 (tn 26 (tl 25 (o_iret (fun x => x == 0 || x == 1)))
  (tn 29 (tl 26 (aP (f_iinc 2 (nI 1) 29)))
  (tl 29 (aP (f_goto 9)))))
  (tn 34 (tn 33 (tl 32 (aP (f_const (.int (nI 1)) 33)))
  (tl 33 (o_iret (fun x => x == 0 || x == 1))))
  (tn 35 (tl 34 (aP (f_const (.int (nI 0)) 35)))
  (tl 35 (o_iret (fun x => x == 0 || x == 1)))))))
theorem kok_J12_equals {γ : AG} (hm : γ.2.2.2.2.1 = mTab) (hk : γ.2.2.2.2.2 = kTab) : KOK γ m_J12_equals k_J12_equals :=
 kn_ok
 (kn_ok
 (kn_ok
 (kn_ok
 (kl_ok (ok_aP (ok_aload_n dJ12_equals_0 rfl rfl)))
 (kn_ok
 (kl_ok (ok_aP (ok_alen dJ12_equals_1 rfl)))
 (kl_ok (ok_aP (ok_aload_n dJ12_equals_2 rfl rfl)))))
 (kn_ok
 (kl_ok (ok_aP (ok_alen dJ12_equals_3 rfl)))
 (kn_ok
 (kl_ok (ok_aP (ok_icmp_ne dJ12_equals_4 rfl rfl)))
 (kl_ok (ok_aP (ok_iconst dJ12_equals_7 rfl rfl))))))
 (kn_ok
 (kn_ok
 (kl_ok (ok_aP (ok_istore_n dJ12_equals_8 rfl rfl)))
 (kn_ok
 (kl_ok (ok_aP (ok_iload_n dJ12_equals_9 rfl rfl)))
 (kl_ok (ok_aP (ok_aload_n dJ12_equals_10 rfl rfl)))))
 (kn_ok
 (kn_ok
 (kl_ok (ok_aP (ok_alen dJ12_equals_11 rfl)))
 (kl_ok (ok_aP (ok_icmp_ge dJ12_equals_12 rfl rfl))))
 (kn_ok
 (kl_ok (ok_aP (ok_aload_n dJ12_equals_15 rfl rfl)))
 (kl_ok (ok_aP (ok_iload_n dJ12_equals_16 rfl rfl)))))))
 (kn_ok
 (kn_ok
 (kn_ok
 (kl_ok (ok_aP (ok_bald dJ12_equals_17 rfl)))
 (kn_ok
 (kl_ok (ok_aP (ok_aload_n dJ12_equals_18 rfl rfl)))
 (kl_ok (ok_aP (ok_iload_n dJ12_equals_19 rfl rfl)))))
 (kn_ok
 (kl_ok (ok_aP (ok_bald dJ12_equals_20 rfl)))
 (kn_ok
 (kl_ok (ok_aP (ok_icmp_eq dJ12_equals_21 rfl rfl)))
 (kl_ok (ok_aP (ok_iconst dJ12_equals_24 rfl rfl))))))
 (kn_ok
 (kn_ok
 (kl_ok (ok_zret rfl z_boolean dJ12_equals_25))
 (kn_ok
 (kl_ok (ok_aP (ok_iinc dJ12_equals_26 (by decide +kernel) rfl)))
 (kl_ok (ok_aP (ok_goto dJ12_equals_29 rfl)))))
 (kn_ok
 (kn_ok
 (kl_ok (ok_aP (ok_iconst dJ12_equals_32 rfl rfl)))
 (kl_ok (ok_zret rfl z_boolean dJ12_equals_33)))
 (kn_ok
 (kl_ok (ok_aP (ok_iconst dJ12_equals_34 rfl rfl)))
 (kl_ok (ok_zret rfl z_boolean dJ12_equals_35))))))
/-- 291: java/lang/StringLatin1.charAt([BI)C -/
noncomputable def k_J12_charAt : Nat → Option AOp :=
 tn 7 (tn 2 (tn 1 (tl 0 (aP (f_iload 1 1)))
  (tl 1 (aP (f_aload 0 2))))
  (tn 3 (tl 2 (aP (f_alen 3)))
  (tn 6 (tl 3 (o_callS 277 2 6))
  (tl 6 (aP (f_aload 0 7))))))
  (tn 12 (tn 8 (tl 7 (aP (f_iload 1 8)))
  (tn 9 (tl 8 (aP (f_iald 1 9)))
  (tl 9 (aP (f_const (.int (nI 255)) 12)))))
  (tn 13 (tl 12 (aP (f_bin (fun x y => x &&& y) 13)))
  (tn 14 (tl 13 (aP (f_un (fun x => (x.toUInt32 % 65536).toInt32) 14)))
  (tl 14 (o_iret (fun x => decide (narrow .char (.int x) = .int x)))))))
theorem kok_J12_charAt {γ : AG} (hm : γ.2.2.2.2.1 = mTab) (hk : γ.2.2.2.2.2 = kTab) : KOK γ m_J12_charAt k_J12_charAt :=
 kn_ok
 (kn_ok
 (kn_ok
 (kl_ok (ok_aP (ok_iload_n dJ12_charAt_0 rfl rfl)))
 (kl_ok (ok_aP (ok_aload_n dJ12_charAt_1 rfl rfl))))
 (kn_ok
 (kl_ok (ok_aP (ok_alen dJ12_charAt_2 rfl)))
 (kn_ok
 (kl_ok (ok_callS (run_S (by rw [hm]; rfl) q1979 q912 q103 q913 ⟨nh_21, dl_19⟩ (by decide) dJ12_charAt_3) rfl))
 (kl_ok (ok_aP (ok_aload_n dJ12_charAt_6 rfl rfl))))))
 (kn_ok
 (kn_ok
 (kl_ok (ok_aP (ok_iload_n dJ12_charAt_7 rfl rfl)))
 (kn_ok
 (kl_ok (ok_aP (ok_bald dJ12_charAt_8 rfl)))
 (kl_ok (ok_aP (ok_sipush dJ12_charAt_9 (by decide +kernel) rfl)))))
 (kn_ok
 (kl_ok (ok_aP (ok_iand dJ12_charAt_12 rfl)))
 (kn_ok
 (kl_ok (ok_aP (ok_i2c dJ12_charAt_13 rfl)))
 (kl_ok (ok_zret rfl z_char dJ12_charAt_14)))))
/-- 293: java/lang/Throwable.<init>(Ljava/lang/String;)V -/
noncomputable def k_J13_init_2 : Nat → Option AOp :=
 tn 16 (tn 6 (tn 4 (tn 1 (tl 0 (aP (f_aload 0 1)))
  (tl 1 (aP (f_objI 4))))
  (tn 5 (tl 4 (aP (f_aload 0 5)))
  (tl 5 (aP (f_aload 0 6)))))
  (tn 10 (tn 9 (tl 6 (o_putf [17] 0 vA 9))
  (tl 9 (aP (f_aload 0 10))))
  (tn 13 (tl 10 (aP (f_stat 6 13)))
  (tl 13 (o_putf [17] 1 vA 16)))))
  (tn 27 (tn 20 (tn 17 (tl 16 (aP (f_aload 0 17)))
  (tl 17 (aP (f_stat 7 20))))
  (tn 23 (tl 20 (o_putf [17] 2 vA 23))
  (tl 23 (aP (f_aload 0 24)))))
  (tn 29 (tn 28 (tl 27 (aP (f_pop 28)))
  (tl 28 (aP (f_aload 0 29))))
  (tn 30 (tl 29 (aP (f_aload 1 30)))
  (tn 33 (tl 30 (o_putf [17] 3 vA 33))
  (tl 33 (o_vret))))))
theorem kok_J13_init_2 {γ : AG} (hm : γ.2.2.2.2.1 = mTab) (hk : γ.2.2.2.2.2 = kTab) : KOK γ m_J13_init_2 k_J13_init_2 :=
 kn_ok
 (kn_ok
 (kn_ok
 (kn_ok
 (kl_ok (ok_aP (ok_aload_n dJ13_init_2_0 rfl rfl)))
 (kl_ok (ok_aP (ok_objI q976 q135 q136 dJ13_init_2_1 rfl))))
 (kn_ok
 (kl_ok (ok_aP (ok_aload_n dJ13_init_2_4 rfl rfl)))
 (kl_ok (ok_aP (ok_aload_n dJ13_init_2_5 rfl rfl)))))
 (kn_ok
 (kn_ok
 (kl_ok (ok_hp (ok_putf fo_102 fs_rf fn_83 (Or.inl q1085) pd_13 vA_okO dJ13_init_2_6 rfl) le_putf))
 (kl_ok (ok_aP (ok_aload_n dJ13_init_2_9 rfl rfl))))
 (kn_ok
 (kl_ok (ok_aP (ok_stat (C0 := "java/lang/Throwable") (by rw [hk]; rfl) (Or.inl q977) rfl dJ13_init_2_10 rfl)))
 (kl_ok (ok_hp (ok_putf fo_103 fs_rf fn_84 (Or.inl q1086) pd_14 vA_okA dJ13_init_2_13 rfl) le_putf)))))
 (kn_ok
 (kn_ok
 (kn_ok
 (kl_ok (ok_aP (ok_aload_n dJ13_init_2_16 rfl rfl)))
 (kl_ok (ok_aP (ok_stat (C0 := "java/lang/Throwable") (by rw [hk]; rfl) (Or.inl q979) rfl dJ13_init_2_17 rfl))))
 (kn_ok
 (kl_ok (ok_hp (ok_putf fo_104 fs_rf fn_85 (Or.inl q1087) pd_15 vA_okO dJ13_init_2_20 rfl) le_putf))
 (kl_ok (ok_aP (ok_aload_n dJ13_init_2_23 rfl rfl)))))
 (kn_ok
 (kn_ok
 (kl_ok (ok_aP (ok_pop dJ13_init_2_27 rfl)))
 (kl_ok (ok_aP (ok_aload_n dJ13_init_2_28 rfl rfl))))
 (kn_ok
 (kl_ok (ok_aP (ok_aload_n dJ13_init_2_29 rfl rfl)))
 (kn_ok
 (kl_ok (ok_hp (ok_putf fo_105 fs_rf fn_86 (Or.inl q1084) pd_16 vA_okO dJ13_init_2_30 rfl) le_putf))
 (kl_ok (ok_vret rfl dJ13_init_2_33))))))
/-- 294: java/lang/Throwable.<init>(Ljava/lang/String;Ljava/lang/Throwable;ZZ)V -/
noncomputable def k_J13_init_3 : Nat → Option AOp :=
 tn 33 (tn 13 (tn 5 (tn 1 (tl 0 (aP (f_aload 0 1)))
  (tn 4 (tl 1 (aP (f_objI 4)))
  (tl 4 (aP (f_aload 0 5)))))
  (tn 9 (tn 6 (tl 5 (aP (f_aload 0 6)))
  (tl 6 (o_putf [17] 0 vA 9)))
  (tn 10 (tl 9 (aP (f_aload 0 10)))
  (tl 10 (aP (f_stat 6 13))))))
  (tn 23 (tn 17 (tn 16 (tl 13 (o_putf [17] 1 vA 16))
  (tl 16 (aP (f_aload 0 17))))
  (tn 20 (tl 17 (aP (f_stat 7 20)))
  (tl 20 (o_putf [17] 2 vA 23))))
  (tn 28 (tn 25 (tl 23 (aP (f_iload 4 25)))
  (tl 25 (aP (f_if (fun x => decide (x = 0)) 36 28))))
  (tn 32 (tl 28 (aP (f_aload 0 29)))
  (tl 32 (aP (f_pop 33)))))))
  (tn 47 (tn 41 (tn 37 (tn 36 (tl 33 (aP (f_goto 41)))
  (tl 36 (aP (f_aload 0 37))))
  (tn 38 (tl 37 (aP (f_const .null 38)))
  (tl 38 (o_putf [17] 1 vA 41))))
  (tn 43 (tn 42 (tl 41 (aP (f_aload 0 42)))
  (tl 42 (aP (f_aload 1 43))))
  (tn 46 (tl 43 (o_putf [17] 3 vA 46))
  (tl 46 (aP (f_aload 0 47))))))
  (tn 55 (tn 51 (tn 48 (tl 47 (aP (f_aload 2 48)))
  (tl 48 (o_putf [17] 0 vA 51)))
  (tn 52 (tl 51 (aP (f_iload 3 52)))
  (tl 52 (aP (f_if (fun x => decide (¬ x = 0)) 60 55)))))
  (tn 57 (tn 56 (tl 55 (aP (f_aload 0 56)))
  (tl 56 (aP (f_const .null 57))))
  (tn 60 (tl 57 (o_putf [17] 2 vA 60))
  (tl 60 (o_vret))))))
theorem kok_J13_init_3 {γ : AG} (hm : γ.2.2.2.2.1 = mTab) (hk : γ.2.2.2.2.2 = kTab) : KOK γ m_J13_init_3 k_J13_init_3 :=
 kn_ok
 (kn_ok
 (kn_ok
 (kn_ok
 (kl_ok (ok_aP (ok_aload_n dJ13_init_3_0 rfl rfl)))
 (kn_ok
 (kl_ok (ok_aP (ok_objI q976 q135 q136 dJ13_init_3_1 rfl)))
 (kl_ok (ok_aP (ok_aload_n dJ13_init_3_4 rfl rfl)))))
 (kn_ok
 (kn_ok
 (kl_ok (ok_aP (ok_aload_n dJ13_init_3_5 rfl rfl)))
 (kl_ok (ok_hp (ok_putf fo_102 fs_rf fn_83 (Or.inl q1085) pd_13 vA_okO dJ13_init_3_6 rfl) le_putf)))
 (kn_ok
 (kl_ok (ok_aP (ok_aload_n dJ13_init_3_9 rfl rfl)))
 (kl_ok (ok_aP (ok_stat (C0 := "java/lang/Throwable") (by rw [hk]; rfl) (Or.inl q977) rfl dJ13_init_3_10 rfl))))))
 (kn_ok
 (kn_ok
 (kn_ok
 (kl_ok (ok_hp (ok_putf fo_103 fs_rf fn_84 (Or.inl q1086) pd_14 vA_okA dJ13_init_3_13 rfl) le_putf))
 (kl_ok (ok_aP (ok_aload_n dJ13_init_3_16 rfl rfl))))
 (kn_ok
 (kl_ok (ok_aP (ok_stat (C0 := "java/lang/Throwable") (by rw [hk]; rfl) (Or.inl q979) rfl dJ13_init_3_17 rfl)))
 (kl_ok (ok_hp (ok_putf fo_104 fs_rf fn_85 (Or.inl q1087) pd_15 vA_okO dJ13_init_3_20 rfl) le_putf))))
 (kn_ok
 (kn_ok
 (kl_ok (ok_aP (ok_iload dJ13_init_3_23 rfl)))
 (kl_ok (ok_aP (ok_if_eq dJ13_init_3_25 rfl rfl))))
 (kn_ok
 (kl_ok (ok_aP (ok_aload_n dJ13_init_3_28 rfl rfl)))
 (kl_ok (ok_aP (ok_pop dJ13_init_3_32 rfl)))))))
 (kn_ok
 (kn_ok
 (kn_ok
 (kn_ok
 (kl_ok (ok_aP (ok_goto dJ13_init_3_33 rfl)))
 (kl_ok (ok_aP (ok_aload_n dJ13_init_3_36 rfl rfl))))
 (kn_ok
 (kl_ok (ok_aP (ok_null dJ13_init_3_37 rfl)))
 (kl_ok (ok_hp (ok_putf fo_103 fs_rf fn_84 (Or.inl q1086) pd_14 vA_okA dJ13_init_3_38 rfl) le_putf))))
 (kn_ok
 (kn_ok
 (kl_ok (ok_aP (ok_aload_n dJ13_init_3_41 rfl rfl)))
 (kl_ok (ok_aP (ok_aload_n dJ13_init_3_42 rfl rfl))))
 (kn_ok
 (kl_ok (ok_hp (ok_putf fo_105 fs_rf fn_86 (Or.inl q1084) pd_16 vA_okO dJ13_init_3_43 rfl) le_putf))
 (kl_ok (ok_aP (ok_aload_n dJ13_init_3_46 rfl rfl))))))
 (kn_ok
 (kn_ok
 (kn_ok
 (kl_ok (ok_aP (ok_aload_n dJ13_init_3_47 rfl rfl)))
 (kl_ok (ok_hp (ok_putf fo_102 fs_rf fn_83 (Or.inl q1085) pd_13 vA_okO dJ13_init_3_48 rfl) le_putf)))
 (kn_ok
 (kl_ok (ok_aP (ok_iload_n dJ13_init_3_51 rfl rfl)))
 (kl_ok (ok_aP (ok_if_ne dJ13_init_3_52 rfl rfl)))))
 (kn_ok
 (kn_ok
 (kl_ok (ok_aP (ok_aload_n dJ13_init_3_55 rfl rfl)))
 (kl_ok (ok_aP (ok_null dJ13_init_3_56 rfl))))
 (kn_ok
 (kl_ok (ok_hp (ok_putf fo_104 fs_rf fn_85 (Or.inl q1087) pd_15 vA_okO dJ13_init_3_57 rfl) le_putf))
 (kl_ok (ok_vret rfl dJ13_init_3_60))))))
/-- 295: java/lang/Exception.<init>(Ljava/lang/String;)V -/
noncomputable def k_J14_init : Nat → Option AOp :=
 tn 2 (tn 1 (tl 0 (aP (f_aload 0 1)))
  (tl 1 (aP (f_aload 1 2))))
  (tn 5 (tl 2 (o_callI 293 1 5))
  (tl 5 (o_vret)))
theorem kok_J14_init {γ : AG} (hm : γ.2.2.2.2.1 = mTab) (hk : γ.2.2.2.2.2 = kTab) : KOK γ m_J14_init k_J14_init :=
 kn_ok
 (kn_ok
 (kl_ok (ok_aP (ok_aload_n dJ14_init_0 rfl rfl)))
 (kl_ok (ok_aP (ok_aload_n dJ14_init_1 rfl rfl))))
 (kn_ok
 (kl_ok (ok_callI (run_I (by rw [hm]; rfl) q1080 q1081 q106 q1082 rfl ⟨nh_28, dl_52⟩ (by decide) dJ14_init_2) rfl))
 (kl_ok (ok_vret rfl dJ14_init_5)))
/-- 296: java/lang/Exception.<init>(Ljava/lang/String;Ljava/lang/Throwable;ZZ)V -/
noncomputable def k_J14_init_2 : Nat → Option AOp :=
 tn 3 (tn 1 (tl 0 (aP (f_aload 0 1)))
  (tn 2 (tl 1 (aP (f_aload 1 2)))
  (tl 2 (aP (f_aload 2 3)))))
  (tn 6 (tn 4 (tl 3 (aP (f_iload 3 4)))
  (tl 4 (aP (f_iload 4 6))))
  (tn 9 (tl 6 (o_callI 294 4 9))
  (tl 9 (o_vret))))
theorem kok_J14_init_2 {γ : AG} (hm : γ.2.2.2.2.1 = mTab) (hk : γ.2.2.2.2.2 = kTab) : KOK γ m_J14_init_2 k_J14_init_2 :=
 kn_ok
 (kn_ok
 (kl_ok (ok_aP (ok_aload_n dJ14_init_2_0 rfl rfl)))
 (kn_ok
 (kl_ok (ok_aP (ok_aload_n dJ14_init_2_1 rfl rfl)))
 (kl_ok (ok_aP (ok_aload_n dJ14_init_2_2 rfl rfl)))))
 (kn_ok
 (kn_ok
 (kl_ok (ok_aP (ok_iload_n dJ14_init_2_3 rfl rfl)))
 (kl_ok (ok_aP (ok_iload dJ14_init_2_4 rfl))))
 (kn_ok
 (kl_ok (ok_callI (run_I (by rw [hm]; rfl) q1141 q1142 q106 q1143 rfl ⟨nh_28, dl_61⟩ (by decide) dJ14_init_2_6) rfl))
 (kl_ok (ok_vret rfl dJ14_init_2_9))))
/-- 298: java/lang/RuntimeException.<init>(Ljava/lang/String;)V -/
noncomputable def k_J15_init : Nat → Option AOp :=
 tn 2 (tn 1 (tl 0 (aP (f_aload 0 1)))
  (tl 1 (aP (f_aload 1 2))))
  (tn 5 (tl 2 (o_callI 295 1 5))
  (tl 5 (o_vret)))
theorem kok_J15_init {γ : AG} (hm : γ.2.2.2.2.1 = mTab) (hk : γ.2.2.2.2.2 = kTab) : KOK γ m_J15_init k_J15_init :=
 kn_ok
 (kn_ok
 (kl_ok (ok_aP (ok_aload_n dJ15_init_0 rfl rfl)))
 (kl_ok (ok_aP (ok_aload_n dJ15_init_1 rfl rfl))))
 (kn_ok
 (kl_ok (ok_callI (run_I (by rw [hm]; rfl) q1077 q1078 q107 q1079 rfl ⟨nh_27, dl_52⟩ (by decide) dJ15_init_2) rfl))
 (kl_ok (ok_vret rfl dJ15_init_5)))
/-- 300: java/lang/IllegalArgumentException.<init>(Ljava/lang/String;)V -/
noncomputable def k_J16_init : Nat → Option AOp :=
 tn 2 (tn 1 (tl 0 (aP (f_aload 0 1)))
  (tl 1 (aP (f_aload 1 2))))
  (tn 5 (tl 2 (o_callI 298 1 5))
  (tl 5 (o_vret)))
theorem kok_J16_init {γ : AG} (hm : γ.2.2.2.2.1 = mTab) (hk : γ.2.2.2.2.2 = kTab) : KOK γ m_J16_init k_J16_init :=
 kn_ok
 (kn_ok
 (kl_ok (ok_aP (ok_aload_n dJ16_init_0 rfl rfl)))
 (kl_ok (ok_aP (ok_aload_n dJ16_init_1 rfl rfl))))
 (kn_ok
 (kl_ok (ok_callI (run_I (by rw [hm]; rfl) q1074 q1075 q108 q1076 rfl ⟨nh_32, dl_52⟩ (by decide) dJ16_init_2) rfl))
 (kl_ok (ok_vret rfl dJ16_init_5)))
/-- 302: java/lang/Integer.bitCount(I)I -/
noncomputable def k_J17_bitCount : Nat → Option AOp :=
 tn 27 (tn 14 (tn 7 (tn 2 (tn 1 (tl 0 (aP (f_iload 0 1)))
  (tl 1 (aP (f_iload 0 2))))
  (tn 3 (tl 2 (aP (f_const (.int (nI 1)) 3)))
  (tn 4 (tl 3 (aP (f_bin (fun x y => (x.toUInt32 >>> (y.toUInt32 &&& Int32.toUInt32 31)).toInt32) 4)))
  (tl 4 (aP (f_const (.int (1431655765 : Int32)) 7))))))
  (tn 9 (tn 8 (tl 7 (aP (f_bin (fun x y => x &&& y) 8)))
  (tl 8 (aP (f_bin (fun x y => x - y) 9))))
  (tn 10 (tl 9 (aP (f_istore 0 10)))
  (tn 11 (tl 10 (aP (f_iload 0 11)))
  (tl 11 (aP (f_const (.int (858993459 : Int32)) 14)))))))
  (tn 21 (tn 16 (tn 15 (tl 14 (aP (f_bin (fun x y => x &&& y) 15)))
  (tl 15 (aP (f_iload 0 16))))
  (tn 17 (tl 16 (aP (f_const (.int (nI 2)) 17)))
  (tn 18 (tl 17 (aP (f_bin (fun x y => (x.toUInt32 >>> (y.toUInt32 &&& Int32.toUInt32 31)).toInt32) 18)))
  (tl 18 (aP (f_const (.int (858993459 : Int32)) 21))))))
  (tn 24 (tn 22 (tl 21 (aP (f_bin (fun x y => x &&& y) 22)))
  (tn 23 (tl 22 (aP (f_bin (fun x y => x + y) 23)))
  (tl 23 (aP (f_istore 0 24)))))
  (tn 25 (tl 24 (aP (f_iload 0 25)))
  (tn 26 (tl 25 (aP (f_iload 0 26)))
  (tl 26 (aP (f_const (.int (nI 4)) 27))))))))
  (tn 40 (tn 34 (tn 29 (tn 28 (tl 27 (aP (f_bin (fun x y => (x.toUInt32 >>> (y.toUInt32 &&& Int32.toUInt32 31)).toInt32) 28)))
  (tl 28 (aP (f_bin (fun x y => x + y) 29))))
  (tn 32 (tl 29 (aP (f_const (.int (252645135 : Int32)) 32)))
  (tn 33 (tl 32 (aP (f_bin (fun x y => x &&& y) 33)))
  (tl 33 (aP (f_istore 0 34))))))
  (tn 36 (tn 35 (tl 34 (aP (f_iload 0 35)))
  (tl 35 (aP (f_iload 0 36))))
  (tn 38 (tl 36 (aP (f_const (.int (nI 8)) 38)))
  (tn 39 (tl 38 (aP (f_bin (fun x y => (x.toUInt32 >>> (y.toUInt32 &&& Int32.toUInt32 31)).toInt32) 39)))
  (tl 39 (aP (f_bin (fun x y => x + y) 40)))))))
  (tn 46 (tn 42 (tn 41 (tl 40 (aP (f_istore 0 41)))
  (tl 41 (aP (f_iload 0 42))))
  (tn 43 (tl 42 (aP (f_iload 0 43)))
  (tn 45 (tl 43 (aP (f_const (.int (nI 16)) 45)))
  (tl 45 (aP (f_bin (fun x y => (x.toUInt32 >>> (y.toUInt32 &&& Int32.toUInt32 31)).toInt32) 46))))))
  (tn 49 (tn 47 (tl 46 (aP (f_bin (fun x y => x + y) 47)))
  (tn 48 (tl 47 (aP (f_istore 0 48)))
  (tl 48 (aP (f_iload 0 49)))))
  (tn 51 (tl 49 (aP (f_const (.int (nI 63)) 51)))
  (tn 52 (tl 51 (aP (f_bin (fun x y => x &&& y) 52)))
  (tl 52 (o_iret (fun _ => true))))))))
theorem kok_J17_bitCount {γ : AG} (hm : γ.2.2.2.2.1 = mTab) (hk : γ.2.2.2.2.2 = kTab) : KOK γ m_J17_bitCount k_J17_bitCount :=
 kn_ok
 (kn_ok
 (kn_ok
 (kn_ok
 (kn_ok
 (kl_ok (ok_aP (ok_iload_n dJ17_bitCount_0 rfl rfl)))
 (kl_ok (ok_aP (ok_iload_n dJ17_bitCount_1 rfl rfl))))
 (kn_ok
 (kl_ok (ok_aP (ok_iconst dJ17_bitCount_2 rfl rfl)))
 (kn_ok
 (kl_ok (ok_aP (ok_iushr dJ17_bitCount_3 rfl)))
 (kl_ok (ok_aP (ok_ldcw q563 dJ17_bitCount_4 rfl))))))
 (kn_ok
 (kn_ok
 (kl_ok (ok_aP (ok_iand dJ17_bitCount_7 rfl)))
 (kl_ok (ok_aP (ok_isub dJ17_bitCount_8 rfl))))
 (kn_ok
 (kl_ok (ok_aP (ok_istore_n dJ17_bitCount_9 rfl rfl)))
 (kn_ok
 (kl_ok (ok_aP (ok_iload_n dJ17_bitCount_10 rfl rfl)))
 (kl_ok (ok_aP (ok_ldcw q564 dJ17_bitCount_11 rfl)))))))
 (kn_ok
 (kn_ok
 (kn_ok
 (kl_ok (ok_aP (ok_iand dJ17_bitCount_14 rfl)))
 (kl_ok (ok_aP (ok_iload_n dJ17_bitCount_15 rfl rfl))))
 (kn_ok
 (kl_ok (ok_aP (ok_iconst dJ17_bitCount_16 rfl rfl)))
 (kn_ok
 (kl_ok (ok_aP (ok_iushr dJ17_bitCount_17 rfl)))
 (kl_ok (ok_aP (ok_ldcw q564 dJ17_bitCount_18 rfl))))))
 (kn_ok
 (kn_ok
 (kl_ok (ok_aP (ok_iand dJ17_bitCount_21 rfl)))
 (kn_ok
 (kl_ok (ok_aP (ok_iadd dJ17_bitCount_22 rfl)))
 (kl_ok (ok_aP (ok_istore_n dJ17_bitCount_23 rfl rfl)))))
 (kn_ok
 (kl_ok (ok_aP (ok_iload_n dJ17_bitCount_24 rfl rfl)))
 (kn_ok
 (kl_ok (ok_aP (ok_iload_n dJ17_bitCount_25 rfl rfl)))
 (kl_ok (ok_aP (ok_iconst dJ17_bitCount_26 rfl rfl))))))))
 (kn_ok
 (kn_ok
 (kn_ok
 (kn_ok
 (kl_ok (ok_aP (ok_iushr dJ17_bitCount_27 rfl)))
 (kl_ok (ok_aP (ok_iadd dJ17_bitCount_28 rfl))))
 (kn_ok
 (kl_ok (ok_aP (ok_ldcw q565 dJ17_bitCount_29 rfl)))
 (kn_ok
 (kl_ok (ok_aP (ok_iand dJ17_bitCount_32 rfl)))
 (kl_ok (ok_aP (ok_istore_n dJ17_bitCount_33 rfl rfl))))))
 (kn_ok
 (kn_ok
 (kl_ok (ok_aP (ok_iload_n dJ17_bitCount_34 rfl rfl)))
 (kl_ok (ok_aP (ok_iload_n dJ17_bitCount_35 rfl rfl))))
 (kn_ok
 (kl_ok (ok_aP (ok_bipush dJ17_bitCount_36 (by decide +kernel) rfl)))
 (kn_ok
 (kl_ok (ok_aP (ok_iushr dJ17_bitCount_38 rfl)))
 (kl_ok (ok_aP (ok_iadd dJ17_bitCount_39 rfl)))))))
 (kn_ok
 (kn_ok
 (kn_ok
 (kl_ok (ok_aP (ok_istore_n dJ17_bitCount_40 rfl rfl)))
 (kl_ok (ok_aP (ok_iload_n dJ17_bitCount_41 rfl rfl))))
 (kn_ok
 (kl_ok (ok_aP (ok_iload_n dJ17_bitCount_42 rfl rfl)))
 (kn_ok
 (kl_ok (ok_aP (ok_bipush dJ17_bitCount_43 (by decide +kernel) rfl)))
 (kl_ok (ok_aP (ok_iushr dJ17_bitCount_45 rfl))))))
 (kn_ok
 (kn_ok
 (kl_ok (ok_aP (ok_iadd dJ17_bitCount_46 rfl)))
 (kn_ok
 (kl_ok (ok_aP (ok_istore_n dJ17_bitCount_47 rfl rfl)))
 (kl_ok (ok_aP (ok_iload_n dJ17_bitCount_48 rfl rfl)))))
 (kn_ok
 (kl_ok (ok_aP (ok_bipush dJ17_bitCount_49 (by decide +kernel) rfl)))
 (kn_ok
 (kl_ok (ok_aP (ok_iand dJ17_bitCount_51 rfl)))
 (kl_ok (ok_iret rfl dJ17_bitCount_52)))))))
/-- 304: java/lang/Enum.ordinal()I -/
noncomputable def k_J18_ordinal : Nat → Option AOp :=
 tn 1 (tl 0 (aP (f_aload 0 1)))
  (tn 4 (tl 1 (aP (f_getf [26] 0 4)))
  (tl 4 (o_iret (fun _ => true))))
theorem kok_J18_ordinal {γ : AG} (hm : γ.2.2.2.2.1 = mTab) (hk : γ.2.2.2.2.2 = kTab) : KOK γ m_J18_ordinal k_J18_ordinal :=
 kn_ok
 (kl_ok (ok_aP (ok_aload_n dJ18_ordinal_0 rfl rfl)))
 (kn_ok
 (kl_ok (ok_aP (ok_getf fo_35 fs_rf (Or.inl q2382) dJ18_ordinal_1 rfl)))
 (kl_ok (ok_iret rfl dJ18_ordinal_4)))
