set_option maxRecDepth 100000
/-- 89: FavourTown$World.<init>()V -/
noncomputable def k_X2_init : Nat → Option AOp :=
 tn 50 (tn 23 (tn 11 (tn 5 (tn 1 (tl 0 (aP (f_aload 0 1)))
  (tn 4 (tl 1 (aP (f_objI 4)))
  (tl 4 (aP (f_aload 0 5)))))
  (tn 7 (tl 5 (aP (f_const (.int (nI 10)) 7)))
  (tn 10 (tl 7 (o_putf [1] 2 vI 10))
  (tl 10 (aP (f_aload 0 11))))))
  (tn 18 (tn 13 (tl 11 (aP (f_const (.int (nI 12)) 13)))
  (tn 15 (tl 13 (o_newa 0 (.inl (fun _ => 0)) 15))
  (tl 15 (o_putf [1] 5 vA 18))))
  (tn 19 (tl 18 (aP (f_aload 0 19)))
  (tn 21 (tl 19 (aP (f_const (.int (nI 12)) 21)))
  (tl 21 (o_newa 0 (.inl (fun _ => 0)) 23))))))
  (tn 35 (tn 29 (tn 26 (tl 23 (o_putf [1] 6 vA 26))
  (tn 27 (tl 26 (aP (f_aload 0 27)))
  (tl 27 (aP (f_const (.int (nI 12)) 29)))))
  (tn 31 (tl 29 (o_newa 0 (.inl (fun _ => 0)) 31))
  (tn 34 (tl 31 (o_putf [1] 7 vA 34))
  (tl 34 (aP (f_aload 0 35))))))
  (tn 43 (tn 37 (tl 35 (aP (f_const (.int (nI 12)) 37)))
  (tn 39 (tl 37 (aP (f_const (.int (nI 12)) 39)))
  (tl 39 (o_mnew 43))))
  (tn 46 (tl 43 (o_putf [1] 8 vA 46))
  (tn 47 (tl 46 (aP (f_aload 0 47)))
  (tl 47 (o_new 19 [.int 0, .null, .int 0] 50)))))))
  (tn 76 (tn 62 (tn 57 (tn 51 (tl 50 (aP (f_dup 51)))
  (tn 54 (tl 51 (o_callI 112 0 54))
  (tl 54 (o_putf [1] 9 vA 57))))
  (tn 58 (tl 57 (aP (f_aload 0 58)))
  (tn 61 (tl 58 (o_new 19 [.int 0, .null, .int 0] 61))
  (tl 61 (aP (f_dup 62))))))
  (tn 69 (tn 65 (tl 62 (o_callI 112 0 65))
  (tn 68 (tl 65 (o_putf [1] 10 vA 68))
  (tl 68 (aP (f_aload 0 69)))))
  (tn 72 (tl 69 (o_new 19 [.int 0, .null, .int 0] 72))
  (tn 73 (tl 72 (aP (f_dup 73)))
  (tl 73 (o_callI 112 0 76))))))
  (tn 90 (tn 83 (tn 79 (tl 76 (o_putf [1] 11 vA 79))
  (tn 80 (tl 79 (aP (f_aload 0 80)))
  (tl 80 (o_new 19 [.int 0, .null, .int 0] 83))))
  (tn 84 (tl 83 (aP (f_dup 84)))
  (tn 87 (tl 84 (o_callI 112 0 87))
  (tl 87 (o_putf [1] 12 vA 90)))))
  (tn 95 (tn 91 (tl 90 (aP (f_aload 0 91)))
  (tn 94 (tl 91 (o_new 8 [.int 0, .int 0, .int 0, .int 0, .int 0, .int 0, .int 0, .int 0, .int 0] 94))
  (tl 94 (aP (f_dup 95)))))
  (tn 98 (tl 95 (o_callI 122 0 98))
  (tn 101 (tl 98 (o_putf [1] 13 vA 101))
  (tl 101 (o_vret)))))))
theorem kok_X2_init {γ : AG} (hm : γ.2.2.2.2.1 = mTab) (hk : γ.2.2.2.2.2 = kTab) : KOK γ m_X2_init k_X2_init :=
 kn_ok
 (kn_ok
 (kn_ok
 (kn_ok
 (kn_ok
 (kl_ok (ok_aP (ok_aload_n dX2_init_0 rfl rfl)))
 (kn_ok
 (kl_ok (ok_aP (ok_objI q142 q135 q136 dX2_init_1 rfl)))
 (kl_ok (ok_aP (ok_aload_n dX2_init_4 rfl rfl)))))
 (kn_ok
 (kl_ok (ok_aP (ok_bipush dX2_init_5 (by decide +kernel) rfl)))
 (kn_ok
 (kl_ok (ok_hp (ok_putf fo_7 fs_rf fn_21 (Or.inl q219) pd_0 vI_ok dX2_init_7 rfl) le_putf))
 (kl_ok (ok_aP (ok_aload_n dX2_init_10 rfl rfl))))))
 (kn_ok
 (kn_ok
 (kl_ok (ok_aP (ok_bipush dX2_init_11 (by decide +kernel) rfl)))
 (kn_ok
 (kl_ok (ok_hp (na_int dX2_init_13 rfl) le_newa))
 (kl_ok (ok_hp (ok_putF fo_42 fn_23 q226 rfl pd_2 vA_okA dX2_init_15 rfl) le_putf))))
 (kn_ok
 (kl_ok (ok_aP (ok_aload_n dX2_init_18 rfl rfl)))
 (kn_ok
 (kl_ok (ok_aP (ok_bipush dX2_init_19 (by decide +kernel) rfl)))
 (kl_ok (ok_hp (na_int dX2_init_21 rfl) le_newa))))))
 (kn_ok
 (kn_ok
 (kn_ok
 (kl_ok (ok_hp (ok_putF fo_39 fn_24 q228 rfl pd_2 vA_okA dX2_init_23 rfl) le_putf))
 (kn_ok
 (kl_ok (ok_aP (ok_aload_n dX2_init_26 rfl rfl)))
 (kl_ok (ok_aP (ok_bipush dX2_init_27 (by decide +kernel) rfl)))))
 (kn_ok
 (kl_ok (ok_hp (na_int dX2_init_29 rfl) le_newa))
 (kn_ok
 (kl_ok (ok_hp (ok_putF fo_9 fn_25 q230 rfl pd_2 vA_okA dX2_init_31 rfl) le_putf))
 (kl_ok (ok_aP (ok_aload_n dX2_init_34 rfl rfl))))))
 (kn_ok
 (kn_ok
 (kl_ok (ok_aP (ok_bipush dX2_init_35 (by decide +kernel) rfl)))
 (kn_ok
 (kl_ok (ok_aP (ok_bipush dX2_init_37 (by decide +kernel) rfl)))
 (kl_ok (ok_hp (ok_mnew q143 q171 dX2_init_39 rfl) le_mnew))))
 (kn_ok
 (kl_ok (ok_hp (ok_putF fo_41 fn_26 q232 rfl pd_4 vA_okA dX2_init_43 rfl) le_putf))
 (kn_ok
 (kl_ok (ok_aP (ok_aload_n dX2_init_46 rfl rfl)))
 (kl_ok (ok_hp (ok_new (by decide +kernel) rfl q145 q146 q87 dX2_init_47 rfl) le_new)))))))
 (kn_ok
 (kn_ok
 (kn_ok
 (kn_ok
 (kl_ok (ok_aP (ok_dup dX2_init_50 rfl)))
 (kn_ok
 (kl_ok (ok_callI (run_I (by rw [hm]; rfl) q147 q148 q87 q149 rfl ⟨nh_4, dl_0⟩ (by decide) dX2_init_51) rfl))
 (kl_ok (ok_hp (ok_putF fo_2 fn_27 q234 rfl pd_5 vA_okO dX2_init_54 rfl) le_putf))))
 (kn_ok
 (kl_ok (ok_aP (ok_aload_n dX2_init_57 rfl rfl)))
 (kn_ok
 (kl_ok (ok_hp (ok_new (by decide +kernel) rfl q145 q146 q87 dX2_init_58 rfl) le_new))
 (kl_ok (ok_aP (ok_dup dX2_init_61 rfl))))))
 (kn_ok
 (kn_ok
 (kl_ok (ok_callI (run_I (by rw [hm]; rfl) q147 q148 q87 q149 rfl ⟨nh_4, dl_0⟩ (by decide) dX2_init_62) rfl))
 (kn_ok
 (kl_ok (ok_hp (ok_putF fo_45 fn_28 q236 rfl pd_5 vA_okO dX2_init_65 rfl) le_putf))
 (kl_ok (ok_aP (ok_aload_n dX2_init_68 rfl rfl)))))
 (kn_ok
 (kl_ok (ok_hp (ok_new (by decide +kernel) rfl q145 q146 q87 dX2_init_69 rfl) le_new))
 (kn_ok
 (kl_ok (ok_aP (ok_dup dX2_init_72 rfl)))
 (kl_ok (ok_callI (run_I (by rw [hm]; rfl) q147 q148 q87 q149 rfl ⟨nh_4, dl_0⟩ (by decide) dX2_init_73) rfl))))))
 (kn_ok
 (kn_ok
 (kn_ok
 (kl_ok (ok_hp (ok_putF fo_15 fn_29 q238 rfl pd_5 vA_okO dX2_init_76 rfl) le_putf))
 (kn_ok
 (kl_ok (ok_aP (ok_aload_n dX2_init_79 rfl rfl)))
 (kl_ok (ok_hp (ok_new (by decide +kernel) rfl q145 q146 q87 dX2_init_80 rfl) le_new))))
 (kn_ok
 (kl_ok (ok_aP (ok_dup dX2_init_83 rfl)))
 (kn_ok
 (kl_ok (ok_callI (run_I (by rw [hm]; rfl) q147 q148 q87 q149 rfl ⟨nh_4, dl_0⟩ (by decide) dX2_init_84) rfl))
 (kl_ok (ok_hp (ok_putF fo_46 fn_30 q240 rfl pd_5 vA_okO dX2_init_87 rfl) le_putf)))))
 (kn_ok
 (kn_ok
 (kl_ok (ok_aP (ok_aload_n dX2_init_90 rfl rfl)))
 (kn_ok
 (kl_ok (ok_hp (ok_new (by decide +kernel) rfl q172 q173 q88 dX2_init_91 rfl) le_new))
 (kl_ok (ok_aP (ok_dup dX2_init_94 rfl)))))
 (kn_ok
 (kl_ok (ok_callI (run_IN (by rw [hm]; rfl) q174 q175 q88 q176 rfl ⟨nh_8, dl_0⟩ (by decide) dX2_init_95) rfl))
 (kn_ok
 (kl_ok (ok_hp (ok_putF fo_11 fn_31 q243 rfl pd_6 vA_okO dX2_init_98 rfl) le_putf))
 (kl_ok (ok_vret rfl dX2_init_101)))))))
/-- 90: FavourTown$World.unmet(I)I -/
noncomputable def k_X2_unmet : Nat → Option AOp :=
 tn 37 (tn 16 (tn 7 (tn 2 (tn 1 (tl 0 (aP (f_aload 0 1)))
  (tl 1 (aP (f_iload 1 2))))
  (tn 5 (tl 2 (o_putf [1] 4 vI 5))
  (tn 6 (tl 5 (aP (f_const (.int (-1)) 6)))
  (tl 6 (aP (f_istore 2 7))))))
  (tn 11 (tn 8 (tl 7 (aP (f_aload 0 8)))
  (tl 8 (aP (f_getf [1] 10 11))))
  (tn 14 (tl 11 (o_callV (lkN [(19, 113)]) 0 14))
  (tn 15 (tl 14 (aP (f_const (.int (nI 1)) 15)))
  (tl 15 (aP (f_bin (fun x y => x - y) 16)))))))
  (tn 23 (tn 18 (tn 17 (tl 16 (aP (f_istore 3 17)))
  (tl 17 (aP (f_iload 3 18))))
  (tn 21 (tl 18 (aP (f_if (fun x => decide (x < 0)) 78 21)))
  (tn 22 (tl 21 (aP (f_aload 0 22)))
  (tl 22 (aP (f_aload 0 23))))))
  (tn 30 (tn 26 (tl 23 (aP (f_getf [1] 10 26)))
  (tn 27 (tl 26 (aP (f_iload 3 27)))
  (tl 27 (o_callV (lkN [(19, 114)]) 1 30))))
  (tn 33 (tl 30 (aP (f_cast [7] [] 33)))
  (tn 36 (tl 33 (aP (f_getf [7] 0 36)))
  (tl 36 (aP (f_aload 0 37))))))))
  (tn 64 (tn 50 (tn 41 (tn 40 (tl 37 (aP (f_getf [1] 10 40)))
  (tl 40 (aP (f_iload 3 41))))
  (tn 44 (tl 41 (o_callV (lkN [(19, 114)]) 1 44))
  (tn 47 (tl 44 (aP (f_cast [7] [] 47)))
  (tl 47 (aP (f_getf [7] 1 50))))))
  (tn 55 (tn 51 (tl 50 (aP (f_aload 0 51)))
  (tn 54 (tl 51 (aP (f_getf [1] 10 54)))
  (tl 54 (aP (f_iload 3 55)))))
  (tn 58 (tl 55 (o_callV (lkN [(19, 114)]) 1 58))
  (tn 61 (tl 58 (aP (f_cast [7] [] 61)))
  (tl 61 (aP (f_getf [7] 2 64)))))))
  (tn 75 (tn 70 (tn 67 (tl 64 (o_callV (lkN [(1, 91)]) 3 67))
  (tl 67 (aP (f_if (fun x => decide (¬ x = 0)) 72 70))))
  (tn 71 (tl 70 (aP (f_iload 3 71)))
  (tn 72 (tl 71 (aP (f_istore 2 72)))
  (tl 72 (aP (f_iinc 3 (-1) 75))))))
  (tn 80 (tn 78 (tl 75 (aP (f_goto 17)))
  (tn 79 (tl 78 (aP (f_aload 0 79)))
  (tl 79 (aP (f_const (.int (nI 0)) 80)))))
  (tn 83 (tl 80 (o_putf [1] 4 vI 83))
  (tn 84 (tl 83 (aP (f_iload 2 84)))
  (tl 84 (o_iret (fun _ => true))))))))
theorem kok_X2_unmet {γ : AG} (hm : γ.2.2.2.2.1 = mTab) (hk : γ.2.2.2.2.2 = kTab) : KOK γ m_X2_unmet k_X2_unmet :=
 kn_ok
 (kn_ok
 (kn_ok
 (kn_ok
 (kn_ok
 (kl_ok (ok_aP (ok_aload_n dX2_unmet_0 rfl rfl)))
 (kl_ok (ok_aP (ok_iload_n dX2_unmet_1 rfl rfl))))
 (kn_ok
 (kl_ok (ok_hp (ok_putf fo_40 fs_rf fn_54 (Or.inl q225) pd_0 vI_ok dX2_unmet_2 rfl) le_putf))
 (kn_ok
 (kl_ok (ok_aP (ok_iconst dX2_unmet_5 rfl rfl)))
 (kl_ok (ok_aP (ok_istore_n dX2_unmet_6 rfl rfl))))))
 (kn_ok
 (kn_ok
 (kl_ok (ok_aP (ok_aload_n dX2_unmet_7 rfl rfl)))
 (kl_ok (ok_aP (ok_getf fo_45 fs_rf (Or.inl q236) dX2_unmet_8 rfl))))
 (kn_ok
 (kl_ok (ok_callV (List.forall_mem_cons.mpr ⟨run_V (C0 := "java/util/ArrayList") rfl rfl (by rw [hm]; rfl) q400 q401 q402 q87 q403 ⟨nh_4, dl_4⟩ (by decide) dX2_unmet_11, (fun _ h => absurd h List.not_mem_nil)⟩) rfl))
 (kn_ok
 (kl_ok (ok_aP (ok_iconst dX2_unmet_14 rfl rfl)))
 (kl_ok (ok_aP (ok_isub dX2_unmet_15 rfl)))))))
 (kn_ok
 (kn_ok
 (kn_ok
 (kl_ok (ok_aP (ok_istore_n dX2_unmet_16 rfl rfl)))
 (kl_ok (ok_aP (ok_iload_n dX2_unmet_17 rfl rfl))))
 (kn_ok
 (kl_ok (ok_aP (ok_if_lt dX2_unmet_18 rfl rfl)))
 (kn_ok
 (kl_ok (ok_aP (ok_aload_n dX2_unmet_21 rfl rfl)))
 (kl_ok (ok_aP (ok_aload_n dX2_unmet_22 rfl rfl))))))
 (kn_ok
 (kn_ok
 (kl_ok (ok_aP (ok_getf fo_45 fs_rf (Or.inl q236) dX2_unmet_23 rfl)))
 (kn_ok
 (kl_ok (ok_aP (ok_iload_n dX2_unmet_26 rfl rfl)))
 (kl_ok (ok_callV (List.forall_mem_cons.mpr ⟨run_V (C0 := "java/util/ArrayList") rfl rfl (by rw [hm]; rfl) q404 q405 q406 q87 q407 ⟨nh_4, dl_21⟩ (by decide) dX2_unmet_27, (fun _ h => absurd h List.not_mem_nil)⟩) rfl))))
 (kn_ok
 (kl_ok (ok_aP (ok_cast q418 (List.forall_mem_cons.mpr ⟨Or.inr ⟨_, rfl, rfl⟩, (fun _ h => absurd h List.not_mem_nil)⟩) (fun _ h => absurd h List.not_mem_nil) dX2_unmet_30 rfl)))
 (kn_ok
 (kl_ok (ok_aP (ok_getf fo_85 fs_rf (Or.inr ⟨_, q1290⟩) dX2_unmet_33 rfl)))
 (kl_ok (ok_aP (ok_aload_n dX2_unmet_36 rfl rfl))))))))
 (kn_ok
 (kn_ok
 (kn_ok
 (kn_ok
 (kl_ok (ok_aP (ok_getf fo_45 fs_rf (Or.inl q236) dX2_unmet_37 rfl)))
 (kl_ok (ok_aP (ok_iload_n dX2_unmet_40 rfl rfl))))
 (kn_ok
 (kl_ok (ok_callV (List.forall_mem_cons.mpr ⟨run_V (C0 := "java/util/ArrayList") rfl rfl (by rw [hm]; rfl) q404 q405 q406 q87 q407 ⟨nh_4, dl_21⟩ (by decide) dX2_unmet_41, (fun _ h => absurd h List.not_mem_nil)⟩) rfl))
 (kn_ok
 (kl_ok (ok_aP (ok_cast q418 (List.forall_mem_cons.mpr ⟨Or.inr ⟨_, rfl, rfl⟩, (fun _ h => absurd h List.not_mem_nil)⟩) (fun _ h => absurd h List.not_mem_nil) dX2_unmet_44 rfl)))
 (kl_ok (ok_aP (ok_getf fo_86 fs_rf (Or.inr ⟨_, q1293⟩) dX2_unmet_47 rfl))))))
 (kn_ok
 (kn_ok
 (kl_ok (ok_aP (ok_aload_n dX2_unmet_50 rfl rfl)))
 (kn_ok
 (kl_ok (ok_aP (ok_getf fo_45 fs_rf (Or.inl q236) dX2_unmet_51 rfl)))
 (kl_ok (ok_aP (ok_iload_n dX2_unmet_54 rfl rfl)))))
 (kn_ok
 (kl_ok (ok_callV (List.forall_mem_cons.mpr ⟨run_V (C0 := "java/util/ArrayList") rfl rfl (by rw [hm]; rfl) q404 q405 q406 q87 q407 ⟨nh_4, dl_21⟩ (by decide) dX2_unmet_55, (fun _ h => absurd h List.not_mem_nil)⟩) rfl))
 (kn_ok
 (kl_ok (ok_aP (ok_cast q418 (List.forall_mem_cons.mpr ⟨Or.inr ⟨_, rfl, rfl⟩, (fun _ h => absurd h List.not_mem_nil)⟩) (fun _ h => absurd h List.not_mem_nil) dX2_unmet_58 rfl)))
 (kl_ok (ok_aP (ok_getf fo_87 fs_rf (Or.inr ⟨_, q1296⟩) dX2_unmet_61 rfl)))))))
 (kn_ok
 (kn_ok
 (kn_ok
 (kl_ok (ok_callV (List.forall_mem_cons.mpr ⟨run_V (C0 := "FavourTown$World") rfl rfl (by rw [hm]; rfl) q419 q420 q421 q84 q422 ⟨nh_3, dl_17⟩ (by decide) dX2_unmet_64, (fun _ h => absurd h List.not_mem_nil)⟩) rfl))
 (kl_ok (ok_aP (ok_if_ne dX2_unmet_67 rfl rfl))))
 (kn_ok
 (kl_ok (ok_aP (ok_iload_n dX2_unmet_70 rfl rfl)))
 (kn_ok
 (kl_ok (ok_aP (ok_istore_n dX2_unmet_71 rfl rfl)))
 (kl_ok (ok_aP (ok_iinc dX2_unmet_72 (by decide +kernel) rfl))))))
 (kn_ok
 (kn_ok
 (kl_ok (ok_aP (ok_goto dX2_unmet_75 rfl)))
 (kn_ok
 (kl_ok (ok_aP (ok_aload_n dX2_unmet_78 rfl rfl)))
 (kl_ok (ok_aP (ok_iconst dX2_unmet_79 rfl rfl)))))
 (kn_ok
 (kl_ok (ok_hp (ok_putf fo_40 fs_rf fn_54 (Or.inl q225) pd_0 vI_ok dX2_unmet_80 rfl) le_putf))
 (kn_ok
 (kl_ok (ok_aP (ok_iload_n dX2_unmet_83 rfl rfl)))
 (kl_ok (ok_iret rfl dX2_unmet_84)))))))
/-- 91: FavourTown$World.isMet(III)Z -/
noncomputable def k_X2_isMet : Nat → Option AOp :=
 tn 13 (tn 4 (tn 2 (tn 1 (tl 0 (aP (f_aload 0 1)))
  (tl 1 (aP (f_iload 1 2))))
  (tn 3 (tl 2 (aP (f_iload 2 3)))
  (tl 3 (aP (f_iload 3 4)))))
  (tn 8 (tn 7 (tl 4 (o_callV (lkN [(1, 92)]) 3 7))
  (tl 7 (aP (f_const (.int (-1)) 8))))
  (tn 11 (tl 8 (aP (f_icmp (fun x y => decide (¬ x = y)) 23 11)))
  (tn 12 (tl 11 (aP (f_aload 0 12)))
  (tl 12 (aP (f_iload 1 13)))))))
  (tn 20 (tn 15 (tn 14 (tl 13 (aP (f_iload 2 14)))
  (tl 14 (aP (f_iload 3 15))))
  (tn 16 (tl 15 (aP (f_const (.int (-1)) 16)))
  (tn 17 (tl 16 (aP (f_const (.int (nI 0)) 17)))
  (tl 17 (o_callV (lkN [(1, 100)]) 5 20)))))
  (tn 24 (tn 23 (tl 20 (aP (f_if (fun x => decide (x = 0)) 27 23)))
  (tl 23 (aP (f_const (.int (nI 1)) 24))))
  (tn 27 (tl 24 (aP (f_goto 28)))
  (tn 28 (tl 27 (aP (f_const (.int (nI 0)) 28)))
  (tl 28 (o_iret (fun x => x == 0 || x == 1)))))))
theorem kok_X2_isMet {γ : AG} (hm : γ.2.2.2.2.1 = mTab) (hk : γ.2.2.2.2.2 = kTab) : KOK γ m_X2_isMet k_X2_isMet :=
 kn_ok
 (kn_ok
 (kn_ok
 (kn_ok
 (kl_ok (ok_aP (ok_aload_n dX2_isMet_0 rfl rfl)))
 (kl_ok (ok_aP (ok_iload_n dX2_isMet_1 rfl rfl))))
 (kn_ok
 (kl_ok (ok_aP (ok_iload_n dX2_isMet_2 rfl rfl)))
 (kl_ok (ok_aP (ok_iload_n dX2_isMet_3 rfl rfl)))))
 (kn_ok
 (kn_ok
 (kl_ok (ok_callV (List.forall_mem_cons.mpr ⟨run_V (C0 := "FavourTown$World") rfl rfl (by rw [hm]; rfl) q423 q424 q425 q84 q426 ⟨nh_3, dl_13⟩ (by decide) dX2_isMet_4, (fun _ h => absurd h List.not_mem_nil)⟩) rfl))
 (kl_ok (ok_aP (ok_iconst dX2_isMet_7 rfl rfl))))
 (kn_ok
 (kl_ok (ok_aP (ok_icmp_ne dX2_isMet_8 rfl rfl)))
 (kn_ok
 (kl_ok (ok_aP (ok_aload_n dX2_isMet_11 rfl rfl)))
 (kl_ok (ok_aP (ok_iload_n dX2_isMet_12 rfl rfl)))))))
 (kn_ok
 (kn_ok
 (kn_ok
 (kl_ok (ok_aP (ok_iload_n dX2_isMet_13 rfl rfl)))
 (kl_ok (ok_aP (ok_iload_n dX2_isMet_14 rfl rfl))))
 (kn_ok
 (kl_ok (ok_aP (ok_iconst dX2_isMet_15 rfl rfl)))
 (kn_ok
 (kl_ok (ok_aP (ok_iconst dX2_isMet_16 rfl rfl)))
 (kl_ok (ok_callV (List.forall_mem_cons.mpr ⟨run_V (C0 := "FavourTown$World") rfl rfl (by rw [hm]; rfl) q548 q549 q550 q84 q551 ⟨nh_3, dl_33⟩ (by decide) dX2_isMet_17, (fun _ h => absurd h List.not_mem_nil)⟩) rfl)))))
 (kn_ok
 (kn_ok
 (kl_ok (ok_aP (ok_if_eq dX2_isMet_20 rfl rfl)))
 (kl_ok (ok_aP (ok_iconst dX2_isMet_23 rfl rfl))))
 (kn_ok
 (kl_ok (ok_aP (ok_goto dX2_isMet_24 rfl)))
 (kn_ok
 (kl_ok (ok_aP (ok_iconst dX2_isMet_27 rfl rfl)))
 (kl_ok (ok_zret rfl z_boolean dX2_isMet_28))))))
/-- 92: FavourTown$World.pays(III)I -/
noncomputable def k_X2_pays : Nat → Option AOp :=
 tn 60 (tn 30 (tn 12 (tn 4 (tn 1 (tl 0 (aP (f_const (.int (-1)) 1)))
  (tn 3 (tl 1 (aP (f_istore 4 3)))
  (tl 3 (aP (f_const (.int (nI 0)) 4)))))
  (tn 8 (tn 6 (tl 4 (aP (f_istore 5 6)))
  (tl 6 (aP (f_iload 5 8))))
  (tn 9 (tl 8 (aP (f_aload 0 9)))
  (tl 9 (aP (f_getf [1] 9 12))))))
  (tn 19 (tn 15 (tl 12 (o_callV (lkN [(19, 113)]) 0 15))
  (tn 18 (tl 15 (aP (f_icmp (fun x y => decide (y ≤ x)) 117 18)))
  (tl 18 (aP (f_aload 0 19)))))
  (tn 24 (tn 22 (tl 19 (aP (f_getf [1] 9 22)))
  (tl 22 (aP (f_iload 5 24))))
  (tn 27 (tl 24 (o_callV (lkN [(19, 114)]) 1 27))
  (tl 27 (aP (f_cast [5, 6] [] 30)))))))
  (tn 46 (tn 37 (tn 32 (tl 30 (aP (f_astore 6 32)))
  (tn 34 (tl 32 (aP (f_aload 6 34)))
  (tl 34 (aP (f_getf [5, 6] 4 37)))))
  (tn 41 (tn 38 (tl 37 (aP (f_iload 1 38)))
  (tl 38 (aP (f_icmp (fun x y => decide (¬ x = y)) 111 41))))
  (tn 43 (tl 41 (aP (f_aload 6 43)))
  (tl 43 (aP (f_getf [5, 6] 0 46))))))
  (tn 51 (tn 47 (tl 46 (aP (f_iload 2 47)))
  (tn 50 (tl 47 (aP (f_icmp (fun x y => decide (x = y)) 111 50)))
  (tl 50 (aP (f_aload 0 51)))))
  (tn 54 (tn 53 (tl 51 (aP (f_aload 6 53)))
  (tl 53 (aP (f_iload 2 54))))
  (tn 57 (tl 54 (o_callV (lkN [(1, 93)]) 2 57))
  (tl 57 (aP (f_if (fun x => decide (¬ x = 0)) 63 60))))))))
  (tn 89 (tn 75 (tn 67 (tn 63 (tl 60 (aP (f_goto 111)))
  (tn 65 (tl 63 (aP (f_aload 6 65)))
  (tl 65 (aP (f_aload 6 67)))))
  (tn 71 (tn 70 (tl 67 (aP (f_getf [5, 6] 5 70)))
  (tl 70 (aP (f_const (.int (nI 1)) 71))))
  (tn 72 (tl 71 (aP (f_bin (fun x y => x + y) 72)))
  (tl 72 (o_callV (lkN [(5, 243), (6, 243)]) 1 75)))))
  (tn 80 (tn 77 (tl 75 (aP (f_istore 7 77)))
  (tn 79 (tl 77 (aP (f_iload 7 79)))
  (tl 79 (aP (f_iload 3 80)))))
  (tn 84 (tn 83 (tl 80 (aP (f_const (.int (nI 1024)) 83)))
  (tl 83 (aP (f_bin (fun x y => x * y) 84))))
  (tn 87 (tl 84 (aP (f_icmp (fun x y => decide (x < y)) 111 87)))
  (tl 87 (aP (f_iload 4 89)))))))
  (tn 104 (tn 95 (tn 90 (tl 89 (aP (f_const (.int (-1)) 90)))
  (tn 93 (tl 90 (aP (f_icmp (fun x y => decide (x = y)) 107 93)))
  (tl 93 (aP (f_iload 7 95)))))
  (tn 98 (tn 96 (tl 95 (aP (f_aload 0 96)))
  (tl 96 (aP (f_iload 4 98))))
  (tn 101 (tl 98 (o_callV (lkN [(1, 99)]) 1 101))
  (tl 101 (aP (f_icmp (fun x y => decide (x < y)) 107 104))))))
  (tn 111 (tn 107 (tl 104 (aP (f_goto 111)))
  (tn 109 (tl 107 (aP (f_iload 5 109)))
  (tl 109 (aP (f_istore 4 111)))))
  (tn 117 (tn 114 (tl 111 (aP (f_iinc 5 (nI 1) 114)))
  (tl 114 (aP (f_goto 6))))
  (tn 119 (tl 117 (aP (f_iload 4 119)))
  (tl 119 (o_iret (fun _ => true))))))))
theorem kok_X2_pays {γ : AG} (hm : γ.2.2.2.2.1 = mTab) (hk : γ.2.2.2.2.2 = kTab) : KOK γ m_X2_pays k_X2_pays :=
 kn_ok
 (kn_ok
 (kn_ok
 (kn_ok
 (kn_ok
 (kl_ok (ok_aP (ok_iconst dX2_pays_0 rfl rfl)))
 (kn_ok
 (kl_ok (ok_aP (ok_istore dX2_pays_1 rfl)))
 (kl_ok (ok_aP (ok_iconst dX2_pays_3 rfl rfl)))))
 (kn_ok
 (kn_ok
 (kl_ok (ok_aP (ok_istore dX2_pays_4 rfl)))
 (kl_ok (ok_aP (ok_iload dX2_pays_6 rfl))))
 (kn_ok
 (kl_ok (ok_aP (ok_aload_n dX2_pays_8 rfl rfl)))
 (kl_ok (ok_aP (ok_getf fo_2 fs_rf (Or.inl q234) dX2_pays_9 rfl))))))
 (kn_ok
 (kn_ok
 (kl_ok (ok_callV (List.forall_mem_cons.mpr ⟨run_V (C0 := "java/util/ArrayList") rfl rfl (by rw [hm]; rfl) q400 q401 q402 q87 q403 ⟨nh_4, dl_4⟩ (by decide) dX2_pays_12, (fun _ h => absurd h List.not_mem_nil)⟩) rfl))
 (kn_ok
 (kl_ok (ok_aP (ok_icmp_ge dX2_pays_15 rfl rfl)))
 (kl_ok (ok_aP (ok_aload_n dX2_pays_18 rfl rfl)))))
 (kn_ok
 (kn_ok
 (kl_ok (ok_aP (ok_getf fo_2 fs_rf (Or.inl q234) dX2_pays_19 rfl)))
 (kl_ok (ok_aP (ok_iload dX2_pays_22 rfl))))
 (kn_ok
 (kl_ok (ok_callV (List.forall_mem_cons.mpr ⟨run_V (C0 := "java/util/ArrayList") rfl rfl (by rw [hm]; rfl) q404 q405 q406 q87 q407 ⟨nh_4, dl_21⟩ (by decide) dX2_pays_24, (fun _ h => absurd h List.not_mem_nil)⟩) rfl))
 (kl_ok (ok_aP (ok_cast q427 (List.forall_mem_cons.mpr ⟨Or.inr ⟨_, rfl, rfl⟩, (List.forall_mem_cons.mpr ⟨Or.inl ⟨_, rfl, q2339⟩, (fun _ h => absurd h List.not_mem_nil)⟩)⟩) (fun _ h => absurd h List.not_mem_nil) dX2_pays_27 rfl)))))))
 (kn_ok
 (kn_ok
 (kn_ok
 (kl_ok (ok_aP (ok_astore dX2_pays_30 rfl)))
 (kn_ok
 (kl_ok (ok_aP (ok_aload dX2_pays_32 rfl)))
 (kl_ok (ok_aP (ok_getf fo_4 fs_rf (Or.inr ⟨_, q619⟩) dX2_pays_34 rfl)))))
 (kn_ok
 (kn_ok
 (kl_ok (ok_aP (ok_iload_n dX2_pays_37 rfl rfl)))
 (kl_ok (ok_aP (ok_icmp_ne dX2_pays_38 rfl rfl))))
 (kn_ok
 (kl_ok (ok_aP (ok_aload dX2_pays_41 rfl)))
 (kl_ok (ok_aP (ok_getf fo_5 fs_rf (Or.inr ⟨_, q605⟩) dX2_pays_43 rfl))))))
 (kn_ok
 (kn_ok
 (kl_ok (ok_aP (ok_iload_n dX2_pays_46 rfl rfl)))
 (kn_ok
 (kl_ok (ok_aP (ok_icmp_eq dX2_pays_47 rfl rfl)))
 (kl_ok (ok_aP (ok_aload_n dX2_pays_50 rfl rfl)))))
 (kn_ok
 (kn_ok
 (kl_ok (ok_aP (ok_aload dX2_pays_51 rfl)))
 (kl_ok (ok_aP (ok_iload_n dX2_pays_53 rfl rfl))))
 (kn_ok
 (kl_ok (ok_callV (List.forall_mem_cons.mpr ⟨run_V (C0 := "FavourTown$World") rfl rfl (by rw [hm]; rfl) q428 q429 q430 q84 q431 ⟨nh_3, dl_23⟩ (by decide) dX2_pays_54, (fun _ h => absurd h List.not_mem_nil)⟩) rfl))
 (kl_ok (ok_aP (ok_if_ne dX2_pays_57 rfl rfl))))))))
 (kn_ok
 (kn_ok
 (kn_ok
 (kn_ok
 (kl_ok (ok_aP (ok_goto dX2_pays_60 rfl)))
 (kn_ok
 (kl_ok (ok_aP (ok_aload dX2_pays_63 rfl)))
 (kl_ok (ok_aP (ok_aload dX2_pays_65 rfl)))))
 (kn_ok
 (kn_ok
 (kl_ok (ok_aP (ok_getf fo_6 fs_rf (Or.inr ⟨_, q622⟩) dX2_pays_67 rfl)))
 (kl_ok (ok_aP (ok_iconst dX2_pays_70 rfl rfl))))
 (kn_ok
 (kl_ok (ok_aP (ok_iadd dX2_pays_71 rfl)))
 (kl_ok (ok_callV (List.forall_mem_cons.mpr ⟨run_V (C0 := "FavourTown$Favour") rfl rfl (by rw [hm]; rfl) q456 q457 q458 q96 q461 ⟨nh_5, dl_10⟩ (by decide) dX2_pays_72, (List.forall_mem_cons.mpr ⟨run_U (C0 := "FavourTown$Timed") (owner := "FavourTown$Favour") (nx := ⟨"FavourTown$Favour", "worthAt", "(I)I"⟩) rfl rfl (by rw [hm]; rfl) q456 q459 q460 q457 q96 q461 ⟨nh_5, dl_10⟩ (by decide) dX2_pays_72, (fun _ h => absurd h List.not_mem_nil)⟩)⟩) rfl)))))
 (kn_ok
 (kn_ok
 (kl_ok (ok_aP (ok_istore dX2_pays_75 rfl)))
 (kn_ok
 (kl_ok (ok_aP (ok_iload dX2_pays_77 rfl)))
 (kl_ok (ok_aP (ok_iload_n dX2_pays_79 rfl rfl)))))
 (kn_ok
 (kn_ok
 (kl_ok (ok_aP (ok_sipush dX2_pays_80 (by decide +kernel) rfl)))
 (kl_ok (ok_aP (ok_imul dX2_pays_83 rfl))))
 (kn_ok
 (kl_ok (ok_aP (ok_icmp_lt dX2_pays_84 rfl rfl)))
 (kl_ok (ok_aP (ok_iload dX2_pays_87 rfl)))))))
 (kn_ok
 (kn_ok
 (kn_ok
 (kl_ok (ok_aP (ok_iconst dX2_pays_89 rfl rfl)))
 (kn_ok
 (kl_ok (ok_aP (ok_icmp_eq dX2_pays_90 rfl rfl)))
 (kl_ok (ok_aP (ok_iload dX2_pays_93 rfl)))))
 (kn_ok
 (kn_ok
 (kl_ok (ok_aP (ok_aload_n dX2_pays_95 rfl rfl)))
 (kl_ok (ok_aP (ok_iload dX2_pays_96 rfl))))
 (kn_ok
 (kl_ok (ok_callV (List.forall_mem_cons.mpr ⟨run_V (C0 := "FavourTown$World") rfl rfl (by rw [hm]; rfl) q544 q546 qs1 q84 q547 ⟨nh_3, dl_10⟩ (by decide) dX2_pays_98, (fun _ h => absurd h List.not_mem_nil)⟩) rfl))
 (kl_ok (ok_aP (ok_icmp_lt dX2_pays_101 rfl rfl))))))
 (kn_ok
 (kn_ok
 (kl_ok (ok_aP (ok_goto dX2_pays_104 rfl)))
 (kn_ok
 (kl_ok (ok_aP (ok_iload dX2_pays_107 rfl)))
 (kl_ok (ok_aP (ok_istore dX2_pays_109 rfl)))))
 (kn_ok
 (kn_ok
 (kl_ok (ok_aP (ok_iinc dX2_pays_111 (by decide +kernel) rfl)))
 (kl_ok (ok_aP (ok_goto dX2_pays_114 rfl))))
 (kn_ok
 (kl_ok (ok_aP (ok_iload dX2_pays_117 rfl)))
 (kl_ok (ok_iret rfl dX2_pays_119)))))))
/-- 93: FavourTown$World.canPass(LFavourTown$Favour;I)Z -/
noncomputable def k_X2_canPass : Nat → Option AOp :=
 tn 27 (tn 12 (tn 5 (tn 1 (tl 0 (aP (f_aload 0 1)))
  (tn 2 (tl 1 (aP (f_aload 1 2)))
  (tl 2 (o_callV (lkN [(1, 94)]) 1 5))))
  (tn 8 (tl 5 (aP (f_if (fun x => decide (¬ x = 0)) 48 8)))
  (tn 9 (tl 8 (aP (f_aload 1 9)))
  (tl 9 (aP (f_getf [5, 6] 5 12))))))
  (tn 19 (tn 13 (tl 12 (aP (f_aload 0 13)))
  (tn 16 (tl 13 (aP (f_getf [1] 2 16)))
  (tl 16 (aP (f_icmp (fun x y => decide (y ≤ x)) 48 19)))))
  (tn 23 (tn 20 (tl 19 (aP (f_aload 1 20)))
  (tl 20 (aP (f_getf [5, 6] 4 23))))
  (tn 24 (tl 23 (aP (f_iload 2 24)))
  (tl 24 (aP (f_icmp (fun x y => decide (x = y)) 48 27)))))))
  (tn 37 (tn 32 (tn 28 (tl 27 (aP (f_iload 2 28)))
  (tn 29 (tl 28 (aP (f_aload 1 29)))
  (tl 29 (aP (f_getf [5, 6] 0 32)))))
  (tn 35 (tl 32 (aP (f_icmp (fun x y => decide (x = y)) 44 35)))
  (tn 36 (tl 35 (aP (f_aload 0 36)))
  (tl 36 (aP (f_iload 2 37))))))
  (tn 44 (tn 38 (tl 37 (aP (f_aload 1 38)))
  (tn 41 (tl 38 (o_callV (lkN [(1, 95)]) 2 41))
  (tl 41 (aP (f_if (fun x => decide (x = 0)) 48 44)))))
  (tn 48 (tn 45 (tl 44 (aP (f_const (.int (nI 1)) 45)))
  (tl 45 (aP (f_goto 49))))
  (tn 49 (tl 48 (aP (f_const (.int (nI 0)) 49)))
  (tl 49 (o_iret (fun x => x == 0 || x == 1)))))))
theorem kok_X2_canPass {γ : AG} (hm : γ.2.2.2.2.1 = mTab) (hk : γ.2.2.2.2.2 = kTab) : KOK γ m_X2_canPass k_X2_canPass :=
 kn_ok
 (kn_ok
 (kn_ok
 (kn_ok
 (kl_ok (ok_aP (ok_aload_n dX2_canPass_0 rfl rfl)))
 (kn_ok
 (kl_ok (ok_aP (ok_aload_n dX2_canPass_1 rfl rfl)))
 (kl_ok (ok_callV (List.forall_mem_cons.mpr ⟨run_V (C0 := "FavourTown$World") rfl rfl (by rw [hm]; rfl) q432 q433 q434 q84 q435 ⟨nh_3, dl_24⟩ (by decide) dX2_canPass_2, (fun _ h => absurd h List.not_mem_nil)⟩) rfl))))
 (kn_ok
 (kl_ok (ok_aP (ok_if_ne dX2_canPass_5 rfl rfl)))
 (kn_ok
 (kl_ok (ok_aP (ok_aload_n dX2_canPass_8 rfl rfl)))
 (kl_ok (ok_aP (ok_getf fo_6 fs_rf (Or.inr ⟨_, q622⟩) dX2_canPass_9 rfl))))))
 (kn_ok
 (kn_ok
 (kl_ok (ok_aP (ok_aload_n dX2_canPass_12 rfl rfl)))
 (kn_ok
 (kl_ok (ok_aP (ok_getf fo_7 fs_rf (Or.inl q219) dX2_canPass_13 rfl)))
 (kl_ok (ok_aP (ok_icmp_ge dX2_canPass_16 rfl rfl)))))
 (kn_ok
 (kn_ok
 (kl_ok (ok_aP (ok_aload_n dX2_canPass_19 rfl rfl)))
 (kl_ok (ok_aP (ok_getf fo_4 fs_rf (Or.inr ⟨_, q619⟩) dX2_canPass_20 rfl))))
 (kn_ok
 (kl_ok (ok_aP (ok_iload_n dX2_canPass_23 rfl rfl)))
 (kl_ok (ok_aP (ok_icmp_eq dX2_canPass_24 rfl rfl)))))))
 (kn_ok
 (kn_ok
 (kn_ok
 (kl_ok (ok_aP (ok_iload_n dX2_canPass_27 rfl rfl)))
 (kn_ok
 (kl_ok (ok_aP (ok_aload_n dX2_canPass_28 rfl rfl)))
 (kl_ok (ok_aP (ok_getf fo_5 fs_rf (Or.inr ⟨_, q605⟩) dX2_canPass_29 rfl)))))
 (kn_ok
 (kl_ok (ok_aP (ok_icmp_eq dX2_canPass_32 rfl rfl)))
 (kn_ok
 (kl_ok (ok_aP (ok_aload_n dX2_canPass_35 rfl rfl)))
 (kl_ok (ok_aP (ok_iload_n dX2_canPass_36 rfl rfl))))))
 (kn_ok
 (kn_ok
 (kl_ok (ok_aP (ok_aload_n dX2_canPass_37 rfl rfl)))
 (kn_ok
 (kl_ok (ok_callV (List.forall_mem_cons.mpr ⟨run_V (C0 := "FavourTown$World") rfl rfl (by rw [hm]; rfl) q436 q437 q438 q84 q439 ⟨nh_3, dl_25⟩ (by decide) dX2_canPass_38, (fun _ h => absurd h List.not_mem_nil)⟩) rfl))
 (kl_ok (ok_aP (ok_if_eq dX2_canPass_41 rfl rfl)))))
 (kn_ok
 (kn_ok
 (kl_ok (ok_aP (ok_iconst dX2_canPass_44 rfl rfl)))
 (kl_ok (ok_aP (ok_goto dX2_canPass_45 rfl))))
 (kn_ok
 (kl_ok (ok_aP (ok_iconst dX2_canPass_48 rfl rfl)))
 (kl_ok (ok_zret rfl z_boolean dX2_canPass_49))))))
/-- 94: FavourTown$World.isGone(LFavourTown$Favour;)Z -/
noncomputable def k_X2_isGone : Nat → Option AOp :=
 tn 16 (tn 8 (tn 4 (tn 1 (tl 0 (aP (f_aload 1 1)))
  (tl 1 (aP (f_getf [5, 6] 4 4))))
  (tn 5 (tl 4 (aP (f_const (.int (-1)) 5)))
  (tl 5 (aP (f_icmp (fun x y => decide (x = y)) 23 8)))))
  (tn 12 (tn 9 (tl 8 (aP (f_aload 0 9)))
  (tl 9 (aP (f_getf [1] 4 12))))
  (tn 13 (tl 12 (aP (f_aload 1 13)))
  (tl 13 (aP (f_getf [5, 6] 4 16))))))
  (tn 20 (tn 18 (tn 17 (tl 16 (aP (f_bin (fun x y => x >>> (y &&& 31)) 17)))
  (tl 17 (aP (f_const (.int (nI 1)) 18))))
  (tn 19 (tl 18 (aP (f_bin (fun x y => x &&& y) 19)))
  (tl 19 (aP (f_const (.int (nI 1)) 20)))))
  (tn 24 (tn 23 (tl 20 (aP (f_icmp (fun x y => decide (¬ x = y)) 27 23)))
  (tl 23 (aP (f_const (.int (nI 1)) 24))))
  (tn 27 (tl 24 (aP (f_goto 28)))
  (tn 28 (tl 27 (aP (f_const (.int (nI 0)) 28)))
  (tl 28 (o_iret (fun x => x == 0 || x == 1)))))))
theorem kok_X2_isGone {γ : AG} (hm : γ.2.2.2.2.1 = mTab) (hk : γ.2.2.2.2.2 = kTab) : KOK γ m_X2_isGone k_X2_isGone :=
 kn_ok
 (kn_ok
 (kn_ok
 (kn_ok
 (kl_ok (ok_aP (ok_aload_n dX2_isGone_0 rfl rfl)))
 (kl_ok (ok_aP (ok_getf fo_4 fs_rf (Or.inr ⟨_, q619⟩) dX2_isGone_1 rfl))))
 (kn_ok
 (kl_ok (ok_aP (ok_iconst dX2_isGone_4 rfl rfl)))
 (kl_ok (ok_aP (ok_icmp_eq dX2_isGone_5 rfl rfl)))))
 (kn_ok
 (kn_ok
 (kl_ok (ok_aP (ok_aload_n dX2_isGone_8 rfl rfl)))
 (kl_ok (ok_aP (ok_getf fo_40 fs_rf (Or.inl q225) dX2_isGone_9 rfl))))
 (kn_ok
 (kl_ok (ok_aP (ok_aload_n dX2_isGone_12 rfl rfl)))
 (kl_ok (ok_aP (ok_getf fo_4 fs_rf (Or.inr ⟨_, q619⟩) dX2_isGone_13 rfl))))))
 (kn_ok
 (kn_ok
 (kn_ok
 (kl_ok (ok_aP (ok_ishr dX2_isGone_16 rfl)))
 (kl_ok (ok_aP (ok_iconst dX2_isGone_17 rfl rfl))))
 (kn_ok
 (kl_ok (ok_aP (ok_iand dX2_isGone_18 rfl)))
 (kl_ok (ok_aP (ok_iconst dX2_isGone_19 rfl rfl)))))
 (kn_ok
 (kn_ok
 (kl_ok (ok_aP (ok_icmp_ne dX2_isGone_20 rfl rfl)))
 (kl_ok (ok_aP (ok_iconst dX2_isGone_23 rfl rfl))))
 (kn_ok
 (kl_ok (ok_aP (ok_goto dX2_isGone_24 rfl)))
 (kn_ok
 (kl_ok (ok_aP (ok_iconst dX2_isGone_27 rfl rfl)))
 (kl_ok (ok_zret rfl z_boolean dX2_isGone_28))))))
/-- 95: FavourTown$World.takes(ILFavourTown$Favour;)Z -/
noncomputable def k_X2_takes : Nat → Option AOp :=
 tn 50 (tn 22 (tn 13 (tn 7 (tn 1 (tl 0 (aP (f_aload 2 1)))
  (tn 4 (tl 1 (aP (f_getf [5, 6] 2 4)))
  (tl 4 (aP (f_if (fun x => decide (¬ x = 0)) 17 7)))))
  (tn 11 (tn 8 (tl 7 (aP (f_aload 0 8)))
  (tl 8 (aP (f_getf [1] 7 11))))
  (tn 12 (tl 11 (aP (f_iload 1 12)))
  (tl 12 (aP (f_iald 0 13))))))
  (tn 18 (tn 14 (tl 13 (aP (f_const (.int (-1)) 14)))
  (tn 17 (tl 14 (aP (f_icmp (fun x y => decide (¬ x = y)) 19 17)))
  (tl 17 (aP (f_const (.int (nI 1)) 18)))))
  (tn 20 (tn 19 (tl 18 (o_iret (fun x => x == 0 || x == 1)))
  (tl 19 (aP (f_aload 0 20))))
  (tn 21 (tl 20 (aP (f_iload 1 21)))
  (tl 21 (aP (f_aload 2 22)))))))
  (tn 37 (tn 29 (tn 25 (tl 22 (aP (f_getf [5, 6] 0 25)))
  (tn 26 (tl 25 (aP (f_aload 2 26)))
  (tl 26 (aP (f_getf [5, 6] 1 29)))))
  (tn 33 (tn 30 (tl 29 (aP (f_aload 2 30)))
  (tl 30 (o_callV (lkN [(5, 242), (6, 249)]) 0 33)))
  (tn 36 (tl 33 (o_callV (lkN [(1, 96)]) 4 36))
  (tl 36 (aP (f_aload 0 37))))))
  (tn 44 (tn 40 (tl 37 (aP (f_getf [1] 13 40)))
  (tn 41 (tl 40 (aP (f_aload 2 41)))
  (tl 41 (aP (f_getf [5, 6] 5 44)))))
  (tn 46 (tn 45 (tl 44 (aP (f_const (.int (nI 1)) 45)))
  (tl 45 (aP (f_bin (fun x y => x + y) 46))))
  (tn 49 (tl 46 (o_putf [8] 2 vI 49))
  (tl 49 (aP (f_aload 0 50))))))))
  (tn 76 (tn 63 (tn 55 (tn 53 (tl 50 (aP (f_getf [1] 13 53)))
  (tn 54 (tl 53 (aP (f_aload 2 54)))
  (tl 54 (aP (f_aload 2 55)))))
  (tn 59 (tn 58 (tl 55 (aP (f_getf [5, 6] 5 58)))
  (tl 58 (aP (f_const (.int (nI 1)) 59))))
  (tn 60 (tl 59 (aP (f_bin (fun x y => x + y) 60)))
  (tl 60 (o_callV (lkN [(5, 243), (6, 243)]) 1 63)))))
  (tn 70 (tn 66 (tl 63 (aP (f_const (.int (nI 1024)) 66)))
  (tn 67 (tl 66 (aP (f_div (fun x y => x / y) 67)))
  (tl 67 (o_putf [8] 0 vI 70))))
  (tn 74 (tn 71 (tl 70 (aP (f_aload 0 71)))
  (tl 71 (aP (f_getf [1] 13 74))))
  (tn 75 (tl 74 (aP (f_aload 2 75)))
  (tl 75 (aP (f_iload 1 76)))))))
  (tn 91 (tn 83 (tn 79 (tl 76 (o_callV (lkN [(5, 244), (6, 244)]) 1 79))
  (tn 82 (tl 79 (o_putf [8] 8 vZ 82))
  (tl 82 (aP (f_aload 0 83)))))
  (tn 87 (tn 86 (tl 83 (aP (f_getf [1] 11 86)))
  (tl 86 (aP (f_aload 0 87))))
  (tn 90 (tl 87 (aP (f_getf [1] 7 90)))
  (tl 90 (aP (f_iload 1 91))))))
  (tn 98 (tn 92 (tl 91 (aP (f_iald 0 92)))
  (tn 95 (tl 92 (o_callV (lkN [(19, 114)]) 1 95))
  (tl 95 (aP (f_cast [9] [] 98)))))
  (tn 102 (tn 99 (tl 98 (aP (f_aload 0 99)))
  (tl 99 (aP (f_getf [1] 13 102))))
  (tn 105 (tl 102 (o_callV (lkN [(9, 307)]) 1 105))
  (tl 105 (o_iret (fun x => x == 0 || x == 1))))))))
theorem kok_X2_takes {γ : AG} (hm : γ.2.2.2.2.1 = mTab) (hk : γ.2.2.2.2.2 = kTab) : KOK γ m_X2_takes k_X2_takes :=
 kn_ok
 (kn_ok
 (kn_ok
 (kn_ok
 (kn_ok
 (kl_ok (ok_aP (ok_aload_n dX2_takes_0 rfl rfl)))
 (kn_ok
 (kl_ok (ok_aP (ok_getf fo_8 fs_rf (Or.inr ⟨_, q613⟩) dX2_takes_1 rfl)))
 (kl_ok (ok_aP (ok_if_ne dX2_takes_4 rfl rfl)))))
 (kn_ok
 (kn_ok
 (kl_ok (ok_aP (ok_aload_n dX2_takes_7 rfl rfl)))
 (kl_ok (ok_aP (ok_getf fo_9 fs_rf (Or.inl q230) dX2_takes_8 rfl))))
 (kn_ok
 (kl_ok (ok_aP (ok_iload_n dX2_takes_11 rfl rfl)))
 (kl_ok (ok_aP (ok_iald dX2_takes_12 rfl))))))
 (kn_ok
 (kn_ok
 (kl_ok (ok_aP (ok_iconst dX2_takes_13 rfl rfl)))
 (kn_ok
 (kl_ok (ok_aP (ok_icmp_ne dX2_takes_14 rfl rfl)))
 (kl_ok (ok_aP (ok_iconst dX2_takes_17 rfl rfl)))))
 (kn_ok
 (kn_ok
 (kl_ok (ok_zret rfl z_boolean dX2_takes_18))
 (kl_ok (ok_aP (ok_aload_n dX2_takes_19 rfl rfl))))
 (kn_ok
 (kl_ok (ok_aP (ok_iload_n dX2_takes_20 rfl rfl)))
 (kl_ok (ok_aP (ok_aload_n dX2_takes_21 rfl rfl)))))))
 (kn_ok
 (kn_ok
 (kn_ok
 (kl_ok (ok_aP (ok_getf fo_5 fs_rf (Or.inr ⟨_, q605⟩) dX2_takes_22 rfl)))
 (kn_ok
 (kl_ok (ok_aP (ok_aload_n dX2_takes_25 rfl rfl)))
 (kl_ok (ok_aP (ok_getf fo_10 fs_rf (Or.inr ⟨_, q609⟩) dX2_takes_26 rfl)))))
 (kn_ok
 (kn_ok
 (kl_ok (ok_aP (ok_aload_n dX2_takes_29 rfl rfl)))
 (kl_ok (ok_callV (List.forall_mem_cons.mpr ⟨run_V (C0 := "FavourTown$Favour") rfl rfl (by rw [hm]; rfl) q440 q441 q442 q96 q447 ⟨nh_5, dl_4⟩ (by decide) dX2_takes_30, (List.forall_mem_cons.mpr ⟨run_O (C0 := "FavourTown$Timed") (owner := "FavourTown$Favour") (nx := ⟨"FavourTown$Favour", "end", "()I"⟩) rfl (by rw [hm]; rfl) q440 q443 q441 q444 q445 q97 q446 q447 ⟨nh_5, dl_4⟩ (by decide) dX2_takes_30, (fun _ h => absurd h List.not_mem_nil)⟩)⟩) rfl)))
 (kn_ok
 (kl_ok (ok_callV (List.forall_mem_cons.mpr ⟨run_V (C0 := "FavourTown$World") rfl rfl (by rw [hm]; rfl) q448 q450 qs0 q84 q451 ⟨nh_3, dl_26⟩ (by decide) dX2_takes_33, (fun _ h => absurd h List.not_mem_nil)⟩) rfl))
 (kl_ok (ok_aP (ok_aload_n dX2_takes_36 rfl rfl))))))
 (kn_ok
 (kn_ok
 (kl_ok (ok_aP (ok_getf fo_11 fs_rf (Or.inl q243) dX2_takes_37 rfl)))
 (kn_ok
 (kl_ok (ok_aP (ok_aload_n dX2_takes_40 rfl rfl)))
 (kl_ok (ok_aP (ok_getf fo_6 fs_rf (Or.inr ⟨_, q622⟩) dX2_takes_41 rfl)))))
 (kn_ok
 (kn_ok
 (kl_ok (ok_aP (ok_iconst dX2_takes_44 rfl rfl)))
 (kl_ok (ok_aP (ok_iadd dX2_takes_45 rfl))))
 (kn_ok
 (kl_ok (ok_hp (ok_putf fo_12 fs_rf fn_0 (Or.inr ⟨_, q183⟩) pd_0 vI_ok dX2_takes_46 rfl) le_putf))
 (kl_ok (ok_aP (ok_aload_n dX2_takes_49 rfl rfl))))))))
 (kn_ok
 (kn_ok
 (kn_ok
 (kn_ok
 (kl_ok (ok_aP (ok_getf fo_11 fs_rf (Or.inl q243) dX2_takes_50 rfl)))
 (kn_ok
 (kl_ok (ok_aP (ok_aload_n dX2_takes_53 rfl rfl)))
 (kl_ok (ok_aP (ok_aload_n dX2_takes_54 rfl rfl)))))
 (kn_ok
 (kn_ok
 (kl_ok (ok_aP (ok_getf fo_6 fs_rf (Or.inr ⟨_, q622⟩) dX2_takes_55 rfl)))
 (kl_ok (ok_aP (ok_iconst dX2_takes_58 rfl rfl))))
 (kn_ok
 (kl_ok (ok_aP (ok_iadd dX2_takes_59 rfl)))
 (kl_ok (ok_callV (List.forall_mem_cons.mpr ⟨run_V (C0 := "FavourTown$Favour") rfl rfl (by rw [hm]; rfl) q456 q457 q458 q96 q461 ⟨nh_5, dl_10⟩ (by decide) dX2_takes_60, (List.forall_mem_cons.mpr ⟨run_U (C0 := "FavourTown$Timed") (owner := "FavourTown$Favour") (nx := ⟨"FavourTown$Favour", "worthAt", "(I)I"⟩) rfl rfl (by rw [hm]; rfl) q456 q459 q460 q457 q96 q461 ⟨nh_5, dl_10⟩ (by decide) dX2_takes_60, (fun _ h => absurd h List.not_mem_nil)⟩)⟩) rfl)))))
 (kn_ok
 (kn_ok
 (kl_ok (ok_aP (ok_sipush dX2_takes_63 (by decide +kernel) rfl)))
 (kn_ok
 (kl_ok (ok_aP (ok_idiv dX2_takes_66 rfl)))
 (kl_ok (ok_hp (ok_putf fo_13 fs_rf fn_1 (Or.inr ⟨_, q179⟩) pd_0 vI_ok dX2_takes_67 rfl) le_putf))))
 (kn_ok
 (kn_ok
 (kl_ok (ok_aP (ok_aload_n dX2_takes_70 rfl rfl)))
 (kl_ok (ok_aP (ok_getf fo_11 fs_rf (Or.inl q243) dX2_takes_71 rfl))))
 (kn_ok
 (kl_ok (ok_aP (ok_aload_n dX2_takes_74 rfl rfl)))
 (kl_ok (ok_aP (ok_iload_n dX2_takes_75 rfl rfl)))))))
 (kn_ok
 (kn_ok
 (kn_ok
 (kl_ok (ok_callV (List.forall_mem_cons.mpr ⟨run_V (C0 := "FavourTown$Favour") rfl rfl (by rw [hm]; rfl) q466 q467 q468 q96 q471 ⟨nh_5, dl_2⟩ (by decide) dX2_takes_76, (List.forall_mem_cons.mpr ⟨run_U (C0 := "FavourTown$Timed") (owner := "FavourTown$Favour") (nx := ⟨"FavourTown$Favour", "wasHeldBy", "(I)Z"⟩) rfl rfl (by rw [hm]; rfl) q466 q469 q470 q467 q96 q471 ⟨nh_5, dl_2⟩ (by decide) dX2_takes_76, (fun _ h => absurd h List.not_mem_nil)⟩)⟩) rfl))
 (kn_ok
 (kl_ok (ok_hp (ok_putf fo_14 fs_rf fn_2 (Or.inr ⟨_, q195⟩) pd_1 vZ_ok dX2_takes_79 rfl) le_putf))
 (kl_ok (ok_aP (ok_aload_n dX2_takes_82 rfl rfl)))))
 (kn_ok
 (kn_ok
 (kl_ok (ok_aP (ok_getf fo_15 fs_rf (Or.inl q238) dX2_takes_83 rfl)))
 (kl_ok (ok_aP (ok_aload_n dX2_takes_86 rfl rfl))))
 (kn_ok
 (kl_ok (ok_aP (ok_getf fo_9 fs_rf (Or.inl q230) dX2_takes_87 rfl)))
 (kl_ok (ok_aP (ok_iload_n dX2_takes_90 rfl rfl))))))
 (kn_ok
 (kn_ok
 (kl_ok (ok_aP (ok_iald dX2_takes_91 rfl)))
 (kn_ok
 (kl_ok (ok_callV (List.forall_mem_cons.mpr ⟨run_V (C0 := "java/util/ArrayList") rfl rfl (by rw [hm]; rfl) q404 q405 q406 q87 q407 ⟨nh_4, dl_21⟩ (by decide) dX2_takes_92, (fun _ h => absurd h List.not_mem_nil)⟩) rfl))
 (kl_ok (ok_aP (ok_cast q472 (List.forall_mem_cons.mpr ⟨Or.inr ⟨_, rfl, rfl⟩, (fun _ h => absurd h List.not_mem_nil)⟩) (fun _ h => absurd h List.not_mem_nil) dX2_takes_95 rfl)))))
 (kn_ok
 (kn_ok
 (kl_ok (ok_aP (ok_aload_n dX2_takes_98 rfl rfl)))
 (kl_ok (ok_aP (ok_getf fo_11 fs_rf (Or.inl q243) dX2_takes_99 rfl))))
 (kn_ok
 (kl_ok (ok_callV (List.forall_mem_cons.mpr ⟨run_V (C0 := "FavourTown$Temper") rfl rfl (by rw [hm]; rfl) q473 q474 q475 q117 q476 ⟨nh_6, dl_27⟩ (by decide) dX2_takes_102, (fun _ h => absurd h List.not_mem_nil)⟩) rfl))
 (kl_ok (ok_zret rfl z_boolean dX2_takes_105)))))))
/-- 96: FavourTown$World.sees(IIII)V -/
noncomputable def k_X2_sees : Nat → Option AOp :=
 tn 72 (tn 34 (tn 16 (tn 8 (tn 4 (tn 1 (tl 0 (aP (f_aload 0 1)))
  (tl 1 (aP (f_getf [1] 13 4))))
  (tn 5 (tl 4 (aP (f_iload 3 5)))
  (tl 5 (o_putf [8] 0 vI 8))))
  (tn 12 (tn 9 (tl 8 (aP (f_aload 0 9)))
  (tl 9 (aP (f_getf [1] 13 12))))
  (tn 13 (tl 12 (aP (f_iload 3 13)))
  (tl 13 (o_putf [8] 1 vI 16)))))
  (tn 24 (tn 20 (tn 17 (tl 16 (aP (f_aload 0 17)))
  (tl 17 (aP (f_getf [1] 13 20))))
  (tn 21 (tl 20 (aP (f_const (.int (nI 0)) 21)))
  (tl 21 (o_putf [8] 2 vI 24))))
  (tn 28 (tn 25 (tl 24 (aP (f_aload 0 25)))
  (tl 25 (aP (f_getf [1] 13 28))))
  (tn 30 (tl 28 (aP (f_iload 4 30)))
  (tn 31 (tl 30 (aP (f_const (.int (-1)) 31)))
  (tl 31 (aP (f_icmp (fun x y => decide (x = y)) 38 34))))))))
  (tn 50 (tn 42 (tn 38 (tn 35 (tl 34 (aP (f_const (.int (nI 1)) 35)))
  (tl 35 (aP (f_goto 39))))
  (tn 39 (tl 38 (aP (f_const (.int (nI 0)) 39)))
  (tl 39 (o_putf [8] 7 vZ 42))))
  (tn 46 (tn 43 (tl 42 (aP (f_aload 0 43)))
  (tl 43 (aP (f_getf [1] 13 46))))
  (tn 47 (tl 46 (aP (f_aload 0 47)))
  (tl 47 (aP (f_getf [1] 13 50))))))
  (tn 59 (tn 56 (tn 53 (tl 50 (aP (f_getf [8] 7 53)))
  (tl 53 (aP (f_if (fun x => decide (x = 0)) 66 56))))
  (tn 58 (tl 56 (aP (f_iload 4 58)))
  (tl 58 (aP (f_aload 0 59)))))
  (tn 63 (tn 62 (tl 59 (aP (f_getf [1] 1 62)))
  (tl 62 (aP (f_bin (fun x y => x - y) 63))))
  (tn 66 (tl 63 (aP (f_goto 69)))
  (tn 69 (tl 66 (aP (f_const (.int (nI 999)) 69)))
  (tl 69 (o_putf [8] 3 vI 72))))))))
  (tn 105 (tn 88 (tn 78 (tn 76 (tn 73 (tl 72 (aP (f_aload 0 73)))
  (tl 73 (aP (f_getf [1] 13 76))))
  (tn 77 (tl 76 (aP (f_aload 0 77)))
  (tl 77 (aP (f_iload 1 78)))))
  (tn 84 (tn 81 (tl 78 (o_callV (lkN [(1, 97)]) 1 81))
  (tl 81 (aP (f_const (.int (nI 1024)) 84))))
  (tn 85 (tl 84 (aP (f_div (fun x y => x / y) 85)))
  (tl 85 (o_putf [8] 4 vI 88)))))
  (tn 94 (tn 92 (tn 89 (tl 88 (aP (f_aload 0 89)))
  (tl 89 (aP (f_getf [1] 13 92))))
  (tn 93 (tl 92 (aP (f_aload 0 93)))
  (tl 93 (aP (f_iload 2 94)))))
  (tn 100 (tn 97 (tl 94 (o_callV (lkN [(1, 98)]) 1 97))
  (tl 97 (o_putf [8] 5 vI 100)))
  (tn 101 (tl 100 (aP (f_aload 0 101)))
  (tn 104 (tl 101 (aP (f_getf [1] 13 104)))
  (tl 104 (aP (f_aload 0 105))))))))
  (tn 118 (tn 111 (tn 109 (tn 108 (tl 105 (aP (f_getf [1] 6 108)))
  (tl 108 (aP (f_iload 1 109))))
  (tn 110 (tl 109 (aP (f_iald 0 110)))
  (tl 110 (aP (f_iload 2 111)))))
  (tn 113 (tn 112 (tl 111 (aP (f_bin (fun x y => x >>> (y &&& 31)) 112)))
  (tl 112 (aP (f_const (.int (nI 1)) 113))))
  (tn 114 (tl 113 (aP (f_bin (fun x y => x &&& y) 114)))
  (tn 115 (tl 114 (aP (f_const (.int (nI 1)) 115)))
  (tl 115 (aP (f_icmp (fun x y => decide (¬ x = y)) 122 118)))))))
  (tn 126 (tn 122 (tn 119 (tl 118 (aP (f_const (.int (nI 1)) 119)))
  (tl 119 (aP (f_goto 123))))
  (tn 123 (tl 122 (aP (f_const (.int (nI 0)) 123)))
  (tl 123 (o_putf [8] 6 vZ 126))))
  (tn 130 (tn 127 (tl 126 (aP (f_aload 0 127)))
  (tl 127 (aP (f_getf [1] 13 130))))
  (tn 131 (tl 130 (aP (f_const (.int (nI 0)) 131)))
  (tn 134 (tl 131 (o_putf [8] 8 vZ 134))
  (tl 134 (o_vret))))))))
theorem kok_X2_sees {γ : AG} (hm : γ.2.2.2.2.1 = mTab) (hk : γ.2.2.2.2.2 = kTab) : KOK γ m_X2_sees k_X2_sees :=
 kn_ok
 (kn_ok
 (kn_ok
 (kn_ok
 (kn_ok
 (kn_ok
 (kl_ok (ok_aP (ok_aload_n dX2_sees_0 rfl rfl)))
 (kl_ok (ok_aP (ok_getf fo_11 fs_rf (Or.inl q243) dX2_sees_1 rfl))))
 (kn_ok
 (kl_ok (ok_aP (ok_iload_n dX2_sees_4 rfl rfl)))
 (kl_ok (ok_hp (ok_putf fo_13 fs_rf fn_1 (Or.inr ⟨_, q179⟩) pd_0 vI_ok dX2_sees_5 rfl) le_putf))))
 (kn_ok
 (kn_ok
 (kl_ok (ok_aP (ok_aload_n dX2_sees_8 rfl rfl)))
 (kl_ok (ok_aP (ok_getf fo_11 fs_rf (Or.inl q243) dX2_sees_9 rfl))))
 (kn_ok
 (kl_ok (ok_aP (ok_iload_n dX2_sees_12 rfl rfl)))
 (kl_ok (ok_hp (ok_putf fo_31 fs_rf fn_3 (Or.inr ⟨_, q181⟩) pd_0 vI_ok dX2_sees_13 rfl) le_putf)))))
 (kn_ok
 (kn_ok
 (kn_ok
 (kl_ok (ok_aP (ok_aload_n dX2_sees_16 rfl rfl)))
 (kl_ok (ok_aP (ok_getf fo_11 fs_rf (Or.inl q243) dX2_sees_17 rfl))))
 (kn_ok
 (kl_ok (ok_aP (ok_iconst dX2_sees_20 rfl rfl)))
 (kl_ok (ok_hp (ok_putf fo_12 fs_rf fn_0 (Or.inr ⟨_, q183⟩) pd_0 vI_ok dX2_sees_21 rfl) le_putf))))
 (kn_ok
 (kn_ok
 (kl_ok (ok_aP (ok_aload_n dX2_sees_24 rfl rfl)))
 (kl_ok (ok_aP (ok_getf fo_11 fs_rf (Or.inl q243) dX2_sees_25 rfl))))
 (kn_ok
 (kl_ok (ok_aP (ok_iload dX2_sees_28 rfl)))
 (kn_ok
 (kl_ok (ok_aP (ok_iconst dX2_sees_30 rfl rfl)))
 (kl_ok (ok_aP (ok_icmp_eq dX2_sees_31 rfl rfl))))))))
 (kn_ok
 (kn_ok
 (kn_ok
 (kn_ok
 (kl_ok (ok_aP (ok_iconst dX2_sees_34 rfl rfl)))
 (kl_ok (ok_aP (ok_goto dX2_sees_35 rfl))))
 (kn_ok
 (kl_ok (ok_aP (ok_iconst dX2_sees_38 rfl rfl)))
 (kl_ok (ok_hp (ok_putf fo_22 fs_rf fn_4 (Or.inr ⟨_, q193⟩) pd_1 vZ_ok dX2_sees_39 rfl) le_putf))))
 (kn_ok
 (kn_ok
 (kl_ok (ok_aP (ok_aload_n dX2_sees_42 rfl rfl)))
 (kl_ok (ok_aP (ok_getf fo_11 fs_rf (Or.inl q243) dX2_sees_43 rfl))))
 (kn_ok
 (kl_ok (ok_aP (ok_aload_n dX2_sees_46 rfl rfl)))
 (kl_ok (ok_aP (ok_getf fo_11 fs_rf (Or.inl q243) dX2_sees_47 rfl))))))
 (kn_ok
 (kn_ok
 (kn_ok
 (kl_ok (ok_aP (ok_getf fo_22 fs_rf (Or.inr ⟨_, q193⟩) dX2_sees_50 rfl)))
 (kl_ok (ok_aP (ok_if_eq dX2_sees_53 rfl rfl))))
 (kn_ok
 (kl_ok (ok_aP (ok_iload dX2_sees_56 rfl)))
 (kl_ok (ok_aP (ok_aload_n dX2_sees_58 rfl rfl)))))
 (kn_ok
 (kn_ok
 (kl_ok (ok_aP (ok_getf fo_38 fs_rf (Or.inl q217) dX2_sees_59 rfl)))
 (kl_ok (ok_aP (ok_isub dX2_sees_62 rfl))))
 (kn_ok
 (kl_ok (ok_aP (ok_goto dX2_sees_63 rfl)))
 (kn_ok
 (kl_ok (ok_aP (ok_sipush dX2_sees_66 (by decide +kernel) rfl)))
 (kl_ok (ok_hp (ok_putf fo_32 fs_rf fn_5 (Or.inr ⟨_, q185⟩) pd_0 vI_ok dX2_sees_69 rfl) le_putf))))))))
 (kn_ok
 (kn_ok
 (kn_ok
 (kn_ok
 (kn_ok
 (kl_ok (ok_aP (ok_aload_n dX2_sees_72 rfl rfl)))
 (kl_ok (ok_aP (ok_getf fo_11 fs_rf (Or.inl q243) dX2_sees_73 rfl))))
 (kn_ok
 (kl_ok (ok_aP (ok_aload_n dX2_sees_76 rfl rfl)))
 (kl_ok (ok_aP (ok_iload_n dX2_sees_77 rfl rfl)))))
 (kn_ok
 (kn_ok
 (kl_ok (ok_callV (List.forall_mem_cons.mpr ⟨run_V (C0 := "FavourTown$World") rfl rfl (by rw [hm]; rfl) q452 q453 q454 q84 q455 ⟨nh_3, dl_10⟩ (by decide) dX2_sees_78, (fun _ h => absurd h List.not_mem_nil)⟩) rfl))
 (kl_ok (ok_aP (ok_sipush dX2_sees_81 (by decide +kernel) rfl))))
 (kn_ok
 (kl_ok (ok_aP (ok_idiv dX2_sees_84 rfl)))
 (kl_ok (ok_hp (ok_putf fo_33 fs_rf fn_6 (Or.inr ⟨_, q187⟩) pd_0 vI_ok dX2_sees_85 rfl) le_putf)))))
 (kn_ok
 (kn_ok
 (kn_ok
 (kl_ok (ok_aP (ok_aload_n dX2_sees_88 rfl rfl)))
 (kl_ok (ok_aP (ok_getf fo_11 fs_rf (Or.inl q243) dX2_sees_89 rfl))))
 (kn_ok
 (kl_ok (ok_aP (ok_aload_n dX2_sees_92 rfl rfl)))
 (kl_ok (ok_aP (ok_iload_n dX2_sees_93 rfl rfl)))))
 (kn_ok
 (kn_ok
 (kl_ok (ok_callV (List.forall_mem_cons.mpr ⟨run_V (C0 := "FavourTown$World") rfl rfl (by rw [hm]; rfl) q462 q463 q464 q84 q465 ⟨nh_3, dl_10⟩ (by decide) dX2_sees_94, (fun _ h => absurd h List.not_mem_nil)⟩) rfl))
 (kl_ok (ok_hp (ok_putf fo_34 fs_rf fn_7 (Or.inr ⟨_, q189⟩) pd_0 vI_ok dX2_sees_97 rfl) le_putf)))
 (kn_ok
 (kl_ok (ok_aP (ok_aload_n dX2_sees_100 rfl rfl)))
 (kn_ok
 (kl_ok (ok_aP (ok_getf fo_11 fs_rf (Or.inl q243) dX2_sees_101 rfl)))
 (kl_ok (ok_aP (ok_aload_n dX2_sees_104 rfl rfl))))))))
 (kn_ok
 (kn_ok
 (kn_ok
 (kn_ok
 (kl_ok (ok_aP (ok_getf fo_39 fs_rf (Or.inl q228) dX2_sees_105 rfl)))
 (kl_ok (ok_aP (ok_iload_n dX2_sees_108 rfl rfl))))
 (kn_ok
 (kl_ok (ok_aP (ok_iald dX2_sees_109 rfl)))
 (kl_ok (ok_aP (ok_iload_n dX2_sees_110 rfl rfl)))))
 (kn_ok
 (kn_ok
 (kl_ok (ok_aP (ok_ishr dX2_sees_111 rfl)))
 (kl_ok (ok_aP (ok_iconst dX2_sees_112 rfl rfl))))
 (kn_ok
 (kl_ok (ok_aP (ok_iand dX2_sees_113 rfl)))
 (kn_ok
 (kl_ok (ok_aP (ok_iconst dX2_sees_114 rfl rfl)))
 (kl_ok (ok_aP (ok_icmp_ne dX2_sees_115 rfl rfl)))))))
 (kn_ok
 (kn_ok
 (kn_ok
 (kl_ok (ok_aP (ok_iconst dX2_sees_118 rfl rfl)))
 (kl_ok (ok_aP (ok_goto dX2_sees_119 rfl))))
 (kn_ok
 (kl_ok (ok_aP (ok_iconst dX2_sees_122 rfl rfl)))
 (kl_ok (ok_hp (ok_putf fo_21 fs_rf fn_8 (Or.inr ⟨_, q191⟩) pd_1 vZ_ok dX2_sees_123 rfl) le_putf))))
 (kn_ok
 (kn_ok
 (kl_ok (ok_aP (ok_aload_n dX2_sees_126 rfl rfl)))
 (kl_ok (ok_aP (ok_getf fo_11 fs_rf (Or.inl q243) dX2_sees_127 rfl))))
 (kn_ok
 (kl_ok (ok_aP (ok_iconst dX2_sees_130 rfl rfl)))
 (kn_ok
 (kl_ok (ok_hp (ok_putf fo_14 fs_rf fn_2 (Or.inr ⟨_, q195⟩) pd_1 vZ_ok dX2_sees_131 rfl) le_putf))
 (kl_ok (ok_vret rfl dX2_sees_134))))))))
/-- 97: FavourTown$World.rich(I)I -/
noncomputable def k_X2_rich : Nat → Option AOp :=
 tn 33 (tn 12 (tn 4 (tn 2 (tn 1 (tl 0 (aP (f_const (.int (nI 0)) 1)))
  (tl 1 (aP (f_istore 2 2))))
  (tn 3 (tl 2 (aP (f_const (.int (nI 0)) 3)))
  (tl 3 (aP (f_istore 3 4)))))
  (tn 6 (tn 5 (tl 4 (aP (f_iload 3 5)))
  (tl 5 (aP (f_aload 0 6))))
  (tn 9 (tl 6 (aP (f_getf [1] 9 9)))
  (tl 9 (o_callV (lkN [(19, 113)]) 0 12)))))
  (tn 20 (tn 16 (tn 15 (tl 12 (aP (f_icmp (fun x y => decide (y ≤ x)) 65 15)))
  (tl 15 (aP (f_aload 0 16))))
  (tn 19 (tl 16 (aP (f_getf [1] 9 19)))
  (tl 19 (aP (f_iload 3 20)))))
  (tn 26 (tn 23 (tl 20 (o_callV (lkN [(19, 114)]) 1 23))
  (tl 23 (aP (f_cast [5, 6] [] 26))))
  (tn 28 (tl 26 (aP (f_astore 4 28)))
  (tn 30 (tl 28 (aP (f_aload 4 30)))
  (tl 30 (aP (f_getf [5, 6] 4 33))))))))
  (tn 49 (tn 40 (tn 37 (tn 34 (tl 33 (aP (f_iload 1 34)))
  (tl 34 (aP (f_icmp (fun x y => decide (¬ x = y)) 59 37))))
  (tn 38 (tl 37 (aP (f_aload 0 38)))
  (tl 38 (aP (f_aload 4 40)))))
  (tn 46 (tn 43 (tl 40 (o_callV (lkN [(1, 94)]) 1 43))
  (tl 43 (aP (f_if (fun x => decide (¬ x = 0)) 59 46))))
  (tn 47 (tl 46 (aP (f_iload 2 47)))
  (tl 47 (aP (f_aload 4 49))))))
  (tn 58 (tn 54 (tn 51 (tl 49 (aP (f_aload 4 51)))
  (tl 51 (aP (f_getf [5, 6] 5 54))))
  (tn 57 (tl 54 (o_callV (lkN [(5, 243), (6, 243)]) 1 57))
  (tl 57 (aP (f_bin (fun x y => x + y) 58)))))
  (tn 62 (tn 59 (tl 58 (aP (f_istore 2 59)))
  (tl 59 (aP (f_iinc 3 (nI 1) 62))))
  (tn 65 (tl 62 (aP (f_goto 4)))
  (tn 66 (tl 65 (aP (f_iload 2 66)))
  (tl 66 (o_iret (fun _ => true))))))))
theorem kok_X2_rich {γ : AG} (hm : γ.2.2.2.2.1 = mTab) (hk : γ.2.2.2.2.2 = kTab) : KOK γ m_X2_rich k_X2_rich :=
 kn_ok
 (kn_ok
 (kn_ok
 (kn_ok
 (kn_ok
 (kl_ok (ok_aP (ok_iconst dX2_rich_0 rfl rfl)))
 (kl_ok (ok_aP (ok_istore_n dX2_rich_1 rfl rfl))))
 (kn_ok
 (kl_ok (ok_aP (ok_iconst dX2_rich_2 rfl rfl)))
 (kl_ok (ok_aP (ok_istore_n dX2_rich_3 rfl rfl)))))
 (kn_ok
 (kn_ok
 (kl_ok (ok_aP (ok_iload_n dX2_rich_4 rfl rfl)))
 (kl_ok (ok_aP (ok_aload_n dX2_rich_5 rfl rfl))))
 (kn_ok
 (kl_ok (ok_aP (ok_getf fo_2 fs_rf (Or.inl q234) dX2_rich_6 rfl)))
 (kl_ok (ok_callV (List.forall_mem_cons.mpr ⟨run_V (C0 := "java/util/ArrayList") rfl rfl (by rw [hm]; rfl) q400 q401 q402 q87 q403 ⟨nh_4, dl_4⟩ (by decide) dX2_rich_9, (fun _ h => absurd h List.not_mem_nil)⟩) rfl)))))
 (kn_ok
 (kn_ok
 (kn_ok
 (kl_ok (ok_aP (ok_icmp_ge dX2_rich_12 rfl rfl)))
 (kl_ok (ok_aP (ok_aload_n dX2_rich_15 rfl rfl))))
 (kn_ok
 (kl_ok (ok_aP (ok_getf fo_2 fs_rf (Or.inl q234) dX2_rich_16 rfl)))
 (kl_ok (ok_aP (ok_iload_n dX2_rich_19 rfl rfl)))))
 (kn_ok
 (kn_ok
 (kl_ok (ok_callV (List.forall_mem_cons.mpr ⟨run_V (C0 := "java/util/ArrayList") rfl rfl (by rw [hm]; rfl) q404 q405 q406 q87 q407 ⟨nh_4, dl_21⟩ (by decide) dX2_rich_20, (fun _ h => absurd h List.not_mem_nil)⟩) rfl))
 (kl_ok (ok_aP (ok_cast q427 (List.forall_mem_cons.mpr ⟨Or.inr ⟨_, rfl, rfl⟩, (List.forall_mem_cons.mpr ⟨Or.inl ⟨_, rfl, q2339⟩, (fun _ h => absurd h List.not_mem_nil)⟩)⟩) (fun _ h => absurd h List.not_mem_nil) dX2_rich_23 rfl))))
 (kn_ok
 (kl_ok (ok_aP (ok_astore dX2_rich_26 rfl)))
 (kn_ok
 (kl_ok (ok_aP (ok_aload dX2_rich_28 rfl)))
 (kl_ok (ok_aP (ok_getf fo_4 fs_rf (Or.inr ⟨_, q619⟩) dX2_rich_30 rfl))))))))
 (kn_ok
 (kn_ok
 (kn_ok
 (kn_ok
 (kl_ok (ok_aP (ok_iload_n dX2_rich_33 rfl rfl)))
 (kl_ok (ok_aP (ok_icmp_ne dX2_rich_34 rfl rfl))))
 (kn_ok
 (kl_ok (ok_aP (ok_aload_n dX2_rich_37 rfl rfl)))
 (kl_ok (ok_aP (ok_aload dX2_rich_38 rfl)))))
 (kn_ok
 (kn_ok
 (kl_ok (ok_callV (List.forall_mem_cons.mpr ⟨run_V (C0 := "FavourTown$World") rfl rfl (by rw [hm]; rfl) q432 q433 q434 q84 q435 ⟨nh_3, dl_24⟩ (by decide) dX2_rich_40, (fun _ h => absurd h List.not_mem_nil)⟩) rfl))
 (kl_ok (ok_aP (ok_if_ne dX2_rich_43 rfl rfl))))
 (kn_ok
 (kl_ok (ok_aP (ok_iload_n dX2_rich_46 rfl rfl)))
 (kl_ok (ok_aP (ok_aload dX2_rich_47 rfl))))))
 (kn_ok
 (kn_ok
 (kn_ok
 (kl_ok (ok_aP (ok_aload dX2_rich_49 rfl)))
 (kl_ok (ok_aP (ok_getf fo_6 fs_rf (Or.inr ⟨_, q622⟩) dX2_rich_51 rfl))))
 (kn_ok
 (kl_ok (ok_callV (List.forall_mem_cons.mpr ⟨run_V (C0 := "FavourTown$Favour") rfl rfl (by rw [hm]; rfl) q456 q457 q458 q96 q461 ⟨nh_5, dl_10⟩ (by decide) dX2_rich_54, (List.forall_mem_cons.mpr ⟨run_U (C0 := "FavourTown$Timed") (owner := "FavourTown$Favour") (nx := ⟨"FavourTown$Favour", "worthAt", "(I)I"⟩) rfl rfl (by rw [hm]; rfl) q456 q459 q460 q457 q96 q461 ⟨nh_5, dl_10⟩ (by decide) dX2_rich_54, (fun _ h => absurd h List.not_mem_nil)⟩)⟩) rfl))
 (kl_ok (ok_aP (ok_iadd dX2_rich_57 rfl)))))
 (kn_ok
 (kn_ok
 (kl_ok (ok_aP (ok_istore_n dX2_rich_58 rfl rfl)))
 (kl_ok (ok_aP (ok_iinc dX2_rich_59 (by decide +kernel) rfl))))
 (kn_ok
 (kl_ok (ok_aP (ok_goto dX2_rich_62 rfl)))
 (kn_ok
 (kl_ok (ok_aP (ok_iload_n dX2_rich_65 rfl rfl)))
 (kl_ok (ok_iret rfl dX2_rich_66)))))))
/-- 98: FavourTown$World.debt(I)I -/
noncomputable def k_X2_debt : Nat → Option AOp :=
 tn 30 (tn 12 (tn 4 (tn 2 (tn 1 (tl 0 (aP (f_const (.int (nI 0)) 1)))
  (tl 1 (aP (f_istore 2 2))))
  (tn 3 (tl 2 (aP (f_const (.int (nI 0)) 3)))
  (tl 3 (aP (f_istore 3 4)))))
  (tn 6 (tn 5 (tl 4 (aP (f_iload 3 5)))
  (tl 5 (aP (f_aload 0 6))))
  (tn 9 (tl 6 (aP (f_getf [1] 9 9)))
  (tl 9 (o_callV (lkN [(19, 113)]) 0 12)))))
  (tn 20 (tn 16 (tn 15 (tl 12 (aP (f_icmp (fun x y => decide (y ≤ x)) 60 15)))
  (tl 15 (aP (f_aload 0 16))))
  (tn 19 (tl 16 (aP (f_getf [1] 9 19)))
  (tl 19 (aP (f_iload 3 20)))))
  (tn 26 (tn 23 (tl 20 (o_callV (lkN [(19, 114)]) 1 23))
  (tl 23 (aP (f_cast [5, 6] [] 26))))
  (tn 28 (tl 26 (aP (f_astore 4 28)))
  (tl 28 (aP (f_aload 4 30)))))))
  (tn 47 (tn 38 (tn 34 (tn 33 (tl 30 (aP (f_getf [5, 6] 0 33)))
  (tl 33 (aP (f_iload 1 34))))
  (tn 37 (tl 34 (aP (f_icmp (fun x y => decide (¬ x = y)) 54 37)))
  (tl 37 (aP (f_aload 0 38)))))
  (tn 43 (tn 40 (tl 38 (aP (f_aload 4 40)))
  (tl 40 (o_callV (lkN [(1, 94)]) 1 43)))
  (tn 46 (tl 43 (aP (f_if (fun x => decide (¬ x = 0)) 54 46)))
  (tl 46 (aP (f_iload 2 47))))))
  (tn 54 (tn 52 (tn 49 (tl 47 (aP (f_aload 4 49)))
  (tl 49 (aP (f_getf [5, 6] 1 52))))
  (tn 53 (tl 52 (aP (f_bin (fun x y => x + y) 53)))
  (tl 53 (aP (f_istore 2 54)))))
  (tn 60 (tn 57 (tl 54 (aP (f_iinc 3 (nI 1) 57)))
  (tl 57 (aP (f_goto 4))))
  (tn 61 (tl 60 (aP (f_iload 2 61)))
  (tl 61 (o_iret (fun _ => true)))))))
theorem kok_X2_debt {γ : AG} (hm : γ.2.2.2.2.1 = mTab) (hk : γ.2.2.2.2.2 = kTab) : KOK γ m_X2_debt k_X2_debt :=
 kn_ok
 (kn_ok
 (kn_ok
 (kn_ok
 (kn_ok
 (kl_ok (ok_aP (ok_iconst dX2_debt_0 rfl rfl)))
 (kl_ok (ok_aP (ok_istore_n dX2_debt_1 rfl rfl))))
 (kn_ok
 (kl_ok (ok_aP (ok_iconst dX2_debt_2 rfl rfl)))
 (kl_ok (ok_aP (ok_istore_n dX2_debt_3 rfl rfl)))))
 (kn_ok
 (kn_ok
 (kl_ok (ok_aP (ok_iload_n dX2_debt_4 rfl rfl)))
 (kl_ok (ok_aP (ok_aload_n dX2_debt_5 rfl rfl))))
 (kn_ok
 (kl_ok (ok_aP (ok_getf fo_2 fs_rf (Or.inl q234) dX2_debt_6 rfl)))
 (kl_ok (ok_callV (List.forall_mem_cons.mpr ⟨run_V (C0 := "java/util/ArrayList") rfl rfl (by rw [hm]; rfl) q400 q401 q402 q87 q403 ⟨nh_4, dl_4⟩ (by decide) dX2_debt_9, (fun _ h => absurd h List.not_mem_nil)⟩) rfl)))))
 (kn_ok
 (kn_ok
 (kn_ok
 (kl_ok (ok_aP (ok_icmp_ge dX2_debt_12 rfl rfl)))
 (kl_ok (ok_aP (ok_aload_n dX2_debt_15 rfl rfl))))
 (kn_ok
 (kl_ok (ok_aP (ok_getf fo_2 fs_rf (Or.inl q234) dX2_debt_16 rfl)))
 (kl_ok (ok_aP (ok_iload_n dX2_debt_19 rfl rfl)))))
 (kn_ok
 (kn_ok
 (kl_ok (ok_callV (List.forall_mem_cons.mpr ⟨run_V (C0 := "java/util/ArrayList") rfl rfl (by rw [hm]; rfl) q404 q405 q406 q87 q407 ⟨nh_4, dl_21⟩ (by decide) dX2_debt_20, (fun _ h => absurd h List.not_mem_nil)⟩) rfl))
 (kl_ok (ok_aP (ok_cast q427 (List.forall_mem_cons.mpr ⟨Or.inr ⟨_, rfl, rfl⟩, (List.forall_mem_cons.mpr ⟨Or.inl ⟨_, rfl, q2339⟩, (fun _ h => absurd h List.not_mem_nil)⟩)⟩) (fun _ h => absurd h List.not_mem_nil) dX2_debt_23 rfl))))
 (kn_ok
 (kl_ok (ok_aP (ok_astore dX2_debt_26 rfl)))
 (kl_ok (ok_aP (ok_aload dX2_debt_28 rfl)))))))
 (kn_ok
 (kn_ok
 (kn_ok
 (kn_ok
 (kl_ok (ok_aP (ok_getf fo_5 fs_rf (Or.inr ⟨_, q605⟩) dX2_debt_30 rfl)))
 (kl_ok (ok_aP (ok_iload_n dX2_debt_33 rfl rfl))))
 (kn_ok
 (kl_ok (ok_aP (ok_icmp_ne dX2_debt_34 rfl rfl)))
 (kl_ok (ok_aP (ok_aload_n dX2_debt_37 rfl rfl)))))
 (kn_ok
 (kn_ok
 (kl_ok (ok_aP (ok_aload dX2_debt_38 rfl)))
 (kl_ok (ok_callV (List.forall_mem_cons.mpr ⟨run_V (C0 := "FavourTown$World") rfl rfl (by rw [hm]; rfl) q432 q433 q434 q84 q435 ⟨nh_3, dl_24⟩ (by decide) dX2_debt_40, (fun _ h => absurd h List.not_mem_nil)⟩) rfl)))
 (kn_ok
 (kl_ok (ok_aP (ok_if_ne dX2_debt_43 rfl rfl)))
 (kl_ok (ok_aP (ok_iload_n dX2_debt_46 rfl rfl))))))
 (kn_ok
 (kn_ok
 (kn_ok
 (kl_ok (ok_aP (ok_aload dX2_debt_47 rfl)))
 (kl_ok (ok_aP (ok_getf fo_10 fs_rf (Or.inr ⟨_, q609⟩) dX2_debt_49 rfl))))
 (kn_ok
 (kl_ok (ok_aP (ok_iadd dX2_debt_52 rfl)))
 (kl_ok (ok_aP (ok_istore_n dX2_debt_53 rfl rfl)))))
 (kn_ok
 (kn_ok
 (kl_ok (ok_aP (ok_iinc dX2_debt_54 (by decide +kernel) rfl)))
 (kl_ok (ok_aP (ok_goto dX2_debt_57 rfl))))
 (kn_ok
 (kl_ok (ok_aP (ok_iload_n dX2_debt_60 rfl rfl)))
 (kl_ok (ok_iret rfl dX2_debt_61))))))
/-- 99: FavourTown$World.worthThen(I)I -/
noncomputable def k_X2_worthThen : Nat → Option AOp :=
 tn 15 (tn 5 (tn 1 (tl 0 (aP (f_aload 0 1)))
  (tn 4 (tl 1 (aP (f_getf [1] 9 4)))
  (tl 4 (aP (f_iload 1 5)))))
  (tn 11 (tn 8 (tl 5 (o_callV (lkN [(19, 114)]) 1 8))
  (tl 8 (aP (f_cast [5, 6] [] 11))))
  (tn 12 (tl 11 (aP (f_aload 0 12)))
  (tl 12 (aP (f_getf [1] 9 15))))))
  (tn 25 (tn 19 (tn 16 (tl 15 (aP (f_iload 1 16)))
  (tl 16 (o_callV (lkN [(19, 114)]) 1 19)))
  (tn 22 (tl 19 (aP (f_cast [5, 6] [] 22)))
  (tl 22 (aP (f_getf [5, 6] 5 25)))))
  (tn 27 (tn 26 (tl 25 (aP (f_const (.int (nI 1)) 26)))
  (tl 26 (aP (f_bin (fun x y => x + y) 27))))
  (tn 30 (tl 27 (o_callV (lkN [(5, 243), (6, 243)]) 1 30))
  (tl 30 (o_iret (fun _ => true))))))
theorem kok_X2_worthThen {γ : AG} (hm : γ.2.2.2.2.1 = mTab) (hk : γ.2.2.2.2.2 = kTab) : KOK γ m_X2_worthThen k_X2_worthThen :=
 kn_ok
 (kn_ok
 (kn_ok
 (kl_ok (ok_aP (ok_aload_n dX2_worthThen_0 rfl rfl)))
 (kn_ok
 (kl_ok (ok_aP (ok_getf fo_2 fs_rf (Or.inl q234) dX2_worthThen_1 rfl)))
 (kl_ok (ok_aP (ok_iload_n dX2_worthThen_4 rfl rfl)))))
 (kn_ok
 (kn_ok
 (kl_ok (ok_callV (List.forall_mem_cons.mpr ⟨run_V (C0 := "java/util/ArrayList") rfl rfl (by rw [hm]; rfl) q404 q405 q406 q87 q407 ⟨nh_4, dl_21⟩ (by decide) dX2_worthThen_5, (fun _ h => absurd h List.not_mem_nil)⟩) rfl))
 (kl_ok (ok_aP (ok_cast q427 (List.forall_mem_cons.mpr ⟨Or.inr ⟨_, rfl, rfl⟩, (List.forall_mem_cons.mpr ⟨Or.inl ⟨_, rfl, q2339⟩, (fun _ h => absurd h List.not_mem_nil)⟩)⟩) (fun _ h => absurd h List.not_mem_nil) dX2_worthThen_8 rfl))))
 (kn_ok
 (kl_ok (ok_aP (ok_aload_n dX2_worthThen_11 rfl rfl)))
 (kl_ok (ok_aP (ok_getf fo_2 fs_rf (Or.inl q234) dX2_worthThen_12 rfl))))))
 (kn_ok
 (kn_ok
 (kn_ok
 (kl_ok (ok_aP (ok_iload_n dX2_worthThen_15 rfl rfl)))
 (kl_ok (ok_callV (List.forall_mem_cons.mpr ⟨run_V (C0 := "java/util/ArrayList") rfl rfl (by rw [hm]; rfl) q404 q405 q406 q87 q407 ⟨nh_4, dl_21⟩ (by decide) dX2_worthThen_16, (fun _ h => absurd h List.not_mem_nil)⟩) rfl)))
 (kn_ok
 (kl_ok (ok_aP (ok_cast q427 (List.forall_mem_cons.mpr ⟨Or.inr ⟨_, rfl, rfl⟩, (List.forall_mem_cons.mpr ⟨Or.inl ⟨_, rfl, q2339⟩, (fun _ h => absurd h List.not_mem_nil)⟩)⟩) (fun _ h => absurd h List.not_mem_nil) dX2_worthThen_19 rfl)))
 (kl_ok (ok_aP (ok_getf fo_6 fs_rf (Or.inr ⟨_, q622⟩) dX2_worthThen_22 rfl)))))
 (kn_ok
 (kn_ok
 (kl_ok (ok_aP (ok_iconst dX2_worthThen_25 rfl rfl)))
 (kl_ok (ok_aP (ok_iadd dX2_worthThen_26 rfl))))
 (kn_ok
 (kl_ok (ok_callV (List.forall_mem_cons.mpr ⟨run_V (C0 := "FavourTown$Favour") rfl rfl (by rw [hm]; rfl) q456 q457 q458 q96 q461 ⟨nh_5, dl_10⟩ (by decide) dX2_worthThen_27, (List.forall_mem_cons.mpr ⟨run_U (C0 := "FavourTown$Timed") (owner := "FavourTown$Favour") (nx := ⟨"FavourTown$Favour", "worthAt", "(I)I"⟩) rfl rfl (by rw [hm]; rfl) q456 q459 q460 q457 q96 q461 ⟨nh_5, dl_10⟩ (by decide) dX2_worthThen_27, (fun _ h => absurd h List.not_mem_nil)⟩)⟩) rfl))
 (kl_ok (ok_iret rfl dX2_worthThen_30)))))
/-- 100: FavourTown$World.canGive(IIIIZ)Z -/
noncomputable def k_X2_canGive : Nat → Option AOp :=
 tn 40 (tn 20 (tn 12 (tn 4 (tn 1 (tl 0 (aP (f_aload 0 1)))
  (tl 1 (aP (f_getf [1] 9 4))))
  (tn 7 (tl 4 (o_callV (lkN [(19, 113)]) 0 7))
  (tn 9 (tl 7 (aP (f_const (.int (nI 40)) 9)))
  (tl 9 (aP (f_icmp (fun x y => decide (x = y)) 28 12))))))
  (tn 17 (tn 13 (tl 12 (aP (f_aload 0 13)))
  (tn 14 (tl 13 (aP (f_iload 1 14)))
  (tl 14 (o_callV (lkN [(1, 98)]) 1 17))))
  (tn 18 (tl 17 (aP (f_iload 3 18)))
  (tn 19 (tl 18 (aP (f_bin (fun x y => x + y) 19)))
  (tl 19 (aP (f_aload 0 20)))))))
  (tn 29 (tn 24 (tn 23 (tl 20 (aP (f_getf [1] 5 23)))
  (tl 23 (aP (f_iload 1 24))))
  (tn 25 (tl 24 (aP (f_iald 0 25)))
  (tn 28 (tl 25 (aP (f_icmp (fun x y => decide (x ≤ y)) 30 28)))
  (tl 28 (aP (f_const (.int (nI 0)) 29))))))
  (tn 35 (tn 30 (tl 29 (o_iret (fun x => x == 0 || x == 1)))
  (tn 32 (tl 30 (aP (f_iload 5 32)))
  (tl 32 (aP (f_if (fun x => decide (¬ x = 0)) 45 35)))))
  (tn 36 (tl 35 (aP (f_aload 0 36)))
  (tn 39 (tl 36 (aP (f_getf [1] 7 39)))
  (tl 39 (aP (f_iload 2 40))))))))
  (tn 56 (tn 47 (tn 42 (tn 41 (tl 40 (aP (f_iald 0 41)))
  (tl 41 (aP (f_const (.int (-1)) 42))))
  (tn 45 (tl 42 (aP (f_icmp (fun x y => decide (¬ x = y)) 47 45)))
  (tn 46 (tl 45 (aP (f_const (.int (nI 1)) 46)))
  (tl 46 (o_iret (fun x => x == 0 || x == 1))))))
  (tn 50 (tn 48 (tl 47 (aP (f_aload 0 48)))
  (tn 49 (tl 48 (aP (f_iload 2 49)))
  (tl 49 (aP (f_iload 1 50)))))
  (tn 51 (tl 50 (aP (f_iload 3 51)))
  (tn 53 (tl 51 (aP (f_iload 4 53)))
  (tl 53 (o_callV (lkN [(1, 96)]) 4 56))))))
  (tn 66 (tn 61 (tn 57 (tl 56 (aP (f_aload 0 57)))
  (tn 60 (tl 57 (aP (f_getf [1] 11 60)))
  (tl 60 (aP (f_aload 0 61)))))
  (tn 64 (tl 61 (aP (f_getf [1] 7 64)))
  (tn 65 (tl 64 (aP (f_iload 2 65)))
  (tl 65 (aP (f_iald 0 66))))))
  (tn 73 (tn 69 (tl 66 (o_callV (lkN [(19, 114)]) 1 69))
  (tn 72 (tl 69 (aP (f_cast [9] [] 72)))
  (tl 72 (aP (f_aload 0 73)))))
  (tn 76 (tl 73 (aP (f_getf [1] 13 76)))
  (tn 79 (tl 76 (o_callV (lkN [(9, 307)]) 1 79))
  (tl 79 (o_iret (fun x => x == 0 || x == 1))))))))
theorem kok_X2_canGive {γ : AG} (hm : γ.2.2.2.2.1 = mTab) (hk : γ.2.2.2.2.2 = kTab) : KOK γ m_X2_canGive k_X2_canGive :=
 kn_ok
 (kn_ok
 (kn_ok
 (kn_ok
 (kn_ok
 (kl_ok (ok_aP (ok_aload_n dX2_canGive_0 rfl rfl)))
 (kl_ok (ok_aP (ok_getf fo_2 fs_rf (Or.inl q234) dX2_canGive_1 rfl))))
 (kn_ok
 (kl_ok (ok_callV (List.forall_mem_cons.mpr ⟨run_V (C0 := "java/util/ArrayList") rfl rfl (by rw [hm]; rfl) q400 q401 q402 q87 q403 ⟨nh_4, dl_4⟩ (by decide) dX2_canGive_4, (fun _ h => absurd h List.not_mem_nil)⟩) rfl))
 (kn_ok
 (kl_ok (ok_aP (ok_bipush dX2_canGive_7 (by decide +kernel) rfl)))
 (kl_ok (ok_aP (ok_icmp_eq dX2_canGive_9 rfl rfl))))))
 (kn_ok
 (kn_ok
 (kl_ok (ok_aP (ok_aload_n dX2_canGive_12 rfl rfl)))
 (kn_ok
 (kl_ok (ok_aP (ok_iload_n dX2_canGive_13 rfl rfl)))
 (kl_ok (ok_callV (List.forall_mem_cons.mpr ⟨run_V (C0 := "FavourTown$World") rfl rfl (by rw [hm]; rfl) q462 q463 q464 q84 q465 ⟨nh_3, dl_10⟩ (by decide) dX2_canGive_14, (fun _ h => absurd h List.not_mem_nil)⟩) rfl))))
 (kn_ok
 (kl_ok (ok_aP (ok_iload_n dX2_canGive_17 rfl rfl)))
 (kn_ok
 (kl_ok (ok_aP (ok_iadd dX2_canGive_18 rfl)))
 (kl_ok (ok_aP (ok_aload_n dX2_canGive_19 rfl rfl)))))))
 (kn_ok
 (kn_ok
 (kn_ok
 (kl_ok (ok_aP (ok_getf fo_42 fs_rf (Or.inl q226) dX2_canGive_20 rfl)))
 (kl_ok (ok_aP (ok_iload_n dX2_canGive_23 rfl rfl))))
 (kn_ok
 (kl_ok (ok_aP (ok_iald dX2_canGive_24 rfl)))
 (kn_ok
 (kl_ok (ok_aP (ok_icmp_le dX2_canGive_25 rfl rfl)))
 (kl_ok (ok_aP (ok_iconst dX2_canGive_28 rfl rfl))))))
 (kn_ok
 (kn_ok
 (kl_ok (ok_zret rfl z_boolean dX2_canGive_29))
 (kn_ok
 (kl_ok (ok_aP (ok_iload dX2_canGive_30 rfl)))
 (kl_ok (ok_aP (ok_if_ne dX2_canGive_32 rfl rfl)))))
 (kn_ok
 (kl_ok (ok_aP (ok_aload_n dX2_canGive_35 rfl rfl)))
 (kn_ok
 (kl_ok (ok_aP (ok_getf fo_9 fs_rf (Or.inl q230) dX2_canGive_36 rfl)))
 (kl_ok (ok_aP (ok_iload_n dX2_canGive_39 rfl rfl))))))))
 (kn_ok
 (kn_ok
 (kn_ok
 (kn_ok
 (kl_ok (ok_aP (ok_iald dX2_canGive_40 rfl)))
 (kl_ok (ok_aP (ok_iconst dX2_canGive_41 rfl rfl))))
 (kn_ok
 (kl_ok (ok_aP (ok_icmp_ne dX2_canGive_42 rfl rfl)))
 (kn_ok
 (kl_ok (ok_aP (ok_iconst dX2_canGive_45 rfl rfl)))
 (kl_ok (ok_zret rfl z_boolean dX2_canGive_46)))))
 (kn_ok
 (kn_ok
 (kl_ok (ok_aP (ok_aload_n dX2_canGive_47 rfl rfl)))
 (kn_ok
 (kl_ok (ok_aP (ok_iload_n dX2_canGive_48 rfl rfl)))
 (kl_ok (ok_aP (ok_iload_n dX2_canGive_49 rfl rfl)))))
 (kn_ok
 (kl_ok (ok_aP (ok_iload_n dX2_canGive_50 rfl rfl)))
 (kn_ok
 (kl_ok (ok_aP (ok_iload dX2_canGive_51 rfl)))
 (kl_ok (ok_callV (List.forall_mem_cons.mpr ⟨run_V (C0 := "FavourTown$World") rfl rfl (by rw [hm]; rfl) q448 q450 qs0 q84 q451 ⟨nh_3, dl_26⟩ (by decide) dX2_canGive_53, (fun _ h => absurd h List.not_mem_nil)⟩) rfl))))))
 (kn_ok
 (kn_ok
 (kn_ok
 (kl_ok (ok_aP (ok_aload_n dX2_canGive_56 rfl rfl)))
 (kn_ok
 (kl_ok (ok_aP (ok_getf fo_15 fs_rf (Or.inl q238) dX2_canGive_57 rfl)))
 (kl_ok (ok_aP (ok_aload_n dX2_canGive_60 rfl rfl)))))
 (kn_ok
 (kl_ok (ok_aP (ok_getf fo_9 fs_rf (Or.inl q230) dX2_canGive_61 rfl)))
 (kn_ok
 (kl_ok (ok_aP (ok_iload_n dX2_canGive_64 rfl rfl)))
 (kl_ok (ok_aP (ok_iald dX2_canGive_65 rfl))))))
 (kn_ok
 (kn_ok
 (kl_ok (ok_callV (List.forall_mem_cons.mpr ⟨run_V (C0 := "java/util/ArrayList") rfl rfl (by rw [hm]; rfl) q404 q405 q406 q87 q407 ⟨nh_4, dl_21⟩ (by decide) dX2_canGive_66, (fun _ h => absurd h List.not_mem_nil)⟩) rfl))
 (kn_ok
 (kl_ok (ok_aP (ok_cast q472 (List.forall_mem_cons.mpr ⟨Or.inr ⟨_, rfl, rfl⟩, (fun _ h => absurd h List.not_mem_nil)⟩) (fun _ h => absurd h List.not_mem_nil) dX2_canGive_69 rfl)))
 (kl_ok (ok_aP (ok_aload_n dX2_canGive_72 rfl rfl)))))
 (kn_ok
 (kl_ok (ok_aP (ok_getf fo_11 fs_rf (Or.inl q243) dX2_canGive_73 rfl)))
 (kn_ok
 (kl_ok (ok_callV (List.forall_mem_cons.mpr ⟨run_V (C0 := "FavourTown$Temper") rfl rfl (by rw [hm]; rfl) q473 q474 q475 q117 q476 ⟨nh_6, dl_27⟩ (by decide) dX2_canGive_76, (fun _ h => absurd h List.not_mem_nil)⟩) rfl))
 (kl_ok (ok_zret rfl z_boolean dX2_canGive_79)))))))
/-- 101: FavourTown$World.copy()LFavourTown$World; -/
noncomputable def k_X2_copy : Nat → Option AOp :=
 tn 97 (tn 49 (tn 24 (tn 10 (tn 7 (tn 3 (tl 0 (o_new 1 [.int 0, .int 0, .int 0, .int 0, .int 0, .null, .null, .null, .null, .null, .null, .null, .null, .null] 3))
  (tn 4 (tl 3 (aP (f_dup 4)))
  (tl 4 (o_callI 89 0 7))))
  (tn 8 (tl 7 (aP (f_astore 1 8)))
  (tn 9 (tl 8 (aP (f_aload 1 9)))
  (tl 9 (aP (f_aload 0 10))))))
  (tn 17 (tn 13 (tl 10 (aP (f_getf [1] 0 13)))
  (tn 16 (tl 13 (o_putf [1] 0 vI 16))
  (tl 16 (aP (f_aload 1 17)))))
  (tn 18 (tl 17 (aP (f_aload 0 18)))
  (tn 21 (tl 18 (aP (f_getf [1] 1 21)))
  (tl 21 (o_putf [1] 1 vI 24))))))
  (tn 34 (tn 29 (tn 25 (tl 24 (aP (f_aload 1 25)))
  (tn 26 (tl 25 (aP (f_aload 0 26)))
  (tl 26 (aP (f_getf [1] 2 29)))))
  (tn 32 (tl 29 (o_putf [1] 2 vI 32))
  (tn 33 (tl 32 (aP (f_aload 1 33)))
  (tl 33 (aP (f_aload 0 34))))))
  (tn 41 (tn 37 (tl 34 (aP (f_getf [1] 3 37)))
  (tn 40 (tl 37 (o_putf [1] 3 vI 40))
  (tl 40 (aP (f_aload 0 41)))))
  (tn 45 (tn 44 (tl 41 (aP (f_getf [1] 5 44)))
  (tl 44 (aP (f_const (.int (nI 0)) 45))))
  (tn 46 (tl 45 (aP (f_aload 1 46)))
  (tl 46 (aP (f_getf [1] 5 49))))))))
  (tn 74 (tn 60 (tn 55 (tn 50 (tl 49 (aP (f_const (.int (nI 0)) 50)))
  (tn 52 (tl 50 (aP (f_const (.int (nI 12)) 52)))
  (tl 52 (o_copy anyC anyT 55))))
  (tn 56 (tl 55 (aP (f_aload 0 56)))
  (tn 59 (tl 56 (aP (f_getf [1] 6 59)))
  (tl 59 (aP (f_const (.int (nI 0)) 60))))))
  (tn 65 (tn 61 (tl 60 (aP (f_aload 1 61)))
  (tn 64 (tl 61 (aP (f_getf [1] 6 64)))
  (tl 64 (aP (f_const (.int (nI 0)) 65)))))
  (tn 70 (tn 67 (tl 65 (aP (f_const (.int (nI 12)) 67)))
  (tl 67 (o_copy anyC anyT 70)))
  (tn 71 (tl 70 (aP (f_aload 0 71)))
  (tl 71 (aP (f_getf [1] 7 74)))))))
  (tn 85 (tn 79 (tn 75 (tl 74 (aP (f_const (.int (nI 0)) 75)))
  (tn 76 (tl 75 (aP (f_aload 1 76)))
  (tl 76 (aP (f_getf [1] 7 79)))))
  (tn 80 (tl 79 (aP (f_const (.int (nI 0)) 80)))
  (tn 82 (tl 80 (aP (f_const (.int (nI 12)) 82)))
  (tl 82 (o_copy anyC anyT 85)))))
  (tn 88 (tn 86 (tl 85 (aP (f_const (.int (nI 0)) 86)))
  (tn 87 (tl 86 (aP (f_istore 2 87)))
  (tl 87 (aP (f_iload 2 88)))))
  (tn 93 (tn 90 (tl 88 (aP (f_const (.int (nI 12)) 90)))
  (tl 90 (aP (f_icmp (fun x y => decide (y ≤ x)) 118 93))))
  (tn 94 (tl 93 (aP (f_aload 0 94)))
  (tl 94 (aP (f_getf [1] 8 97)))))))))
  (tn 143 (tn 118 (tn 105 (tn 100 (tn 98 (tl 97 (aP (f_iload 2 98)))
  (tn 99 (tl 98 (aP (f_aald [3, 4, 5] 99)))
  (tl 99 (aP (f_const (.int (nI 0)) 100)))))
  (tn 101 (tl 100 (aP (f_aload 1 101)))
  (tn 104 (tl 101 (aP (f_getf [1] 8 104)))
  (tl 104 (aP (f_iload 2 105))))))
  (tn 109 (tn 106 (tl 105 (aP (f_aald [3, 4, 5] 106)))
  (tn 107 (tl 106 (aP (f_const (.int (nI 0)) 107)))
  (tl 107 (aP (f_const (.int (nI 12)) 109)))))
  (tn 112 (tl 109 (o_copy anyC anyT 112))
  (tn 115 (tl 112 (aP (f_iinc 2 (nI 1) 115)))
  (tl 115 (aP (f_goto 87)))))))
  (tn 128 (tn 121 (tn 119 (tl 118 (aP (f_const (.int (nI 0)) 119)))
  (tn 120 (tl 119 (aP (f_istore 2 120)))
  (tl 120 (aP (f_iload 2 121)))))
  (tn 122 (tl 121 (aP (f_aload 0 122)))
  (tn 125 (tl 122 (aP (f_getf [1] 9 125)))
  (tl 125 (o_callV (lkN [(19, 113)]) 0 128)))))
  (tn 135 (tn 131 (tl 128 (aP (f_icmp (fun x y => decide (y ≤ x)) 159 131)))
  (tn 132 (tl 131 (aP (f_aload 1 132)))
  (tl 132 (aP (f_getf [1] 9 135)))))
  (tn 139 (tn 136 (tl 135 (aP (f_aload 0 136)))
  (tl 136 (aP (f_getf [1] 9 139))))
  (tn 140 (tl 139 (aP (f_iload 2 140)))
  (tl 140 (o_callV (lkN [(19, 114)]) 1 143)))))))
  (tn 172 (tn 159 (tn 152 (tn 146 (tl 143 (aP (f_cast [5, 6] [] 146)))
  (tn 149 (tl 146 (o_callV (lkN [(5, 247), (6, 250)]) 0 149))
  (tl 149 (o_callV (lkN [(19, 116)]) 1 152))))
  (tn 153 (tl 152 (aP (f_pop 153)))
  (tn 156 (tl 153 (aP (f_iinc 2 (nI 1) 156)))
  (tl 156 (aP (f_goto 120))))))
  (tn 164 (tn 160 (tl 159 (aP (f_aload 1 160)))
  (tn 163 (tl 160 (aP (f_getf [1] 10 163)))
  (tl 163 (aP (f_aload 0 164)))))
  (tn 170 (tn 167 (tl 164 (aP (f_getf [1] 10 167)))
  (tl 167 (o_callV (lkN [(19, 120)]) 1 170)))
  (tn 171 (tl 170 (aP (f_pop 171)))
  (tl 171 (aP (f_aload 1 172)))))))
  (tn 184 (tn 179 (tn 175 (tl 172 (aP (f_getf [1] 11 175)))
  (tn 176 (tl 175 (aP (f_aload 0 176)))
  (tl 176 (aP (f_getf [1] 11 179)))))
  (tn 182 (tl 179 (o_callV (lkN [(19, 120)]) 1 182))
  (tn 183 (tl 182 (aP (f_pop 183)))
  (tl 183 (aP (f_aload 1 184))))))
  (tn 191 (tn 187 (tl 184 (aP (f_getf [1] 12 187)))
  (tn 188 (tl 187 (aP (f_aload 0 188)))
  (tl 188 (aP (f_getf [1] 12 191)))))
  (tn 195 (tn 194 (tl 191 (o_callV (lkN [(19, 120)]) 1 194))
  (tl 194 (aP (f_pop 195))))
  (tn 196 (tl 195 (aP (f_aload 1 196)))
  (tl 196 (o_aret))))))))
theorem kok_X2_copy {γ : AG} (hm : γ.2.2.2.2.1 = mTab) (hk : γ.2.2.2.2.2 = kTab) : KOK γ m_X2_copy k_X2_copy :=
 kn_ok
 (kn_ok
 (kn_ok
 (kn_ok
 (kn_ok
 (kn_ok
 (kl_ok (ok_hp (ok_new (by decide +kernel) rfl q581 q138 q84 dX2_copy_0 rfl) le_new))
 (kn_ok
 (kl_ok (ok_aP (ok_dup dX2_copy_3 rfl)))
 (kl_ok (ok_callI (run_I (by rw [hm]; rfl) q582 q140 q84 q141 rfl ⟨nh_3, dl_0⟩ (by decide) dX2_copy_4) rfl))))
 (kn_ok
 (kl_ok (ok_aP (ok_astore_n dX2_copy_7 rfl rfl)))
 (kn_ok
 (kl_ok (ok_aP (ok_aload_n dX2_copy_8 rfl rfl)))
 (kl_ok (ok_aP (ok_aload_n dX2_copy_9 rfl rfl))))))
 (kn_ok
 (kn_ok
 (kl_ok (ok_aP (ok_getf fo_44 fs_rf (Or.inl q215) dX2_copy_10 rfl)))
 (kn_ok
 (kl_ok (ok_hp (ok_putf fo_44 fs_rf fn_20 (Or.inl q215) pd_0 vI_ok dX2_copy_13 rfl) le_putf))
 (kl_ok (ok_aP (ok_aload_n dX2_copy_16 rfl rfl)))))
 (kn_ok
 (kl_ok (ok_aP (ok_aload_n dX2_copy_17 rfl rfl)))
 (kn_ok
 (kl_ok (ok_aP (ok_getf fo_38 fs_rf (Or.inl q217) dX2_copy_18 rfl)))
 (kl_ok (ok_hp (ok_putf fo_38 fs_rf fn_19 (Or.inl q217) pd_0 vI_ok dX2_copy_21 rfl) le_putf))))))
 (kn_ok
 (kn_ok
 (kn_ok
 (kl_ok (ok_aP (ok_aload_n dX2_copy_24 rfl rfl)))
 (kn_ok
 (kl_ok (ok_aP (ok_aload_n dX2_copy_25 rfl rfl)))
 (kl_ok (ok_aP (ok_getf fo_7 fs_rf (Or.inl q219) dX2_copy_26 rfl)))))
 (kn_ok
 (kl_ok (ok_hp (ok_putf fo_7 fs_rf fn_21 (Or.inl q219) pd_0 vI_ok dX2_copy_29 rfl) le_putf))
 (kn_ok
 (kl_ok (ok_aP (ok_aload_n dX2_copy_32 rfl rfl)))
 (kl_ok (ok_aP (ok_aload_n dX2_copy_33 rfl rfl))))))
 (kn_ok
 (kn_ok
 (kl_ok (ok_aP (ok_getf fo_1 fs_rf (Or.inl q223) dX2_copy_34 rfl)))
 (kn_ok
 (kl_ok (ok_hp (ok_putf fo_1 fs_rf fn_22 (Or.inl q223) pd_0 vI_ok dX2_copy_37 rfl) le_putf))
 (kl_ok (ok_aP (ok_aload_n dX2_copy_40 rfl rfl)))))
 (kn_ok
 (kn_ok
 (kl_ok (ok_aP (ok_getf fo_42 fs_rf (Or.inl q226) dX2_copy_41 rfl)))
 (kl_ok (ok_aP (ok_iconst dX2_copy_44 rfl rfl))))
 (kn_ok
 (kl_ok (ok_aP (ok_aload_n dX2_copy_45 rfl rfl)))
 (kl_ok (ok_aP (ok_getf fo_42 fs_rf (Or.inl q226) dX2_copy_46 rfl))))))))
 (kn_ok
 (kn_ok
 (kn_ok
 (kn_ok
 (kl_ok (ok_aP (ok_iconst dX2_copy_49 rfl rfl)))
 (kn_ok
 (kl_ok (ok_aP (ok_bipush dX2_copy_50 (by decide +kernel) rfl)))
 (kl_ok (ok_hp (ok_copy any_ok q583 q585 q584 q93 dX2_copy_52 rfl) le_copy))))
 (kn_ok
 (kl_ok (ok_aP (ok_aload_n dX2_copy_55 rfl rfl)))
 (kn_ok
 (kl_ok (ok_aP (ok_getf fo_39 fs_rf (Or.inl q228) dX2_copy_56 rfl)))
 (kl_ok (ok_aP (ok_iconst dX2_copy_59 rfl rfl))))))
 (kn_ok
 (kn_ok
 (kl_ok (ok_aP (ok_aload_n dX2_copy_60 rfl rfl)))
 (kn_ok
 (kl_ok (ok_aP (ok_getf fo_39 fs_rf (Or.inl q228) dX2_copy_61 rfl)))
 (kl_ok (ok_aP (ok_iconst dX2_copy_64 rfl rfl)))))
 (kn_ok
 (kn_ok
 (kl_ok (ok_aP (ok_bipush dX2_copy_65 (by decide +kernel) rfl)))
 (kl_ok (ok_hp (ok_copy any_ok q583 q585 q584 q93 dX2_copy_67 rfl) le_copy)))
 (kn_ok
 (kl_ok (ok_aP (ok_aload_n dX2_copy_70 rfl rfl)))
 (kl_ok (ok_aP (ok_getf fo_9 fs_rf (Or.inl q230) dX2_copy_71 rfl)))))))
 (kn_ok
 (kn_ok
 (kn_ok
 (kl_ok (ok_aP (ok_iconst dX2_copy_74 rfl rfl)))
 (kn_ok
 (kl_ok (ok_aP (ok_aload_n dX2_copy_75 rfl rfl)))
 (kl_ok (ok_aP (ok_getf fo_9 fs_rf (Or.inl q230) dX2_copy_76 rfl)))))
 (kn_ok
 (kl_ok (ok_aP (ok_iconst dX2_copy_79 rfl rfl)))
 (kn_ok
 (kl_ok (ok_aP (ok_bipush dX2_copy_80 (by decide +kernel) rfl)))
 (kl_ok (ok_hp (ok_copy any_ok q583 q585 q584 q93 dX2_copy_82 rfl) le_copy)))))
 (kn_ok
 (kn_ok
 (kl_ok (ok_aP (ok_iconst dX2_copy_85 rfl rfl)))
 (kn_ok
 (kl_ok (ok_aP (ok_istore_n dX2_copy_86 rfl rfl)))
 (kl_ok (ok_aP (ok_iload_n dX2_copy_87 rfl rfl)))))
 (kn_ok
 (kn_ok
 (kl_ok (ok_aP (ok_bipush dX2_copy_88 (by decide +kernel) rfl)))
 (kl_ok (ok_aP (ok_icmp_ge dX2_copy_90 rfl rfl))))
 (kn_ok
 (kl_ok (ok_aP (ok_aload_n dX2_copy_93 rfl rfl)))
 (kl_ok (ok_aP (ok_getf fo_41 fs_rf (Or.inl q232) dX2_copy_94 rfl)))))))))
 (kn_ok
 (kn_ok
 (kn_ok
 (kn_ok
 (kn_ok
 (kl_ok (ok_aP (ok_iload_n dX2_copy_97 rfl rfl)))
 (kn_ok
 (kl_ok (ok_aP (ok_aald ts345 dX2_copy_98 rfl)))
 (kl_ok (ok_aP (ok_iconst dX2_copy_99 rfl rfl)))))
 (kn_ok
 (kl_ok (ok_aP (ok_aload_n dX2_copy_100 rfl rfl)))
 (kn_ok
 (kl_ok (ok_aP (ok_getf fo_41 fs_rf (Or.inl q232) dX2_copy_101 rfl)))
 (kl_ok (ok_aP (ok_iload_n dX2_copy_104 rfl rfl))))))
 (kn_ok
 (kn_ok
 (kl_ok (ok_aP (ok_aald ts345 dX2_copy_105 rfl)))
 (kn_ok
 (kl_ok (ok_aP (ok_iconst dX2_copy_106 rfl rfl)))
 (kl_ok (ok_aP (ok_bipush dX2_copy_107 (by decide +kernel) rfl)))))
 (kn_ok
 (kl_ok (ok_hp (ok_copy any_ok q583 q585 q584 q93 dX2_copy_109 rfl) le_copy))
 (kn_ok
 (kl_ok (ok_aP (ok_iinc dX2_copy_112 (by decide +kernel) rfl)))
 (kl_ok (ok_aP (ok_goto dX2_copy_115 rfl)))))))
 (kn_ok
 (kn_ok
 (kn_ok
 (kl_ok (ok_aP (ok_iconst dX2_copy_118 rfl rfl)))
 (kn_ok
 (kl_ok (ok_aP (ok_istore_n dX2_copy_119 rfl rfl)))
 (kl_ok (ok_aP (ok_iload_n dX2_copy_120 rfl rfl)))))
 (kn_ok
 (kl_ok (ok_aP (ok_aload_n dX2_copy_121 rfl rfl)))
 (kn_ok
 (kl_ok (ok_aP (ok_getf fo_2 fs_rf (Or.inl q234) dX2_copy_122 rfl)))
 (kl_ok (ok_callV (List.forall_mem_cons.mpr ⟨run_V (C0 := "java/util/ArrayList") rfl rfl (by rw [hm]; rfl) q400 q401 q402 q87 q403 ⟨nh_4, dl_4⟩ (by decide) dX2_copy_125, (fun _ h => absurd h List.not_mem_nil)⟩) rfl)))))
 (kn_ok
 (kn_ok
 (kl_ok (ok_aP (ok_icmp_ge dX2_copy_128 rfl rfl)))
 (kn_ok
 (kl_ok (ok_aP (ok_aload_n dX2_copy_131 rfl rfl)))
 (kl_ok (ok_aP (ok_getf fo_2 fs_rf (Or.inl q234) dX2_copy_132 rfl)))))
 (kn_ok
 (kn_ok
 (kl_ok (ok_aP (ok_aload_n dX2_copy_135 rfl rfl)))
 (kl_ok (ok_aP (ok_getf fo_2 fs_rf (Or.inl q234) dX2_copy_136 rfl))))
 (kn_ok
 (kl_ok (ok_aP (ok_iload_n dX2_copy_139 rfl rfl)))
 (kl_ok (ok_callV (List.forall_mem_cons.mpr ⟨run_V (C0 := "java/util/ArrayList") rfl rfl (by rw [hm]; rfl) q404 q405 q406 q87 q407 ⟨nh_4, dl_21⟩ (by decide) dX2_copy_140, (fun _ h => absurd h List.not_mem_nil)⟩) rfl)))))))
 (kn_ok
 (kn_ok
 (kn_ok
 (kn_ok
 (kl_ok (ok_aP (ok_cast q427 (List.forall_mem_cons.mpr ⟨Or.inr ⟨_, rfl, rfl⟩, (List.forall_mem_cons.mpr ⟨Or.inl ⟨_, rfl, q2339⟩, (fun _ h => absurd h List.not_mem_nil)⟩)⟩) (fun _ h => absurd h List.not_mem_nil) dX2_copy_143 rfl)))
 (kn_ok
 (kl_ok (ok_callV (List.forall_mem_cons.mpr ⟨run_V (C0 := "FavourTown$Favour") rfl rfl (by rw [hm]; rfl) q586 q587 q588 q96 q646 ⟨nh_5, dl_42⟩ (by decide) dX2_copy_146, (List.forall_mem_cons.mpr ⟨run_O (C0 := "FavourTown$Timed") (owner := "FavourTown$Favour") (nx := ⟨"FavourTown$Favour", "copy", "()LFavourTown$Favour;"⟩) rfl (by rw [hm]; rfl) q586 q589 q587 q590 q591 q97 q592 q646 ⟨nh_5, dl_42⟩ (by decide) dX2_copy_146, (fun _ h => absurd h List.not_mem_nil)⟩)⟩) rfl))
 (kl_ok (ok_callV (List.forall_mem_cons.mpr ⟨run_V (C0 := "java/util/ArrayList") rfl rfl (by rw [hm]; rfl) q658 q659 q660 q87 q661 ⟨nh_4, dl_36⟩ (by decide) dX2_copy_149, (fun _ h => absurd h List.not_mem_nil)⟩) rfl))))
 (kn_ok
 (kl_ok (ok_aP (ok_pop dX2_copy_152 rfl)))
 (kn_ok
 (kl_ok (ok_aP (ok_iinc dX2_copy_153 (by decide +kernel) rfl)))
 (kl_ok (ok_aP (ok_goto dX2_copy_156 rfl))))))
 (kn_ok
 (kn_ok
 (kl_ok (ok_aP (ok_aload_n dX2_copy_159 rfl rfl)))
 (kn_ok
 (kl_ok (ok_aP (ok_getf fo_45 fs_rf (Or.inl q236) dX2_copy_160 rfl)))
 (kl_ok (ok_aP (ok_aload_n dX2_copy_163 rfl rfl)))))
 (kn_ok
 (kn_ok
 (kl_ok (ok_aP (ok_getf fo_45 fs_rf (Or.inl q236) dX2_copy_164 rfl)))
 (kl_ok (ok_callV (List.forall_mem_cons.mpr ⟨run_V (C0 := "java/util/ArrayList") rfl rfl (by rw [hm]; rfl) q733 q734 q735 q87 q736 ⟨nh_4, dl_43⟩ (by decide) dX2_copy_167, (fun _ h => absurd h List.not_mem_nil)⟩) rfl)))
 (kn_ok
 (kl_ok (ok_aP (ok_pop dX2_copy_170 rfl)))
 (kl_ok (ok_aP (ok_aload_n dX2_copy_171 rfl rfl)))))))
 (kn_ok
 (kn_ok
 (kn_ok
 (kl_ok (ok_aP (ok_getf fo_15 fs_rf (Or.inl q238) dX2_copy_172 rfl)))
 (kn_ok
 (kl_ok (ok_aP (ok_aload_n dX2_copy_175 rfl rfl)))
 (kl_ok (ok_aP (ok_getf fo_15 fs_rf (Or.inl q238) dX2_copy_176 rfl)))))
 (kn_ok
 (kl_ok (ok_callV (List.forall_mem_cons.mpr ⟨run_V (C0 := "java/util/ArrayList") rfl rfl (by rw [hm]; rfl) q733 q734 q735 q87 q736 ⟨nh_4, dl_43⟩ (by decide) dX2_copy_179, (fun _ h => absurd h List.not_mem_nil)⟩) rfl))
 (kn_ok
 (kl_ok (ok_aP (ok_pop dX2_copy_182 rfl)))
 (kl_ok (ok_aP (ok_aload_n dX2_copy_183 rfl rfl))))))
 (kn_ok
 (kn_ok
 (kl_ok (ok_aP (ok_getf fo_46 fs_rf (Or.inl q240) dX2_copy_184 rfl)))
 (kn_ok
 (kl_ok (ok_aP (ok_aload_n dX2_copy_187 rfl rfl)))
 (kl_ok (ok_aP (ok_getf fo_46 fs_rf (Or.inl q240) dX2_copy_188 rfl)))))
 (kn_ok
 (kn_ok
 (kl_ok (ok_callV (List.forall_mem_cons.mpr ⟨run_V (C0 := "java/util/ArrayList") rfl rfl (by rw [hm]; rfl) q733 q734 q735 q87 q736 ⟨nh_4, dl_43⟩ (by decide) dX2_copy_191, (fun _ h => absurd h List.not_mem_nil)⟩) rfl))
 (kl_ok (ok_aP (ok_pop dX2_copy_194 rfl))))
 (kn_ok
 (kl_ok (ok_aP (ok_aload_n dX2_copy_195 rfl rfl)))
 (kl_ok (ok_aret rfl (Or.inl ⟨_, rfl⟩) dX2_copy_196))))))))
/-- 102: FavourTown$World.alive()I -/
noncomputable def k_X2_alive : Nat → Option AOp :=
 tn 21 (tn 6 (tn 3 (tn 1 (tl 0 (aP (f_const (.int (nI 0)) 1)))
  (tn 2 (tl 1 (aP (f_istore 1 2)))
  (tl 2 (aP (f_const (.int (nI 0)) 3)))))
  (tn 4 (tl 3 (aP (f_istore 2 4)))
  (tn 5 (tl 4 (aP (f_iload 2 5)))
  (tl 5 (aP (f_aload 0 6))))))
  (tn 15 (tn 9 (tl 6 (aP (f_getf [1] 9 9)))
  (tn 12 (tl 9 (o_callV (lkN [(19, 113)]) 0 12))
  (tl 12 (aP (f_icmp (fun x y => decide (y ≤ x)) 47 15)))))
  (tn 17 (tn 16 (tl 15 (aP (f_iload 1 16)))
  (tl 16 (aP (f_aload 0 17))))
  (tn 20 (tl 17 (aP (f_getf [1] 9 20)))
  (tl 20 (aP (f_iload 2 21)))))))
  (tn 38 (tn 30 (tn 24 (tl 21 (o_callV (lkN [(19, 114)]) 1 24))
  (tn 27 (tl 24 (aP (f_cast [5, 6] [] 27)))
  (tl 27 (aP (f_getf [5, 6] 4 30)))))
  (tn 34 (tn 31 (tl 30 (aP (f_const (.int (-1)) 31)))
  (tl 31 (aP (f_icmp (fun x y => decide (¬ x = y)) 38 34))))
  (tn 35 (tl 34 (aP (f_const (.int (nI 0)) 35)))
  (tl 35 (aP (f_goto 39))))))
  (tn 41 (tn 39 (tl 38 (aP (f_const (.int (nI 1)) 39)))
  (tn 40 (tl 39 (aP (f_bin (fun x y => x + y) 40)))
  (tl 40 (aP (f_istore 1 41)))))
  (tn 47 (tn 44 (tl 41 (aP (f_iinc 2 (nI 1) 44)))
  (tl 44 (aP (f_goto 4))))
  (tn 48 (tl 47 (aP (f_iload 1 48)))
  (tl 48 (o_iret (fun _ => true)))))))
theorem kok_X2_alive {γ : AG} (hm : γ.2.2.2.2.1 = mTab) (hk : γ.2.2.2.2.2 = kTab) : KOK γ m_X2_alive k_X2_alive :=
 kn_ok
 (kn_ok
 (kn_ok
 (kn_ok
 (kl_ok (ok_aP (ok_iconst dX2_alive_0 rfl rfl)))
 (kn_ok
 (kl_ok (ok_aP (ok_istore_n dX2_alive_1 rfl rfl)))
 (kl_ok (ok_aP (ok_iconst dX2_alive_2 rfl rfl)))))
 (kn_ok
 (kl_ok (ok_aP (ok_istore_n dX2_alive_3 rfl rfl)))
 (kn_ok
 (kl_ok (ok_aP (ok_iload_n dX2_alive_4 rfl rfl)))
 (kl_ok (ok_aP (ok_aload_n dX2_alive_5 rfl rfl))))))
 (kn_ok
 (kn_ok
 (kl_ok (ok_aP (ok_getf fo_2 fs_rf (Or.inl q234) dX2_alive_6 rfl)))
 (kn_ok
 (kl_ok (ok_callV (List.forall_mem_cons.mpr ⟨run_V (C0 := "java/util/ArrayList") rfl rfl (by rw [hm]; rfl) q400 q401 q402 q87 q403 ⟨nh_4, dl_4⟩ (by decide) dX2_alive_9, (fun _ h => absurd h List.not_mem_nil)⟩) rfl))
 (kl_ok (ok_aP (ok_icmp_ge dX2_alive_12 rfl rfl)))))
 (kn_ok
 (kn_ok
 (kl_ok (ok_aP (ok_iload_n dX2_alive_15 rfl rfl)))
 (kl_ok (ok_aP (ok_aload_n dX2_alive_16 rfl rfl))))
 (kn_ok
 (kl_ok (ok_aP (ok_getf fo_2 fs_rf (Or.inl q234) dX2_alive_17 rfl)))
 (kl_ok (ok_aP (ok_iload_n dX2_alive_20 rfl rfl)))))))
 (kn_ok
 (kn_ok
 (kn_ok
 (kl_ok (ok_callV (List.forall_mem_cons.mpr ⟨run_V (C0 := "java/util/ArrayList") rfl rfl (by rw [hm]; rfl) q404 q405 q406 q87 q407 ⟨nh_4, dl_21⟩ (by decide) dX2_alive_21, (fun _ h => absurd h List.not_mem_nil)⟩) rfl))
 (kn_ok
 (kl_ok (ok_aP (ok_cast q427 (List.forall_mem_cons.mpr ⟨Or.inr ⟨_, rfl, rfl⟩, (List.forall_mem_cons.mpr ⟨Or.inl ⟨_, rfl, q2339⟩, (fun _ h => absurd h List.not_mem_nil)⟩)⟩) (fun _ h => absurd h List.not_mem_nil) dX2_alive_24 rfl)))
 (kl_ok (ok_aP (ok_getf fo_4 fs_rf (Or.inr ⟨_, q619⟩) dX2_alive_27 rfl)))))
 (kn_ok
 (kn_ok
 (kl_ok (ok_aP (ok_iconst dX2_alive_30 rfl rfl)))
 (kl_ok (ok_aP (ok_icmp_ne dX2_alive_31 rfl rfl))))
 (kn_ok
 (kl_ok (ok_aP (ok_iconst dX2_alive_34 rfl rfl)))
 (kl_ok (ok_aP (ok_goto dX2_alive_35 rfl))))))
 (kn_ok
 (kn_ok
 (kl_ok (ok_aP (ok_iconst dX2_alive_38 rfl rfl)))
 (kn_ok
 (kl_ok (ok_aP (ok_iadd dX2_alive_39 rfl)))
 (kl_ok (ok_aP (ok_istore_n dX2_alive_40 rfl rfl)))))
 (kn_ok
 (kn_ok
 (kl_ok (ok_aP (ok_iinc dX2_alive_41 (by decide +kernel) rfl)))
 (kl_ok (ok_aP (ok_goto dX2_alive_44 rfl))))
 (kn_ok
 (kl_ok (ok_aP (ok_iload_n dX2_alive_47 rfl rfl)))
 (kl_ok (ok_iret rfl dX2_alive_48))))))
/-- 103: FavourTown$World.pairs()I -/
noncomputable def k_X2_pairs : Nat → Option AOp :=
 tn 20 (tn 9 (tn 3 (tn 1 (tl 0 (aP (f_const (.int (nI 0)) 1)))
  (tn 2 (tl 1 (aP (f_istore 1 2)))
  (tl 2 (aP (f_aload 0 3)))))
  (tn 7 (tn 6 (tl 3 (aP (f_getf [1] 6 6)))
  (tl 6 (aP (f_astore 2 7))))
  (tn 8 (tl 7 (aP (f_aload 2 8)))
  (tl 8 (aP (f_alen 9))))))
  (tn 13 (tn 10 (tl 9 (aP (f_istore 3 10)))
  (tn 11 (tl 10 (aP (f_const (.int (nI 0)) 11)))
  (tl 11 (aP (f_istore 4 13)))))
  (tn 16 (tn 15 (tl 13 (aP (f_iload 4 15)))
  (tl 15 (aP (f_iload 3 16))))
  (tn 19 (tl 16 (aP (f_icmp (fun x y => decide (y ≤ x)) 39 19)))
  (tl 19 (aP (f_aload 2 20)))))))
  (tn 32 (tn 25 (tn 22 (tl 20 (aP (f_iload 4 22)))
  (tn 23 (tl 22 (aP (f_iald 0 23)))
  (tl 23 (aP (f_istore 5 25)))))
  (tn 28 (tn 26 (tl 25 (aP (f_iload 1 26)))
  (tl 26 (aP (f_iload 5 28))))
  (tn 31 (tl 28 (o_callS 302 1 31))
  (tl 31 (aP (f_bin (fun x y => x + y) 32))))))
  (tn 39 (tn 33 (tl 32 (aP (f_istore 1 33)))
  (tn 36 (tl 33 (aP (f_iinc 4 (nI 1) 36)))
  (tl 36 (aP (f_goto 13)))))
  (tn 41 (tn 40 (tl 39 (aP (f_iload 1 40)))
  (tl 40 (aP (f_const (.int (nI 2)) 41))))
  (tn 42 (tl 41 (aP (f_div (fun x y => x / y) 42)))
  (tl 42 (o_iret (fun _ => true)))))))
theorem kok_X2_pairs {γ : AG} (hm : γ.2.2.2.2.1 = mTab) (hk : γ.2.2.2.2.2 = kTab) : KOK γ m_X2_pairs k_X2_pairs :=
 kn_ok
 (kn_ok
 (kn_ok
 (kn_ok
 (kl_ok (ok_aP (ok_iconst dX2_pairs_0 rfl rfl)))
 (kn_ok
 (kl_ok (ok_aP (ok_istore_n dX2_pairs_1 rfl rfl)))
 (kl_ok (ok_aP (ok_aload_n dX2_pairs_2 rfl rfl)))))
 (kn_ok
 (kn_ok
 (kl_ok (ok_aP (ok_getf fo_39 fs_rf (Or.inl q228) dX2_pairs_3 rfl)))
 (kl_ok (ok_aP (ok_astore_n dX2_pairs_6 rfl rfl))))
 (kn_ok
 (kl_ok (ok_aP (ok_aload_n dX2_pairs_7 rfl rfl)))
 (kl_ok (ok_aP (ok_alen dX2_pairs_8 rfl))))))
 (kn_ok
 (kn_ok
 (kl_ok (ok_aP (ok_istore_n dX2_pairs_9 rfl rfl)))
 (kn_ok
 (kl_ok (ok_aP (ok_iconst dX2_pairs_10 rfl rfl)))
 (kl_ok (ok_aP (ok_istore dX2_pairs_11 rfl)))))
 (kn_ok
 (kn_ok
 (kl_ok (ok_aP (ok_iload dX2_pairs_13 rfl)))
 (kl_ok (ok_aP (ok_iload_n dX2_pairs_15 rfl rfl))))
 (kn_ok
 (kl_ok (ok_aP (ok_icmp_ge dX2_pairs_16 rfl rfl)))
 (kl_ok (ok_aP (ok_aload_n dX2_pairs_19 rfl rfl)))))))
 (kn_ok
 (kn_ok
 (kn_ok
 (kl_ok (ok_aP (ok_iload dX2_pairs_20 rfl)))
 (kn_ok
 (kl_ok (ok_aP (ok_iald dX2_pairs_22 rfl)))
 (kl_ok (ok_aP (ok_istore dX2_pairs_23 rfl)))))
 (kn_ok
 (kn_ok
 (kl_ok (ok_aP (ok_iload_n dX2_pairs_25 rfl rfl)))
 (kl_ok (ok_aP (ok_iload dX2_pairs_26 rfl))))
 (kn_ok
 (kl_ok (ok_callS (run_S (by rw [hm]; rfl) q764 q561 q111 q562 ⟨nh_23, dl_10⟩ (by decide) dX2_pairs_28) rfl))
 (kl_ok (ok_aP (ok_iadd dX2_pairs_31 rfl))))))
 (kn_ok
 (kn_ok
 (kl_ok (ok_aP (ok_istore_n dX2_pairs_32 rfl rfl)))
 (kn_ok
 (kl_ok (ok_aP (ok_iinc dX2_pairs_33 (by decide +kernel) rfl)))
 (kl_ok (ok_aP (ok_goto dX2_pairs_36 rfl)))))
 (kn_ok
 (kn_ok
 (kl_ok (ok_aP (ok_iload_n dX2_pairs_39 rfl rfl)))
 (kl_ok (ok_aP (ok_iconst dX2_pairs_40 rfl rfl))))
 (kn_ok
 (kl_ok (ok_aP (ok_idiv dX2_pairs_41 rfl)))
 (kl_ok (ok_iret rfl dX2_pairs_42))))))
/-- 104: FavourTown$World.gives(IIIIZ)I -/
noncomputable def k_X2_gives : Nat → Option AOp :=
 tn 43 (tn 20 (tn 10 (tn 5 (tn 2 (tl 0 (aP (f_iload 4 2)))
  (tl 2 (aP (f_if (fun x => decide (¬ x = 0)) 9 5))))
  (tn 6 (tl 5 (aP (f_const (.int (-1)) 6)))
  (tn 9 (tl 6 (aP (f_goto 16)))
  (tl 9 (aP (f_aload 0 10))))))
  (tn 16 (tn 13 (tl 10 (aP (f_getf [1] 1 13)))
  (tn 15 (tl 13 (aP (f_iload 4 15)))
  (tl 15 (aP (f_bin (fun x y => x + y) 16)))))
  (tn 18 (tl 16 (aP (f_istore 6 18)))
  (tn 19 (tl 18 (aP (f_aload 0 19)))
  (tl 19 (aP (f_iload 1 20)))))))
  (tn 32 (tn 24 (tn 21 (tl 20 (aP (f_iload 2 21)))
  (tn 22 (tl 21 (aP (f_iload 3 22)))
  (tl 22 (aP (f_iload 6 24)))))
  (tn 26 (tl 24 (aP (f_iload 5 26)))
  (tn 29 (tl 26 (o_callV (lkN [(1, 100)]) 5 29))
  (tl 29 (aP (f_if (fun x => decide (¬ x = 0)) 34 32))))))
  (tn 35 (tn 33 (tl 32 (aP (f_const (.int (-1)) 33)))
  (tn 34 (tl 33 (o_iret (fun _ => true)))
  (tl 34 (aP (f_aload 0 35)))))
  (tn 38 (tl 35 (aP (f_getf [1] 9 38)))
  (tn 40 (tl 38 (aP (f_iload 4 40)))
  (tl 40 (aP (f_if (fun x => decide (¬ x = 0)) 58 43))))))))
  (tn 64 (tn 52 (tn 48 (tn 46 (tl 43 (o_new 5 [.int 0, .int 0, .int 0, .null, .int 0, .int 0] 46))
  (tn 47 (tl 46 (aP (f_dup 47)))
  (tl 47 (aP (f_iload 1 48)))))
  (tn 49 (tl 48 (aP (f_iload 2 49)))
  (tn 50 (tl 49 (aP (f_iload 3 50)))
  (tl 50 (aP (f_iload 5 52))))))
  (tn 61 (tn 55 (tl 52 (o_callI 245 4 55))
  (tn 58 (tl 55 (aP (f_goto 72)))
  (tl 58 (o_new 6 [.int 0, .int 0, .int 0, .null, .int 0, .int 0, .int 0] 61))))
  (tn 62 (tl 61 (aP (f_dup 62)))
  (tn 63 (tl 62 (aP (f_iload 1 63)))
  (tl 63 (aP (f_iload 2 64)))))))
  (tn 76 (tn 69 (tn 65 (tl 64 (aP (f_iload 3 65)))
  (tn 67 (tl 65 (aP (f_iload 5 67)))
  (tl 67 (aP (f_iload 6 69)))))
  (tn 72 (tl 69 (o_callI 251 5 72))
  (tn 75 (tl 72 (o_callV (lkN [(19, 116)]) 1 75))
  (tl 75 (aP (f_pop 76))))))
  (tn 83 (tn 77 (tl 76 (aP (f_aload 0 77)))
  (tn 80 (tl 77 (aP (f_getf [1] 9 80)))
  (tl 80 (o_callV (lkN [(19, 113)]) 0 83))))
  (tn 84 (tl 83 (aP (f_const (.int (nI 1)) 84)))
  (tn 85 (tl 84 (aP (f_bin (fun x y => x - y) 85)))
  (tl 85 (o_iret (fun _ => true))))))))
theorem kok_X2_gives {γ : AG} (hm : γ.2.2.2.2.1 = mTab) (hk : γ.2.2.2.2.2 = kTab) : KOK γ m_X2_gives k_X2_gives :=
 kn_ok
 (kn_ok
 (kn_ok
 (kn_ok
 (kn_ok
 (kl_ok (ok_aP (ok_iload dX2_gives_0 rfl)))
 (kl_ok (ok_aP (ok_if_ne dX2_gives_2 rfl rfl))))
 (kn_ok
 (kl_ok (ok_aP (ok_iconst dX2_gives_5 rfl rfl)))
 (kn_ok
 (kl_ok (ok_aP (ok_goto dX2_gives_6 rfl)))
 (kl_ok (ok_aP (ok_aload_n dX2_gives_9 rfl rfl))))))
 (kn_ok
 (kn_ok
 (kl_ok (ok_aP (ok_getf fo_38 fs_rf (Or.inl q217) dX2_gives_10 rfl)))
 (kn_ok
 (kl_ok (ok_aP (ok_iload dX2_gives_13 rfl)))
 (kl_ok (ok_aP (ok_iadd dX2_gives_15 rfl)))))
 (kn_ok
 (kl_ok (ok_aP (ok_istore dX2_gives_16 rfl)))
 (kn_ok
 (kl_ok (ok_aP (ok_aload_n dX2_gives_18 rfl rfl)))
 (kl_ok (ok_aP (ok_iload_n dX2_gives_19 rfl rfl)))))))
 (kn_ok
 (kn_ok
 (kn_ok
 (kl_ok (ok_aP (ok_iload_n dX2_gives_20 rfl rfl)))
 (kn_ok
 (kl_ok (ok_aP (ok_iload_n dX2_gives_21 rfl rfl)))
 (kl_ok (ok_aP (ok_iload dX2_gives_22 rfl)))))
 (kn_ok
 (kl_ok (ok_aP (ok_iload dX2_gives_24 rfl)))
 (kn_ok
 (kl_ok (ok_callV (List.forall_mem_cons.mpr ⟨run_V (C0 := "FavourTown$World") rfl rfl (by rw [hm]; rfl) q548 q549 q550 q84 q551 ⟨nh_3, dl_33⟩ (by decide) dX2_gives_26, (fun _ h => absurd h List.not_mem_nil)⟩) rfl))
 (kl_ok (ok_aP (ok_if_ne dX2_gives_29 rfl rfl))))))
 (kn_ok
 (kn_ok
 (kl_ok (ok_aP (ok_iconst dX2_gives_32 rfl rfl)))
 (kn_ok
 (kl_ok (ok_iret rfl dX2_gives_33))
 (kl_ok (ok_aP (ok_aload_n dX2_gives_34 rfl rfl)))))
 (kn_ok
 (kl_ok (ok_aP (ok_getf fo_2 fs_rf (Or.inl q234) dX2_gives_35 rfl)))
 (kn_ok
 (kl_ok (ok_aP (ok_iload dX2_gives_38 rfl)))
 (kl_ok (ok_aP (ok_if_ne dX2_gives_40 rfl rfl))))))))
 (kn_ok
 (kn_ok
 (kn_ok
 (kn_ok
 (kl_ok (ok_hp (ok_new (by decide +kernel) rfl q427 q648 q96 dX2_gives_43 rfl) le_new))
 (kn_ok
 (kl_ok (ok_aP (ok_dup dX2_gives_46 rfl)))
 (kl_ok (ok_aP (ok_iload_n dX2_gives_47 rfl rfl)))))
 (kn_ok
 (kl_ok (ok_aP (ok_iload_n dX2_gives_48 rfl rfl)))
 (kn_ok
 (kl_ok (ok_aP (ok_iload_n dX2_gives_49 rfl rfl)))
 (kl_ok (ok_aP (ok_iload dX2_gives_50 rfl))))))
 (kn_ok
 (kn_ok
 (kl_ok (ok_callI (run_I (by rw [hm]; rfl) q1261 q599 q96 q600 rfl ⟨nh_5, dl_34⟩ (by decide) dX2_gives_52) rfl))
 (kn_ok
 (kl_ok (ok_aP (ok_goto dX2_gives_55 rfl)))
 (kl_ok (ok_hp (ok_new (by decide +kernel) rfl q1262 q594 q97 dX2_gives_58 rfl) le_new))))
 (kn_ok
 (kl_ok (ok_aP (ok_dup dX2_gives_61 rfl)))
 (kn_ok
 (kl_ok (ok_aP (ok_iload_n dX2_gives_62 rfl rfl)))
 (kl_ok (ok_aP (ok_iload_n dX2_gives_63 rfl rfl)))))))
 (kn_ok
 (kn_ok
 (kn_ok
 (kl_ok (ok_aP (ok_iload_n dX2_gives_64 rfl rfl)))
 (kn_ok
 (kl_ok (ok_aP (ok_iload dX2_gives_65 rfl)))
 (kl_ok (ok_aP (ok_iload dX2_gives_67 rfl)))))
 (kn_ok
 (kl_ok (ok_callI (run_I (by rw [hm]; rfl) q1263 q596 q97 q597 rfl ⟨nh_14, dl_35⟩ (by decide) dX2_gives_69) rfl))
 (kn_ok
 (kl_ok (ok_callV (List.forall_mem_cons.mpr ⟨run_V (C0 := "java/util/ArrayList") rfl rfl (by rw [hm]; rfl) q658 q659 q660 q87 q661 ⟨nh_4, dl_36⟩ (by decide) dX2_gives_72, (fun _ h => absurd h List.not_mem_nil)⟩) rfl))
 (kl_ok (ok_aP (ok_pop dX2_gives_75 rfl))))))
 (kn_ok
 (kn_ok
 (kl_ok (ok_aP (ok_aload_n dX2_gives_76 rfl rfl)))
 (kn_ok
 (kl_ok (ok_aP (ok_getf fo_2 fs_rf (Or.inl q234) dX2_gives_77 rfl)))
 (kl_ok (ok_callV (List.forall_mem_cons.mpr ⟨run_V (C0 := "java/util/ArrayList") rfl rfl (by rw [hm]; rfl) q400 q401 q402 q87 q403 ⟨nh_4, dl_4⟩ (by decide) dX2_gives_80, (fun _ h => absurd h List.not_mem_nil)⟩) rfl))))
 (kn_ok
 (kl_ok (ok_aP (ok_iconst dX2_gives_83 rfl rfl)))
 (kn_ok
 (kl_ok (ok_aP (ok_isub dX2_gives_84 rfl)))
 (kl_ok (ok_iret rfl dX2_gives_85)))))))
/-- 105: FavourTown$World.passes(LFavourTown$Favour;I)I -/
noncomputable def k_X2_passes : Nat → Option AOp :=
 tn 39 (tn 17 (tn 9 (tn 2 (tn 1 (tl 0 (aP (f_aload 0 1)))
  (tl 1 (aP (f_aload 1 2))))
  (tn 3 (tl 2 (aP (f_iload 2 3)))
  (tn 6 (tl 3 (o_callV (lkN [(1, 93)]) 2 6))
  (tl 6 (aP (f_if (fun x => decide (¬ x = 0)) 11 9))))))
  (tn 12 (tn 10 (tl 9 (aP (f_const (.int (-1)) 10)))
  (tn 11 (tl 10 (o_iret (fun _ => true)))
  (tl 11 (aP (f_aload 1 12)))))
  (tn 15 (tl 12 (aP (f_getf [5, 6] 4 15)))
  (tn 16 (tl 15 (aP (f_istore 3 16)))
  (tl 16 (aP (f_aload 1 17)))))))
  (tn 27 (tn 21 (tn 18 (tl 17 (aP (f_aload 1 18)))
  (tl 18 (aP (f_getf [5, 6] 5 21))))
  (tn 24 (tl 21 (o_callV (lkN [(5, 243), (6, 243)]) 1 24))
  (tn 26 (tl 24 (aP (f_istore 4 26)))
  (tl 26 (aP (f_aload 1 27))))))
  (tn 32 (tn 28 (tl 27 (aP (f_iload 2 28)))
  (tn 31 (tl 28 (o_callV (lkN [(5, 248), (6, 248)]) 1 31))
  (tl 31 (aP (f_aload 1 32)))))
  (tn 35 (tl 32 (aP (f_getf [5, 6] 4 35)))
  (tn 36 (tl 35 (aP (f_const (.int (-1)) 36)))
  (tl 36 (aP (f_icmp (fun x y => decide (¬ x = y)) 41 39))))))))
  (tn 53 (tn 46 (tn 41 (tn 40 (tl 39 (aP (f_const (.int (nI 0)) 40)))
  (tl 40 (o_iret (fun _ => true))))
  (tn 42 (tl 41 (aP (f_aload 0 42)))
  (tn 45 (tl 42 (aP (f_getf [1] 8 45)))
  (tl 45 (aP (f_iload 2 46))))))
  (tn 49 (tn 47 (tl 46 (aP (f_aald [3, 4, 5] 47)))
  (tn 48 (tl 47 (aP (f_iload 3 48)))
  (tl 48 (aP (f_dup2 49)))))
  (tn 50 (tl 49 (aP (f_iald 0 50)))
  (tn 52 (tl 50 (aP (f_iload 4 52)))
  (tl 52 (aP (f_aload 1 53)))))))
  (tn 62 (tn 57 (tn 54 (tl 53 (aP (f_aload 1 54)))
  (tl 54 (aP (f_getf [5, 6] 5 57))))
  (tn 60 (tl 57 (o_callV (lkN [(5, 243), (6, 243)]) 1 60))
  (tn 61 (tl 60 (aP (f_bin (fun x y => x - y) 61)))
  (tl 61 (aP (f_bin (fun x y => x + y) 62))))))
  (tn 65 (tn 63 (tl 62 (o_iast 0 (fun y => y) 63))
  (tn 64 (tl 63 (aP (f_aload 1 64)))
  (tl 64 (aP (f_aload 1 65)))))
  (tn 68 (tl 65 (aP (f_getf [5, 6] 5 68)))
  (tn 71 (tl 68 (o_callV (lkN [(5, 243), (6, 243)]) 1 71))
  (tl 71 (o_iret (fun _ => true))))))))
theorem kok_X2_passes {γ : AG} (hm : γ.2.2.2.2.1 = mTab) (hk : γ.2.2.2.2.2 = kTab) : KOK γ m_X2_passes k_X2_passes :=
 kn_ok
 (kn_ok
 (kn_ok
 (kn_ok
 (kn_ok
 (kl_ok (ok_aP (ok_aload_n dX2_passes_0 rfl rfl)))
 (kl_ok (ok_aP (ok_aload_n dX2_passes_1 rfl rfl))))
 (kn_ok
 (kl_ok (ok_aP (ok_iload_n dX2_passes_2 rfl rfl)))
 (kn_ok
 (kl_ok (ok_callV (List.forall_mem_cons.mpr ⟨run_V (C0 := "FavourTown$World") rfl rfl (by rw [hm]; rfl) q428 q429 q430 q84 q431 ⟨nh_3, dl_23⟩ (by decide) dX2_passes_3, (fun _ h => absurd h List.not_mem_nil)⟩) rfl))
 (kl_ok (ok_aP (ok_if_ne dX2_passes_6 rfl rfl))))))
 (kn_ok
 (kn_ok
 (kl_ok (ok_aP (ok_iconst dX2_passes_9 rfl rfl)))
 (kn_ok
 (kl_ok (ok_iret rfl dX2_passes_10))
 (kl_ok (ok_aP (ok_aload_n dX2_passes_11 rfl rfl)))))
 (kn_ok
 (kl_ok (ok_aP (ok_getf fo_4 fs_rf (Or.inr ⟨_, q619⟩) dX2_passes_12 rfl)))
 (kn_ok
 (kl_ok (ok_aP (ok_istore_n dX2_passes_15 rfl rfl)))
 (kl_ok (ok_aP (ok_aload_n dX2_passes_16 rfl rfl)))))))
 (kn_ok
 (kn_ok
 (kn_ok
 (kl_ok (ok_aP (ok_aload_n dX2_passes_17 rfl rfl)))
 (kl_ok (ok_aP (ok_getf fo_6 fs_rf (Or.inr ⟨_, q622⟩) dX2_passes_18 rfl))))
 (kn_ok
 (kl_ok (ok_callV (List.forall_mem_cons.mpr ⟨run_V (C0 := "FavourTown$Favour") rfl rfl (by rw [hm]; rfl) q456 q457 q458 q96 q461 ⟨nh_5, dl_10⟩ (by decide) dX2_passes_21, (List.forall_mem_cons.mpr ⟨run_U (C0 := "FavourTown$Timed") (owner := "FavourTown$Favour") (nx := ⟨"FavourTown$Favour", "worthAt", "(I)I"⟩) rfl rfl (by rw [hm]; rfl) q456 q459 q460 q457 q96 q461 ⟨nh_5, dl_10⟩ (by decide) dX2_passes_21, (fun _ h => absurd h List.not_mem_nil)⟩)⟩) rfl))
 (kn_ok
 (kl_ok (ok_aP (ok_istore dX2_passes_24 rfl)))
 (kl_ok (ok_aP (ok_aload_n dX2_passes_26 rfl rfl))))))
 (kn_ok
 (kn_ok
 (kl_ok (ok_aP (ok_iload_n dX2_passes_27 rfl rfl)))
 (kn_ok
 (kl_ok (ok_callV (List.forall_mem_cons.mpr ⟨run_V (C0 := "FavourTown$Favour") rfl rfl (by rw [hm]; rfl) q1272 q1273 q1274 q96 q1277 ⟨nh_5, dl_32⟩ (by decide) dX2_passes_28, (List.forall_mem_cons.mpr ⟨run_U (C0 := "FavourTown$Timed") (owner := "FavourTown$Favour") (nx := ⟨"FavourTown$Favour", "goes", "(I)V"⟩) rfl rfl (by rw [hm]; rfl) q1272 q1275 q1276 q1273 q96 q1277 ⟨nh_5, dl_32⟩ (by decide) dX2_passes_28, (fun _ h => absurd h List.not_mem_nil)⟩)⟩) rfl))
 (kl_ok (ok_aP (ok_aload_n dX2_passes_31 rfl rfl)))))
 (kn_ok
 (kl_ok (ok_aP (ok_getf fo_4 fs_rf (Or.inr ⟨_, q619⟩) dX2_passes_32 rfl)))
 (kn_ok
 (kl_ok (ok_aP (ok_iconst dX2_passes_35 rfl rfl)))
 (kl_ok (ok_aP (ok_icmp_ne dX2_passes_36 rfl rfl))))))))
 (kn_ok
 (kn_ok
 (kn_ok
 (kn_ok
 (kl_ok (ok_aP (ok_iconst dX2_passes_39 rfl rfl)))
 (kl_ok (ok_iret rfl dX2_passes_40)))
 (kn_ok
 (kl_ok (ok_aP (ok_aload_n dX2_passes_41 rfl rfl)))
 (kn_ok
 (kl_ok (ok_aP (ok_getf fo_41 fs_rf (Or.inl q232) dX2_passes_42 rfl)))
 (kl_ok (ok_aP (ok_iload_n dX2_passes_45 rfl rfl))))))
 (kn_ok
 (kn_ok
 (kl_ok (ok_aP (ok_aald ts345 dX2_passes_46 rfl)))
 (kn_ok
 (kl_ok (ok_aP (ok_iload_n dX2_passes_47 rfl rfl)))
 (kl_ok (ok_aP (ok_dup2 dX2_passes_48 rfl)))))
 (kn_ok
 (kl_ok (ok_aP (ok_iald dX2_passes_49 rfl)))
 (kn_ok
 (kl_ok (ok_aP (ok_iload dX2_passes_50 rfl)))
 (kl_ok (ok_aP (ok_aload_n dX2_passes_52 rfl rfl)))))))
 (kn_ok
 (kn_ok
 (kn_ok
 (kl_ok (ok_aP (ok_aload_n dX2_passes_53 rfl rfl)))
 (kl_ok (ok_aP (ok_getf fo_6 fs_rf (Or.inr ⟨_, q622⟩) dX2_passes_54 rfl))))
 (kn_ok
 (kl_ok (ok_callV (List.forall_mem_cons.mpr ⟨run_V (C0 := "FavourTown$Favour") rfl rfl (by rw [hm]; rfl) q456 q457 q458 q96 q461 ⟨nh_5, dl_10⟩ (by decide) dX2_passes_57, (List.forall_mem_cons.mpr ⟨run_U (C0 := "FavourTown$Timed") (owner := "FavourTown$Favour") (nx := ⟨"FavourTown$Favour", "worthAt", "(I)I"⟩) rfl rfl (by rw [hm]; rfl) q456 q459 q460 q457 q96 q461 ⟨nh_5, dl_10⟩ (by decide) dX2_passes_57, (fun _ h => absurd h List.not_mem_nil)⟩)⟩) rfl))
 (kn_ok
 (kl_ok (ok_aP (ok_isub dX2_passes_60 rfl)))
 (kl_ok (ok_aP (ok_iadd dX2_passes_61 rfl))))))
 (kn_ok
 (kn_ok
 (kl_ok (ok_hp (ok_iast dX2_passes_62 rfl) le_iast))
 (kn_ok
 (kl_ok (ok_aP (ok_aload_n dX2_passes_63 rfl rfl)))
 (kl_ok (ok_aP (ok_aload_n dX2_passes_64 rfl rfl)))))
 (kn_ok
 (kl_ok (ok_aP (ok_getf fo_6 fs_rf (Or.inr ⟨_, q622⟩) dX2_passes_65 rfl)))
 (kn_ok
 (kl_ok (ok_callV (List.forall_mem_cons.mpr ⟨run_V (C0 := "FavourTown$Favour") rfl rfl (by rw [hm]; rfl) q456 q457 q458 q96 q461 ⟨nh_5, dl_10⟩ (by decide) dX2_passes_68, (List.forall_mem_cons.mpr ⟨run_U (C0 := "FavourTown$Timed") (owner := "FavourTown$Favour") (nx := ⟨"FavourTown$Favour", "worthAt", "(I)I"⟩) rfl rfl (by rw [hm]; rfl) q456 q459 q460 q457 q96 q461 ⟨nh_5, dl_10⟩ (by decide) dX2_passes_68, (fun _ h => absurd h List.not_mem_nil)⟩)⟩) rfl))
 (kl_ok (ok_iret rfl dX2_passes_71)))))))
/-- 106: FavourTown$World.days(I)I -/
noncomputable def k_X2_days : Nat → Option AOp :=
 tn 46 (tn 16 (tn 6 (tn 3 (tn 1 (tl 0 (aP (f_const (.int (nI 0)) 1)))
  (tn 2 (tl 1 (aP (f_istore 2 2)))
  (tl 2 (aP (f_const (.int (nI 0)) 3)))))
  (tn 4 (tl 3 (aP (f_istore 3 4)))
  (tn 5 (tl 4 (aP (f_iload 3 5)))
  (tl 5 (aP (f_iload 1 6))))))
  (tn 11 (tn 9 (tl 6 (aP (f_icmp (fun x y => decide (y ≤ x)) 102 9)))
  (tn 10 (tl 9 (aP (f_aload 0 10)))
  (tl 10 (aP (f_dup 11)))))
  (tn 14 (tl 11 (aP (f_getf [1] 1 14)))
  (tn 15 (tl 14 (aP (f_const (.int (nI 1)) 15)))
  (tl 15 (aP (f_bin (fun x y => x + y) 16)))))))
  (tn 28 (tn 22 (tn 19 (tl 16 (o_putf [1] 1 vI 19))
  (tn 20 (tl 19 (aP (f_const (.int (nI 0)) 20)))
  (tl 20 (aP (f_istore 4 22)))))
  (tn 24 (tl 22 (aP (f_iload 4 24)))
  (tn 25 (tl 24 (aP (f_aload 0 25)))
  (tl 25 (aP (f_getf [1] 9 28))))))
  (tn 35 (tn 31 (tl 28 (o_callV (lkN [(19, 113)]) 0 31))
  (tn 34 (tl 31 (aP (f_icmp (fun x y => decide (y ≤ x)) 96 34)))
  (tl 34 (aP (f_aload 0 35)))))
  (tn 40 (tn 38 (tl 35 (aP (f_getf [1] 9 38)))
  (tl 38 (aP (f_iload 4 40))))
  (tn 43 (tl 40 (o_callV (lkN [(19, 114)]) 1 43))
  (tl 43 (aP (f_cast [5, 6] [] 46))))))))
  (tn 72 (tn 59 (tn 53 (tn 48 (tl 46 (aP (f_astore 5 48)))
  (tn 50 (tl 48 (aP (f_aload 5 50)))
  (tl 50 (aP (f_getf [5, 6] 4 53)))))
  (tn 54 (tl 53 (aP (f_const (.int (-1)) 54)))
  (tn 57 (tl 54 (aP (f_icmp (fun x y => decide (x = y)) 90 57)))
  (tl 57 (aP (f_aload 5 59))))))
  (tn 66 (tn 62 (tl 59 (o_callV (lkN [(5, 242), (6, 249)]) 0 62))
  (tn 63 (tl 62 (aP (f_const (.int (-1)) 63)))
  (tl 63 (aP (f_icmp (fun x y => decide (x = y)) 90 66)))))
  (tn 68 (tl 66 (aP (f_aload 5 68)))
  (tn 71 (tl 68 (o_callV (lkN [(5, 242), (6, 249)]) 0 71))
  (tl 71 (aP (f_aload 0 72)))))))
  (tn 87 (tn 81 (tn 75 (tl 72 (aP (f_getf [1] 1 75)))
  (tn 78 (tl 75 (aP (f_icmp (fun x y => decide (x ≤ y)) 81 78)))
  (tl 78 (aP (f_goto 90)))))
  (tn 83 (tl 81 (aP (f_aload 5 83)))
  (tn 84 (tl 83 (aP (f_const (.int (-1)) 84)))
  (tl 84 (o_putf [5, 6] 4 vI 87)))))
  (tn 96 (tn 90 (tl 87 (aP (f_iinc 2 (nI 1) 90)))
  (tn 93 (tl 90 (aP (f_iinc 4 (nI 1) 93)))
  (tl 93 (aP (f_goto 22)))))
  (tn 102 (tn 99 (tl 96 (aP (f_iinc 3 (nI 1) 99)))
  (tl 99 (aP (f_goto 4))))
  (tn 103 (tl 102 (aP (f_iload 2 103)))
  (tl 103 (o_iret (fun _ => true))))))))
theorem kok_X2_days {γ : AG} (hm : γ.2.2.2.2.1 = mTab) (hk : γ.2.2.2.2.2 = kTab) : KOK γ m_X2_days k_X2_days :=
 kn_ok
 (kn_ok
 (kn_ok
 (kn_ok
 (kn_ok
 (kl_ok (ok_aP (ok_iconst dX2_days_0 rfl rfl)))
 (kn_ok
 (kl_ok (ok_aP (ok_istore_n dX2_days_1 rfl rfl)))
 (kl_ok (ok_aP (ok_iconst dX2_days_2 rfl rfl)))))
 (kn_ok
 (kl_ok (ok_aP (ok_istore_n dX2_days_3 rfl rfl)))
 (kn_ok
 (kl_ok (ok_aP (ok_iload_n dX2_days_4 rfl rfl)))
 (kl_ok (ok_aP (ok_iload_n dX2_days_5 rfl rfl))))))
 (kn_ok
 (kn_ok
 (kl_ok (ok_aP (ok_icmp_ge dX2_days_6 rfl rfl)))
 (kn_ok
 (kl_ok (ok_aP (ok_aload_n dX2_days_9 rfl rfl)))
 (kl_ok (ok_aP (ok_dup dX2_days_10 rfl)))))
 (kn_ok
 (kl_ok (ok_aP (ok_getf fo_38 fs_rf (Or.inl q217) dX2_days_11 rfl)))
 (kn_ok
 (kl_ok (ok_aP (ok_iconst dX2_days_14 rfl rfl)))
 (kl_ok (ok_aP (ok_iadd dX2_days_15 rfl)))))))
 (kn_ok
 (kn_ok
 (kn_ok
 (kl_ok (ok_hp (ok_putf fo_38 fs_rf fn_19 (Or.inl q217) pd_0 vI_ok dX2_days_16 rfl) le_putf))
 (kn_ok
 (kl_ok (ok_aP (ok_iconst dX2_days_19 rfl rfl)))
 (kl_ok (ok_aP (ok_istore dX2_days_20 rfl)))))
 (kn_ok
 (kl_ok (ok_aP (ok_iload dX2_days_22 rfl)))
 (kn_ok
 (kl_ok (ok_aP (ok_aload_n dX2_days_24 rfl rfl)))
 (kl_ok (ok_aP (ok_getf fo_2 fs_rf (Or.inl q234) dX2_days_25 rfl))))))
 (kn_ok
 (kn_ok
 (kl_ok (ok_callV (List.forall_mem_cons.mpr ⟨run_V (C0 := "java/util/ArrayList") rfl rfl (by rw [hm]; rfl) q400 q401 q402 q87 q403 ⟨nh_4, dl_4⟩ (by decide) dX2_days_28, (fun _ h => absurd h List.not_mem_nil)⟩) rfl))
 (kn_ok
 (kl_ok (ok_aP (ok_icmp_ge dX2_days_31 rfl rfl)))
 (kl_ok (ok_aP (ok_aload_n dX2_days_34 rfl rfl)))))
 (kn_ok
 (kn_ok
 (kl_ok (ok_aP (ok_getf fo_2 fs_rf (Or.inl q234) dX2_days_35 rfl)))
 (kl_ok (ok_aP (ok_iload dX2_days_38 rfl))))
 (kn_ok
 (kl_ok (ok_callV (List.forall_mem_cons.mpr ⟨run_V (C0 := "java/util/ArrayList") rfl rfl (by rw [hm]; rfl) q404 q405 q406 q87 q407 ⟨nh_4, dl_21⟩ (by decide) dX2_days_40, (fun _ h => absurd h List.not_mem_nil)⟩) rfl))
 (kl_ok (ok_aP (ok_cast q427 (List.forall_mem_cons.mpr ⟨Or.inr ⟨_, rfl, rfl⟩, (List.forall_mem_cons.mpr ⟨Or.inl ⟨_, rfl, q2339⟩, (fun _ h => absurd h List.not_mem_nil)⟩)⟩) (fun _ h => absurd h List.not_mem_nil) dX2_days_43 rfl))))))))
 (kn_ok
 (kn_ok
 (kn_ok
 (kn_ok
 (kl_ok (ok_aP (ok_astore dX2_days_46 rfl)))
 (kn_ok
 (kl_ok (ok_aP (ok_aload dX2_days_48 rfl)))
 (kl_ok (ok_aP (ok_getf fo_4 fs_rf (Or.inr ⟨_, q619⟩) dX2_days_50 rfl)))))
 (kn_ok
 (kl_ok (ok_aP (ok_iconst dX2_days_53 rfl rfl)))
 (kn_ok
 (kl_ok (ok_aP (ok_icmp_eq dX2_days_54 rfl rfl)))
 (kl_ok (ok_aP (ok_aload dX2_days_57 rfl))))))
 (kn_ok
 (kn_ok
 (kl_ok (ok_callV (List.forall_mem_cons.mpr ⟨run_V (C0 := "FavourTown$Favour") rfl rfl (by rw [hm]; rfl) q440 q441 q442 q96 q447 ⟨nh_5, dl_4⟩ (by decide) dX2_days_59, (List.forall_mem_cons.mpr ⟨run_O (C0 := "FavourTown$Timed") (owner := "FavourTown$Favour") (nx := ⟨"FavourTown$Favour", "end", "()I"⟩) rfl (by rw [hm]; rfl) q440 q443 q441 q444 q445 q97 q446 q447 ⟨nh_5, dl_4⟩ (by decide) dX2_days_59, (fun _ h => absurd h List.not_mem_nil)⟩)⟩) rfl))
 (kn_ok
 (kl_ok (ok_aP (ok_iconst dX2_days_62 rfl rfl)))
 (kl_ok (ok_aP (ok_icmp_eq dX2_days_63 rfl rfl)))))
 (kn_ok
 (kl_ok (ok_aP (ok_aload dX2_days_66 rfl)))
 (kn_ok
 (kl_ok (ok_callV (List.forall_mem_cons.mpr ⟨run_V (C0 := "FavourTown$Favour") rfl rfl (by rw [hm]; rfl) q440 q441 q442 q96 q447 ⟨nh_5, dl_4⟩ (by decide) dX2_days_68, (List.forall_mem_cons.mpr ⟨run_O (C0 := "FavourTown$Timed") (owner := "FavourTown$Favour") (nx := ⟨"FavourTown$Favour", "end", "()I"⟩) rfl (by rw [hm]; rfl) q440 q443 q441 q444 q445 q97 q446 q447 ⟨nh_5, dl_4⟩ (by decide) dX2_days_68, (fun _ h => absurd h List.not_mem_nil)⟩)⟩) rfl))
 (kl_ok (ok_aP (ok_aload_n dX2_days_71 rfl rfl)))))))
 (kn_ok
 (kn_ok
 (kn_ok
 (kl_ok (ok_aP (ok_getf fo_38 fs_rf (Or.inl q217) dX2_days_72 rfl)))
 (kn_ok
 (kl_ok (ok_aP (ok_icmp_le dX2_days_75 rfl rfl)))
 (kl_ok (ok_aP (ok_goto dX2_days_78 rfl)))))
 (kn_ok
 (kl_ok (ok_aP (ok_aload dX2_days_81 rfl)))
 (kn_ok
 (kl_ok (ok_aP (ok_iconst dX2_days_83 rfl rfl)))
 (kl_ok (ok_hp (ok_putf fo_4 fs_rf fn_10 (Or.inr ⟨_, q619⟩) pd_0 vI_ok dX2_days_84 rfl) le_putf)))))
 (kn_ok
 (kn_ok
 (kl_ok (ok_aP (ok_iinc dX2_days_87 (by decide +kernel) rfl)))
 (kn_ok
 (kl_ok (ok_aP (ok_iinc dX2_days_90 (by decide +kernel) rfl)))
 (kl_ok (ok_aP (ok_goto dX2_days_93 rfl)))))
 (kn_ok
 (kn_ok
 (kl_ok (ok_aP (ok_iinc dX2_days_96 (by decide +kernel) rfl)))
 (kl_ok (ok_aP (ok_goto dX2_days_99 rfl))))
 (kn_ok
 (kl_ok (ok_aP (ok_iload_n dX2_days_102 rfl rfl)))
 (kl_ok (ok_iret rfl dX2_days_103)))))))
/-- 107: FavourTown$World.owes(II)I -/
noncomputable def k_X2_owes : Nat → Option AOp :=
 tn 37 (tn 17 (tn 5 (tn 2 (tn 1 (tl 0 (aP (f_const (.int (nI 0)) 1)))
  (tl 1 (aP (f_istore 3 2))))
  (tn 3 (tl 2 (aP (f_const (.int (nI 0)) 3)))
  (tl 3 (aP (f_istore 4 5)))))
  (tn 8 (tn 7 (tl 5 (aP (f_iload 4 7)))
  (tl 7 (aP (f_aload 0 8))))
  (tn 11 (tl 8 (aP (f_getf [1] 9 11)))
  (tn 14 (tl 11 (o_callV (lkN [(19, 113)]) 0 14))
  (tl 14 (aP (f_icmp (fun x y => decide (y ≤ x)) 72 17)))))))
  (tn 26 (tn 21 (tn 18 (tl 17 (aP (f_aload 0 18)))
  (tl 18 (aP (f_getf [1] 9 21))))
  (tn 23 (tl 21 (aP (f_iload 4 23)))
  (tl 23 (o_callV (lkN [(19, 114)]) 1 26))))
  (tn 31 (tn 29 (tl 26 (aP (f_cast [5, 6] [] 29)))
  (tl 29 (aP (f_astore 5 31))))
  (tn 33 (tl 31 (aP (f_aload 5 33)))
  (tn 36 (tl 33 (aP (f_getf [5, 6] 0 36)))
  (tl 36 (aP (f_iload 1 37))))))))
  (tn 58 (tn 46 (tn 42 (tn 40 (tl 37 (aP (f_icmp (fun x y => decide (¬ x = y)) 66 40)))
  (tl 40 (aP (f_aload 5 42))))
  (tn 45 (tl 42 (aP (f_getf [5, 6] 4 45)))
  (tl 45 (aP (f_iload 2 46)))))
  (tn 50 (tn 49 (tl 46 (aP (f_icmp (fun x y => decide (¬ x = y)) 66 49)))
  (tl 49 (aP (f_aload 0 50))))
  (tn 52 (tl 50 (aP (f_aload 5 52)))
  (tn 55 (tl 52 (o_callV (lkN [(1, 94)]) 1 55))
  (tl 55 (aP (f_if (fun x => decide (¬ x = 0)) 66 58)))))))
  (tn 65 (tn 61 (tn 59 (tl 58 (aP (f_iload 3 59)))
  (tl 59 (aP (f_aload 5 61))))
  (tn 64 (tl 61 (aP (f_getf [5, 6] 1 64)))
  (tl 64 (aP (f_bin (fun x y => x + y) 65)))))
  (tn 69 (tn 66 (tl 65 (aP (f_istore 3 66)))
  (tl 66 (aP (f_iinc 4 (nI 1) 69))))
  (tn 72 (tl 69 (aP (f_goto 5)))
  (tn 73 (tl 72 (aP (f_iload 3 73)))
  (tl 73 (o_iret (fun _ => true))))))))
theorem kok_X2_owes {γ : AG} (hm : γ.2.2.2.2.1 = mTab) (hk : γ.2.2.2.2.2 = kTab) : KOK γ m_X2_owes k_X2_owes :=
 kn_ok
 (kn_ok
 (kn_ok
 (kn_ok
 (kn_ok
 (kl_ok (ok_aP (ok_iconst dX2_owes_0 rfl rfl)))
 (kl_ok (ok_aP (ok_istore_n dX2_owes_1 rfl rfl))))
 (kn_ok
 (kl_ok (ok_aP (ok_iconst dX2_owes_2 rfl rfl)))
 (kl_ok (ok_aP (ok_istore dX2_owes_3 rfl)))))
 (kn_ok
 (kn_ok
 (kl_ok (ok_aP (ok_iload dX2_owes_5 rfl)))
 (kl_ok (ok_aP (ok_aload_n dX2_owes_7 rfl rfl))))
 (kn_ok
 (kl_ok (ok_aP (ok_getf fo_2 fs_rf (Or.inl q234) dX2_owes_8 rfl)))
 (kn_ok
 (kl_ok (ok_callV (List.forall_mem_cons.mpr ⟨run_V (C0 := "java/util/ArrayList") rfl rfl (by rw [hm]; rfl) q400 q401 q402 q87 q403 ⟨nh_4, dl_4⟩ (by decide) dX2_owes_11, (fun _ h => absurd h List.not_mem_nil)⟩) rfl))
 (kl_ok (ok_aP (ok_icmp_ge dX2_owes_14 rfl rfl)))))))
 (kn_ok
 (kn_ok
 (kn_ok
 (kl_ok (ok_aP (ok_aload_n dX2_owes_17 rfl rfl)))
 (kl_ok (ok_aP (ok_getf fo_2 fs_rf (Or.inl q234) dX2_owes_18 rfl))))
 (kn_ok
 (kl_ok (ok_aP (ok_iload dX2_owes_21 rfl)))
 (kl_ok (ok_callV (List.forall_mem_cons.mpr ⟨run_V (C0 := "java/util/ArrayList") rfl rfl (by rw [hm]; rfl) q404 q405 q406 q87 q407 ⟨nh_4, dl_21⟩ (by decide) dX2_owes_23, (fun _ h => absurd h List.not_mem_nil)⟩) rfl))))
 (kn_ok
 (kn_ok
 (kl_ok (ok_aP (ok_cast q427 (List.forall_mem_cons.mpr ⟨Or.inr ⟨_, rfl, rfl⟩, (List.forall_mem_cons.mpr ⟨Or.inl ⟨_, rfl, q2339⟩, (fun _ h => absurd h List.not_mem_nil)⟩)⟩) (fun _ h => absurd h List.not_mem_nil) dX2_owes_26 rfl)))
 (kl_ok (ok_aP (ok_astore dX2_owes_29 rfl))))
 (kn_ok
 (kl_ok (ok_aP (ok_aload dX2_owes_31 rfl)))
 (kn_ok
 (kl_ok (ok_aP (ok_getf fo_5 fs_rf (Or.inr ⟨_, q605⟩) dX2_owes_33 rfl)))
 (kl_ok (ok_aP (ok_iload_n dX2_owes_36 rfl rfl))))))))
 (kn_ok
 (kn_ok
 (kn_ok
 (kn_ok
 (kl_ok (ok_aP (ok_icmp_ne dX2_owes_37 rfl rfl)))
 (kl_ok (ok_aP (ok_aload dX2_owes_40 rfl))))
 (kn_ok
 (kl_ok (ok_aP (ok_getf fo_4 fs_rf (Or.inr ⟨_, q619⟩) dX2_owes_42 rfl)))
 (kl_ok (ok_aP (ok_iload_n dX2_owes_45 rfl rfl)))))
 (kn_ok
 (kn_ok
 (kl_ok (ok_aP (ok_icmp_ne dX2_owes_46 rfl rfl)))
 (kl_ok (ok_aP (ok_aload_n dX2_owes_49 rfl rfl))))
 (kn_ok
 (kl_ok (ok_aP (ok_aload dX2_owes_50 rfl)))
 (kn_ok
 (kl_ok (ok_callV (List.forall_mem_cons.mpr ⟨run_V (C0 := "FavourTown$World") rfl rfl (by rw [hm]; rfl) q432 q433 q434 q84 q435 ⟨nh_3, dl_24⟩ (by decide) dX2_owes_52, (fun _ h => absurd h List.not_mem_nil)⟩) rfl))
 (kl_ok (ok_aP (ok_if_ne dX2_owes_55 rfl rfl)))))))
 (kn_ok
 (kn_ok
 (kn_ok
 (kl_ok (ok_aP (ok_iload_n dX2_owes_58 rfl rfl)))
 (kl_ok (ok_aP (ok_aload dX2_owes_59 rfl))))
 (kn_ok
 (kl_ok (ok_aP (ok_getf fo_10 fs_rf (Or.inr ⟨_, q609⟩) dX2_owes_61 rfl)))
 (kl_ok (ok_aP (ok_iadd dX2_owes_64 rfl)))))
 (kn_ok
 (kn_ok
 (kl_ok (ok_aP (ok_istore_n dX2_owes_65 rfl rfl)))
 (kl_ok (ok_aP (ok_iinc dX2_owes_66 (by decide +kernel) rfl))))
 (kn_ok
 (kl_ok (ok_aP (ok_goto dX2_owes_69 rfl)))
 (kn_ok
 (kl_ok (ok_aP (ok_iload_n dX2_owes_72 rfl rfl)))
 (kl_ok (ok_iret rfl dX2_owes_73)))))))
/-- 108: FavourTown$World.meets(III)I -/
noncomputable def k_X2_meets : Nat → Option AOp :=
 tn 20 (tn 11 (tn 3 (tn 1 (tl 0 (aP (f_aload 0 1)))
  (tn 2 (tl 1 (aP (f_iload 1 2)))
  (tl 2 (aP (f_iload 2 3)))))
  (tn 7 (tn 4 (tl 3 (aP (f_iload 3 4)))
  (tl 4 (o_callV (lkN [(1, 92)]) 3 7)))
  (tn 9 (tl 7 (aP (f_istore 4 9)))
  (tl 9 (aP (f_iload 4 11))))))
  (tn 16 (tn 12 (tl 11 (aP (f_const (.int (-1)) 12)))
  (tn 15 (tl 12 (aP (f_icmp (fun x y => decide (¬ x = y)) 25 15)))
  (tl 15 (aP (f_aload 0 16)))))
  (tn 18 (tn 17 (tl 16 (aP (f_iload 1 17)))
  (tl 17 (aP (f_iload 2 18))))
  (tn 19 (tl 18 (aP (f_iload 3 19)))
  (tl 19 (aP (f_const (.int (nI 0)) 20)))))))
  (tn 32 (tn 25 (tn 21 (tl 20 (aP (f_const (.int (nI 0)) 21)))
  (tn 24 (tl 21 (o_callV (lkN [(1, 104)]) 5 24))
  (tl 24 (o_iret (fun _ => true)))))
  (tn 27 (tn 26 (tl 25 (aP (f_aload 0 26)))
  (tl 26 (aP (f_aload 0 27))))
  (tn 30 (tl 27 (aP (f_getf [1] 9 30)))
  (tl 30 (aP (f_iload 4 32))))))
  (tn 39 (tn 35 (tl 32 (o_callV (lkN [(19, 114)]) 1 35))
  (tn 38 (tl 35 (aP (f_cast [5, 6] [] 38)))
  (tl 38 (aP (f_iload 2 39)))))
  (tn 43 (tn 42 (tl 39 (o_callV (lkN [(1, 105)]) 2 42))
  (tl 42 (aP (f_pop 43))))
  (tn 45 (tl 43 (aP (f_iload 4 45)))
  (tl 45 (o_iret (fun _ => true)))))))
theorem kok_X2_meets {γ : AG} (hm : γ.2.2.2.2.1 = mTab) (hk : γ.2.2.2.2.2 = kTab) : KOK γ m_X2_meets k_X2_meets :=
 kn_ok
 (kn_ok
 (kn_ok
 (kn_ok
 (kl_ok (ok_aP (ok_aload_n dX2_meets_0 rfl rfl)))
 (kn_ok
 (kl_ok (ok_aP (ok_iload_n dX2_meets_1 rfl rfl)))
 (kl_ok (ok_aP (ok_iload_n dX2_meets_2 rfl rfl)))))
 (kn_ok
 (kn_ok
 (kl_ok (ok_aP (ok_iload_n dX2_meets_3 rfl rfl)))
 (kl_ok (ok_callV (List.forall_mem_cons.mpr ⟨run_V (C0 := "FavourTown$World") rfl rfl (by rw [hm]; rfl) q423 q424 q425 q84 q426 ⟨nh_3, dl_13⟩ (by decide) dX2_meets_4, (fun _ h => absurd h List.not_mem_nil)⟩) rfl)))
 (kn_ok
 (kl_ok (ok_aP (ok_istore dX2_meets_7 rfl)))
 (kl_ok (ok_aP (ok_iload dX2_meets_9 rfl))))))
 (kn_ok
 (kn_ok
 (kl_ok (ok_aP (ok_iconst dX2_meets_11 rfl rfl)))
 (kn_ok
 (kl_ok (ok_aP (ok_icmp_ne dX2_meets_12 rfl rfl)))
 (kl_ok (ok_aP (ok_aload_n dX2_meets_15 rfl rfl)))))
 (kn_ok
 (kn_ok
 (kl_ok (ok_aP (ok_iload_n dX2_meets_16 rfl rfl)))
 (kl_ok (ok_aP (ok_iload_n dX2_meets_17 rfl rfl))))
 (kn_ok
 (kl_ok (ok_aP (ok_iload_n dX2_meets_18 rfl rfl)))
 (kl_ok (ok_aP (ok_iconst dX2_meets_19 rfl rfl)))))))
 (kn_ok
 (kn_ok
 (kn_ok
 (kl_ok (ok_aP (ok_iconst dX2_meets_20 rfl rfl)))
 (kn_ok
 (kl_ok (ok_callV (List.forall_mem_cons.mpr ⟨run_V (C0 := "FavourTown$World") rfl rfl (by rw [hm]; rfl) q1710 q1258 q1259 q84 q1260 ⟨nh_3, dl_8⟩ (by decide) dX2_meets_21, (fun _ h => absurd h List.not_mem_nil)⟩) rfl))
 (kl_ok (ok_iret rfl dX2_meets_24))))
 (kn_ok
 (kn_ok
 (kl_ok (ok_aP (ok_aload_n dX2_meets_25 rfl rfl)))
 (kl_ok (ok_aP (ok_aload_n dX2_meets_26 rfl rfl))))
 (kn_ok
 (kl_ok (ok_aP (ok_getf fo_2 fs_rf (Or.inl q234) dX2_meets_27 rfl)))
 (kl_ok (ok_aP (ok_iload dX2_meets_30 rfl))))))
 (kn_ok
 (kn_ok
 (kl_ok (ok_callV (List.forall_mem_cons.mpr ⟨run_V (C0 := "java/util/ArrayList") rfl rfl (by rw [hm]; rfl) q404 q405 q406 q87 q407 ⟨nh_4, dl_21⟩ (by decide) dX2_meets_32, (fun _ h => absurd h List.not_mem_nil)⟩) rfl))
 (kn_ok
 (kl_ok (ok_aP (ok_cast q427 (List.forall_mem_cons.mpr ⟨Or.inr ⟨_, rfl, rfl⟩, (List.forall_mem_cons.mpr ⟨Or.inl ⟨_, rfl, q2339⟩, (fun _ h => absurd h List.not_mem_nil)⟩)⟩) (fun _ h => absurd h List.not_mem_nil) dX2_meets_35 rfl)))
 (kl_ok (ok_aP (ok_iload_n dX2_meets_38 rfl rfl)))))
 (kn_ok
 (kn_ok
 (kl_ok (ok_callV (List.forall_mem_cons.mpr ⟨run_V (C0 := "FavourTown$World") rfl rfl (by rw [hm]; rfl) q1711 q1269 q1270 q84 q1271 ⟨nh_3, dl_22⟩ (by decide) dX2_meets_39, (fun _ h => absurd h List.not_mem_nil)⟩) rfl))
 (kl_ok (ok_aP (ok_pop dX2_meets_42 rfl))))
 (kn_ok
 (kl_ok (ok_aP (ok_iload dX2_meets_43 rfl)))
 (kl_ok (ok_iret rfl dX2_meets_45))))))
/-- 109: FavourTown$World.port(II)I -/
noncomputable def k_X2_port : Nat → Option AOp :=
 tn 45 (tn 18 (tn 7 (tn 2 (tn 1 (tl 0 (aP (f_const (.int (nI 0)) 1)))
  (tl 1 (aP (f_istore 3 2))))
  (tn 3 (tl 2 (aP (f_const (.int (nI 0)) 3)))
  (tn 5 (tl 3 (aP (f_istore 4 5)))
  (tl 5 (aP (f_iload 4 7))))))
  (tn 11 (tn 8 (tl 7 (aP (f_aload 0 8)))
  (tl 8 (aP (f_getf [1] 9 11))))
  (tn 14 (tl 11 (o_callV (lkN [(19, 113)]) 0 14))
  (tn 17 (tl 14 (aP (f_icmp (fun x y => decide (y ≤ x)) 84 17)))
  (tl 17 (aP (f_aload 0 18)))))))
  (tn 31 (tn 23 (tn 21 (tl 18 (aP (f_getf [1] 9 21)))
  (tl 21 (aP (f_iload 4 23))))
  (tn 26 (tl 23 (o_callV (lkN [(19, 114)]) 1 26))
  (tn 29 (tl 26 (aP (f_cast [5, 6] [] 29)))
  (tl 29 (aP (f_astore 5 31))))))
  (tn 37 (tn 33 (tl 31 (aP (f_aload 5 33)))
  (tn 36 (tl 33 (aP (f_getf [5, 6] 4 36)))
  (tl 36 (aP (f_iload 1 37)))))
  (tn 40 (tl 37 (aP (f_icmp (fun x y => decide (¬ x = y)) 78 40)))
  (tn 42 (tl 40 (aP (f_aload 5 42)))
  (tl 42 (aP (f_getf [5, 6] 0 45))))))))
  (tn 67 (tn 53 (tn 49 (tn 46 (tl 45 (aP (f_iload 2 46)))
  (tl 46 (aP (f_icmp (fun x y => decide (x = y)) 78 49))))
  (tn 50 (tl 49 (aP (f_aload 0 50)))
  (tn 52 (tl 50 (aP (f_aload 5 52)))
  (tl 52 (aP (f_iload 2 53))))))
  (tn 60 (tn 56 (tl 53 (o_callV (lkN [(1, 93)]) 2 56))
  (tn 59 (tl 56 (aP (f_if (fun x => decide (x = 0)) 78 59)))
  (tl 59 (aP (f_iload 3 60)))))
  (tn 62 (tl 60 (aP (f_aload 5 62)))
  (tn 64 (tl 62 (aP (f_aload 5 64)))
  (tl 64 (aP (f_getf [5, 6] 5 67)))))))
  (tn 76 (tn 69 (tn 68 (tl 67 (aP (f_const (.int (nI 1)) 68)))
  (tl 68 (aP (f_bin (fun x y => x + y) 69))))
  (tn 72 (tl 69 (o_callV (lkN [(5, 243), (6, 243)]) 1 72))
  (tn 75 (tl 72 (aP (f_const (.int (nI 1024)) 75)))
  (tl 75 (aP (f_div (fun x y => x / y) 76))))))
  (tn 81 (tn 77 (tl 76 (aP (f_bin (fun x y => x + y) 77)))
  (tn 78 (tl 77 (aP (f_istore 3 78)))
  (tl 78 (aP (f_iinc 4 (nI 1) 81)))))
  (tn 84 (tl 81 (aP (f_goto 5)))
  (tn 85 (tl 84 (aP (f_iload 3 85)))
  (tl 85 (o_iret (fun _ => true))))))))
theorem kok_X2_port {γ : AG} (hm : γ.2.2.2.2.1 = mTab) (hk : γ.2.2.2.2.2 = kTab) : KOK γ m_X2_port k_X2_port :=
 kn_ok
 (kn_ok
 (kn_ok
 (kn_ok
 (kn_ok
 (kl_ok (ok_aP (ok_iconst dX2_port_0 rfl rfl)))
 (kl_ok (ok_aP (ok_istore_n dX2_port_1 rfl rfl))))
 (kn_ok
 (kl_ok (ok_aP (ok_iconst dX2_port_2 rfl rfl)))
 (kn_ok
 (kl_ok (ok_aP (ok_istore dX2_port_3 rfl)))
 (kl_ok (ok_aP (ok_iload dX2_port_5 rfl))))))
 (kn_ok
 (kn_ok
 (kl_ok (ok_aP (ok_aload_n dX2_port_7 rfl rfl)))
 (kl_ok (ok_aP (ok_getf fo_2 fs_rf (Or.inl q234) dX2_port_8 rfl))))
 (kn_ok
 (kl_ok (ok_callV (List.forall_mem_cons.mpr ⟨run_V (C0 := "java/util/ArrayList") rfl rfl (by rw [hm]; rfl) q400 q401 q402 q87 q403 ⟨nh_4, dl_4⟩ (by decide) dX2_port_11, (fun _ h => absurd h List.not_mem_nil)⟩) rfl))
 (kn_ok
 (kl_ok (ok_aP (ok_icmp_ge dX2_port_14 rfl rfl)))
 (kl_ok (ok_aP (ok_aload_n dX2_port_17 rfl rfl)))))))
 (kn_ok
 (kn_ok
 (kn_ok
 (kl_ok (ok_aP (ok_getf fo_2 fs_rf (Or.inl q234) dX2_port_18 rfl)))
 (kl_ok (ok_aP (ok_iload dX2_port_21 rfl))))
 (kn_ok
 (kl_ok (ok_callV (List.forall_mem_cons.mpr ⟨run_V (C0 := "java/util/ArrayList") rfl rfl (by rw [hm]; rfl) q404 q405 q406 q87 q407 ⟨nh_4, dl_21⟩ (by decide) dX2_port_23, (fun _ h => absurd h List.not_mem_nil)⟩) rfl))
 (kn_ok
 (kl_ok (ok_aP (ok_cast q427 (List.forall_mem_cons.mpr ⟨Or.inr ⟨_, rfl, rfl⟩, (List.forall_mem_cons.mpr ⟨Or.inl ⟨_, rfl, q2339⟩, (fun _ h => absurd h List.not_mem_nil)⟩)⟩) (fun _ h => absurd h List.not_mem_nil) dX2_port_26 rfl)))
 (kl_ok (ok_aP (ok_astore dX2_port_29 rfl))))))
 (kn_ok
 (kn_ok
 (kl_ok (ok_aP (ok_aload dX2_port_31 rfl)))
 (kn_ok
 (kl_ok (ok_aP (ok_getf fo_4 fs_rf (Or.inr ⟨_, q619⟩) dX2_port_33 rfl)))
 (kl_ok (ok_aP (ok_iload_n dX2_port_36 rfl rfl)))))
 (kn_ok
 (kl_ok (ok_aP (ok_icmp_ne dX2_port_37 rfl rfl)))
 (kn_ok
 (kl_ok (ok_aP (ok_aload dX2_port_40 rfl)))
 (kl_ok (ok_aP (ok_getf fo_5 fs_rf (Or.inr ⟨_, q605⟩) dX2_port_42 rfl))))))))
 (kn_ok
 (kn_ok
 (kn_ok
 (kn_ok
 (kl_ok (ok_aP (ok_iload_n dX2_port_45 rfl rfl)))
 (kl_ok (ok_aP (ok_icmp_eq dX2_port_46 rfl rfl))))
 (kn_ok
 (kl_ok (ok_aP (ok_aload_n dX2_port_49 rfl rfl)))
 (kn_ok
 (kl_ok (ok_aP (ok_aload dX2_port_50 rfl)))
 (kl_ok (ok_aP (ok_iload_n dX2_port_52 rfl rfl))))))
 (kn_ok
 (kn_ok
 (kl_ok (ok_callV (List.forall_mem_cons.mpr ⟨run_V (C0 := "FavourTown$World") rfl rfl (by rw [hm]; rfl) q428 q429 q430 q84 q431 ⟨nh_3, dl_23⟩ (by decide) dX2_port_53, (fun _ h => absurd h List.not_mem_nil)⟩) rfl))
 (kn_ok
 (kl_ok (ok_aP (ok_if_eq dX2_port_56 rfl rfl)))
 (kl_ok (ok_aP (ok_iload_n dX2_port_59 rfl rfl)))))
 (kn_ok
 (kl_ok (ok_aP (ok_aload dX2_port_60 rfl)))
 (kn_ok
 (kl_ok (ok_aP (ok_aload dX2_port_62 rfl)))
 (kl_ok (ok_aP (ok_getf fo_6 fs_rf (Or.inr ⟨_, q622⟩) dX2_port_64 rfl)))))))
 (kn_ok
 (kn_ok
 (kn_ok
 (kl_ok (ok_aP (ok_iconst dX2_port_67 rfl rfl)))
 (kl_ok (ok_aP (ok_iadd dX2_port_68 rfl))))
 (kn_ok
 (kl_ok (ok_callV (List.forall_mem_cons.mpr ⟨run_V (C0 := "FavourTown$Favour") rfl rfl (by rw [hm]; rfl) q456 q457 q458 q96 q461 ⟨nh_5, dl_10⟩ (by decide) dX2_port_69, (List.forall_mem_cons.mpr ⟨run_U (C0 := "FavourTown$Timed") (owner := "FavourTown$Favour") (nx := ⟨"FavourTown$Favour", "worthAt", "(I)I"⟩) rfl rfl (by rw [hm]; rfl) q456 q459 q460 q457 q96 q461 ⟨nh_5, dl_10⟩ (by decide) dX2_port_69, (fun _ h => absurd h List.not_mem_nil)⟩)⟩) rfl))
 (kn_ok
 (kl_ok (ok_aP (ok_sipush dX2_port_72 (by decide +kernel) rfl)))
 (kl_ok (ok_aP (ok_idiv dX2_port_75 rfl))))))
 (kn_ok
 (kn_ok
 (kl_ok (ok_aP (ok_iadd dX2_port_76 rfl)))
 (kn_ok
 (kl_ok (ok_aP (ok_istore_n dX2_port_77 rfl rfl)))
 (kl_ok (ok_aP (ok_iinc dX2_port_78 (by decide +kernel) rfl)))))
 (kn_ok
 (kl_ok (ok_aP (ok_goto dX2_port_81 rfl)))
 (kn_ok
 (kl_ok (ok_aP (ok_iload_n dX2_port_84 rfl rfl)))
 (kl_ok (ok_iret rfl dX2_port_85)))))))
/-- 122: FavourTown$Scene.<init>()V -/
noncomputable def k_X3_init : Nat → Option AOp :=
 tn 1 (tl 0 (aP (f_aload 0 1)))
  (tn 4 (tl 1 (aP (f_objI 4)))
  (tl 4 (o_vret)))
theorem kok_X3_init {γ : AG} (hm : γ.2.2.2.2.1 = mTab) (hk : γ.2.2.2.2.2 = kTab) : KOK γ m_X3_init k_X3_init :=
 kn_ok
 (kl_ok (ok_aP (ok_aload_n dX3_init_0 rfl rfl)))
 (kn_ok
 (kl_ok (ok_aP (ok_objI q177 q135 q136 dX3_init_1 rfl)))
 (kl_ok (ok_vret rfl dX3_init_4)))
/-- 123: FavourTown$Scene.is(LFavourTown$Tag;)Z -/
noncomputable def k_X3_is : Nat → Option AOp :=
 tn 15 (tn 7 (tn 1 (tl 0 (aP (f_aload 1 1)))
  (tn 4 (tl 1 (aP (f_stat 1 4)))
  (tl 4 (aP (f_acmp 7 14)))))
  (tn 11 (tn 8 (tl 7 (aP (f_aload 0 8)))
  (tl 8 (aP (f_getf [8] 6 11))))
  (tn 14 (tl 11 (aP (f_goto 32)))
  (tl 14 (aP (f_aload 1 15))))))
  (tn 25 (tn 21 (tn 18 (tl 15 (aP (f_stat 2 18)))
  (tl 18 (aP (f_acmp 21 28))))
  (tn 22 (tl 21 (aP (f_aload 0 22)))
  (tl 22 (aP (f_getf [8] 7 25)))))
  (tn 29 (tn 28 (tl 25 (aP (f_goto 32)))
  (tl 28 (aP (f_aload 0 29))))
  (tn 32 (tl 29 (aP (f_getf [8] 8 32)))
  (tl 32 (o_iret (fun x => x == 0 || x == 1))))))
theorem kok_X3_is {γ : AG} (hm : γ.2.2.2.2.1 = mTab) (hk : γ.2.2.2.2.2 = kTab) : KOK γ m_X3_is k_X3_is :=
 kn_ok
 (kn_ok
 (kn_ok
 (kl_ok (ok_aP (ok_aload_n dX3_is_0 rfl rfl)))
 (kn_ok
 (kl_ok (ok_aP (ok_stat (C0 := "FavourTown$Tag") (by rw [hk]; rfl) (Or.inl q494) rfl dX3_is_1 rfl)))
 (kl_ok (ok_aP (ok_acmp_ne dX3_is_4 rfl rfl)))))
 (kn_ok
 (kn_ok
 (kl_ok (ok_aP (ok_aload_n dX3_is_7 rfl rfl)))
 (kl_ok (ok_aP (ok_getf fo_21 fs_rf (Or.inl q190) dX3_is_8 rfl))))
 (kn_ok
 (kl_ok (ok_aP (ok_goto dX3_is_11 rfl)))
 (kl_ok (ok_aP (ok_aload_n dX3_is_14 rfl rfl))))))
 (kn_ok
 (kn_ok
 (kn_ok
 (kl_ok (ok_aP (ok_stat (C0 := "FavourTown$Tag") (by rw [hk]; rfl) (Or.inl q496) rfl dX3_is_15 rfl)))
 (kl_ok (ok_aP (ok_acmp_ne dX3_is_18 rfl rfl))))
 (kn_ok
 (kl_ok (ok_aP (ok_aload_n dX3_is_21 rfl rfl)))
 (kl_ok (ok_aP (ok_getf fo_22 fs_rf (Or.inl q192) dX3_is_22 rfl)))))
 (kn_ok
 (kn_ok
 (kl_ok (ok_aP (ok_goto dX3_is_25 rfl)))
 (kl_ok (ok_aP (ok_aload_n dX3_is_28 rfl rfl))))
 (kn_ok
 (kl_ok (ok_aP (ok_getf fo_14 fs_rf (Or.inl q194) dX3_is_29 rfl)))
 (kl_ok (ok_zret rfl z_boolean dX3_is_32)))))
/-- 124: FavourTown$Scene.of(LFavourTown$Fact;)I -/
noncomputable def k_X3_of : Nat → Option AOp :=
 tn 51 (tn 44 (tn 4 (tn 1 (tl 0 (aP (f_aload 1 1)))
  (tl 1 (o_callV (lkN [(26, 304)]) 0 4)))
  (tn 40 (tl 4 (aP (f_sw (fun x => if x.toInt < 0 ∨ 4 < x.toInt then 65 else [40, 45, 50, 55, 60].getD (x.toInt - 0).toNat 0))))
  (tn 41 (tl 40 (aP (f_aload 0 41)))
  (tl 41 (aP (f_getf [8] 0 44))))))
  (tn 46 (tn 45 (tl 44 (o_iret (fun _ => true)))
  (tl 45 (aP (f_aload 0 46))))
  (tn 49 (tl 46 (aP (f_getf [8] 1 49)))
  (tn 50 (tl 49 (o_iret (fun _ => true)))
  (tl 50 (aP (f_aload 0 51)))))))
  (tn 60 (tn 55 (tn 54 (tl 51 (aP (f_getf [8] 2 54)))
  (tl 54 (o_iret (fun _ => true))))
  (tn 56 (tl 55 (aP (f_aload 0 56)))
  (tn 59 (tl 56 (aP (f_getf [8] 3 59)))
  (tl 59 (o_iret (fun _ => true))))))
  (tn 65 (tn 61 (tl 60 (aP (f_aload 0 61)))
  (tn 64 (tl 61 (aP (f_getf [8] 4 64)))
  (tl 64 (o_iret (fun _ => true)))))
  (tn 66 (tl 65 (aP (f_aload 0 66)))
  (tn 69 (tl 66 (aP (f_getf [8] 5 69)))
  (tl 69 (o_iret (fun _ => true)))))))
theorem kok_X3_of {γ : AG} (hm : γ.2.2.2.2.1 = mTab) (hk : γ.2.2.2.2.2 = kTab) : KOK γ m_X3_of k_X3_of :=
 kn_ok
 (kn_ok
 (kn_ok
 (kn_ok
 (kl_ok (ok_aP (ok_aload_n dX3_of_0 rfl rfl)))
 (kl_ok (ok_callV (List.forall_mem_cons.mpr ⟨run_U (C0 := "FavourTown$Fact") (owner := "java/lang/Enum") (nx := ⟨"FavourTown$Fact", "ordinal", "()I"⟩) rfl rfl (by rw [hm]; rfl) q519 q520 q522 q523 q113 q524 ⟨nh_11, dl_4⟩ (by decide) dX3_of_1, (fun _ h => absurd h List.not_mem_nil)⟩) rfl)))
 (kn_ok
 (kl_ok (ok_aP (ok_table (tg := [40, 45, 50, 55, 60]) (td := 65) dX3_of_4 rfl rfl rfl rfl)))
 (kn_ok
 (kl_ok (ok_aP (ok_aload_n dX3_of_40 rfl rfl)))
 (kl_ok (ok_aP (ok_getf fo_13 fs_rf (Or.inl q178) dX3_of_41 rfl))))))
 (kn_ok
 (kn_ok
 (kl_ok (ok_iret rfl dX3_of_44))
 (kl_ok (ok_aP (ok_aload_n dX3_of_45 rfl rfl))))
 (kn_ok
 (kl_ok (ok_aP (ok_getf fo_31 fs_rf (Or.inl q180) dX3_of_46 rfl)))
 (kn_ok
 (kl_ok (ok_iret rfl dX3_of_49))
 (kl_ok (ok_aP (ok_aload_n dX3_of_50 rfl rfl)))))))
 (kn_ok
 (kn_ok
 (kn_ok
 (kl_ok (ok_aP (ok_getf fo_12 fs_rf (Or.inl q182) dX3_of_51 rfl)))
 (kl_ok (ok_iret rfl dX3_of_54)))
 (kn_ok
 (kl_ok (ok_aP (ok_aload_n dX3_of_55 rfl rfl)))
 (kn_ok
 (kl_ok (ok_aP (ok_getf fo_32 fs_rf (Or.inl q184) dX3_of_56 rfl)))
 (kl_ok (ok_iret rfl dX3_of_59)))))
 (kn_ok
 (kn_ok
 (kl_ok (ok_aP (ok_aload_n dX3_of_60 rfl rfl)))
 (kn_ok
 (kl_ok (ok_aP (ok_getf fo_33 fs_rf (Or.inl q186) dX3_of_61 rfl)))
 (kl_ok (ok_iret rfl dX3_of_64))))
 (kn_ok
 (kl_ok (ok_aP (ok_aload_n dX3_of_65 rfl rfl)))
 (kn_ok
 (kl_ok (ok_aP (ok_getf fo_34 fs_rf (Or.inl q188) dX3_of_66 rfl)))
 (kl_ok (ok_iret rfl dX3_of_69))))))
/-- 125: FavourTown$Reader.<init>()V -/
noncomputable def k_X4_init : Nat → Option AOp :=
 tn 10 (tn 4 (tn 1 (tl 0 (aP (f_aload 0 1)))
  (tl 1 (aP (f_objI 4))))
  (tn 5 (tl 4 (aP (f_aload 0 5)))
  (tn 8 (tl 5 (aP (f_const (.int (nI 400)) 8)))
  (tl 8 (o_newa 1 (.inl (fun _ => 0)) 10)))))
  (tn 14 (tn 13 (tl 10 (o_putf [2] 0 vA 13))
  (tl 13 (aP (f_aload 0 14))))
  (tn 15 (tl 14 (aP (f_const (.int (-1)) 15)))
  (tn 18 (tl 15 (o_putf [2] 5 vI 18))
  (tl 18 (o_vret)))))
theorem kok_X4_init {γ : AG} (hm : γ.2.2.2.2.1 = mTab) (hk : γ.2.2.2.2.2 = kTab) : KOK γ m_X4_init k_X4_init :=
 kn_ok
 (kn_ok
 (kn_ok
 (kl_ok (ok_aP (ok_aload_n dX4_init_0 rfl rfl)))
 (kl_ok (ok_aP (ok_objI q278 q135 q136 dX4_init_1 rfl))))
 (kn_ok
 (kl_ok (ok_aP (ok_aload_n dX4_init_4 rfl rfl)))
 (kn_ok
 (kl_ok (ok_aP (ok_sipush dX4_init_5 (by decide +kernel) rfl)))
 (kl_ok (ok_hp (na_byte dX4_init_8 rfl) le_newa)))))
 (kn_ok
 (kn_ok
 (kl_ok (ok_hp (ok_putF fo_49 fn_59 q279 rfl pd_11 vA_okA dX4_init_10 rfl) le_putf))
 (kl_ok (ok_aP (ok_aload_n dX4_init_13 rfl rfl))))
 (kn_ok
 (kl_ok (ok_aP (ok_iconst dX4_init_14 rfl rfl)))
 (kn_ok
 (kl_ok (ok_hp (ok_putf fo_88 fs_rf fn_60 (Or.inl q287) pd_0 vI_ok dX4_init_15 rfl) le_putf))
 (kl_ok (ok_vret rfl dX4_init_18)))))
/-- 126: FavourTown$Reader.add([I)I -/
noncomputable def k_X4_add : Nat → Option AOp :=
 tn 39 (tn 19 (tn 13 (tn 6 (tn 1 (tl 0 (aP (f_aload 0 1)))
  (tn 4 (tl 1 (aP (f_getf [2] 1 4)))
  (tl 4 (aP (f_const (.int (nI 20)) 6)))))
  (tn 7 (tl 6 (aP (f_bin (fun x y => x + y) 7)))
  (tn 10 (tl 7 (aP (f_const (.int (nI 400)) 10)))
  (tl 10 (aP (f_icmp (fun x y => decide (x ≤ y)) 15 13))))))
  (tn 16 (tn 14 (tl 13 (aP (f_const (.int (-1)) 14)))
  (tn 15 (tl 14 (o_iret (fun _ => true)))
  (tl 15 (aP (f_aload 1 16)))))
  (tn 17 (tl 16 (aP (f_astore 2 17)))
  (tn 18 (tl 17 (aP (f_aload 2 18)))
  (tl 18 (aP (f_alen 19)))))))
  (tn 29 (tn 23 (tn 20 (tl 19 (aP (f_istore 3 20)))
  (tn 21 (tl 20 (aP (f_const (.int (nI 0)) 21)))
  (tl 21 (aP (f_istore 4 23)))))
  (tn 25 (tl 23 (aP (f_iload 4 25)))
  (tn 26 (tl 25 (aP (f_iload 3 26)))
  (tl 26 (aP (f_icmp (fun x y => decide (y ≤ x)) 81 29))))))
  (tn 33 (tn 30 (tl 29 (aP (f_aload 2 30)))
  (tn 32 (tl 30 (aP (f_iload 4 32)))
  (tl 32 (aP (f_iald 0 33)))))
  (tn 35 (tl 33 (aP (f_istore 5 35)))
  (tn 37 (tl 35 (aP (f_const (.int (nI 24)) 37)))
  (tl 37 (aP (f_istore 6 39))))))))
  (tn 60 (tn 52 (tn 45 (tn 41 (tl 39 (aP (f_iload 6 41)))
  (tn 44 (tl 41 (aP (f_if (fun x => decide (x < 0)) 75 44)))
  (tl 44 (aP (f_aload 0 45)))))
  (tn 48 (tl 45 (aP (f_getf [2] 0 48)))
  (tn 49 (tl 48 (aP (f_aload 0 49)))
  (tl 49 (aP (f_getf [2] 1 52))))))
  (tn 57 (tn 54 (tl 52 (aP (f_iload 5 54)))
  (tn 56 (tl 54 (aP (f_iload 6 56)))
  (tl 56 (aP (f_bin (fun x y => x >>> (y &&& 31)) 57)))))
  (tn 58 (tl 57 (aP (f_un (fun x => x.toInt8.toInt32) 58)))
  (tn 59 (tl 58 (o_iast 1 (fun y => y.toInt8.toInt32) 59))
  (tl 59 (aP (f_aload 0 60)))))))
  (tn 72 (tn 65 (tn 61 (tl 60 (aP (f_dup 61)))
  (tn 64 (tl 61 (aP (f_getf [2] 1 64)))
  (tl 64 (aP (f_const (.int (nI 1)) 65)))))
  (tn 66 (tl 65 (aP (f_bin (fun x y => x + y) 66)))
  (tn 69 (tl 66 (o_putf [2] 1 vI 69))
  (tl 69 (aP (f_iinc 6 (-8) 72))))))
  (tn 81 (tn 75 (tl 72 (aP (f_goto 39)))
  (tn 78 (tl 75 (aP (f_iinc 4 (nI 1) 78)))
  (tl 78 (aP (f_goto 23)))))
  (tn 82 (tl 81 (aP (f_aload 0 82)))
  (tn 85 (tl 82 (aP (f_getf [2] 1 85)))
  (tl 85 (o_iret (fun _ => true))))))))
theorem kok_X4_add {γ : AG} (hm : γ.2.2.2.2.1 = mTab) (hk : γ.2.2.2.2.2 = kTab) : KOK γ m_X4_add k_X4_add :=
 kn_ok
 (kn_ok
 (kn_ok
 (kn_ok
 (kn_ok
 (kl_ok (ok_aP (ok_aload_n dX4_add_0 rfl rfl)))
 (kn_ok
 (kl_ok (ok_aP (ok_getf fo_50 fs_rf (Or.inl q281) dX4_add_1 rfl)))
 (kl_ok (ok_aP (ok_bipush dX4_add_4 (by decide +kernel) rfl)))))
 (kn_ok
 (kl_ok (ok_aP (ok_iadd dX4_add_6 rfl)))
 (kn_ok
 (kl_ok (ok_aP (ok_sipush dX4_add_7 (by decide +kernel) rfl)))
 (kl_ok (ok_aP (ok_icmp_le dX4_add_10 rfl rfl))))))
 (kn_ok
 (kn_ok
 (kl_ok (ok_aP (ok_iconst dX4_add_13 rfl rfl)))
 (kn_ok
 (kl_ok (ok_iret rfl dX4_add_14))
 (kl_ok (ok_aP (ok_aload_n dX4_add_15 rfl rfl)))))
 (kn_ok
 (kl_ok (ok_aP (ok_astore_n dX4_add_16 rfl rfl)))
 (kn_ok
 (kl_ok (ok_aP (ok_aload_n dX4_add_17 rfl rfl)))
 (kl_ok (ok_aP (ok_alen dX4_add_18 rfl)))))))
 (kn_ok
 (kn_ok
 (kn_ok
 (kl_ok (ok_aP (ok_istore_n dX4_add_19 rfl rfl)))
 (kn_ok
 (kl_ok (ok_aP (ok_iconst dX4_add_20 rfl rfl)))
 (kl_ok (ok_aP (ok_istore dX4_add_21 rfl)))))
 (kn_ok
 (kl_ok (ok_aP (ok_iload dX4_add_23 rfl)))
 (kn_ok
 (kl_ok (ok_aP (ok_iload_n dX4_add_25 rfl rfl)))
 (kl_ok (ok_aP (ok_icmp_ge dX4_add_26 rfl rfl))))))
 (kn_ok
 (kn_ok
 (kl_ok (ok_aP (ok_aload_n dX4_add_29 rfl rfl)))
 (kn_ok
 (kl_ok (ok_aP (ok_iload dX4_add_30 rfl)))
 (kl_ok (ok_aP (ok_iald dX4_add_32 rfl)))))
 (kn_ok
 (kl_ok (ok_aP (ok_istore dX4_add_33 rfl)))
 (kn_ok
 (kl_ok (ok_aP (ok_bipush dX4_add_35 (by decide +kernel) rfl)))
 (kl_ok (ok_aP (ok_istore dX4_add_37 rfl))))))))
 (kn_ok
 (kn_ok
 (kn_ok
 (kn_ok
 (kl_ok (ok_aP (ok_iload dX4_add_39 rfl)))
 (kn_ok
 (kl_ok (ok_aP (ok_if_lt dX4_add_41 rfl rfl)))
 (kl_ok (ok_aP (ok_aload_n dX4_add_44 rfl rfl)))))
 (kn_ok
 (kl_ok (ok_aP (ok_getf fo_49 fs_rf (Or.inl q279) dX4_add_45 rfl)))
 (kn_ok
 (kl_ok (ok_aP (ok_aload_n dX4_add_48 rfl rfl)))
 (kl_ok (ok_aP (ok_getf fo_50 fs_rf (Or.inl q281) dX4_add_49 rfl))))))
 (kn_ok
 (kn_ok
 (kl_ok (ok_aP (ok_iload dX4_add_52 rfl)))
 (kn_ok
 (kl_ok (ok_aP (ok_iload dX4_add_54 rfl)))
 (kl_ok (ok_aP (ok_ishr dX4_add_56 rfl)))))
 (kn_ok
 (kl_ok (ok_aP (ok_i2b dX4_add_57 rfl)))
 (kn_ok
 (kl_ok (ok_hp (ok_bast dX4_add_58 rfl) le_iast))
 (kl_ok (ok_aP (ok_aload_n dX4_add_59 rfl rfl)))))))
 (kn_ok
 (kn_ok
 (kn_ok
 (kl_ok (ok_aP (ok_dup dX4_add_60 rfl)))
 (kn_ok
 (kl_ok (ok_aP (ok_getf fo_50 fs_rf (Or.inl q281) dX4_add_61 rfl)))
 (kl_ok (ok_aP (ok_iconst dX4_add_64 rfl rfl)))))
 (kn_ok
 (kl_ok (ok_aP (ok_iadd dX4_add_65 rfl)))
 (kn_ok
 (kl_ok (ok_hp (ok_putf fo_50 fs_rf fn_33 (Or.inl q281) pd_0 vI_ok dX4_add_66 rfl) le_putf))
 (kl_ok (ok_aP (ok_iinc dX4_add_69 (by decide +kernel) rfl))))))
 (kn_ok
 (kn_ok
 (kl_ok (ok_aP (ok_goto dX4_add_72 rfl)))
 (kn_ok
 (kl_ok (ok_aP (ok_iinc dX4_add_75 (by decide +kernel) rfl)))
 (kl_ok (ok_aP (ok_goto dX4_add_78 rfl)))))
 (kn_ok
 (kl_ok (ok_aP (ok_aload_n dX4_add_81 rfl rfl)))
 (kn_ok
 (kl_ok (ok_aP (ok_getf fo_50 fs_rf (Or.inl q281) dX4_add_82 rfl)))
 (kl_ok (ok_iret rfl dX4_add_85)))))))
/-- 127: FavourTown$Reader.cut(I)Z -/
noncomputable def k_X4_cut : Nat → Option AOp :=
 tn 12 (tn 5 (tn 1 (tl 0 (aP (f_iload 1 1)))
  (tn 4 (tl 1 (aP (f_if (fun x => decide (x < 0)) 12 4)))
  (tl 4 (aP (f_iload 1 5)))))
  (tn 6 (tl 5 (aP (f_aload 0 6)))
  (tn 9 (tl 6 (aP (f_getf [2] 1 9)))
  (tl 9 (aP (f_icmp (fun x y => decide (x ≤ y)) 14 12))))))
  (tn 15 (tn 13 (tl 12 (aP (f_const (.int (nI 0)) 13)))
  (tn 14 (tl 13 (o_iret (fun x => x == 0 || x == 1)))
  (tl 14 (aP (f_aload 0 15)))))
  (tn 19 (tn 16 (tl 15 (aP (f_iload 1 16)))
  (tl 16 (o_putf [2] 1 vI 19)))
  (tn 20 (tl 19 (aP (f_const (.int (nI 1)) 20)))
  (tl 20 (o_iret (fun x => x == 0 || x == 1))))))
theorem kok_X4_cut {γ : AG} (hm : γ.2.2.2.2.1 = mTab) (hk : γ.2.2.2.2.2 = kTab) : KOK γ m_X4_cut k_X4_cut :=
 kn_ok
 (kn_ok
 (kn_ok
 (kl_ok (ok_aP (ok_iload_n dX4_cut_0 rfl rfl)))
 (kn_ok
 (kl_ok (ok_aP (ok_if_lt dX4_cut_1 rfl rfl)))
 (kl_ok (ok_aP (ok_iload_n dX4_cut_4 rfl rfl)))))
 (kn_ok
 (kl_ok (ok_aP (ok_aload_n dX4_cut_5 rfl rfl)))
 (kn_ok
 (kl_ok (ok_aP (ok_getf fo_50 fs_rf (Or.inl q281) dX4_cut_6 rfl)))
 (kl_ok (ok_aP (ok_icmp_le dX4_cut_9 rfl rfl))))))
 (kn_ok
 (kn_ok
 (kl_ok (ok_aP (ok_iconst dX4_cut_12 rfl rfl)))
 (kn_ok
 (kl_ok (ok_zret rfl z_boolean dX4_cut_13))
 (kl_ok (ok_aP (ok_aload_n dX4_cut_14 rfl rfl)))))
 (kn_ok
 (kn_ok
 (kl_ok (ok_aP (ok_iload_n dX4_cut_15 rfl rfl)))
 (kl_ok (ok_hp (ok_putf fo_50 fs_rf fn_33 (Or.inl q281) pd_0 vI_ok dX4_cut_16 rfl) le_putf)))
 (kn_ok
 (kl_ok (ok_aP (ok_iconst dX4_cut_19 rfl rfl)))
 (kl_ok (ok_zret rfl z_boolean dX4_cut_20)))))
/-- 128: FavourTown$Reader.begins()V -/
noncomputable def k_X4_begins : Nat → Option AOp :=
 tn 13 (tn 5 (tn 1 (tl 0 (aP (f_aload 0 1)))
  (tn 2 (tl 1 (aP (f_aload 0 2)))
  (tl 2 (aP (f_getf [2] 1 5)))))
  (tn 9 (tn 8 (tl 5 (o_putf [2] 2 vI 8))
  (tl 8 (aP (f_aload 0 9))))
  (tn 10 (tl 9 (aP (f_const (.int (nI 0)) 10)))
  (tl 10 (o_putf [2] 1 vI 13)))))
  (tn 18 (tn 14 (tl 13 (aP (f_aload 0 14)))
  (tn 15 (tl 14 (aP (f_const (.int (nI 0)) 15)))
  (tl 15 (o_putf [2] 3 vI 18))))
  (tn 20 (tn 19 (tl 18 (aP (f_aload 0 19)))
  (tl 19 (aP (f_const (.int (nI 0)) 20))))
  (tn 23 (tl 20 (o_putf [2] 6 vI 23))
  (tl 23 (o_vret)))))
theorem kok_X4_begins {γ : AG} (hm : γ.2.2.2.2.1 = mTab) (hk : γ.2.2.2.2.2 = kTab) : KOK γ m_X4_begins k_X4_begins :=
 kn_ok
 (kn_ok
 (kn_ok
 (kl_ok (ok_aP (ok_aload_n dX4_begins_0 rfl rfl)))
 (kn_ok
 (kl_ok (ok_aP (ok_aload_n dX4_begins_1 rfl rfl)))
 (kl_ok (ok_aP (ok_getf fo_50 fs_rf (Or.inl q281) dX4_begins_2 rfl)))))
 (kn_ok
 (kn_ok
 (kl_ok (ok_hp (ok_putf fo_48 fs_rf fn_32 (Or.inl q282) pd_0 vI_ok dX4_begins_5 rfl) le_putf))
 (kl_ok (ok_aP (ok_aload_n dX4_begins_8 rfl rfl))))
 (kn_ok
 (kl_ok (ok_aP (ok_iconst dX4_begins_9 rfl rfl)))
 (kl_ok (ok_hp (ok_putf fo_50 fs_rf fn_33 (Or.inl q281) pd_0 vI_ok dX4_begins_10 rfl) le_putf)))))
 (kn_ok
 (kn_ok
 (kl_ok (ok_aP (ok_aload_n dX4_begins_13 rfl rfl)))
 (kn_ok
 (kl_ok (ok_aP (ok_iconst dX4_begins_14 rfl rfl)))
 (kl_ok (ok_hp (ok_putf fo_51 fs_rf fn_34 (Or.inl q284) pd_0 vI_ok dX4_begins_15 rfl) le_putf))))
 (kn_ok
 (kn_ok
 (kl_ok (ok_aP (ok_aload_n dX4_begins_18 rfl rfl)))
 (kl_ok (ok_aP (ok_iconst dX4_begins_19 rfl rfl))))
 (kn_ok
 (kl_ok (ok_hp (ok_putf fo_52 fs_rf fn_35 (Or.inl q289) pd_0 vI_ok dX4_begins_20 rfl) le_putf))
 (kl_ok (ok_vret rfl dX4_begins_23)))))
/-- 129: FavourTown$Reader.isOver()Z -/
noncomputable def k_X4_isOver : Nat → Option AOp :=
 tn 9 (tn 4 (tn 1 (tl 0 (aP (f_aload 0 1)))
  (tl 1 (o_callV (lkN [(2, 130)]) 0 4)))
  (tn 5 (tl 4 (aP (f_aload 0 5)))
  (tn 8 (tl 5 (aP (f_getf [2] 3 8)))
  (tl 8 (aP (f_aload 0 9))))))
  (tn 16 (tn 12 (tl 9 (aP (f_getf [2] 2 12)))
  (tn 15 (tl 12 (aP (f_icmp (fun x y => decide (¬ x = y)) 19 15)))
  (tl 15 (aP (f_const (.int (nI 1)) 16)))))
  (tn 19 (tl 16 (aP (f_goto 20)))
  (tn 20 (tl 19 (aP (f_const (.int (nI 0)) 20)))
  (tl 20 (o_iret (fun x => x == 0 || x == 1))))))
theorem kok_X4_isOver {γ : AG} (hm : γ.2.2.2.2.1 = mTab) (hk : γ.2.2.2.2.2 = kTab) : KOK γ m_X4_isOver k_X4_isOver :=
 kn_ok
 (kn_ok
 (kn_ok
 (kl_ok (ok_aP (ok_aload_n dX4_isOver_0 rfl rfl)))
 (kl_ok (ok_callV (List.forall_mem_cons.mpr ⟨run_V (C0 := "FavourTown$Reader") rfl rfl (by rw [hm]; rfl) q787 q788 q789 q89 q790 ⟨nh_20, dl_0⟩ (by decide) dX4_isOver_1, (fun _ h => absurd h List.not_mem_nil)⟩) rfl)))
 (kn_ok
 (kl_ok (ok_aP (ok_aload_n dX4_isOver_4 rfl rfl)))
 (kn_ok
 (kl_ok (ok_aP (ok_getf fo_51 fs_rf (Or.inl q284) dX4_isOver_5 rfl)))
 (kl_ok (ok_aP (ok_aload_n dX4_isOver_8 rfl rfl))))))
 (kn_ok
 (kn_ok
 (kl_ok (ok_aP (ok_getf fo_48 fs_rf (Or.inl q282) dX4_isOver_9 rfl)))
 (kn_ok
 (kl_ok (ok_aP (ok_icmp_ne dX4_isOver_12 rfl rfl)))
 (kl_ok (ok_aP (ok_iconst dX4_isOver_15 rfl rfl)))))
 (kn_ok
 (kl_ok (ok_aP (ok_goto dX4_isOver_16 rfl)))
 (kn_ok
 (kl_ok (ok_aP (ok_iconst dX4_isOver_19 rfl rfl)))
 (kl_ok (ok_zret rfl z_boolean dX4_isOver_20)))))
/-- 130: FavourTown$Reader.blanks()V -/
noncomputable def k_X4_blanks : Nat → Option AOp :=
 tn 18 (tn 8 (tn 2 (tn 1 (tl 0 (aP (f_aload 0 1)))
  (tl 1 (aP (f_aload 0 2))))
  (tn 5 (tl 2 (aP (f_getf [2] 3 5)))
  (tl 5 (o_callV (lkN [(2, 131)]) 1 8))))
  (tn 13 (tn 10 (tl 8 (aP (f_const (.int (nI 32)) 10)))
  (tl 10 (aP (f_icmp (fun x y => decide (¬ x = y)) 26 13))))
  (tn 14 (tl 13 (aP (f_aload 0 14)))
  (tn 15 (tl 14 (aP (f_dup 15)))
  (tl 15 (aP (f_getf [2] 3 18)))))))
  (tn 26 (tn 20 (tn 19 (tl 18 (aP (f_const (.int (nI 1)) 19)))
  (tl 19 (aP (f_bin (fun x y => x + y) 20))))
  (tn 23 (tl 20 (o_putf [2] 3 vI 23))
  (tl 23 (aP (f_goto 0)))))
  (tn 28 (tn 27 (tl 26 (aP (f_aload 0 27)))
  (tl 27 (aP (f_aload 0 28))))
  (tn 31 (tl 28 (aP (f_getf [2] 3 31)))
  (tn 34 (tl 31 (o_putf [2] 4 vI 34))
  (tl 34 (o_vret))))))
theorem kok_X4_blanks {γ : AG} (hm : γ.2.2.2.2.1 = mTab) (hk : γ.2.2.2.2.2 = kTab) : KOK γ m_X4_blanks k_X4_blanks :=
 kn_ok
 (kn_ok
 (kn_ok
 (kn_ok
 (kl_ok (ok_aP (ok_aload_n dX4_blanks_0 rfl rfl)))
 (kl_ok (ok_aP (ok_aload_n dX4_blanks_1 rfl rfl))))
 (kn_ok
 (kl_ok (ok_aP (ok_getf fo_51 fs_rf (Or.inl q284) dX4_blanks_2 rfl)))
 (kl_ok (ok_callV (List.forall_mem_cons.mpr ⟨run_V (C0 := "FavourTown$Reader") rfl rfl (by rw [hm]; rfl) q791 q793 qs6 q89 q794 ⟨nh_20, dl_10⟩ (by decide) dX4_blanks_5, (fun _ h => absurd h List.not_mem_nil)⟩) rfl))))
 (kn_ok
 (kn_ok
 (kl_ok (ok_aP (ok_bipush dX4_blanks_8 (by decide +kernel) rfl)))
 (kl_ok (ok_aP (ok_icmp_ne dX4_blanks_10 rfl rfl))))
 (kn_ok
 (kl_ok (ok_aP (ok_aload_n dX4_blanks_13 rfl rfl)))
 (kn_ok
 (kl_ok (ok_aP (ok_dup dX4_blanks_14 rfl)))
 (kl_ok (ok_aP (ok_getf fo_51 fs_rf (Or.inl q284) dX4_blanks_15 rfl)))))))
 (kn_ok
 (kn_ok
 (kn_ok
 (kl_ok (ok_aP (ok_iconst dX4_blanks_18 rfl rfl)))
 (kl_ok (ok_aP (ok_iadd dX4_blanks_19 rfl))))
 (kn_ok
 (kl_ok (ok_hp (ok_putf fo_51 fs_rf fn_34 (Or.inl q284) pd_0 vI_ok dX4_blanks_20 rfl) le_putf))
 (kl_ok (ok_aP (ok_goto dX4_blanks_23 rfl)))))
 (kn_ok
 (kn_ok
 (kl_ok (ok_aP (ok_aload_n dX4_blanks_26 rfl rfl)))
 (kl_ok (ok_aP (ok_aload_n dX4_blanks_27 rfl rfl))))
 (kn_ok
 (kl_ok (ok_aP (ok_getf fo_51 fs_rf (Or.inl q284) dX4_blanks_28 rfl)))
 (kn_ok
 (kl_ok (ok_hp (ok_putf fo_101 fs_rf fn_87 (Or.inl q285) pd_0 vI_ok dX4_blanks_31 rfl) le_putf))
 (kl_ok (ok_vret rfl dX4_blanks_34))))))
/-- 131: FavourTown$Reader.byteAt(I)I -/
noncomputable def k_X4_byteAt : Nat → Option AOp :=
 tn 9 (tn 2 (tn 1 (tl 0 (aP (f_iload 1 1)))
  (tl 1 (aP (f_aload 0 2))))
  (tn 5 (tl 2 (aP (f_getf [2] 2 5)))
  (tn 8 (tl 5 (aP (f_icmp (fun x y => decide (y ≤ x)) 17 8)))
  (tl 8 (aP (f_aload 0 9))))))
  (tn 14 (tn 12 (tl 9 (aP (f_getf [2] 0 12)))
  (tn 13 (tl 12 (aP (f_iload 1 13)))
  (tl 13 (aP (f_iald 1 14)))))
  (tn 17 (tl 14 (aP (f_goto 18)))
  (tn 18 (tl 17 (aP (f_const (.int (-1)) 18)))
  (tl 18 (o_iret (fun _ => true))))))
theorem kok_X4_byteAt {γ : AG} (hm : γ.2.2.2.2.1 = mTab) (hk : γ.2.2.2.2.2 = kTab) : KOK γ m_X4_byteAt k_X4_byteAt :=
 kn_ok
 (kn_ok
 (kn_ok
 (kl_ok (ok_aP (ok_iload_n dX4_byteAt_0 rfl rfl)))
 (kl_ok (ok_aP (ok_aload_n dX4_byteAt_1 rfl rfl))))
 (kn_ok
 (kl_ok (ok_aP (ok_getf fo_48 fs_rf (Or.inl q282) dX4_byteAt_2 rfl)))
 (kn_ok
 (kl_ok (ok_aP (ok_icmp_ge dX4_byteAt_5 rfl rfl)))
 (kl_ok (ok_aP (ok_aload_n dX4_byteAt_8 rfl rfl))))))
 (kn_ok
 (kn_ok
 (kl_ok (ok_aP (ok_getf fo_49 fs_rf (Or.inl q279) dX4_byteAt_9 rfl)))
 (kn_ok
 (kl_ok (ok_aP (ok_iload_n dX4_byteAt_12 rfl rfl)))
 (kl_ok (ok_aP (ok_bald dX4_byteAt_13 rfl)))))
 (kn_ok
 (kl_ok (ok_aP (ok_goto dX4_byteAt_14 rfl)))
 (kn_ok
 (kl_ok (ok_aP (ok_iconst dX4_byteAt_17 rfl rfl)))
 (kl_ok (ok_iret rfl dX4_byteAt_18)))))
/-- 132: FavourTown$Reader.word()Ljava/lang/String; -/
noncomputable def k_X4_word : Nat → Option AOp :=
 tn 42 (tn 22 (tn 9 (tn 4 (tn 1 (tl 0 (aP (f_aload 0 1)))
  (tl 1 (o_callV (lkN [(2, 130)]) 0 4)))
  (tn 5 (tl 4 (aP (f_aload 0 5)))
  (tn 6 (tl 5 (aP (f_aload 0 6)))
  (tl 6 (aP (f_getf [2] 3 9))))))
  (tn 14 (tn 12 (tl 9 (o_callV (lkN [(2, 131)]) 1 12))
  (tl 12 (aP (f_const (.int (nI 97)) 14))))
  (tn 16 (tl 14 (aP (f_const (.int (nI 122)) 16)))
  (tn 19 (tl 16 (o_callS 40 3 19))
  (tl 19 (aP (f_if (fun x => decide (x = 0)) 35 22)))))))
  (tn 29 (tn 24 (tn 23 (tl 22 (aP (f_aload 0 23)))
  (tl 23 (aP (f_dup 24))))
  (tn 27 (tl 24 (aP (f_getf [2] 3 27)))
  (tn 28 (tl 27 (aP (f_const (.int (nI 1)) 28)))
  (tl 28 (aP (f_bin (fun x y => x + y) 29))))))
  (tn 35 (tn 32 (tl 29 (o_putf [2] 3 vI 32))
  (tl 32 (aP (f_goto 4))))
  (tn 38 (tl 35 (o_new 20 [.null, .int 0, .int 0, .int 0] 38))
  (tn 39 (tl 38 (aP (f_dup 39)))
  (tl 39 (o_callI 273 0 42)))))))
  (tn 58 (tn 49 (tn 44 (tn 43 (tl 42 (aP (f_astore 1 43)))
  (tl 43 (aP (f_aload 0 44))))
  (tn 47 (tl 44 (aP (f_getf [2] 4 47)))
  (tn 48 (tl 47 (aP (f_istore 2 48)))
  (tl 48 (aP (f_iload 2 49))))))
  (tn 53 (tn 50 (tl 49 (aP (f_aload 0 50)))
  (tl 50 (aP (f_getf [2] 3 53))))
  (tn 56 (tl 53 (aP (f_icmp (fun x y => decide (y ≤ x)) 74 56)))
  (tn 57 (tl 56 (aP (f_aload 1 57)))
  (tl 57 (aP (f_aload 0 58)))))))
  (tn 67 (tn 62 (tn 61 (tl 58 (aP (f_getf [2] 0 61)))
  (tl 61 (aP (f_iload 2 62))))
  (tn 63 (tl 62 (aP (f_iald 1 63)))
  (tn 64 (tl 63 (aP (f_un (fun x => (x.toUInt32 % 65536).toInt32) 64)))
  (tl 64 (o_callV (lkN [(20, 274)]) 1 67)))))
  (tn 74 (tn 68 (tl 67 (aP (f_pop 68)))
  (tn 71 (tl 68 (aP (f_iinc 2 (nI 1) 71)))
  (tl 71 (aP (f_goto 48)))))
  (tn 75 (tl 74 (aP (f_aload 1 75)))
  (tn 78 (tl 75 (o_callV (lkN [(20, 275)]) 0 78))
  (tl 78 (o_aret)))))))
theorem kok_X4_word {γ : AG} (hm : γ.2.2.2.2.1 = mTab) (hk : γ.2.2.2.2.2 = kTab) : KOK γ m_X4_word k_X4_word :=
 kn_ok
 (kn_ok
 (kn_ok
 (kn_ok
 (kn_ok
 (kl_ok (ok_aP (ok_aload_n dX4_word_0 rfl rfl)))
 (kl_ok (ok_callV (List.forall_mem_cons.mpr ⟨run_V (C0 := "FavourTown$Reader") rfl rfl (by rw [hm]; rfl) q787 q788 q789 q89 q790 ⟨nh_20, dl_0⟩ (by decide) dX4_word_1, (fun _ h => absurd h List.not_mem_nil)⟩) rfl)))
 (kn_ok
 (kl_ok (ok_aP (ok_aload_n dX4_word_4 rfl rfl)))
 (kn_ok
 (kl_ok (ok_aP (ok_aload_n dX4_word_5 rfl rfl)))
 (kl_ok (ok_aP (ok_getf fo_51 fs_rf (Or.inl q284) dX4_word_6 rfl))))))
 (kn_ok
 (kn_ok
 (kl_ok (ok_callV (List.forall_mem_cons.mpr ⟨run_V (C0 := "FavourTown$Reader") rfl rfl (by rw [hm]; rfl) q791 q793 qs6 q89 q794 ⟨nh_20, dl_10⟩ (by decide) dX4_word_9, (fun _ h => absurd h List.not_mem_nil)⟩) rfl))
 (kl_ok (ok_aP (ok_bipush dX4_word_12 (by decide +kernel) rfl))))
 (kn_ok
 (kl_ok (ok_aP (ok_bipush dX4_word_14 (by decide +kernel) rfl)))
 (kn_ok
 (kl_ok (ok_callS (run_SN (by rw [hm]; rfl) q803 q804 q83 q805 ⟨nh_0, dl_17⟩ (by decide) dX4_word_16) rfl))
 (kl_ok (ok_aP (ok_if_eq dX4_word_19 rfl rfl)))))))
 (kn_ok
 (kn_ok
 (kn_ok
 (kl_ok (ok_aP (ok_aload_n dX4_word_22 rfl rfl)))
 (kl_ok (ok_aP (ok_dup dX4_word_23 rfl))))
 (kn_ok
 (kl_ok (ok_aP (ok_getf fo_51 fs_rf (Or.inl q284) dX4_word_24 rfl)))
 (kn_ok
 (kl_ok (ok_aP (ok_iconst dX4_word_27 rfl rfl)))
 (kl_ok (ok_aP (ok_iadd dX4_word_28 rfl))))))
 (kn_ok
 (kn_ok
 (kl_ok (ok_hp (ok_putf fo_51 fs_rf fn_34 (Or.inl q284) pd_0 vI_ok dX4_word_29 rfl) le_putf))
 (kl_ok (ok_aP (ok_goto dX4_word_32 rfl))))
 (kn_ok
 (kl_ok (ok_hp (ok_new (by decide +kernel) rfl q806 q807 q102 dX4_word_35 rfl) le_new))
 (kn_ok
 (kl_ok (ok_aP (ok_dup dX4_word_38 rfl)))
 (kl_ok (ok_callI (run_I (by rw [hm]; rfl) q808 q809 q102 q810 rfl ⟨nh_29, dl_0⟩ (by decide) dX4_word_39) rfl)))))))
 (kn_ok
 (kn_ok
 (kn_ok
 (kn_ok
 (kl_ok (ok_aP (ok_astore_n dX4_word_42 rfl rfl)))
 (kl_ok (ok_aP (ok_aload_n dX4_word_43 rfl rfl))))
 (kn_ok
 (kl_ok (ok_aP (ok_getf fo_101 fs_rf (Or.inl q285) dX4_word_44 rfl)))
 (kn_ok
 (kl_ok (ok_aP (ok_istore_n dX4_word_47 rfl rfl)))
 (kl_ok (ok_aP (ok_iload_n dX4_word_48 rfl rfl))))))
 (kn_ok
 (kn_ok
 (kl_ok (ok_aP (ok_aload_n dX4_word_49 rfl rfl)))
 (kl_ok (ok_aP (ok_getf fo_51 fs_rf (Or.inl q284) dX4_word_50 rfl))))
 (kn_ok
 (kl_ok (ok_aP (ok_icmp_ge dX4_word_53 rfl rfl)))
 (kn_ok
 (kl_ok (ok_aP (ok_aload_n dX4_word_56 rfl rfl)))
 (kl_ok (ok_aP (ok_aload_n dX4_word_57 rfl rfl)))))))
 (kn_ok
 (kn_ok
 (kn_ok
 (kl_ok (ok_aP (ok_getf fo_49 fs_rf (Or.inl q279) dX4_word_58 rfl)))
 (kl_ok (ok_aP (ok_iload_n dX4_word_61 rfl rfl))))
 (kn_ok
 (kl_ok (ok_aP (ok_bald dX4_word_62 rfl)))
 (kn_ok
 (kl_ok (ok_aP (ok_i2c dX4_word_63 rfl)))
 (kl_ok (ok_callV (List.forall_mem_cons.mpr ⟨run_V (C0 := "java/lang/StringBuilder") rfl rfl (by rw [hm]; rfl) q837 q838 q839 q102 q840 ⟨nh_29, dl_63⟩ (by decide) dX4_word_64, (fun _ h => absurd h List.not_mem_nil)⟩) rfl)))))
 (kn_ok
 (kn_ok
 (kl_ok (ok_aP (ok_pop dX4_word_67 rfl)))
 (kn_ok
 (kl_ok (ok_aP (ok_iinc dX4_word_68 (by decide +kernel) rfl)))
 (kl_ok (ok_aP (ok_goto dX4_word_71 rfl)))))
 (kn_ok
 (kl_ok (ok_aP (ok_aload_n dX4_word_74 rfl rfl)))
 (kn_ok
 (kl_ok (ok_callV (List.forall_mem_cons.mpr ⟨run_V (C0 := "java/lang/StringBuilder") rfl rfl (by rw [hm]; rfl) q915 q916 q917 q102 q918 ⟨nh_29, dl_62⟩ (by decide) dX4_word_75, (fun _ h => absurd h List.not_mem_nil)⟩) rfl))
 (kl_ok (ok_aret rfl (Or.inl ⟨_, rfl⟩) dX4_word_78)))))))
/-- 133: FavourTown$Reader.wrong()LFavourTown$Wrong; -/
noncomputable def k_X4_wrong : Nat → Option AOp :=
 tn 4 (tn 3 (tl 0 (o_new 17 [.null, .null, .null, .null, .null, .int 0] 3))
  (tl 3 (aP (f_dup 4))))
  (tn 7 (tl 4 (o_callI 303 0 7))
  (tl 7 (o_aret)))
theorem kok_X4_wrong {γ : AG} (hm : γ.2.2.2.2.1 = mTab) (hk : γ.2.2.2.2.2 = kTab) : KOK γ m_X4_wrong k_X4_wrong :=
 kn_ok
 (kn_ok
 (kl_ok (ok_hp (ok_new (by decide +kernel) rfl q1126 q1127 q112 dX4_wrong_0 rfl) le_new))
 (kl_ok (ok_aP (ok_dup dX4_wrong_3 rfl))))
 (kn_ok
 (kl_ok (ok_callI (run_I (by rw [hm]; rfl) q1135 q1136 q112 q1137 rfl ⟨nh_26, dl_0⟩ (by decide) dX4_wrong_4) rfl))
 (kl_ok (ok_aret rfl (Or.inl ⟨_, rfl⟩) dX4_wrong_7)))
/-- 134: FavourTown$Reader.number(II)I -/
noncomputable def k_X4_number : Nat → Option AOp :=
 tn 56 (tn 29 (tn 11 (tn 5 (tn 1 (tl 0 (aP (f_aload 0 1)))
  (tn 4 (tl 1 (o_callV (lkN [(2, 130)]) 0 4))
  (tl 4 (aP (f_const (.int (nI 0)) 5)))))
  (tn 7 (tn 6 (tl 5 (aP (f_istore 3 6)))
  (tl 6 (aP (f_aload 0 7))))
  (tn 8 (tl 7 (aP (f_aload 0 8)))
  (tl 8 (aP (f_getf [2] 3 11))))))
  (tn 21 (tn 16 (tn 14 (tl 11 (o_callV (lkN [(2, 131)]) 1 14))
  (tl 14 (aP (f_const (.int (nI 48)) 16))))
  (tn 18 (tl 16 (aP (f_const (.int (nI 57)) 18)))
  (tl 18 (o_callS 40 3 21))))
  (tn 25 (tn 24 (tl 21 (aP (f_if (fun x => decide (x = 0)) 71 24)))
  (tl 24 (aP (f_aload 0 25))))
  (tn 28 (tl 25 (aP (f_getf [2] 3 28)))
  (tl 28 (aP (f_aload 0 29)))))))
  (tn 41 (tn 34 (tn 32 (tl 29 (aP (f_getf [2] 4 32)))
  (tn 33 (tl 32 (aP (f_bin (fun x y => x - y) 33)))
  (tl 33 (aP (f_const (.int (nI 3)) 34)))))
  (tn 39 (tn 37 (tl 34 (aP (f_icmp (fun x y => decide (y ≤ x)) 56 37)))
  (tl 37 (aP (f_const (.int (nI 10)) 39))))
  (tn 40 (tl 39 (aP (f_iload 3 40)))
  (tl 40 (aP (f_bin (fun x y => x * y) 41))))))
  (tn 49 (tn 43 (tn 42 (tl 41 (aP (f_aload 0 42)))
  (tl 42 (aP (f_aload 0 43))))
  (tn 46 (tl 43 (aP (f_getf [2] 3 46)))
  (tl 46 (o_callV (lkN [(2, 131)]) 1 49))))
  (tn 52 (tn 50 (tl 49 (aP (f_bin (fun x y => x + y) 50)))
  (tl 50 (aP (f_const (.int (nI 48)) 52))))
  (tn 53 (tl 52 (aP (f_bin (fun x y => x - y) 53)))
  (tl 53 (aP (f_goto 57))))))))
  (tn 83 (tn 65 (tn 59 (tn 57 (tl 56 (aP (f_iload 3 57)))
  (tn 58 (tl 57 (aP (f_istore 3 58)))
  (tl 58 (aP (f_aload 0 59)))))
  (tn 63 (tn 60 (tl 59 (aP (f_dup 60)))
  (tl 60 (aP (f_getf [2] 3 63))))
  (tn 64 (tl 63 (aP (f_const (.int (nI 1)) 64)))
  (tl 64 (aP (f_bin (fun x y => x + y) 65))))))
  (tn 75 (tn 71 (tn 68 (tl 65 (o_putf [2] 3 vI 68))
  (tl 68 (aP (f_goto 6))))
  (tn 72 (tl 71 (aP (f_aload 0 72)))
  (tl 72 (aP (f_getf [2] 3 75)))))
  (tn 79 (tn 76 (tl 75 (aP (f_aload 0 76)))
  (tl 76 (aP (f_getf [2] 4 79))))
  (tn 82 (tl 79 (aP (f_icmp (fun x y => decide (x = y)) 104 82)))
  (tl 82 (aP (f_aload 0 83)))))))
  (tn 97 (tn 91 (tn 87 (tn 86 (tl 83 (aP (f_getf [2] 3 86)))
  (tl 86 (aP (f_aload 0 87))))
  (tn 90 (tl 87 (aP (f_getf [2] 4 90)))
  (tl 90 (aP (f_bin (fun x y => x - y) 91)))))
  (tn 95 (tn 92 (tl 91 (aP (f_const (.int (nI 3)) 92)))
  (tl 92 (aP (f_icmp (fun x y => decide (y < x)) 104 95))))
  (tn 96 (tl 95 (aP (f_iload 3 96)))
  (tl 96 (aP (f_iload 1 97))))))
  (tn 105 (tn 101 (tn 98 (tl 97 (aP (f_iload 2 98)))
  (tl 98 (o_callS 40 3 101)))
  (tn 104 (tl 101 (aP (f_if (fun x => decide (¬ x = 0)) 109 104)))
  (tl 104 (aP (f_aload 0 105)))))
  (tn 109 (tn 108 (tl 105 (o_callV (lkN [(2, 133)]) 0 108))
  (tl 108 (o_athrow [17, 22, 23, 24, 25])))
  (tn 110 (tl 109 (aP (f_iload 3 110)))
  (tl 110 (o_iret (fun _ => true))))))))
theorem kok_X4_number {γ : AG} (hm : γ.2.2.2.2.1 = mTab) (hk : γ.2.2.2.2.2 = kTab) : KOK γ m_X4_number k_X4_number :=
 kn_ok
 (kn_ok
 (kn_ok
 (kn_ok
 (kn_ok
 (kl_ok (ok_aP (ok_aload_n dX4_number_0 rfl rfl)))
 (kn_ok
 (kl_ok (ok_callV (List.forall_mem_cons.mpr ⟨run_V (C0 := "FavourTown$Reader") rfl rfl (by rw [hm]; rfl) q787 q788 q789 q89 q790 ⟨nh_20, dl_0⟩ (by decide) dX4_number_1, (fun _ h => absurd h List.not_mem_nil)⟩) rfl))
 (kl_ok (ok_aP (ok_iconst dX4_number_4 rfl rfl)))))
 (kn_ok
 (kn_ok
 (kl_ok (ok_aP (ok_istore_n dX4_number_5 rfl rfl)))
 (kl_ok (ok_aP (ok_aload_n dX4_number_6 rfl rfl))))
 (kn_ok
 (kl_ok (ok_aP (ok_aload_n dX4_number_7 rfl rfl)))
 (kl_ok (ok_aP (ok_getf fo_51 fs_rf (Or.inl q284) dX4_number_8 rfl))))))
 (kn_ok
 (kn_ok
 (kn_ok
 (kl_ok (ok_callV (List.forall_mem_cons.mpr ⟨run_V (C0 := "FavourTown$Reader") rfl rfl (by rw [hm]; rfl) q791 q793 qs6 q89 q794 ⟨nh_20, dl_10⟩ (by decide) dX4_number_11, (fun _ h => absurd h List.not_mem_nil)⟩) rfl))
 (kl_ok (ok_aP (ok_bipush dX4_number_14 (by decide +kernel) rfl))))
 (kn_ok
 (kl_ok (ok_aP (ok_bipush dX4_number_16 (by decide +kernel) rfl)))
 (kl_ok (ok_callS (run_SN (by rw [hm]; rfl) q803 q804 q83 q805 ⟨nh_0, dl_17⟩ (by decide) dX4_number_18) rfl))))
 (kn_ok
 (kn_ok
 (kl_ok (ok_aP (ok_if_eq dX4_number_21 rfl rfl)))
 (kl_ok (ok_aP (ok_aload_n dX4_number_24 rfl rfl))))
 (kn_ok
 (kl_ok (ok_aP (ok_getf fo_51 fs_rf (Or.inl q284) dX4_number_25 rfl)))
 (kl_ok (ok_aP (ok_aload_n dX4_number_28 rfl rfl)))))))
 (kn_ok
 (kn_ok
 (kn_ok
 (kl_ok (ok_aP (ok_getf fo_101 fs_rf (Or.inl q285) dX4_number_29 rfl)))
 (kn_ok
 (kl_ok (ok_aP (ok_isub dX4_number_32 rfl)))
 (kl_ok (ok_aP (ok_iconst dX4_number_33 rfl rfl)))))
 (kn_ok
 (kn_ok
 (kl_ok (ok_aP (ok_icmp_ge dX4_number_34 rfl rfl)))
 (kl_ok (ok_aP (ok_bipush dX4_number_37 (by decide +kernel) rfl))))
 (kn_ok
 (kl_ok (ok_aP (ok_iload_n dX4_number_39 rfl rfl)))
 (kl_ok (ok_aP (ok_imul dX4_number_40 rfl))))))
 (kn_ok
 (kn_ok
 (kn_ok
 (kl_ok (ok_aP (ok_aload_n dX4_number_41 rfl rfl)))
 (kl_ok (ok_aP (ok_aload_n dX4_number_42 rfl rfl))))
 (kn_ok
 (kl_ok (ok_aP (ok_getf fo_51 fs_rf (Or.inl q284) dX4_number_43 rfl)))
 (kl_ok (ok_callV (List.forall_mem_cons.mpr ⟨run_V (C0 := "FavourTown$Reader") rfl rfl (by rw [hm]; rfl) q791 q793 qs6 q89 q794 ⟨nh_20, dl_10⟩ (by decide) dX4_number_46, (fun _ h => absurd h List.not_mem_nil)⟩) rfl))))
 (kn_ok
 (kn_ok
 (kl_ok (ok_aP (ok_iadd dX4_number_49 rfl)))
 (kl_ok (ok_aP (ok_bipush dX4_number_50 (by decide +kernel) rfl))))
 (kn_ok
 (kl_ok (ok_aP (ok_isub dX4_number_52 rfl)))
 (kl_ok (ok_aP (ok_goto dX4_number_53 rfl))))))))
 (kn_ok
 (kn_ok
 (kn_ok
 (kn_ok
 (kl_ok (ok_aP (ok_iload_n dX4_number_56 rfl rfl)))
 (kn_ok
 (kl_ok (ok_aP (ok_istore_n dX4_number_57 rfl rfl)))
 (kl_ok (ok_aP (ok_aload_n dX4_number_58 rfl rfl)))))
 (kn_ok
 (kn_ok
 (kl_ok (ok_aP (ok_dup dX4_number_59 rfl)))
 (kl_ok (ok_aP (ok_getf fo_51 fs_rf (Or.inl q284) dX4_number_60 rfl))))
 (kn_ok
 (kl_ok (ok_aP (ok_iconst dX4_number_63 rfl rfl)))
 (kl_ok (ok_aP (ok_iadd dX4_number_64 rfl))))))
 (kn_ok
 (kn_ok
 (kn_ok
 (kl_ok (ok_hp (ok_putf fo_51 fs_rf fn_34 (Or.inl q284) pd_0 vI_ok dX4_number_65 rfl) le_putf))
 (kl_ok (ok_aP (ok_goto dX4_number_68 rfl))))
 (kn_ok
 (kl_ok (ok_aP (ok_aload_n dX4_number_71 rfl rfl)))
 (kl_ok (ok_aP (ok_getf fo_51 fs_rf (Or.inl q284) dX4_number_72 rfl)))))
 (kn_ok
 (kn_ok
 (kl_ok (ok_aP (ok_aload_n dX4_number_75 rfl rfl)))
 (kl_ok (ok_aP (ok_getf fo_101 fs_rf (Or.inl q285) dX4_number_76 rfl))))
 (kn_ok
 (kl_ok (ok_aP (ok_icmp_eq dX4_number_79 rfl rfl)))
 (kl_ok (ok_aP (ok_aload_n dX4_number_82 rfl rfl)))))))
 (kn_ok
 (kn_ok
 (kn_ok
 (kn_ok
 (kl_ok (ok_aP (ok_getf fo_51 fs_rf (Or.inl q284) dX4_number_83 rfl)))
 (kl_ok (ok_aP (ok_aload_n dX4_number_86 rfl rfl))))
 (kn_ok
 (kl_ok (ok_aP (ok_getf fo_101 fs_rf (Or.inl q285) dX4_number_87 rfl)))
 (kl_ok (ok_aP (ok_isub dX4_number_90 rfl)))))
 (kn_ok
 (kn_ok
 (kl_ok (ok_aP (ok_iconst dX4_number_91 rfl rfl)))
 (kl_ok (ok_aP (ok_icmp_gt dX4_number_92 rfl rfl))))
 (kn_ok
 (kl_ok (ok_aP (ok_iload_n dX4_number_95 rfl rfl)))
 (kl_ok (ok_aP (ok_iload_n dX4_number_96 rfl rfl))))))
 (kn_ok
 (kn_ok
 (kn_ok
 (kl_ok (ok_aP (ok_iload_n dX4_number_97 rfl rfl)))
 (kl_ok (ok_callS (run_SN (by rw [hm]; rfl) q803 q804 q83 q805 ⟨nh_0, dl_17⟩ (by decide) dX4_number_98) rfl)))
 (kn_ok
 (kl_ok (ok_aP (ok_if_ne dX4_number_101 rfl rfl)))
 (kl_ok (ok_aP (ok_aload_n dX4_number_104 rfl rfl)))))
 (kn_ok
 (kn_ok
 (kl_ok (ok_callV (List.forall_mem_cons.mpr ⟨run_V (C0 := "FavourTown$Reader") rfl rfl (by rw [hm]; rfl) q1231 q1123 q1124 q89 q1125 ⟨nh_20, dl_60⟩ (by decide) dX4_number_105, (fun _ h => absurd h List.not_mem_nil)⟩) rfl))
 (kl_ok (ok_athrow dX4_number_108)))
 (kn_ok
 (kl_ok (ok_aP (ok_iload_n dX4_number_109 rfl rfl)))
 (kl_ok (ok_iret rfl dX4_number_110)))))))
/-- 135: FavourTown$Reader.passes(Ljava/lang/String;)Z -/
noncomputable def k_X4_passes : Nat → Option AOp :=
 tn 12 (tn 5 (tn 1 (tl 0 (aP (f_aload 0 1)))
  (tn 4 (tl 1 (o_callV (lkN [(2, 132)]) 0 4))
  (tl 4 (aP (f_aload 1 5)))))
  (tn 8 (tl 5 (o_callV (lkN [(21, 285)]) 1 8))
  (tn 11 (tl 8 (aP (f_if (fun x => decide (x = 0)) 13 11)))
  (tl 11 (aP (f_const (.int (nI 1)) 12))))))
  (tn 15 (tn 13 (tl 12 (o_iret (fun x => x == 0 || x == 1)))
  (tn 14 (tl 13 (aP (f_aload 0 14)))
  (tl 14 (aP (f_aload 0 15)))))
  (tn 21 (tn 18 (tl 15 (aP (f_getf [2] 4 18)))
  (tl 18 (o_putf [2] 3 vI 21)))
  (tn 22 (tl 21 (aP (f_const (.int (nI 0)) 22)))
  (tl 22 (o_iret (fun x => x == 0 || x == 1))))))
theorem kok_X4_passes {γ : AG} (hm : γ.2.2.2.2.1 = mTab) (hk : γ.2.2.2.2.2 = kTab) : KOK γ m_X4_passes k_X4_passes :=
 kn_ok
 (kn_ok
 (kn_ok
 (kl_ok (ok_aP (ok_aload_n dX4_passes_0 rfl rfl)))
 (kn_ok
 (kl_ok (ok_callV (List.forall_mem_cons.mpr ⟨run_V (C0 := "FavourTown$Reader") rfl rfl (by rw [hm]; rfl) q1254 q800 q801 q89 q802 ⟨nh_20, dl_62⟩ (by decide) dX4_passes_1, (fun _ h => absurd h List.not_mem_nil)⟩) rfl))
 (kl_ok (ok_aP (ok_aload_n dX4_passes_4 rfl rfl)))))
 (kn_ok
 (kl_ok (ok_callV (List.forall_mem_cons.mpr ⟨run_V (C0 := "java/lang/String") rfl rfl (by rw [hm]; rfl) q1255 q1213 q1214 q103 q1215 ⟨nh_21, dl_36⟩ (by decide) dX4_passes_5, (fun _ h => absurd h List.not_mem_nil)⟩) rfl))
 (kn_ok
 (kl_ok (ok_aP (ok_if_eq dX4_passes_8 rfl rfl)))
 (kl_ok (ok_aP (ok_iconst dX4_passes_11 rfl rfl))))))
 (kn_ok
 (kn_ok
 (kl_ok (ok_zret rfl z_boolean dX4_passes_12))
 (kn_ok
 (kl_ok (ok_aP (ok_aload_n dX4_passes_13 rfl rfl)))
 (kl_ok (ok_aP (ok_aload_n dX4_passes_14 rfl rfl)))))
 (kn_ok
 (kn_ok
 (kl_ok (ok_aP (ok_getf fo_101 fs_rf (Or.inl q285) dX4_passes_15 rfl)))
 (kl_ok (ok_hp (ok_putf fo_51 fs_rf fn_34 (Or.inl q284) pd_0 vI_ok dX4_passes_18 rfl) le_putf)))
 (kn_ok
 (kl_ok (ok_aP (ok_iconst dX4_passes_21 rfl rfl)))
 (kl_ok (ok_zret rfl z_boolean dX4_passes_22)))))
/-- 136: FavourTown$Reader.sign(I)Z -/
noncomputable def k_X4_sign : Nat → Option AOp :=
 tn 17 (tn 6 (tn 4 (tn 1 (tl 0 (aP (f_aload 0 1)))
  (tl 1 (o_callV (lkN [(2, 130)]) 0 4)))
  (tn 5 (tl 4 (aP (f_aload 0 5)))
  (tl 5 (aP (f_aload 0 6)))))
  (tn 12 (tn 9 (tl 6 (aP (f_getf [2] 3 9)))
  (tl 9 (o_callV (lkN [(2, 131)]) 1 12)))
  (tn 13 (tl 12 (aP (f_iload 1 13)))
  (tn 16 (tl 13 (aP (f_icmp (fun x y => decide (x = y)) 18 16)))
  (tl 16 (aP (f_const (.int (nI 0)) 17)))))))
  (tn 23 (tn 19 (tn 18 (tl 17 (o_iret (fun x => x == 0 || x == 1)))
  (tl 18 (aP (f_aload 0 19))))
  (tn 20 (tl 19 (aP (f_dup 20)))
  (tl 20 (aP (f_getf [2] 3 23)))))
  (tn 25 (tn 24 (tl 23 (aP (f_const (.int (nI 1)) 24)))
  (tl 24 (aP (f_bin (fun x y => x + y) 25))))
  (tn 28 (tl 25 (o_putf [2] 3 vI 28))
  (tn 29 (tl 28 (aP (f_const (.int (nI 1)) 29)))
  (tl 29 (o_iret (fun x => x == 0 || x == 1)))))))
theorem kok_X4_sign {γ : AG} (hm : γ.2.2.2.2.1 = mTab) (hk : γ.2.2.2.2.2 = kTab) : KOK γ m_X4_sign k_X4_sign :=
 kn_ok
 (kn_ok
 (kn_ok
 (kn_ok
 (kl_ok (ok_aP (ok_aload_n dX4_sign_0 rfl rfl)))
 (kl_ok (ok_callV (List.forall_mem_cons.mpr ⟨run_V (C0 := "FavourTown$Reader") rfl rfl (by rw [hm]; rfl) q787 q788 q789 q89 q790 ⟨nh_20, dl_0⟩ (by decide) dX4_sign_1, (fun _ h => absurd h List.not_mem_nil)⟩) rfl)))
 (kn_ok
 (kl_ok (ok_aP (ok_aload_n dX4_sign_4 rfl rfl)))
 (kl_ok (ok_aP (ok_aload_n dX4_sign_5 rfl rfl)))))
 (kn_ok
 (kn_ok
 (kl_ok (ok_aP (ok_getf fo_51 fs_rf (Or.inl q284) dX4_sign_6 rfl)))
 (kl_ok (ok_callV (List.forall_mem_cons.mpr ⟨run_V (C0 := "FavourTown$Reader") rfl rfl (by rw [hm]; rfl) q791 q793 qs6 q89 q794 ⟨nh_20, dl_10⟩ (by decide) dX4_sign_9, (fun _ h => absurd h List.not_mem_nil)⟩) rfl)))
 (kn_ok
 (kl_ok (ok_aP (ok_iload_n dX4_sign_12 rfl rfl)))
 (kn_ok
 (kl_ok (ok_aP (ok_icmp_eq dX4_sign_13 rfl rfl)))
 (kl_ok (ok_aP (ok_iconst dX4_sign_16 rfl rfl)))))))
 (kn_ok
 (kn_ok
 (kn_ok
 (kl_ok (ok_zret rfl z_boolean dX4_sign_17))
 (kl_ok (ok_aP (ok_aload_n dX4_sign_18 rfl rfl))))
 (kn_ok
 (kl_ok (ok_aP (ok_dup dX4_sign_19 rfl)))
 (kl_ok (ok_aP (ok_getf fo_51 fs_rf (Or.inl q284) dX4_sign_20 rfl)))))
 (kn_ok
 (kn_ok
 (kl_ok (ok_aP (ok_iconst dX4_sign_23 rfl rfl)))
 (kl_ok (ok_aP (ok_iadd dX4_sign_24 rfl))))
 (kn_ok
 (kl_ok (ok_hp (ok_putf fo_51 fs_rf fn_34 (Or.inl q284) pd_0 vI_ok dX4_sign_25 rfl) le_putf))
 (kn_ok
 (kl_ok (ok_aP (ok_iconst dX4_sign_28 rfl rfl)))
 (kl_ok (ok_zret rfl z_boolean dX4_sign_29))))))
/-- 137: FavourTown$Reader.goesDeeper()V -/
noncomputable def k_X4_goesDeeper : Nat → Option AOp :=
 tn 14 (tn 6 (tn 1 (tl 0 (aP (f_aload 0 1)))
  (tn 4 (tl 1 (aP (f_getf [2] 6 4)))
  (tl 4 (aP (f_const (.int (nI 6)) 6)))))
  (tn 10 (tn 9 (tl 6 (aP (f_icmp (fun x y => decide (¬ x = y)) 14 9)))
  (tl 9 (aP (f_aload 0 10))))
  (tn 13 (tl 10 (o_callV (lkN [(2, 133)]) 0 13))
  (tl 13 (o_athrow [17, 22, 23, 24, 25])))))
  (tn 19 (tn 15 (tl 14 (aP (f_aload 0 15)))
  (tn 16 (tl 15 (aP (f_dup 16)))
  (tl 16 (aP (f_getf [2] 6 19)))))
  (tn 21 (tn 20 (tl 19 (aP (f_const (.int (nI 1)) 20)))
  (tl 20 (aP (f_bin (fun x y => x + y) 21))))
  (tn 24 (tl 21 (o_putf [2] 6 vI 24))
  (tl 24 (o_vret)))))
theorem kok_X4_goesDeeper {γ : AG} (hm : γ.2.2.2.2.1 = mTab) (hk : γ.2.2.2.2.2 = kTab) : KOK γ m_X4_goesDeeper k_X4_goesDeeper :=
 kn_ok
 (kn_ok
 (kn_ok
 (kl_ok (ok_aP (ok_aload_n dX4_goesDeeper_0 rfl rfl)))
 (kn_ok
 (kl_ok (ok_aP (ok_getf fo_52 fs_rf (Or.inl q289) dX4_goesDeeper_1 rfl)))
 (kl_ok (ok_aP (ok_bipush dX4_goesDeeper_4 (by decide +kernel) rfl)))))
 (kn_ok
 (kn_ok
 (kl_ok (ok_aP (ok_icmp_ne dX4_goesDeeper_6 rfl rfl)))
 (kl_ok (ok_aP (ok_aload_n dX4_goesDeeper_9 rfl rfl))))
 (kn_ok
 (kl_ok (ok_callV (List.forall_mem_cons.mpr ⟨run_V (C0 := "FavourTown$Reader") rfl rfl (by rw [hm]; rfl) q1231 q1123 q1124 q89 q1125 ⟨nh_20, dl_60⟩ (by decide) dX4_goesDeeper_10, (fun _ h => absurd h List.not_mem_nil)⟩) rfl))
 (kl_ok (ok_athrow dX4_goesDeeper_13)))))
 (kn_ok
 (kn_ok
 (kl_ok (ok_aP (ok_aload_n dX4_goesDeeper_14 rfl rfl)))
 (kn_ok
 (kl_ok (ok_aP (ok_dup dX4_goesDeeper_15 rfl)))
 (kl_ok (ok_aP (ok_getf fo_52 fs_rf (Or.inl q289) dX4_goesDeeper_16 rfl)))))
 (kn_ok
 (kn_ok
 (kl_ok (ok_aP (ok_iconst dX4_goesDeeper_19 rfl rfl)))
 (kl_ok (ok_aP (ok_iadd dX4_goesDeeper_20 rfl))))
 (kn_ok
 (kl_ok (ok_hp (ok_putf fo_52 fs_rf fn_35 (Or.inl q289) pd_0 vI_ok dX4_goesDeeper_21 rfl) le_putf))
 (kl_ok (ok_vret rfl dX4_goesDeeper_24)))))
/-- 138: FavourTown$Reader.comesUp()V -/
noncomputable def k_X4_comesUp : Nat → Option AOp :=
 tn 5 (tn 1 (tl 0 (aP (f_aload 0 1)))
  (tn 2 (tl 1 (aP (f_dup 2)))
  (tl 2 (aP (f_getf [2] 6 5)))))
  (tn 7 (tn 6 (tl 5 (aP (f_const (.int (nI 1)) 6)))
  (tl 6 (aP (f_bin (fun x y => x - y) 7))))
  (tn 10 (tl 7 (o_putf [2] 6 vI 10))
  (tl 10 (o_vret))))
theorem kok_X4_comesUp {γ : AG} (hm : γ.2.2.2.2.1 = mTab) (hk : γ.2.2.2.2.2 = kTab) : KOK γ m_X4_comesUp k_X4_comesUp :=
 kn_ok
 (kn_ok
 (kl_ok (ok_aP (ok_aload_n dX4_comesUp_0 rfl rfl)))
 (kn_ok
 (kl_ok (ok_aP (ok_dup dX4_comesUp_1 rfl)))
 (kl_ok (ok_aP (ok_getf fo_52 fs_rf (Or.inl q289) dX4_comesUp_2 rfl)))))
 (kn_ok
 (kn_ok
 (kl_ok (ok_aP (ok_iconst dX4_comesUp_5 rfl rfl)))
 (kl_ok (ok_aP (ok_isub dX4_comesUp_6 rfl))))
 (kn_ok
 (kl_ok (ok_hp (ok_putf fo_52 fs_rf fn_35 (Or.inl q289) pd_0 vI_ok dX4_comesUp_7 rfl) le_putf))
 (kl_ok (ok_vret rfl dX4_comesUp_10))))
/-- 139: FavourTown$Reader.isFigure()Z -/
noncomputable def k_X4_isFigure : Nat → Option AOp :=
 tn 9 (tn 4 (tn 1 (tl 0 (aP (f_aload 0 1)))
  (tl 1 (o_callV (lkN [(2, 130)]) 0 4)))
  (tn 5 (tl 4 (aP (f_aload 0 5)))
  (tn 6 (tl 5 (aP (f_aload 0 6)))
  (tl 6 (aP (f_getf [2] 3 9))))))
  (tn 14 (tn 12 (tl 9 (o_callV (lkN [(2, 131)]) 1 12))
  (tl 12 (aP (f_const (.int (nI 48)) 14))))
  (tn 16 (tl 14 (aP (f_const (.int (nI 57)) 16)))
  (tn 19 (tl 16 (o_callS 40 3 19))
  (tl 19 (o_iret (fun x => x == 0 || x == 1))))))
theorem kok_X4_isFigure {γ : AG} (hm : γ.2.2.2.2.1 = mTab) (hk : γ.2.2.2.2.2 = kTab) : KOK γ m_X4_isFigure k_X4_isFigure :=
 kn_ok
 (kn_ok
 (kn_ok
 (kl_ok (ok_aP (ok_aload_n dX4_isFigure_0 rfl rfl)))
 (kl_ok (ok_callV (List.forall_mem_cons.mpr ⟨run_V (C0 := "FavourTown$Reader") rfl rfl (by rw [hm]; rfl) q787 q788 q789 q89 q790 ⟨nh_20, dl_0⟩ (by decide) dX4_isFigure_1, (fun _ h => absurd h List.not_mem_nil)⟩) rfl)))
 (kn_ok
 (kl_ok (ok_aP (ok_aload_n dX4_isFigure_4 rfl rfl)))
 (kn_ok
 (kl_ok (ok_aP (ok_aload_n dX4_isFigure_5 rfl rfl)))
 (kl_ok (ok_aP (ok_getf fo_51 fs_rf (Or.inl q284) dX4_isFigure_6 rfl))))))
 (kn_ok
 (kn_ok
 (kl_ok (ok_callV (List.forall_mem_cons.mpr ⟨run_V (C0 := "FavourTown$Reader") rfl rfl (by rw [hm]; rfl) q791 q793 qs6 q89 q794 ⟨nh_20, dl_10⟩ (by decide) dX4_isFigure_9, (fun _ h => absurd h List.not_mem_nil)⟩) rfl))
 (kl_ok (ok_aP (ok_bipush dX4_isFigure_12 (by decide +kernel) rfl))))
 (kn_ok
 (kl_ok (ok_aP (ok_bipush dX4_isFigure_14 (by decide +kernel) rfl)))
 (kn_ok
 (kl_ok (ok_callS (run_SN (by rw [hm]; rfl) q803 q804 q83 q805 ⟨nh_0, dl_17⟩ (by decide) dX4_isFigure_16) rfl))
 (kl_ok (ok_zret rfl z_boolean dX4_isFigure_19)))))
/-- 140: FavourTown$Flow.<init>(LFavourTown;)V -/
noncomputable def k_X5_init : Nat → Option AOp :=
 tn 18 (tn 6 (tn 2 (tn 1 (tl 0 (aP (f_aload 0 1)))
  (tl 1 (aP (f_aload 1 2))))
  (tn 5 (tl 2 (o_putf [3] 3 vA 5))
  (tl 5 (aP (f_aload 0 6)))))
  (tn 10 (tn 9 (tl 6 (aP (f_objI 9)))
  (tl 9 (aP (f_aload 0 10))))
  (tn 12 (tl 10 (aP (f_const (.int (nI 12)) 12)))
  (tn 14 (tl 12 (aP (f_const (.int (nI 12)) 14)))
  (tl 14 (o_mnew 18))))))
  (tn 29 (tn 22 (tn 21 (tl 18 (o_putf [3] 0 vA 21))
  (tl 21 (aP (f_aload 0 22))))
  (tn 24 (tl 22 (aP (f_const (.int (nI 12)) 24)))
  (tn 26 (tl 24 (o_newa 0 (.inl (fun _ => 0)) 26))
  (tl 26 (o_putf [3] 1 vA 29)))))
  (tn 32 (tn 30 (tl 29 (aP (f_aload 0 30)))
  (tl 30 (aP (f_const (.int (nI 12)) 32))))
  (tn 34 (tl 32 (o_newa 0 (.inl (fun _ => 0)) 34))
  (tn 37 (tl 34 (o_putf [3] 2 vA 37))
  (tl 37 (o_vret))))))
theorem kok_X5_init {γ : AG} (hm : γ.2.2.2.2.1 = mTab) (hk : γ.2.2.2.2.2 = kTab) : KOK γ m_X5_init k_X5_init :=
 kn_ok
 (kn_ok
 (kn_ok
 (kn_ok
 (kl_ok (ok_aP (ok_aload_n dX5_init_0 rfl rfl)))
 (kl_ok (ok_aP (ok_aload_n dX5_init_1 rfl rfl))))
 (kn_ok
 (kl_ok (ok_hp (ok_putF fo_92 fn_61 q317 rfl pd_12 vA_okO dX5_init_2 rfl) le_putf))
 (kl_ok (ok_aP (ok_aload_n dX5_init_5 rfl rfl)))))
 (kn_ok
 (kn_ok
 (kl_ok (ok_aP (ok_objI q311 q135 q136 dX5_init_6 rfl)))
 (kl_ok (ok_aP (ok_aload_n dX5_init_9 rfl rfl))))
 (kn_ok
 (kl_ok (ok_aP (ok_bipush dX5_init_10 (by decide +kernel) rfl)))
 (kn_ok
 (kl_ok (ok_aP (ok_bipush dX5_init_12 (by decide +kernel) rfl)))
 (kl_ok (ok_hp (ok_mnew q312 q171 dX5_init_14 rfl) le_mnew))))))
 (kn_ok
 (kn_ok
 (kn_ok
 (kl_ok (ok_hp (ok_putF fo_93 fn_62 q313 rfl pd_4 vA_okA dX5_init_18 rfl) le_putf))
 (kl_ok (ok_aP (ok_aload_n dX5_init_21 rfl rfl))))
 (kn_ok
 (kl_ok (ok_aP (ok_bipush dX5_init_22 (by decide +kernel) rfl)))
 (kn_ok
 (kl_ok (ok_hp (na_int dX5_init_24 rfl) le_newa))
 (kl_ok (ok_hp (ok_putF fo_94 fn_63 q315 rfl pd_2 vA_okA dX5_init_26 rfl) le_putf)))))
 (kn_ok
 (kn_ok
 (kl_ok (ok_aP (ok_aload_n dX5_init_29 rfl rfl)))
 (kl_ok (ok_aP (ok_bipush dX5_init_30 (by decide +kernel) rfl))))
 (kn_ok
 (kl_ok (ok_hp (na_int dX5_init_32 rfl) le_newa))
 (kn_ok
 (kl_ok (ok_hp (ok_putF fo_95 fn_64 q316 rfl pd_2 vA_okA dX5_init_34 rfl) le_putf))
 (kl_ok (ok_vret rfl dX5_init_37))))))
/-- 141: FavourTown$Flow.begins()LFavourTown$Flow; -/
noncomputable def k_X5_begins : Nat → Option AOp :=
 tn 37 (tn 17 (tn 4 (tn 2 (tn 1 (tl 0 (aP (f_const (.int (nI 0)) 1)))
  (tl 1 (aP (f_istore 1 2))))
  (tn 3 (tl 2 (aP (f_iload 1 3)))
  (tl 3 (aP (f_aload 0 4)))))
  (tn 10 (tn 7 (tl 4 (aP (f_getf [3] 3 7)))
  (tl 7 (aP (f_getf [0] 0 10))))
  (tn 13 (tl 10 (aP (f_getf [1] 3 13)))
  (tn 16 (tl 13 (aP (f_icmp (fun x y => decide (y ≤ x)) 73 16)))
  (tl 16 (aP (f_const (.int (nI 0)) 17)))))))
  (tn 26 (tn 19 (tn 18 (tl 17 (aP (f_istore 2 18)))
  (tl 18 (aP (f_iload 2 19))))
  (tn 20 (tl 19 (aP (f_aload 0 20)))
  (tn 23 (tl 20 (aP (f_getf [3] 3 23)))
  (tl 23 (aP (f_getf [0] 0 26))))))
  (tn 32 (tn 29 (tl 26 (aP (f_getf [1] 3 29)))
  (tl 29 (aP (f_icmp (fun x y => decide (y ≤ x)) 67 32))))
  (tn 33 (tl 32 (aP (f_aload 0 33)))
  (tn 36 (tl 33 (aP (f_getf [3] 0 36)))
  (tl 36 (aP (f_iload 1 37))))))))
  (tn 55 (tn 44 (tn 39 (tn 38 (tl 37 (aP (f_aald [3, 4, 5] 38)))
  (tl 38 (aP (f_iload 2 39))))
  (tn 40 (tl 39 (aP (f_iload 1 40)))
  (tn 41 (tl 40 (aP (f_iload 2 41)))
  (tl 41 (aP (f_icmp (fun x y => decide (¬ x = y)) 48 44))))))
  (tn 48 (tn 45 (tl 44 (aP (f_const (.int (nI 0)) 45)))
  (tl 45 (aP (f_goto 60))))
  (tn 49 (tl 48 (aP (f_aload 0 49)))
  (tn 52 (tl 49 (aP (f_getf [3] 3 52)))
  (tl 52 (aP (f_getf [0] 0 55)))))))
  (tn 64 (tn 57 (tn 56 (tl 55 (aP (f_iload 1 56)))
  (tl 56 (aP (f_iload 2 57))))
  (tn 60 (tl 57 (o_callV (lkN [(1, 109)]) 2 60))
  (tn 61 (tl 60 (o_iast 0 (fun y => y) 61))
  (tl 61 (aP (f_iinc 2 (nI 1) 64))))))
  (tn 70 (tn 67 (tl 64 (aP (f_goto 18)))
  (tl 67 (aP (f_iinc 1 (nI 1) 70))))
  (tn 73 (tl 70 (aP (f_goto 2)))
  (tn 74 (tl 73 (aP (f_aload 0 74)))
  (tl 74 (o_aret)))))))
theorem kok_X5_begins {γ : AG} (hm : γ.2.2.2.2.1 = mTab) (hk : γ.2.2.2.2.2 = kTab) : KOK γ m_X5_begins k_X5_begins :=
 kn_ok
 (kn_ok
 (kn_ok
 (kn_ok
 (kn_ok
 (kl_ok (ok_aP (ok_iconst dX5_begins_0 rfl rfl)))
 (kl_ok (ok_aP (ok_istore_n dX5_begins_1 rfl rfl))))
 (kn_ok
 (kl_ok (ok_aP (ok_iload_n dX5_begins_2 rfl rfl)))
 (kl_ok (ok_aP (ok_aload_n dX5_begins_3 rfl rfl)))))
 (kn_ok
 (kn_ok
 (kl_ok (ok_aP (ok_getf fo_92 fs_rf (Or.inl q317) dX5_begins_4 rfl)))
 (kl_ok (ok_aP (ok_getf fo_0 fs_rf (Or.inr ⟨_, q352⟩) dX5_begins_7 rfl))))
 (kn_ok
 (kl_ok (ok_aP (ok_getf fo_1 fs_rf (Or.inr ⟨_, q221⟩) dX5_begins_10 rfl)))
 (kn_ok
 (kl_ok (ok_aP (ok_icmp_ge dX5_begins_13 rfl rfl)))
 (kl_ok (ok_aP (ok_iconst dX5_begins_16 rfl rfl)))))))
 (kn_ok
 (kn_ok
 (kn_ok
 (kl_ok (ok_aP (ok_istore_n dX5_begins_17 rfl rfl)))
 (kl_ok (ok_aP (ok_iload_n dX5_begins_18 rfl rfl))))
 (kn_ok
 (kl_ok (ok_aP (ok_aload_n dX5_begins_19 rfl rfl)))
 (kn_ok
 (kl_ok (ok_aP (ok_getf fo_92 fs_rf (Or.inl q317) dX5_begins_20 rfl)))
 (kl_ok (ok_aP (ok_getf fo_0 fs_rf (Or.inr ⟨_, q352⟩) dX5_begins_23 rfl))))))
 (kn_ok
 (kn_ok
 (kl_ok (ok_aP (ok_getf fo_1 fs_rf (Or.inr ⟨_, q221⟩) dX5_begins_26 rfl)))
 (kl_ok (ok_aP (ok_icmp_ge dX5_begins_29 rfl rfl))))
 (kn_ok
 (kl_ok (ok_aP (ok_aload_n dX5_begins_32 rfl rfl)))
 (kn_ok
 (kl_ok (ok_aP (ok_getf fo_93 fs_rf (Or.inl q313) dX5_begins_33 rfl)))
 (kl_ok (ok_aP (ok_iload_n dX5_begins_36 rfl rfl))))))))
 (kn_ok
 (kn_ok
 (kn_ok
 (kn_ok
 (kl_ok (ok_aP (ok_aald ts345 dX5_begins_37 rfl)))
 (kl_ok (ok_aP (ok_iload_n dX5_begins_38 rfl rfl))))
 (kn_ok
 (kl_ok (ok_aP (ok_iload_n dX5_begins_39 rfl rfl)))
 (kn_ok
 (kl_ok (ok_aP (ok_iload_n dX5_begins_40 rfl rfl)))
 (kl_ok (ok_aP (ok_icmp_ne dX5_begins_41 rfl rfl))))))
 (kn_ok
 (kn_ok
 (kl_ok (ok_aP (ok_iconst dX5_begins_44 rfl rfl)))
 (kl_ok (ok_aP (ok_goto dX5_begins_45 rfl))))
 (kn_ok
 (kl_ok (ok_aP (ok_aload_n dX5_begins_48 rfl rfl)))
 (kn_ok
 (kl_ok (ok_aP (ok_getf fo_92 fs_rf (Or.inl q317) dX5_begins_49 rfl)))
 (kl_ok (ok_aP (ok_getf fo_0 fs_rf (Or.inr ⟨_, q352⟩) dX5_begins_52 rfl)))))))
 (kn_ok
 (kn_ok
 (kn_ok
 (kl_ok (ok_aP (ok_iload_n dX5_begins_55 rfl rfl)))
 (kl_ok (ok_aP (ok_iload_n dX5_begins_56 rfl rfl))))
 (kn_ok
 (kl_ok (ok_callV (List.forall_mem_cons.mpr ⟨run_V (C0 := "FavourTown$World") rfl rfl (by rw [hm]; rfl) q1734 q1720 q1721 q84 q1722 ⟨nh_3, dl_6⟩ (by decide) dX5_begins_57, (fun _ h => absurd h List.not_mem_nil)⟩) rfl))
 (kn_ok
 (kl_ok (ok_hp (ok_iast dX5_begins_60 rfl) le_iast))
 (kl_ok (ok_aP (ok_iinc dX5_begins_61 (by decide +kernel) rfl))))))
 (kn_ok
 (kn_ok
 (kl_ok (ok_aP (ok_goto dX5_begins_64 rfl)))
 (kl_ok (ok_aP (ok_iinc dX5_begins_67 (by decide +kernel) rfl))))
 (kn_ok
 (kl_ok (ok_aP (ok_goto dX5_begins_70 rfl)))
 (kn_ok
 (kl_ok (ok_aP (ok_aload_n dX5_begins_73 rfl rfl)))
 (kl_ok (ok_aret rfl (Or.inl ⟨_, rfl⟩) dX5_begins_74)))))))
/-- 142: FavourTown$Flow.most(II)I -/
noncomputable def k_X5_most : Nat → Option AOp :=
 tn 68 (tn 31 (tn 12 (tn 7 (tn 2 (tn 1 (tl 0 (aP (f_const (.int (nI 0)) 1)))
  (tl 1 (aP (f_istore 3 2))))
  (tn 3 (tl 2 (aP (f_aload 0 3)))
  (tn 4 (tl 3 (aP (f_iload 1 4)))
  (tl 4 (o_callV (lkN [(3, 143)]) 1 7)))))
  (tn 9 (tn 8 (tl 7 (aP (f_iload 2 8)))
  (tl 8 (aP (f_bin (fun x y => x >>> (y &&& 31)) 9))))
  (tn 10 (tl 9 (aP (f_const (.int (nI 1)) 10)))
  (tn 11 (tl 10 (aP (f_bin (fun x y => x &&& y) 11)))
  (tl 11 (aP (f_const (.int (nI 1)) 12)))))))
  (tn 22 (tn 17 (tn 15 (tl 12 (aP (f_icmp (fun x y => decide (¬ x = y)) 131 15)))
  (tl 15 (aP (f_const (.int (2147483647 : Int32)) 17))))
  (tn 19 (tl 17 (aP (f_istore 4 19)))
  (tn 20 (tl 19 (aP (f_iload 2 20)))
  (tl 20 (aP (f_istore 5 22))))))
  (tn 25 (tn 24 (tl 22 (aP (f_iload 5 24)))
  (tl 24 (aP (f_iload 1 25))))
  (tn 28 (tl 25 (aP (f_icmp (fun x y => decide (x = y)) 62 28)))
  (tn 30 (tl 28 (aP (f_iload 4 30)))
  (tl 30 (aP (f_aload 0 31))))))))
  (tn 50 (tn 41 (tn 35 (tn 34 (tl 31 (aP (f_getf [3] 0 34)))
  (tl 34 (aP (f_aload 0 35))))
  (tn 38 (tl 35 (aP (f_getf [3] 1 38)))
  (tn 40 (tl 38 (aP (f_iload 5 40)))
  (tl 40 (aP (f_iald 0 41))))))
  (tn 44 (tn 42 (tl 41 (aP (f_aald [3, 4, 5] 42)))
  (tl 42 (aP (f_iload 5 44))))
  (tn 45 (tl 44 (aP (f_iald 0 45)))
  (tn 48 (tl 45 (o_mth (fun x y => if y < x then y else x) 48))
  (tl 48 (aP (f_istore 4 50)))))))
  (tn 59 (tn 54 (tn 51 (tl 50 (aP (f_aload 0 51)))
  (tl 51 (aP (f_getf [3] 1 54))))
  (tn 56 (tl 54 (aP (f_iload 5 56)))
  (tn 57 (tl 56 (aP (f_iald 0 57)))
  (tl 57 (aP (f_istore 5 59))))))
  (tn 63 (tn 62 (tl 59 (aP (f_goto 22)))
  (tl 62 (aP (f_iload 2 63))))
  (tn 65 (tl 63 (aP (f_istore 5 65)))
  (tn 67 (tl 65 (aP (f_iload 5 67)))
  (tl 67 (aP (f_iload 1 68)))))))))
  (tn 102 (tn 86 (tn 79 (tn 72 (tn 71 (tl 68 (aP (f_icmp (fun x y => decide (x = y)) 123 71)))
  (tl 71 (aP (f_aload 0 72))))
  (tn 75 (tl 72 (aP (f_getf [3] 0 75)))
  (tn 76 (tl 75 (aP (f_aload 0 76)))
  (tl 76 (aP (f_getf [3] 1 79))))))
  (tn 82 (tn 81 (tl 79 (aP (f_iload 5 81)))
  (tl 81 (aP (f_iald 0 82))))
  (tn 83 (tl 82 (aP (f_aald [3, 4, 5] 83)))
  (tn 85 (tl 83 (aP (f_iload 5 85)))
  (tl 85 (aP (f_dup2 86)))))))
  (tn 92 (tn 89 (tn 87 (tl 86 (aP (f_iald 0 87)))
  (tl 87 (aP (f_iload 4 89))))
  (tn 90 (tl 89 (aP (f_bin (fun x y => x - y) 90)))
  (tn 91 (tl 90 (o_iast 0 (fun y => y) 91))
  (tl 91 (aP (f_aload 0 92))))))
  (tn 97 (tn 95 (tl 92 (aP (f_getf [3] 0 95)))
  (tl 95 (aP (f_iload 5 97))))
  (tn 98 (tl 97 (aP (f_aald [3, 4, 5] 98)))
  (tn 99 (tl 98 (aP (f_aload 0 99)))
  (tl 99 (aP (f_getf [3] 1 102))))))))
  (tn 117 (tn 109 (tn 105 (tn 104 (tl 102 (aP (f_iload 5 104)))
  (tl 104 (aP (f_iald 0 105))))
  (tn 106 (tl 105 (aP (f_dup2 106)))
  (tn 107 (tl 106 (aP (f_iald 0 107)))
  (tl 107 (aP (f_iload 4 109))))))
  (tn 111 (tn 110 (tl 109 (aP (f_bin (fun x y => x + y) 110)))
  (tl 110 (o_iast 0 (fun y => y) 111)))
  (tn 112 (tl 111 (aP (f_aload 0 112)))
  (tn 115 (tl 112 (aP (f_getf [3] 1 115)))
  (tl 115 (aP (f_iload 5 117)))))))
  (tn 126 (tn 120 (tn 118 (tl 117 (aP (f_iald 0 118)))
  (tl 118 (aP (f_istore 5 120))))
  (tn 123 (tl 120 (aP (f_goto 65)))
  (tn 124 (tl 123 (aP (f_iload 3 124)))
  (tl 124 (aP (f_iload 4 126))))))
  (tn 128 (tn 127 (tl 126 (aP (f_bin (fun x y => x + y) 127)))
  (tl 127 (aP (f_istore 3 128))))
  (tn 131 (tl 128 (aP (f_goto 2)))
  (tn 132 (tl 131 (aP (f_iload 3 132)))
  (tl 132 (o_iret (fun _ => true)))))))))
theorem kok_X5_most {γ : AG} (hm : γ.2.2.2.2.1 = mTab) (hk : γ.2.2.2.2.2 = kTab) : KOK γ m_X5_most k_X5_most :=
 kn_ok
 (kn_ok
 (kn_ok
 (kn_ok
 (kn_ok
 (kn_ok
 (kl_ok (ok_aP (ok_iconst dX5_most_0 rfl rfl)))
 (kl_ok (ok_aP (ok_istore_n dX5_most_1 rfl rfl))))
 (kn_ok
 (kl_ok (ok_aP (ok_aload_n dX5_most_2 rfl rfl)))
 (kn_ok
 (kl_ok (ok_aP (ok_iload_n dX5_most_3 rfl rfl)))
 (kl_ok (ok_callV (List.forall_mem_cons.mpr ⟨run_V (C0 := "FavourTown$Flow") rfl rfl (by rw [hm]; rfl) q1739 q1740 q1741 q90 q1742 ⟨nh_24, dl_10⟩ (by decide) dX5_most_4, (fun _ h => absurd h List.not_mem_nil)⟩) rfl)))))
 (kn_ok
 (kn_ok
 (kl_ok (ok_aP (ok_iload_n dX5_most_7 rfl rfl)))
 (kl_ok (ok_aP (ok_ishr dX5_most_8 rfl))))
 (kn_ok
 (kl_ok (ok_aP (ok_iconst dX5_most_9 rfl rfl)))
 (kn_ok
 (kl_ok (ok_aP (ok_iand dX5_most_10 rfl)))
 (kl_ok (ok_aP (ok_iconst dX5_most_11 rfl rfl)))))))
 (kn_ok
 (kn_ok
 (kn_ok
 (kl_ok (ok_aP (ok_icmp_ne dX5_most_12 rfl rfl)))
 (kl_ok (ok_aP (ok_ldc q1743 dX5_most_15 rfl))))
 (kn_ok
 (kl_ok (ok_aP (ok_istore dX5_most_17 rfl)))
 (kn_ok
 (kl_ok (ok_aP (ok_iload_n dX5_most_19 rfl rfl)))
 (kl_ok (ok_aP (ok_istore dX5_most_20 rfl))))))
 (kn_ok
 (kn_ok
 (kl_ok (ok_aP (ok_iload dX5_most_22 rfl)))
 (kl_ok (ok_aP (ok_iload_n dX5_most_24 rfl rfl))))
 (kn_ok
 (kl_ok (ok_aP (ok_icmp_eq dX5_most_25 rfl rfl)))
 (kn_ok
 (kl_ok (ok_aP (ok_iload dX5_most_28 rfl)))
 (kl_ok (ok_aP (ok_aload_n dX5_most_30 rfl rfl))))))))
 (kn_ok
 (kn_ok
 (kn_ok
 (kn_ok
 (kl_ok (ok_aP (ok_getf fo_93 fs_rf (Or.inl q313) dX5_most_31 rfl)))
 (kl_ok (ok_aP (ok_aload_n dX5_most_34 rfl rfl))))
 (kn_ok
 (kl_ok (ok_aP (ok_getf fo_94 fs_rf (Or.inl q315) dX5_most_35 rfl)))
 (kn_ok
 (kl_ok (ok_aP (ok_iload dX5_most_38 rfl)))
 (kl_ok (ok_aP (ok_iald dX5_most_40 rfl))))))
 (kn_ok
 (kn_ok
 (kl_ok (ok_aP (ok_aald ts345 dX5_most_41 rfl)))
 (kl_ok (ok_aP (ok_iload dX5_most_42 rfl))))
 (kn_ok
 (kl_ok (ok_aP (ok_iald dX5_most_44 rfl)))
 (kn_ok
 (kl_ok (ok_hp (ok_mmin q1744 q728 q99 q729 dX5_most_45 rfl) le_mth))
 (kl_ok (ok_aP (ok_istore dX5_most_48 rfl)))))))
 (kn_ok
 (kn_ok
 (kn_ok
 (kl_ok (ok_aP (ok_aload_n dX5_most_50 rfl rfl)))
 (kl_ok (ok_aP (ok_getf fo_94 fs_rf (Or.inl q315) dX5_most_51 rfl))))
 (kn_ok
 (kl_ok (ok_aP (ok_iload dX5_most_54 rfl)))
 (kn_ok
 (kl_ok (ok_aP (ok_iald dX5_most_56 rfl)))
 (kl_ok (ok_aP (ok_istore dX5_most_57 rfl))))))
 (kn_ok
 (kn_ok
 (kl_ok (ok_aP (ok_goto dX5_most_59 rfl)))
 (kl_ok (ok_aP (ok_iload_n dX5_most_62 rfl rfl))))
 (kn_ok
 (kl_ok (ok_aP (ok_istore dX5_most_63 rfl)))
 (kn_ok
 (kl_ok (ok_aP (ok_iload dX5_most_65 rfl)))
 (kl_ok (ok_aP (ok_iload_n dX5_most_67 rfl rfl)))))))))
 (kn_ok
 (kn_ok
 (kn_ok
 (kn_ok
 (kn_ok
 (kl_ok (ok_aP (ok_icmp_eq dX5_most_68 rfl rfl)))
 (kl_ok (ok_aP (ok_aload_n dX5_most_71 rfl rfl))))
 (kn_ok
 (kl_ok (ok_aP (ok_getf fo_93 fs_rf (Or.inl q313) dX5_most_72 rfl)))
 (kn_ok
 (kl_ok (ok_aP (ok_aload_n dX5_most_75 rfl rfl)))
 (kl_ok (ok_aP (ok_getf fo_94 fs_rf (Or.inl q315) dX5_most_76 rfl))))))
 (kn_ok
 (kn_ok
 (kl_ok (ok_aP (ok_iload dX5_most_79 rfl)))
 (kl_ok (ok_aP (ok_iald dX5_most_81 rfl))))
 (kn_ok
 (kl_ok (ok_aP (ok_aald ts345 dX5_most_82 rfl)))
 (kn_ok
 (kl_ok (ok_aP (ok_iload dX5_most_83 rfl)))
 (kl_ok (ok_aP (ok_dup2 dX5_most_85 rfl)))))))
 (kn_ok
 (kn_ok
 (kn_ok
 (kl_ok (ok_aP (ok_iald dX5_most_86 rfl)))
 (kl_ok (ok_aP (ok_iload dX5_most_87 rfl))))
 (kn_ok
 (kl_ok (ok_aP (ok_isub dX5_most_89 rfl)))
 (kn_ok
 (kl_ok (ok_hp (ok_iast dX5_most_90 rfl) le_iast))
 (kl_ok (ok_aP (ok_aload_n dX5_most_91 rfl rfl))))))
 (kn_ok
 (kn_ok
 (kl_ok (ok_aP (ok_getf fo_93 fs_rf (Or.inl q313) dX5_most_92 rfl)))
 (kl_ok (ok_aP (ok_iload dX5_most_95 rfl))))
 (kn_ok
 (kl_ok (ok_aP (ok_aald ts345 dX5_most_97 rfl)))
 (kn_ok
 (kl_ok (ok_aP (ok_aload_n dX5_most_98 rfl rfl)))
 (kl_ok (ok_aP (ok_getf fo_94 fs_rf (Or.inl q315) dX5_most_99 rfl))))))))
 (kn_ok
 (kn_ok
 (kn_ok
 (kn_ok
 (kl_ok (ok_aP (ok_iload dX5_most_102 rfl)))
 (kl_ok (ok_aP (ok_iald dX5_most_104 rfl))))
 (kn_ok
 (kl_ok (ok_aP (ok_dup2 dX5_most_105 rfl)))
 (kn_ok
 (kl_ok (ok_aP (ok_iald dX5_most_106 rfl)))
 (kl_ok (ok_aP (ok_iload dX5_most_107 rfl))))))
 (kn_ok
 (kn_ok
 (kl_ok (ok_aP (ok_iadd dX5_most_109 rfl)))
 (kl_ok (ok_hp (ok_iast dX5_most_110 rfl) le_iast)))
 (kn_ok
 (kl_ok (ok_aP (ok_aload_n dX5_most_111 rfl rfl)))
 (kn_ok
 (kl_ok (ok_aP (ok_getf fo_94 fs_rf (Or.inl q315) dX5_most_112 rfl)))
 (kl_ok (ok_aP (ok_iload dX5_most_115 rfl)))))))
 (kn_ok
 (kn_ok
 (kn_ok
 (kl_ok (ok_aP (ok_iald dX5_most_117 rfl)))
 (kl_ok (ok_aP (ok_istore dX5_most_118 rfl))))
 (kn_ok
 (kl_ok (ok_aP (ok_goto dX5_most_120 rfl)))
 (kn_ok
 (kl_ok (ok_aP (ok_iload_n dX5_most_123 rfl rfl)))
 (kl_ok (ok_aP (ok_iload dX5_most_124 rfl))))))
 (kn_ok
 (kn_ok
 (kl_ok (ok_aP (ok_iadd dX5_most_126 rfl)))
 (kl_ok (ok_aP (ok_istore_n dX5_most_127 rfl rfl))))
 (kn_ok
 (kl_ok (ok_aP (ok_goto dX5_most_128 rfl)))
 (kn_ok
 (kl_ok (ok_aP (ok_iload_n dX5_most_131 rfl rfl)))
 (kl_ok (ok_iret rfl dX5_most_132))))))))
/-- 143: FavourTown$Flow.reached(I)I -/
noncomputable def k_X5_reached : Nat → Option AOp :=
 tn 55 (tn 23 (tn 10 (tn 4 (tn 2 (tn 1 (tl 0 (aP (f_const (.int (nI 1)) 1)))
  (tl 1 (aP (f_iload 1 2))))
  (tn 3 (tl 2 (aP (f_bin (fun x y => x <<< (y &&& 31)) 3)))
  (tl 3 (aP (f_istore 2 4)))))
  (tn 6 (tn 5 (tl 4 (aP (f_const (.int (nI 1)) 5)))
  (tl 5 (aP (f_istore 3 6))))
  (tn 7 (tl 6 (aP (f_aload 0 7)))
  (tl 7 (aP (f_getf [3] 2 10))))))
  (tn 14 (tn 12 (tn 11 (tl 10 (aP (f_const (.int (nI 0)) 11)))
  (tl 11 (aP (f_iload 1 12))))
  (tn 13 (tl 12 (o_iast 0 (fun y => y) 13))
  (tl 13 (aP (f_const (.int (nI 0)) 14)))))
  (tn 18 (tn 16 (tl 14 (aP (f_istore 4 16)))
  (tl 16 (aP (f_iload 4 18))))
  (tn 19 (tl 18 (aP (f_iload 3 19)))
  (tn 22 (tl 19 (aP (f_icmp (fun x y => decide (y ≤ x)) 115 22)))
  (tl 22 (aP (f_const (.int (nI 0)) 23))))))))
  (tn 41 (tn 31 (tn 27 (tn 25 (tl 23 (aP (f_istore 5 25)))
  (tl 25 (aP (f_iload 5 27))))
  (tn 28 (tl 27 (aP (f_aload 0 28)))
  (tl 28 (aP (f_getf [3] 3 31)))))
  (tn 37 (tn 34 (tl 31 (aP (f_getf [0] 0 34)))
  (tl 34 (aP (f_getf [1] 3 37))))
  (tn 40 (tl 37 (aP (f_icmp (fun x y => decide (y ≤ x)) 109 40)))
  (tl 40 (aP (f_iload 2 41))))))
  (tn 46 (tn 44 (tn 43 (tl 41 (aP (f_iload 5 43)))
  (tl 43 (aP (f_bin (fun x y => x >>> (y &&& 31)) 44))))
  (tn 45 (tl 44 (aP (f_const (.int (nI 1)) 45)))
  (tl 45 (aP (f_bin (fun x y => x &&& y) 46)))))
  (tn 50 (tn 47 (tl 46 (aP (f_const (.int (nI 1)) 47)))
  (tl 47 (aP (f_icmp (fun x y => decide (x = y)) 103 50))))
  (tn 51 (tl 50 (aP (f_aload 0 51)))
  (tn 54 (tl 51 (aP (f_getf [3] 0 54)))
  (tl 54 (aP (f_aload 0 55)))))))))
  (tn 84 (tn 71 (tn 62 (tn 60 (tn 58 (tl 55 (aP (f_getf [3] 2 58)))
  (tl 58 (aP (f_iload 4 60))))
  (tn 61 (tl 60 (aP (f_iald 0 61)))
  (tl 61 (aP (f_aald [3, 4, 5] 62)))))
  (tn 65 (tn 64 (tl 62 (aP (f_iload 5 64)))
  (tl 64 (aP (f_iald 0 65))))
  (tn 68 (tl 65 (aP (f_if (fun x => decide (¬ x = 0)) 71 68)))
  (tl 68 (aP (f_goto 103))))))
  (tn 76 (tn 73 (tn 72 (tl 71 (aP (f_iload 2 72)))
  (tl 72 (aP (f_const (.int (nI 1)) 73))))
  (tn 75 (tl 73 (aP (f_iload 5 75)))
  (tl 75 (aP (f_bin (fun x y => x <<< (y &&& 31)) 76)))))
  (tn 78 (tn 77 (tl 76 (aP (f_bin (fun x y => x ||| y) 77)))
  (tl 77 (aP (f_istore 2 78))))
  (tn 79 (tl 78 (aP (f_aload 0 79)))
  (tn 82 (tl 79 (aP (f_getf [3] 1 82)))
  (tl 82 (aP (f_iload 5 84))))))))
  (tn 97 (tn 91 (tn 88 (tn 85 (tl 84 (aP (f_aload 0 85)))
  (tl 85 (aP (f_getf [3] 2 88))))
  (tn 90 (tl 88 (aP (f_iload 4 90)))
  (tl 90 (aP (f_iald 0 91)))))
  (tn 93 (tn 92 (tl 91 (o_iast 0 (fun y => y) 92))
  (tl 92 (aP (f_aload 0 93))))
  (tn 96 (tl 93 (aP (f_getf [3] 2 96)))
  (tl 96 (aP (f_iload 3 97))))))
  (tn 106 (tn 100 (tn 99 (tl 97 (aP (f_iload 5 99)))
  (tl 99 (o_iast 0 (fun y => y) 100)))
  (tn 103 (tl 100 (aP (f_iinc 3 (nI 1) 103)))
  (tl 103 (aP (f_iinc 5 (nI 1) 106)))))
  (tn 112 (tn 109 (tl 106 (aP (f_goto 25)))
  (tl 109 (aP (f_iinc 4 (nI 1) 112))))
  (tn 115 (tl 112 (aP (f_goto 16)))
  (tn 116 (tl 115 (aP (f_iload 2 116)))
  (tl 116 (o_iret (fun _ => true)))))))))
theorem kok_X5_reached {γ : AG} (hm : γ.2.2.2.2.1 = mTab) (hk : γ.2.2.2.2.2 = kTab) : KOK γ m_X5_reached k_X5_reached :=
 kn_ok
 (kn_ok
 (kn_ok
 (kn_ok
 (kn_ok
 (kn_ok
 (kl_ok (ok_aP (ok_iconst dX5_reached_0 rfl rfl)))
 (kl_ok (ok_aP (ok_iload_n dX5_reached_1 rfl rfl))))
 (kn_ok
 (kl_ok (ok_aP (ok_ishl dX5_reached_2 rfl)))
 (kl_ok (ok_aP (ok_istore_n dX5_reached_3 rfl rfl)))))
 (kn_ok
 (kn_ok
 (kl_ok (ok_aP (ok_iconst dX5_reached_4 rfl rfl)))
 (kl_ok (ok_aP (ok_istore_n dX5_reached_5 rfl rfl))))
 (kn_ok
 (kl_ok (ok_aP (ok_aload_n dX5_reached_6 rfl rfl)))
 (kl_ok (ok_aP (ok_getf fo_95 fs_rf (Or.inl q316) dX5_reached_7 rfl))))))
 (kn_ok
 (kn_ok
 (kn_ok
 (kl_ok (ok_aP (ok_iconst dX5_reached_10 rfl rfl)))
 (kl_ok (ok_aP (ok_iload_n dX5_reached_11 rfl rfl))))
 (kn_ok
 (kl_ok (ok_hp (ok_iast dX5_reached_12 rfl) le_iast))
 (kl_ok (ok_aP (ok_iconst dX5_reached_13 rfl rfl)))))
 (kn_ok
 (kn_ok
 (kl_ok (ok_aP (ok_istore dX5_reached_14 rfl)))
 (kl_ok (ok_aP (ok_iload dX5_reached_16 rfl))))
 (kn_ok
 (kl_ok (ok_aP (ok_iload_n dX5_reached_18 rfl rfl)))
 (kn_ok
 (kl_ok (ok_aP (ok_icmp_ge dX5_reached_19 rfl rfl)))
 (kl_ok (ok_aP (ok_iconst dX5_reached_22 rfl rfl))))))))
 (kn_ok
 (kn_ok
 (kn_ok
 (kn_ok
 (kl_ok (ok_aP (ok_istore dX5_reached_23 rfl)))
 (kl_ok (ok_aP (ok_iload dX5_reached_25 rfl))))
 (kn_ok
 (kl_ok (ok_aP (ok_aload_n dX5_reached_27 rfl rfl)))
 (kl_ok (ok_aP (ok_getf fo_92 fs_rf (Or.inl q317) dX5_reached_28 rfl)))))
 (kn_ok
 (kn_ok
 (kl_ok (ok_aP (ok_getf fo_0 fs_rf (Or.inr ⟨_, q352⟩) dX5_reached_31 rfl)))
 (kl_ok (ok_aP (ok_getf fo_1 fs_rf (Or.inr ⟨_, q221⟩) dX5_reached_34 rfl))))
 (kn_ok
 (kl_ok (ok_aP (ok_icmp_ge dX5_reached_37 rfl rfl)))
 (kl_ok (ok_aP (ok_iload_n dX5_reached_40 rfl rfl))))))
 (kn_ok
 (kn_ok
 (kn_ok
 (kl_ok (ok_aP (ok_iload dX5_reached_41 rfl)))
 (kl_ok (ok_aP (ok_ishr dX5_reached_43 rfl))))
 (kn_ok
 (kl_ok (ok_aP (ok_iconst dX5_reached_44 rfl rfl)))
 (kl_ok (ok_aP (ok_iand dX5_reached_45 rfl)))))
 (kn_ok
 (kn_ok
 (kl_ok (ok_aP (ok_iconst dX5_reached_46 rfl rfl)))
 (kl_ok (ok_aP (ok_icmp_eq dX5_reached_47 rfl rfl))))
 (kn_ok
 (kl_ok (ok_aP (ok_aload_n dX5_reached_50 rfl rfl)))
 (kn_ok
 (kl_ok (ok_aP (ok_getf fo_93 fs_rf (Or.inl q313) dX5_reached_51 rfl)))
 (kl_ok (ok_aP (ok_aload_n dX5_reached_54 rfl rfl)))))))))
 (kn_ok
 (kn_ok
 (kn_ok
 (kn_ok
 (kn_ok
 (kl_ok (ok_aP (ok_getf fo_95 fs_rf (Or.inl q316) dX5_reached_55 rfl)))
 (kl_ok (ok_aP (ok_iload dX5_reached_58 rfl))))
 (kn_ok
 (kl_ok (ok_aP (ok_iald dX5_reached_60 rfl)))
 (kl_ok (ok_aP (ok_aald ts345 dX5_reached_61 rfl)))))
 (kn_ok
 (kn_ok
 (kl_ok (ok_aP (ok_iload dX5_reached_62 rfl)))
 (kl_ok (ok_aP (ok_iald dX5_reached_64 rfl))))
 (kn_ok
 (kl_ok (ok_aP (ok_if_ne dX5_reached_65 rfl rfl)))
 (kl_ok (ok_aP (ok_goto dX5_reached_68 rfl))))))
 (kn_ok
 (kn_ok
 (kn_ok
 (kl_ok (ok_aP (ok_iload_n dX5_reached_71 rfl rfl)))
 (kl_ok (ok_aP (ok_iconst dX5_reached_72 rfl rfl))))
 (kn_ok
 (kl_ok (ok_aP (ok_iload dX5_reached_73 rfl)))
 (kl_ok (ok_aP (ok_ishl dX5_reached_75 rfl)))))
 (kn_ok
 (kn_ok
 (kl_ok (ok_aP (ok_ior dX5_reached_76 rfl)))
 (kl_ok (ok_aP (ok_istore_n dX5_reached_77 rfl rfl))))
 (kn_ok
 (kl_ok (ok_aP (ok_aload_n dX5_reached_78 rfl rfl)))
 (kn_ok
 (kl_ok (ok_aP (ok_getf fo_94 fs_rf (Or.inl q315) dX5_reached_79 rfl)))
 (kl_ok (ok_aP (ok_iload dX5_reached_82 rfl))))))))
 (kn_ok
 (kn_ok
 (kn_ok
 (kn_ok
 (kl_ok (ok_aP (ok_aload_n dX5_reached_84 rfl rfl)))
 (kl_ok (ok_aP (ok_getf fo_95 fs_rf (Or.inl q316) dX5_reached_85 rfl))))
 (kn_ok
 (kl_ok (ok_aP (ok_iload dX5_reached_88 rfl)))
 (kl_ok (ok_aP (ok_iald dX5_reached_90 rfl)))))
 (kn_ok
 (kn_ok
 (kl_ok (ok_hp (ok_iast dX5_reached_91 rfl) le_iast))
 (kl_ok (ok_aP (ok_aload_n dX5_reached_92 rfl rfl))))
 (kn_ok
 (kl_ok (ok_aP (ok_getf fo_95 fs_rf (Or.inl q316) dX5_reached_93 rfl)))
 (kl_ok (ok_aP (ok_iload_n dX5_reached_96 rfl rfl))))))
 (kn_ok
 (kn_ok
 (kn_ok
 (kl_ok (ok_aP (ok_iload dX5_reached_97 rfl)))
 (kl_ok (ok_hp (ok_iast dX5_reached_99 rfl) le_iast)))
 (kn_ok
 (kl_ok (ok_aP (ok_iinc dX5_reached_100 (by decide +kernel) rfl)))
 (kl_ok (ok_aP (ok_iinc dX5_reached_103 (by decide +kernel) rfl)))))
 (kn_ok
 (kn_ok
 (kl_ok (ok_aP (ok_goto dX5_reached_106 rfl)))
 (kl_ok (ok_aP (ok_iinc dX5_reached_109 (by decide +kernel) rfl))))
 (kn_ok
 (kl_ok (ok_aP (ok_goto dX5_reached_112 rfl)))
 (kn_ok
 (kl_ok (ok_aP (ok_iload_n dX5_reached_115 rfl rfl)))
 (kl_ok (ok_iret rfl dX5_reached_116))))))))
/-- 144: FavourTown$Clearing.<init>(LFavourTown;)V -/
noncomputable def k_X6_init : Nat → Option AOp :=
 tn 18 (tn 6 (tn 2 (tn 1 (tl 0 (aP (f_aload 0 1)))
  (tl 1 (aP (f_aload 1 2))))
  (tn 5 (tl 2 (o_putf [4] 4 vA 5))
  (tl 5 (aP (f_aload 0 6)))))
  (tn 10 (tn 9 (tl 6 (aP (f_objI 9)))
  (tl 9 (aP (f_aload 0 10))))
  (tn 12 (tl 10 (aP (f_const (.int (nI 12)) 12)))
  (tn 14 (tl 12 (aP (f_const (.int (nI 12)) 14)))
  (tl 14 (o_mnew 18))))))
  (tn 29 (tn 22 (tn 21 (tl 18 (o_putf [4] 0 vA 21))
  (tl 21 (aP (f_aload 0 22))))
  (tn 24 (tl 22 (aP (f_const (.int (nI 8)) 24)))
  (tn 26 (tl 24 (o_newa 0 (.inl (fun _ => 0)) 26))
  (tl 26 (o_putf [4] 1 vA 29)))))
  (tn 32 (tn 30 (tl 29 (aP (f_aload 0 30)))
  (tl 30 (aP (f_const (.int (nI 8)) 32))))
  (tn 34 (tl 32 (o_newa 0 (.inl (fun _ => 0)) 34))
  (tn 37 (tl 34 (o_putf [4] 2 vA 37))
  (tl 37 (o_vret))))))
theorem kok_X6_init {γ : AG} (hm : γ.2.2.2.2.1 = mTab) (hk : γ.2.2.2.2.2 = kTab) : KOK γ m_X6_init k_X6_init :=
 kn_ok
 (kn_ok
 (kn_ok
 (kn_ok
 (kl_ok (ok_aP (ok_aload_n dX6_init_0 rfl rfl)))
 (kl_ok (ok_aP (ok_aload_n dX6_init_1 rfl rfl))))
 (kn_ok
 (kl_ok (ok_hp (ok_putF fo_96 fn_65 q339 rfl pd_12 vA_okO dX6_init_2 rfl) le_putf))
 (kl_ok (ok_aP (ok_aload_n dX6_init_5 rfl rfl)))))
 (kn_ok
 (kn_ok
 (kl_ok (ok_aP (ok_objI q332 q135 q136 dX6_init_6 rfl)))
 (kl_ok (ok_aP (ok_aload_n dX6_init_9 rfl rfl))))
 (kn_ok
 (kl_ok (ok_aP (ok_bipush dX6_init_10 (by decide +kernel) rfl)))
 (kn_ok
 (kl_ok (ok_aP (ok_bipush dX6_init_12 (by decide +kernel) rfl)))
 (kl_ok (ok_hp (ok_mnew q333 q171 dX6_init_14 rfl) le_mnew))))))
 (kn_ok
 (kn_ok
 (kn_ok
 (kl_ok (ok_hp (ok_putF fo_97 fn_66 q334 rfl pd_4 vA_okA dX6_init_18 rfl) le_putf))
 (kl_ok (ok_aP (ok_aload_n dX6_init_21 rfl rfl))))
 (kn_ok
 (kl_ok (ok_aP (ok_bipush dX6_init_22 (by decide +kernel) rfl)))
 (kn_ok
 (kl_ok (ok_hp (na_int dX6_init_24 rfl) le_newa))
 (kl_ok (ok_hp (ok_putF fo_98 fn_67 q335 rfl pd_2 vA_okA dX6_init_26 rfl) le_putf)))))
 (kn_ok
 (kn_ok
 (kl_ok (ok_aP (ok_aload_n dX6_init_29 rfl rfl)))
 (kl_ok (ok_aP (ok_bipush dX6_init_30 (by decide +kernel) rfl))))
 (kn_ok
 (kl_ok (ok_hp (na_int dX6_init_32 rfl) le_newa))
 (kn_ok
 (kl_ok (ok_hp (ok_putF fo_99 fn_68 q336 rfl pd_2 vA_okA dX6_init_34 rfl) le_putf))
 (kl_ok (ok_vret rfl dX6_init_37))))))
/-- 145: FavourTown$Clearing.goes()I -/
noncomputable def k_X6_goes : Nat → Option AOp :=
 tn 39 (tn 18 (tn 7 (tn 2 (tn 1 (tl 0 (aP (f_const (.int (nI 0)) 1)))
  (tl 1 (aP (f_istore 1 2))))
  (tn 3 (tl 2 (aP (f_iload 1 3)))
  (tn 4 (tl 3 (aP (f_aload 0 4)))
  (tl 4 (aP (f_getf [4] 4 7))))))
  (tn 13 (tn 10 (tl 7 (aP (f_getf [0] 0 10)))
  (tl 10 (aP (f_getf [1] 3 13))))
  (tn 16 (tl 13 (aP (f_icmp (fun x y => decide (y ≤ x)) 64 16)))
  (tn 17 (tl 16 (aP (f_const (.int (nI 0)) 17)))
  (tl 17 (aP (f_istore 2 18)))))))
  (tn 29 (tn 20 (tn 19 (tl 18 (aP (f_iload 2 19)))
  (tl 19 (aP (f_aload 0 20))))
  (tn 23 (tl 20 (aP (f_getf [4] 4 23)))
  (tn 26 (tl 23 (aP (f_getf [0] 0 26)))
  (tl 26 (aP (f_getf [1] 3 29))))))
  (tn 36 (tn 32 (tl 29 (aP (f_icmp (fun x y => decide (y ≤ x)) 58 32)))
  (tn 33 (tl 32 (aP (f_aload 0 33)))
  (tl 33 (aP (f_getf [4] 0 36)))))
  (tn 37 (tl 36 (aP (f_iload 1 37)))
  (tn 38 (tl 37 (aP (f_aald [3, 4, 5] 38)))
  (tl 38 (aP (f_iload 2 39))))))))
  (tn 64 (tn 48 (tn 43 (tn 40 (tl 39 (aP (f_aload 0 40)))
  (tl 40 (aP (f_getf [4] 4 43))))
  (tn 46 (tl 43 (aP (f_getf [0] 0 46)))
  (tn 47 (tl 46 (aP (f_iload 1 47)))
  (tl 47 (aP (f_iload 2 48))))))
  (tn 55 (tn 51 (tl 48 (o_callV (lkN [(1, 107)]) 2 51))
  (tn 52 (tl 51 (o_iast 0 (fun y => y) 52))
  (tl 52 (aP (f_iinc 2 (nI 1) 55)))))
  (tn 58 (tl 55 (aP (f_goto 18)))
  (tn 61 (tl 58 (aP (f_iinc 1 (nI 1) 61)))
  (tl 61 (aP (f_goto 2)))))))
  (tn 71 (tn 66 (tn 65 (tl 64 (aP (f_aload 0 65)))
  (tl 65 (aP (f_const (.int (-1)) 66))))
  (tn 69 (tl 66 (o_putf [4] 3 vI 69))
  (tn 70 (tl 69 (aP (f_aload 0 70)))
  (tl 70 (aP (f_const (.int (nI 0)) 71))))))
  (tn 76 (tn 72 (tl 71 (aP (f_const (.int (nI 0)) 72)))
  (tn 73 (tl 72 (aP (f_const (.int (nI 0)) 73)))
  (tl 73 (o_callV (lkN [(4, 146)]) 3 76))))
  (tn 77 (tl 76 (aP (f_aload 0 77)))
  (tn 80 (tl 77 (aP (f_getf [4] 3 80)))
  (tl 80 (o_iret (fun _ => true))))))))
theorem kok_X6_goes {γ : AG} (hm : γ.2.2.2.2.1 = mTab) (hk : γ.2.2.2.2.2 = kTab) : KOK γ m_X6_goes k_X6_goes :=
 kn_ok
 (kn_ok
 (kn_ok
 (kn_ok
 (kn_ok
 (kl_ok (ok_aP (ok_iconst dX6_goes_0 rfl rfl)))
 (kl_ok (ok_aP (ok_istore_n dX6_goes_1 rfl rfl))))
 (kn_ok
 (kl_ok (ok_aP (ok_iload_n dX6_goes_2 rfl rfl)))
 (kn_ok
 (kl_ok (ok_aP (ok_aload_n dX6_goes_3 rfl rfl)))
 (kl_ok (ok_aP (ok_getf fo_96 fs_rf (Or.inl q339) dX6_goes_4 rfl))))))
 (kn_ok
 (kn_ok
 (kl_ok (ok_aP (ok_getf fo_0 fs_rf (Or.inr ⟨_, q353⟩) dX6_goes_7 rfl)))
 (kl_ok (ok_aP (ok_getf fo_1 fs_rf (Or.inr ⟨_, q222⟩) dX6_goes_10 rfl))))
 (kn_ok
 (kl_ok (ok_aP (ok_icmp_ge dX6_goes_13 rfl rfl)))
 (kn_ok
 (kl_ok (ok_aP (ok_iconst dX6_goes_16 rfl rfl)))
 (kl_ok (ok_aP (ok_istore_n dX6_goes_17 rfl rfl)))))))
 (kn_ok
 (kn_ok
 (kn_ok
 (kl_ok (ok_aP (ok_iload_n dX6_goes_18 rfl rfl)))
 (kl_ok (ok_aP (ok_aload_n dX6_goes_19 rfl rfl))))
 (kn_ok
 (kl_ok (ok_aP (ok_getf fo_96 fs_rf (Or.inl q339) dX6_goes_20 rfl)))
 (kn_ok
 (kl_ok (ok_aP (ok_getf fo_0 fs_rf (Or.inr ⟨_, q353⟩) dX6_goes_23 rfl)))
 (kl_ok (ok_aP (ok_getf fo_1 fs_rf (Or.inr ⟨_, q222⟩) dX6_goes_26 rfl))))))
 (kn_ok
 (kn_ok
 (kl_ok (ok_aP (ok_icmp_ge dX6_goes_29 rfl rfl)))
 (kn_ok
 (kl_ok (ok_aP (ok_aload_n dX6_goes_32 rfl rfl)))
 (kl_ok (ok_aP (ok_getf fo_97 fs_rf (Or.inl q334) dX6_goes_33 rfl)))))
 (kn_ok
 (kl_ok (ok_aP (ok_iload_n dX6_goes_36 rfl rfl)))
 (kn_ok
 (kl_ok (ok_aP (ok_aald ts345 dX6_goes_37 rfl)))
 (kl_ok (ok_aP (ok_iload_n dX6_goes_38 rfl rfl))))))))
 (kn_ok
 (kn_ok
 (kn_ok
 (kn_ok
 (kl_ok (ok_aP (ok_aload_n dX6_goes_39 rfl rfl)))
 (kl_ok (ok_aP (ok_getf fo_96 fs_rf (Or.inl q339) dX6_goes_40 rfl))))
 (kn_ok
 (kl_ok (ok_aP (ok_getf fo_0 fs_rf (Or.inr ⟨_, q353⟩) dX6_goes_43 rfl)))
 (kn_ok
 (kl_ok (ok_aP (ok_iload_n dX6_goes_46 rfl rfl)))
 (kl_ok (ok_aP (ok_iload_n dX6_goes_47 rfl rfl))))))
 (kn_ok
 (kn_ok
 (kl_ok (ok_callV (List.forall_mem_cons.mpr ⟨run_V (C0 := "FavourTown$World") rfl rfl (by rw [hm]; rfl) q1785 q1676 q1677 q84 q1678 ⟨nh_3, dl_6⟩ (by decide) dX6_goes_48, (fun _ h => absurd h List.not_mem_nil)⟩) rfl))
 (kn_ok
 (kl_ok (ok_hp (ok_iast dX6_goes_51 rfl) le_iast))
 (kl_ok (ok_aP (ok_iinc dX6_goes_52 (by decide +kernel) rfl)))))
 (kn_ok
 (kl_ok (ok_aP (ok_goto dX6_goes_55 rfl)))
 (kn_ok
 (kl_ok (ok_aP (ok_iinc dX6_goes_58 (by decide +kernel) rfl)))
 (kl_ok (ok_aP (ok_goto dX6_goes_61 rfl)))))))
 (kn_ok
 (kn_ok
 (kn_ok
 (kl_ok (ok_aP (ok_aload_n dX6_goes_64 rfl rfl)))
 (kl_ok (ok_aP (ok_iconst dX6_goes_65 rfl rfl))))
 (kn_ok
 (kl_ok (ok_hp (ok_putf fo_100 fs_rf fn_69 (Or.inl q338) pd_0 vI_ok dX6_goes_66 rfl) le_putf))
 (kn_ok
 (kl_ok (ok_aP (ok_aload_n dX6_goes_69 rfl rfl)))
 (kl_ok (ok_aP (ok_iconst dX6_goes_70 rfl rfl))))))
 (kn_ok
 (kn_ok
 (kl_ok (ok_aP (ok_iconst dX6_goes_71 rfl rfl)))
 (kn_ok
 (kl_ok (ok_aP (ok_iconst dX6_goes_72 rfl rfl)))
 (kl_ok (ok_callV (List.forall_mem_cons.mpr ⟨run_V (C0 := "FavourTown$Clearing") rfl rfl (by rw [hm]; rfl) q1786 q1788 qs29 q91 q1789 ⟨nh_25, dl_46⟩ (by decide) dX6_goes_73, (fun _ h => absurd h List.not_mem_nil)⟩) rfl))))
 (kn_ok
 (kl_ok (ok_aP (ok_aload_n dX6_goes_76 rfl rfl)))
 (kn_ok
 (kl_ok (ok_aP (ok_getf fo_100 fs_rf (Or.inl q338) dX6_goes_77 rfl)))
 (kl_ok (ok_iret rfl dX6_goes_80)))))))
/-- 146: FavourTown$Clearing.tries(III)V -/
noncomputable def k_X6_tries : Nat → Option AOp :=
 tn 84 (tn 41 (tn 22 (tn 11 (tn 2 (tn 1 (tl 0 (aP (f_iload 1 1)))
  (tl 1 (aP (f_aload 0 2))))
  (tn 5 (tl 2 (aP (f_getf [4] 4 5)))
  (tn 8 (tl 5 (aP (f_getf [0] 0 8)))
  (tl 8 (aP (f_getf [1] 12 11))))))
  (tn 17 (tn 14 (tl 11 (o_callV (lkN [(19, 113)]) 0 14))
  (tl 14 (aP (f_icmp (fun x y => decide (¬ x = y)) 46 17))))
  (tn 18 (tl 17 (aP (f_iload 3 18)))
  (tn 19 (tl 18 (aP (f_aload 0 19)))
  (tl 19 (aP (f_getf [4] 3 22)))))))
  (tn 31 (tn 26 (tn 25 (tl 22 (aP (f_icmp (fun x y => decide (y < x)) 26 25)))
  (tl 25 (o_vret)))
  (tn 27 (tl 26 (aP (f_aload 0 27)))
  (tn 28 (tl 27 (aP (f_iload 3 28)))
  (tl 28 (o_putf [4] 3 vI 31)))))
  (tn 36 (tn 32 (tl 31 (aP (f_aload 0 32)))
  (tn 35 (tl 32 (aP (f_getf [4] 1 35)))
  (tl 35 (aP (f_const (.int (nI 0)) 36)))))
  (tn 37 (tl 36 (aP (f_aload 0 37)))
  (tn 40 (tl 37 (aP (f_getf [4] 2 40)))
  (tl 40 (aP (f_const (.int (nI 0)) 41))))))))
  (tn 64 (tn 49 (tn 45 (tn 42 (tl 41 (aP (f_iload 1 42)))
  (tl 42 (o_copy anyC anyT 45)))
  (tn 46 (tl 45 (o_vret))
  (tn 47 (tl 46 (aP (f_const (.int (nI 0)) 47)))
  (tl 47 (aP (f_istore 4 49))))))
  (tn 55 (tn 51 (tl 49 (aP (f_iload 4 51)))
  (tn 52 (tl 51 (aP (f_aload 0 52)))
  (tl 52 (aP (f_getf [4] 4 55)))))
  (tn 58 (tl 55 (aP (f_getf [0] 0 58)))
  (tn 61 (tl 58 (aP (f_getf [1] 12 61)))
  (tl 61 (o_callV (lkN [(19, 113)]) 0 64))))))
  (tn 72 (tn 68 (tn 67 (tl 64 (aP (f_icmp (fun x y => decide (y ≤ x)) 160 67)))
  (tl 67 (aP (f_iload 2 68))))
  (tn 70 (tl 68 (aP (f_iload 4 70)))
  (tn 71 (tl 70 (aP (f_bin (fun x y => x >>> (y &&& 31)) 71)))
  (tl 71 (aP (f_const (.int (nI 1)) 72))))))
  (tn 77 (tn 73 (tl 72 (aP (f_bin (fun x y => x &&& y) 73)))
  (tn 74 (tl 73 (aP (f_const (.int (nI 1)) 74)))
  (tl 74 (aP (f_icmp (fun x y => decide (¬ x = y)) 80 77)))))
  (tn 80 (tl 77 (aP (f_goto 154)))
  (tn 81 (tl 80 (aP (f_aload 0 81)))
  (tl 81 (aP (f_getf [4] 4 84)))))))))
  (tn 126 (tn 108 (tn 98 (tn 90 (tn 87 (tl 84 (aP (f_getf [0] 0 87)))
  (tl 87 (aP (f_getf [1] 12 90))))
  (tn 92 (tl 90 (aP (f_iload 4 92)))
  (tn 95 (tl 92 (o_callV (lkN [(19, 114)]) 1 95))
  (tl 95 (aP (f_cast [] [0] 98))))))
  (tn 101 (tn 100 (tl 98 (aP (f_astore 5 100)))
  (tl 100 (aP (f_aload 0 101))))
  (tn 103 (tl 101 (aP (f_aload 5 103)))
  (tn 106 (tl 103 (o_callV (lkN [(4, 147)]) 1 106))
  (tl 106 (aP (f_istore 6 108)))))))
  (tn 117 (tn 111 (tn 109 (tl 108 (aP (f_aload 0 109)))
  (tl 109 (aP (f_aload 5 111))))
  (tn 113 (tl 111 (aP (f_iload 6 113)))
  (tn 116 (tl 113 (o_callV (lkN [(4, 148)]) 2 116))
  (tl 116 (aP (f_aload 0 117))))))
  (tn 123 (tn 120 (tl 117 (aP (f_getf [4] 1 120)))
  (tn 121 (tl 120 (aP (f_iload 1 121)))
  (tl 121 (aP (f_iload 4 123)))))
  (tn 124 (tl 123 (o_iast 0 (fun y => y) 124))
  (tn 125 (tl 124 (aP (f_aload 0 125)))
  (tl 125 (aP (f_iload 1 126))))))))
  (tn 140 (tn 132 (tn 128 (tn 127 (tl 126 (aP (f_const (.int (nI 1)) 127)))
  (tl 127 (aP (f_bin (fun x y => x + y) 128))))
  (tn 129 (tl 128 (aP (f_iload 2 129)))
  (tn 130 (tl 129 (aP (f_const (.int (nI 1)) 130)))
  (tl 130 (aP (f_iload 4 132))))))
  (tn 135 (tn 133 (tl 132 (aP (f_bin (fun x y => x <<< (y &&& 31)) 133)))
  (tn 134 (tl 133 (aP (f_bin (fun x y => x ||| y) 134)))
  (tl 134 (aP (f_iload 3 135)))))
  (tn 137 (tl 135 (aP (f_iload 6 137)))
  (tn 139 (tl 137 (aP (f_aload 5 139)))
  (tl 139 (aP (f_alen 140)))))))
  (tn 148 (tn 142 (tn 141 (tl 140 (aP (f_bin (fun x y => x * y) 141)))
  (tl 141 (aP (f_bin (fun x y => x + y) 142))))
  (tn 145 (tl 142 (o_callV (lkN [(4, 146)]) 3 145))
  (tn 146 (tl 145 (aP (f_aload 0 146)))
  (tl 146 (aP (f_aload 5 148))))))
  (tn 154 (tn 150 (tl 148 (aP (f_iload 6 150)))
  (tn 151 (tl 150 (aP (f_un (fun x => -x) 151)))
  (tl 151 (o_callV (lkN [(4, 148)]) 2 154))))
  (tn 157 (tl 154 (aP (f_iinc 4 (nI 1) 157)))
  (tn 160 (tl 157 (aP (f_goto 49)))
  (tl 160 (o_vret))))))))
theorem kok_X6_tries {γ : AG} (hm : γ.2.2.2.2.1 = mTab) (hk : γ.2.2.2.2.2 = kTab) : KOK γ m_X6_tries k_X6_tries :=
 kn_ok
 (kn_ok
 (kn_ok
 (kn_ok
 (kn_ok
 (kn_ok
 (kl_ok (ok_aP (ok_iload_n dX6_tries_0 rfl rfl)))
 (kl_ok (ok_aP (ok_aload_n dX6_tries_1 rfl rfl))))
 (kn_ok
 (kl_ok (ok_aP (ok_getf fo_96 fs_rf (Or.inl q339) dX6_tries_2 rfl)))
 (kn_ok
 (kl_ok (ok_aP (ok_getf fo_0 fs_rf (Or.inr ⟨_, q353⟩) dX6_tries_5 rfl)))
 (kl_ok (ok_aP (ok_getf fo_46 fs_rf (Or.inr ⟨_, q241⟩) dX6_tries_8 rfl))))))
 (kn_ok
 (kn_ok
 (kl_ok (ok_callV (List.forall_mem_cons.mpr ⟨run_V (C0 := "java/util/ArrayList") rfl rfl (by rw [hm]; rfl) q1790 q401 q402 q87 q403 ⟨nh_4, dl_4⟩ (by decide) dX6_tries_11, (fun _ h => absurd h List.not_mem_nil)⟩) rfl))
 (kl_ok (ok_aP (ok_icmp_ne dX6_tries_14 rfl rfl))))
 (kn_ok
 (kl_ok (ok_aP (ok_iload_n dX6_tries_17 rfl rfl)))
 (kn_ok
 (kl_ok (ok_aP (ok_aload_n dX6_tries_18 rfl rfl)))
 (kl_ok (ok_aP (ok_getf fo_100 fs_rf (Or.inl q338) dX6_tries_19 rfl)))))))
 (kn_ok
 (kn_ok
 (kn_ok
 (kl_ok (ok_aP (ok_icmp_gt dX6_tries_22 rfl rfl)))
 (kl_ok (ok_vret rfl dX6_tries_25)))
 (kn_ok
 (kl_ok (ok_aP (ok_aload_n dX6_tries_26 rfl rfl)))
 (kn_ok
 (kl_ok (ok_aP (ok_iload_n dX6_tries_27 rfl rfl)))
 (kl_ok (ok_hp (ok_putf fo_100 fs_rf fn_69 (Or.inl q338) pd_0 vI_ok dX6_tries_28 rfl) le_putf)))))
 (kn_ok
 (kn_ok
 (kl_ok (ok_aP (ok_aload_n dX6_tries_31 rfl rfl)))
 (kn_ok
 (kl_ok (ok_aP (ok_getf fo_98 fs_rf (Or.inl q335) dX6_tries_32 rfl)))
 (kl_ok (ok_aP (ok_iconst dX6_tries_35 rfl rfl)))))
 (kn_ok
 (kl_ok (ok_aP (ok_aload_n dX6_tries_36 rfl rfl)))
 (kn_ok
 (kl_ok (ok_aP (ok_getf fo_99 fs_rf (Or.inl q336) dX6_tries_37 rfl)))
 (kl_ok (ok_aP (ok_iconst dX6_tries_40 rfl rfl))))))))
 (kn_ok
 (kn_ok
 (kn_ok
 (kn_ok
 (kl_ok (ok_aP (ok_iload_n dX6_tries_41 rfl rfl)))
 (kl_ok (ok_hp (ok_copy any_ok q1791 q585 q584 q93 dX6_tries_42 rfl) le_copy)))
 (kn_ok
 (kl_ok (ok_vret rfl dX6_tries_45))
 (kn_ok
 (kl_ok (ok_aP (ok_iconst dX6_tries_46 rfl rfl)))
 (kl_ok (ok_aP (ok_istore dX6_tries_47 rfl))))))
 (kn_ok
 (kn_ok
 (kl_ok (ok_aP (ok_iload dX6_tries_49 rfl)))
 (kn_ok
 (kl_ok (ok_aP (ok_aload_n dX6_tries_51 rfl rfl)))
 (kl_ok (ok_aP (ok_getf fo_96 fs_rf (Or.inl q339) dX6_tries_52 rfl)))))
 (kn_ok
 (kl_ok (ok_aP (ok_getf fo_0 fs_rf (Or.inr ⟨_, q353⟩) dX6_tries_55 rfl)))
 (kn_ok
 (kl_ok (ok_aP (ok_getf fo_46 fs_rf (Or.inr ⟨_, q241⟩) dX6_tries_58 rfl)))
 (kl_ok (ok_callV (List.forall_mem_cons.mpr ⟨run_V (C0 := "java/util/ArrayList") rfl rfl (by rw [hm]; rfl) q1790 q401 q402 q87 q403 ⟨nh_4, dl_4⟩ (by decide) dX6_tries_61, (fun _ h => absurd h List.not_mem_nil)⟩) rfl))))))
 (kn_ok
 (kn_ok
 (kn_ok
 (kl_ok (ok_aP (ok_icmp_ge dX6_tries_64 rfl rfl)))
 (kl_ok (ok_aP (ok_iload_n dX6_tries_67 rfl rfl))))
 (kn_ok
 (kl_ok (ok_aP (ok_iload dX6_tries_68 rfl)))
 (kn_ok
 (kl_ok (ok_aP (ok_ishr dX6_tries_70 rfl)))
 (kl_ok (ok_aP (ok_iconst dX6_tries_71 rfl rfl))))))
 (kn_ok
 (kn_ok
 (kl_ok (ok_aP (ok_iand dX6_tries_72 rfl)))
 (kn_ok
 (kl_ok (ok_aP (ok_iconst dX6_tries_73 rfl rfl)))
 (kl_ok (ok_aP (ok_icmp_ne dX6_tries_74 rfl rfl)))))
 (kn_ok
 (kl_ok (ok_aP (ok_goto dX6_tries_77 rfl)))
 (kn_ok
 (kl_ok (ok_aP (ok_aload_n dX6_tries_80 rfl rfl)))
 (kl_ok (ok_aP (ok_getf fo_96 fs_rf (Or.inl q339) dX6_tries_81 rfl)))))))))
 (kn_ok
 (kn_ok
 (kn_ok
 (kn_ok
 (kn_ok
 (kl_ok (ok_aP (ok_getf fo_0 fs_rf (Or.inr ⟨_, q353⟩) dX6_tries_84 rfl)))
 (kl_ok (ok_aP (ok_getf fo_46 fs_rf (Or.inr ⟨_, q241⟩) dX6_tries_87 rfl))))
 (kn_ok
 (kl_ok (ok_aP (ok_iload dX6_tries_90 rfl)))
 (kn_ok
 (kl_ok (ok_callV (List.forall_mem_cons.mpr ⟨run_V (C0 := "java/util/ArrayList") rfl rfl (by rw [hm]; rfl) q1792 q405 q406 q87 q407 ⟨nh_4, dl_21⟩ (by decide) dX6_tries_92, (fun _ h => absurd h List.not_mem_nil)⟩) rfl))
 (kl_ok (ok_aP (ok_cast q1793 (fun _ h => absurd h List.not_mem_nil) (List.forall_mem_cons.mpr ⟨fc_0 γ, (fun _ h => absurd h List.not_mem_nil)⟩) dX6_tries_95 rfl))))))
 (kn_ok
 (kn_ok
 (kl_ok (ok_aP (ok_astore dX6_tries_98 rfl)))
 (kl_ok (ok_aP (ok_aload_n dX6_tries_100 rfl rfl))))
 (kn_ok
 (kl_ok (ok_aP (ok_aload dX6_tries_101 rfl)))
 (kn_ok
 (kl_ok (ok_callV (List.forall_mem_cons.mpr ⟨run_V (C0 := "FavourTown$Clearing") rfl rfl (by rw [hm]; rfl) q1794 q1796 qs30 q91 q1797 ⟨nh_25, dl_53⟩ (by decide) dX6_tries_103, (fun _ h => absurd h List.not_mem_nil)⟩) rfl))
 (kl_ok (ok_aP (ok_istore dX6_tries_106 rfl)))))))
 (kn_ok
 (kn_ok
 (kn_ok
 (kl_ok (ok_aP (ok_aload_n dX6_tries_108 rfl rfl)))
 (kl_ok (ok_aP (ok_aload dX6_tries_109 rfl))))
 (kn_ok
 (kl_ok (ok_aP (ok_iload dX6_tries_111 rfl)))
 (kn_ok
 (kl_ok (ok_callV (List.forall_mem_cons.mpr ⟨run_V (C0 := "FavourTown$Clearing") rfl rfl (by rw [hm]; rfl) q1800 q1802 qs31 q91 q1803 ⟨nh_25, dl_55⟩ (by decide) dX6_tries_113, (fun _ h => absurd h List.not_mem_nil)⟩) rfl))
 (kl_ok (ok_aP (ok_aload_n dX6_tries_116 rfl rfl))))))
 (kn_ok
 (kn_ok
 (kl_ok (ok_aP (ok_getf fo_98 fs_rf (Or.inl q335) dX6_tries_117 rfl)))
 (kn_ok
 (kl_ok (ok_aP (ok_iload_n dX6_tries_120 rfl rfl)))
 (kl_ok (ok_aP (ok_iload dX6_tries_121 rfl)))))
 (kn_ok
 (kl_ok (ok_hp (ok_iast dX6_tries_123 rfl) le_iast))
 (kn_ok
 (kl_ok (ok_aP (ok_aload_n dX6_tries_124 rfl rfl)))
 (kl_ok (ok_aP (ok_iload_n dX6_tries_125 rfl rfl))))))))
 (kn_ok
 (kn_ok
 (kn_ok
 (kn_ok
 (kl_ok (ok_aP (ok_iconst dX6_tries_126 rfl rfl)))
 (kl_ok (ok_aP (ok_iadd dX6_tries_127 rfl))))
 (kn_ok
 (kl_ok (ok_aP (ok_iload_n dX6_tries_128 rfl rfl)))
 (kn_ok
 (kl_ok (ok_aP (ok_iconst dX6_tries_129 rfl rfl)))
 (kl_ok (ok_aP (ok_iload dX6_tries_130 rfl))))))
 (kn_ok
 (kn_ok
 (kl_ok (ok_aP (ok_ishl dX6_tries_132 rfl)))
 (kn_ok
 (kl_ok (ok_aP (ok_ior dX6_tries_133 rfl)))
 (kl_ok (ok_aP (ok_iload_n dX6_tries_134 rfl rfl)))))
 (kn_ok
 (kl_ok (ok_aP (ok_iload dX6_tries_135 rfl)))
 (kn_ok
 (kl_ok (ok_aP (ok_aload dX6_tries_137 rfl)))
 (kl_ok (ok_aP (ok_alen dX6_tries_139 rfl)))))))
 (kn_ok
 (kn_ok
 (kn_ok
 (kl_ok (ok_aP (ok_imul dX6_tries_140 rfl)))
 (kl_ok (ok_aP (ok_iadd dX6_tries_141 rfl))))
 (kn_ok
 (kl_ok (ok_callV (List.forall_mem_cons.mpr ⟨run_V (C0 := "FavourTown$Clearing") rfl rfl (by rw [hm]; rfl) q1786 q1788 qs29 q91 q1789 ⟨nh_25, dl_46⟩ (by decide) dX6_tries_142, (fun _ h => absurd h List.not_mem_nil)⟩) rfl))
 (kn_ok
 (kl_ok (ok_aP (ok_aload_n dX6_tries_145 rfl rfl)))
 (kl_ok (ok_aP (ok_aload dX6_tries_146 rfl))))))
 (kn_ok
 (kn_ok
 (kl_ok (ok_aP (ok_iload dX6_tries_148 rfl)))
 (kn_ok
 (kl_ok (ok_aP (ok_ineg dX6_tries_150 rfl)))
 (kl_ok (ok_callV (List.forall_mem_cons.mpr ⟨run_V (C0 := "FavourTown$Clearing") rfl rfl (by rw [hm]; rfl) q1800 q1802 qs31 q91 q1803 ⟨nh_25, dl_55⟩ (by decide) dX6_tries_151, (fun _ h => absurd h List.not_mem_nil)⟩) rfl))))
 (kn_ok
 (kl_ok (ok_aP (ok_iinc dX6_tries_154 (by decide +kernel) rfl)))
 (kn_ok
 (kl_ok (ok_aP (ok_goto dX6_tries_157 rfl)))
 (kl_ok (ok_vret rfl dX6_tries_160))))))))
/-- 147: FavourTown$Clearing.least([I)I -/
noncomputable def k_X6_least : Nat → Option AOp :=
 tn 20 (tn 8 (tn 4 (tn 2 (tl 0 (aP (f_const (.int (2147483647 : Int32)) 2)))
  (tn 3 (tl 2 (aP (f_istore 2 3)))
  (tl 3 (aP (f_const (.int (nI 0)) 4)))))
  (tn 6 (tn 5 (tl 4 (aP (f_istore 3 5)))
  (tl 5 (aP (f_iload 3 6))))
  (tn 7 (tl 6 (aP (f_aload 1 7)))
  (tl 7 (aP (f_alen 8))))))
  (tn 16 (tn 12 (tn 11 (tl 8 (aP (f_icmp (fun x y => decide (y ≤ x)) 39 11)))
  (tl 11 (aP (f_iload 2 12))))
  (tn 13 (tl 12 (aP (f_aload 0 13)))
  (tl 13 (aP (f_getf [4] 0 16)))))
  (tn 18 (tn 17 (tl 16 (aP (f_aload 1 17)))
  (tl 17 (aP (f_iload 3 18))))
  (tn 19 (tl 18 (aP (f_iald 0 19)))
  (tl 19 (aP (f_aald [3, 4, 5] 20)))))))
  (tn 27 (tn 23 (tn 21 (tl 20 (aP (f_aload 1 21)))
  (tn 22 (tl 21 (aP (f_iload 3 22)))
  (tl 22 (aP (f_const (.int (nI 1)) 23)))))
  (tn 25 (tn 24 (tl 23 (aP (f_bin (fun x y => x + y) 24)))
  (tl 24 (aP (f_aload 1 25))))
  (tn 26 (tl 25 (aP (f_alen 26)))
  (tl 26 (aP (f_div (fun x y => x - x / y * y) 27))))))
  (tn 33 (tn 29 (tn 28 (tl 27 (aP (f_iald 0 28)))
  (tl 28 (aP (f_iald 0 29))))
  (tn 32 (tl 29 (o_mth (fun x y => if y < x then y else x) 32))
  (tl 32 (aP (f_istore 2 33)))))
  (tn 39 (tn 36 (tl 33 (aP (f_iinc 3 (nI 1) 36)))
  (tl 36 (aP (f_goto 5))))
  (tn 40 (tl 39 (aP (f_iload 2 40)))
  (tl 40 (o_iret (fun _ => true)))))))
theorem kok_X6_least {γ : AG} (hm : γ.2.2.2.2.1 = mTab) (hk : γ.2.2.2.2.2 = kTab) : KOK γ m_X6_least k_X6_least :=
 kn_ok
 (kn_ok
 (kn_ok
 (kn_ok
 (kl_ok (ok_aP (ok_ldc q1798 dX6_least_0 rfl)))
 (kn_ok
 (kl_ok (ok_aP (ok_istore_n dX6_least_2 rfl rfl)))
 (kl_ok (ok_aP (ok_iconst dX6_least_3 rfl rfl)))))
 (kn_ok
 (kn_ok
 (kl_ok (ok_aP (ok_istore_n dX6_least_4 rfl rfl)))
 (kl_ok (ok_aP (ok_iload_n dX6_least_5 rfl rfl))))
 (kn_ok
 (kl_ok (ok_aP (ok_aload_n dX6_least_6 rfl rfl)))
 (kl_ok (ok_aP (ok_alen dX6_least_7 rfl))))))
 (kn_ok
 (kn_ok
 (kn_ok
 (kl_ok (ok_aP (ok_icmp_ge dX6_least_8 rfl rfl)))
 (kl_ok (ok_aP (ok_iload_n dX6_least_11 rfl rfl))))
 (kn_ok
 (kl_ok (ok_aP (ok_aload_n dX6_least_12 rfl rfl)))
 (kl_ok (ok_aP (ok_getf fo_97 fs_rf (Or.inl q334) dX6_least_13 rfl)))))
 (kn_ok
 (kn_ok
 (kl_ok (ok_aP (ok_aload_n dX6_least_16 rfl rfl)))
 (kl_ok (ok_aP (ok_iload_n dX6_least_17 rfl rfl))))
 (kn_ok
 (kl_ok (ok_aP (ok_iald dX6_least_18 rfl)))
 (kl_ok (ok_aP (ok_aald ts345 dX6_least_19 rfl)))))))
 (kn_ok
 (kn_ok
 (kn_ok
 (kl_ok (ok_aP (ok_aload_n dX6_least_20 rfl rfl)))
 (kn_ok
 (kl_ok (ok_aP (ok_iload_n dX6_least_21 rfl rfl)))
 (kl_ok (ok_aP (ok_iconst dX6_least_22 rfl rfl)))))
 (kn_ok
 (kn_ok
 (kl_ok (ok_aP (ok_iadd dX6_least_23 rfl)))
 (kl_ok (ok_aP (ok_aload_n dX6_least_24 rfl rfl))))
 (kn_ok
 (kl_ok (ok_aP (ok_alen dX6_least_25 rfl)))
 (kl_ok (ok_aP (ok_irem dX6_least_26 rfl))))))
 (kn_ok
 (kn_ok
 (kn_ok
 (kl_ok (ok_aP (ok_iald dX6_least_27 rfl)))
 (kl_ok (ok_aP (ok_iald dX6_least_28 rfl))))
 (kn_ok
 (kl_ok (ok_hp (ok_mmin q1799 q728 q99 q729 dX6_least_29 rfl) le_mth))
 (kl_ok (ok_aP (ok_istore_n dX6_least_32 rfl rfl)))))
 (kn_ok
 (kn_ok
 (kl_ok (ok_aP (ok_iinc dX6_least_33 (by decide +kernel) rfl)))
 (kl_ok (ok_aP (ok_goto dX6_least_36 rfl))))
 (kn_ok
 (kl_ok (ok_aP (ok_iload_n dX6_least_39 rfl rfl)))
 (kl_ok (ok_iret rfl dX6_least_40))))))
/-- 148: FavourTown$Clearing.takes([II)V -/
noncomputable def k_X6_takes : Nat → Option AOp :=
 tn 18 (tn 9 (tn 3 (tn 1 (tl 0 (aP (f_const (.int (nI 0)) 1)))
  (tn 2 (tl 1 (aP (f_istore 3 2)))
  (tl 2 (aP (f_iload 3 3)))))
  (tn 5 (tn 4 (tl 3 (aP (f_aload 1 4)))
  (tl 4 (aP (f_alen 5))))
  (tn 8 (tl 5 (aP (f_icmp (fun x y => decide (y ≤ x)) 35 8)))
  (tl 8 (aP (f_aload 0 9))))))
  (tn 14 (tn 12 (tl 9 (aP (f_getf [4] 0 12)))
  (tn 13 (tl 12 (aP (f_aload 1 13)))
  (tl 13 (aP (f_iload 3 14)))))
  (tn 16 (tn 15 (tl 14 (aP (f_iald 0 15)))
  (tl 15 (aP (f_aald [3, 4, 5] 16))))
  (tn 17 (tl 16 (aP (f_aload 1 17)))
  (tl 17 (aP (f_iload 3 18)))))))
  (tn 25 (tn 21 (tn 19 (tl 18 (aP (f_const (.int (nI 1)) 19)))
  (tn 20 (tl 19 (aP (f_bin (fun x y => x + y) 20)))
  (tl 20 (aP (f_aload 1 21)))))
  (tn 23 (tn 22 (tl 21 (aP (f_alen 22)))
  (tl 22 (aP (f_div (fun x y => x - x / y * y) 23))))
  (tn 24 (tl 23 (aP (f_iald 0 24)))
  (tl 24 (aP (f_dup2 25))))))
  (tn 28 (tn 26 (tl 25 (aP (f_iald 0 26)))
  (tn 27 (tl 26 (aP (f_iload 2 27)))
  (tl 27 (aP (f_bin (fun x y => x - y) 28)))))
  (tn 32 (tn 29 (tl 28 (o_iast 0 (fun y => y) 29))
  (tl 29 (aP (f_iinc 3 (nI 1) 32))))
  (tn 35 (tl 32 (aP (f_goto 2)))
  (tl 35 (o_vret))))))
theorem kok_X6_takes {γ : AG} (hm : γ.2.2.2.2.1 = mTab) (hk : γ.2.2.2.2.2 = kTab) : KOK γ m_X6_takes k_X6_takes :=
 kn_ok
 (kn_ok
 (kn_ok
 (kn_ok
 (kl_ok (ok_aP (ok_iconst dX6_takes_0 rfl rfl)))
 (kn_ok
 (kl_ok (ok_aP (ok_istore_n dX6_takes_1 rfl rfl)))
 (kl_ok (ok_aP (ok_iload_n dX6_takes_2 rfl rfl)))))
 (kn_ok
 (kn_ok
 (kl_ok (ok_aP (ok_aload_n dX6_takes_3 rfl rfl)))
 (kl_ok (ok_aP (ok_alen dX6_takes_4 rfl))))
 (kn_ok
 (kl_ok (ok_aP (ok_icmp_ge dX6_takes_5 rfl rfl)))
 (kl_ok (ok_aP (ok_aload_n dX6_takes_8 rfl rfl))))))
 (kn_ok
 (kn_ok
 (kl_ok (ok_aP (ok_getf fo_97 fs_rf (Or.inl q334) dX6_takes_9 rfl)))
 (kn_ok
 (kl_ok (ok_aP (ok_aload_n dX6_takes_12 rfl rfl)))
 (kl_ok (ok_aP (ok_iload_n dX6_takes_13 rfl rfl)))))
 (kn_ok
 (kn_ok
 (kl_ok (ok_aP (ok_iald dX6_takes_14 rfl)))
 (kl_ok (ok_aP (ok_aald ts345 dX6_takes_15 rfl))))
 (kn_ok
 (kl_ok (ok_aP (ok_aload_n dX6_takes_16 rfl rfl)))
 (kl_ok (ok_aP (ok_iload_n dX6_takes_17 rfl rfl)))))))
 (kn_ok
 (kn_ok
 (kn_ok
 (kl_ok (ok_aP (ok_iconst dX6_takes_18 rfl rfl)))
 (kn_ok
 (kl_ok (ok_aP (ok_iadd dX6_takes_19 rfl)))
 (kl_ok (ok_aP (ok_aload_n dX6_takes_20 rfl rfl)))))
 (kn_ok
 (kn_ok
 (kl_ok (ok_aP (ok_alen dX6_takes_21 rfl)))
 (kl_ok (ok_aP (ok_irem dX6_takes_22 rfl))))
 (kn_ok
 (kl_ok (ok_aP (ok_iald dX6_takes_23 rfl)))
 (kl_ok (ok_aP (ok_dup2 dX6_takes_24 rfl))))))
 (kn_ok
 (kn_ok
 (kl_ok (ok_aP (ok_iald dX6_takes_25 rfl)))
 (kn_ok
 (kl_ok (ok_aP (ok_iload_n dX6_takes_26 rfl rfl)))
 (kl_ok (ok_aP (ok_isub dX6_takes_27 rfl)))))
 (kn_ok
 (kn_ok
 (kl_ok (ok_hp (ok_iast dX6_takes_28 rfl) le_iast))
 (kl_ok (ok_aP (ok_iinc dX6_takes_29 (by decide +kernel) rfl))))
 (kn_ok
 (kl_ok (ok_aP (ok_goto dX6_takes_32 rfl)))
 (kl_ok (ok_vret rfl dX6_takes_35))))))
/-- 242: FavourTown$Favour.end()I -/
noncomputable def k_X8_end : Nat → Option AOp :=
 tn 1 (tl 0 (aP (f_const (.int (-1)) 1)))
  (tl 1 (o_iret (fun _ => true)))
theorem kok_X8_end {γ : AG} (hm : γ.2.2.2.2.1 = mTab) (hk : γ.2.2.2.2.2 = kTab) : KOK γ m_X8_end k_X8_end :=
 kn_ok
 (kl_ok (ok_aP (ok_iconst dX8_end_0 rfl rfl)))
 (kl_ok (ok_iret rfl dX8_end_1))
/-- 243: FavourTown$Favour.worthAt(I)I -/
noncomputable def k_X8_worthAt : Nat → Option AOp :=
 tn 7 (tn 1 (tl 0 (aP (f_aload 0 1)))
  (tn 4 (tl 1 (aP (f_getf [5, 6] 1 4)))
  (tl 4 (aP (f_const (.int (nI 1024)) 7)))))
  (tn 9 (tn 8 (tl 7 (aP (f_bin (fun x y => x * y) 8)))
  (tl 8 (aP (f_iload 1 9))))
  (tn 10 (tl 9 (aP (f_bin (fun x y => x >>> (y &&& 31)) 10)))
  (tl 10 (o_iret (fun _ => true)))))
theorem kok_X8_worthAt {γ : AG} (hm : γ.2.2.2.2.1 = mTab) (hk : γ.2.2.2.2.2 = kTab) : KOK γ m_X8_worthAt k_X8_worthAt :=
 kn_ok
 (kn_ok
 (kl_ok (ok_aP (ok_aload_n dX8_worthAt_0 rfl rfl)))
 (kn_ok
 (kl_ok (ok_aP (ok_getf fo_10 fs_rf (Or.inl q607) dX8_worthAt_1 rfl)))
 (kl_ok (ok_aP (ok_sipush dX8_worthAt_4 (by decide +kernel) rfl)))))
 (kn_ok
 (kn_ok
 (kl_ok (ok_aP (ok_imul dX8_worthAt_7 rfl)))
 (kl_ok (ok_aP (ok_iload_n dX8_worthAt_8 rfl rfl))))
 (kn_ok
 (kl_ok (ok_aP (ok_ishr dX8_worthAt_9 rfl)))
 (kl_ok (ok_iret rfl dX8_worthAt_10))))
/-- 244: FavourTown$Favour.wasHeldBy(I)Z -/
noncomputable def k_X8_wasHeldBy : Nat → Option AOp :=
 tn 16 (tn 7 (tn 2 (tn 1 (tl 0 (aP (f_const (.int (nI 1)) 1)))
  (tl 1 (aP (f_istore 2 2))))
  (tn 3 (tl 2 (aP (f_iload 2 3)))
  (tn 4 (tl 3 (aP (f_aload 0 4)))
  (tl 4 (aP (f_getf [5, 6] 5 7))))))
  (tn 9 (tn 8 (tl 7 (aP (f_const (.int (nI 1)) 8)))
  (tl 8 (aP (f_bin (fun x y => x + y) 9))))
  (tn 12 (tl 9 (aP (f_icmp (fun x y => decide (y < x)) 30 12)))
  (tn 13 (tl 12 (aP (f_aload 0 13)))
  (tl 13 (aP (f_getf [5, 6] 3 16)))))))
  (tn 23 (tn 18 (tn 17 (tl 16 (aP (f_iload 2 17)))
  (tl 17 (aP (f_iald 0 18))))
  (tn 19 (tl 18 (aP (f_iload 1 19)))
  (tn 22 (tl 19 (aP (f_icmp (fun x y => decide (¬ x = y)) 24 22)))
  (tl 22 (aP (f_const (.int (nI 1)) 23))))))
  (tn 27 (tn 24 (tl 23 (o_iret (fun x => x == 0 || x == 1)))
  (tl 24 (aP (f_iinc 2 (nI 1) 27))))
  (tn 30 (tl 27 (aP (f_goto 2)))
  (tn 31 (tl 30 (aP (f_const (.int (nI 0)) 31)))
  (tl 31 (o_iret (fun x => x == 0 || x == 1)))))))
theorem kok_X8_wasHeldBy {γ : AG} (hm : γ.2.2.2.2.1 = mTab) (hk : γ.2.2.2.2.2 = kTab) : KOK γ m_X8_wasHeldBy k_X8_wasHeldBy :=
 kn_ok
 (kn_ok
 (kn_ok
 (kn_ok
 (kl_ok (ok_aP (ok_iconst dX8_wasHeldBy_0 rfl rfl)))
 (kl_ok (ok_aP (ok_istore_n dX8_wasHeldBy_1 rfl rfl))))
 (kn_ok
 (kl_ok (ok_aP (ok_iload_n dX8_wasHeldBy_2 rfl rfl)))
 (kn_ok
 (kl_ok (ok_aP (ok_aload_n dX8_wasHeldBy_3 rfl rfl)))
 (kl_ok (ok_aP (ok_getf fo_6 fs_rf (Or.inl q621) dX8_wasHeldBy_4 rfl))))))
 (kn_ok
 (kn_ok
 (kl_ok (ok_aP (ok_iconst dX8_wasHeldBy_7 rfl rfl)))
 (kl_ok (ok_aP (ok_iadd dX8_wasHeldBy_8 rfl))))
 (kn_ok
 (kl_ok (ok_aP (ok_icmp_gt dX8_wasHeldBy_9 rfl rfl)))
 (kn_ok
 (kl_ok (ok_aP (ok_aload_n dX8_wasHeldBy_12 rfl rfl)))
 (kl_ok (ok_aP (ok_getf fo_37 fs_rf (Or.inl q615) dX8_wasHeldBy_13 rfl)))))))
 (kn_ok
 (kn_ok
 (kn_ok
 (kl_ok (ok_aP (ok_iload_n dX8_wasHeldBy_16 rfl rfl)))
 (kl_ok (ok_aP (ok_iald dX8_wasHeldBy_17 rfl))))
 (kn_ok
 (kl_ok (ok_aP (ok_iload_n dX8_wasHeldBy_18 rfl rfl)))
 (kn_ok
 (kl_ok (ok_aP (ok_icmp_ne dX8_wasHeldBy_19 rfl rfl)))
 (kl_ok (ok_aP (ok_iconst dX8_wasHeldBy_22 rfl rfl))))))
 (kn_ok
 (kn_ok
 (kl_ok (ok_zret rfl z_boolean dX8_wasHeldBy_23))
 (kl_ok (ok_aP (ok_iinc dX8_wasHeldBy_24 (by decide +kernel) rfl))))
 (kn_ok
 (kl_ok (ok_aP (ok_goto dX8_wasHeldBy_27 rfl)))
 (kn_ok
 (kl_ok (ok_aP (ok_iconst dX8_wasHeldBy_30 rfl rfl)))
 (kl_ok (ok_zret rfl z_boolean dX8_wasHeldBy_31))))))
/-- 245: FavourTown$Favour.<init>(IIIZ)V -/
noncomputable def k_X8_init : Nat → Option AOp :=
 tn 25 (tn 13 (tn 5 (tn 1 (tl 0 (aP (f_aload 0 1)))
  (tn 4 (tl 1 (aP (f_objI 4)))
  (tl 4 (aP (f_aload 0 5)))))
  (tn 9 (tn 7 (tl 5 (aP (f_const (.int (nI 12)) 7)))
  (tl 7 (o_newa 0 (.inl (fun _ => 0)) 9)))
  (tn 12 (tl 9 (o_putf [5, 6] 3 vA 12))
  (tl 12 (aP (f_aload 0 13))))))
  (tn 18 (tn 14 (tl 13 (aP (f_iload 1 14)))
  (tn 17 (tl 14 (o_putf [5, 6] 0 vI 17))
  (tl 17 (aP (f_aload 0 18)))))
  (tn 22 (tn 19 (tl 18 (aP (f_iload 3 19)))
  (tl 19 (o_putf [5, 6] 1 vI 22)))
  (tn 23 (tl 22 (aP (f_aload 0 23)))
  (tl 23 (aP (f_iload 4 25)))))))
  (tn 36 (tn 32 (tn 28 (tl 25 (o_putf [5, 6] 2 vZ 28))
  (tn 29 (tl 28 (aP (f_aload 0 29)))
  (tl 29 (aP (f_getf [5, 6] 3 32)))))
  (tn 34 (tn 33 (tl 32 (aP (f_const (.int (nI 0)) 33)))
  (tl 33 (aP (f_iload 1 34))))
  (tn 35 (tl 34 (o_iast 0 (fun y => y) 35))
  (tl 35 (aP (f_aload 0 36))))))
  (tn 42 (tn 40 (tn 39 (tl 36 (aP (f_getf [5, 6] 3 39)))
  (tl 39 (aP (f_const (.int (nI 1)) 40))))
  (tn 41 (tl 40 (aP (f_iload 2 41)))
  (tl 41 (o_iast 0 (fun y => y) 42))))
  (tn 44 (tn 43 (tl 42 (aP (f_aload 0 43)))
  (tl 43 (aP (f_iload 2 44))))
  (tn 47 (tl 44 (o_putf [5, 6] 4 vI 47))
  (tl 47 (o_vret))))))
theorem kok_X8_init {γ : AG} (hm : γ.2.2.2.2.1 = mTab) (hk : γ.2.2.2.2.2 = kTab) : KOK γ m_X8_init k_X8_init :=
 kn_ok
 (kn_ok
 (kn_ok
 (kn_ok
 (kl_ok (ok_aP (ok_aload_n dX8_init_0 rfl rfl)))
 (kn_ok
 (kl_ok (ok_aP (ok_objI q601 q135 q136 dX8_init_1 rfl)))
 (kl_ok (ok_aP (ok_aload_n dX8_init_4 rfl rfl)))))
 (kn_ok
 (kn_ok
 (kl_ok (ok_aP (ok_bipush dX8_init_5 (by decide +kernel) rfl)))
 (kl_ok (ok_hp (na_int dX8_init_7 rfl) le_newa)))
 (kn_ok
 (kl_ok (ok_hp (ok_putF fo_37 fn_12 q615 rfl pd_2 vA_okA dX8_init_9 rfl) le_putf))
 (kl_ok (ok_aP (ok_aload_n dX8_init_12 rfl rfl))))))
 (kn_ok
 (kn_ok
 (kl_ok (ok_aP (ok_iload_n dX8_init_13 rfl rfl)))
 (kn_ok
 (kl_ok (ok_hp (ok_putF fo_5 fn_13 q603 rfl pd_0 vI_ok dX8_init_14 rfl) le_putf))
 (kl_ok (ok_aP (ok_aload_n dX8_init_17 rfl rfl)))))
 (kn_ok
 (kn_ok
 (kl_ok (ok_aP (ok_iload_n dX8_init_18 rfl rfl)))
 (kl_ok (ok_hp (ok_putF fo_10 fn_14 q607 rfl pd_0 vI_ok dX8_init_19 rfl) le_putf)))
 (kn_ok
 (kl_ok (ok_aP (ok_aload_n dX8_init_22 rfl rfl)))
 (kl_ok (ok_aP (ok_iload dX8_init_23 rfl)))))))
 (kn_ok
 (kn_ok
 (kn_ok
 (kl_ok (ok_hp (ok_putF fo_8 fn_15 q611 rfl pd_1 vZ_ok dX8_init_25 rfl) le_putf))
 (kn_ok
 (kl_ok (ok_aP (ok_aload_n dX8_init_28 rfl rfl)))
 (kl_ok (ok_aP (ok_getf fo_37 fs_rf (Or.inl q615) dX8_init_29 rfl)))))
 (kn_ok
 (kn_ok
 (kl_ok (ok_aP (ok_iconst dX8_init_32 rfl rfl)))
 (kl_ok (ok_aP (ok_iload_n dX8_init_33 rfl rfl))))
 (kn_ok
 (kl_ok (ok_hp (ok_iast dX8_init_34 rfl) le_iast))
 (kl_ok (ok_aP (ok_aload_n dX8_init_35 rfl rfl))))))
 (kn_ok
 (kn_ok
 (kn_ok
 (kl_ok (ok_aP (ok_getf fo_37 fs_rf (Or.inl q615) dX8_init_36 rfl)))
 (kl_ok (ok_aP (ok_iconst dX8_init_39 rfl rfl))))
 (kn_ok
 (kl_ok (ok_aP (ok_iload_n dX8_init_40 rfl rfl)))
 (kl_ok (ok_hp (ok_iast dX8_init_41 rfl) le_iast))))
 (kn_ok
 (kn_ok
 (kl_ok (ok_aP (ok_aload_n dX8_init_42 rfl rfl)))
 (kl_ok (ok_aP (ok_iload_n dX8_init_43 rfl rfl))))
 (kn_ok
 (kl_ok (ok_hp (ok_putf fo_4 fs_rf fn_10 (Or.inl q618) pd_0 vI_ok dX8_init_44 rfl) le_putf))
 (kl_ok (ok_vret rfl dX8_init_47))))))
/-- 246: FavourTown$Favour.takes(LFavourTown$Favour;)LFavourTown$Favour; -/
noncomputable def k_X8_takes : Nat → Option AOp :=
 tn 18 (tn 9 (tn 4 (tn 1 (tl 0 (aP (f_aload 0 1)))
  (tl 1 (aP (f_getf [5, 6] 3 4))))
  (tn 5 (tl 4 (aP (f_const (.int (nI 0)) 5)))
  (tn 6 (tl 5 (aP (f_aload 1 6)))
  (tl 6 (aP (f_getf [5, 6] 3 9))))))
  (tn 11 (tn 10 (tl 9 (aP (f_const (.int (nI 0)) 10)))
  (tl 10 (aP (f_aload 0 11))))
  (tn 14 (tl 11 (aP (f_getf [5, 6] 3 14)))
  (tn 15 (tl 14 (aP (f_alen 15)))
  (tl 15 (o_copy anyC anyT 18))))))
  (tn 27 (tn 20 (tn 19 (tl 18 (aP (f_aload 1 19)))
  (tl 19 (aP (f_aload 0 20))))
  (tn 23 (tl 20 (aP (f_getf [5, 6] 4 23)))
  (tn 26 (tl 23 (o_putf [5, 6] 4 vI 26))
  (tl 26 (aP (f_aload 1 27))))))
  (tn 31 (tn 28 (tl 27 (aP (f_aload 0 28)))
  (tl 28 (aP (f_getf [5, 6] 5 31))))
  (tn 34 (tl 31 (o_putf [5, 6] 5 vI 34))
  (tn 35 (tl 34 (aP (f_aload 1 35)))
  (tl 35 (o_aret))))))
theorem kok_X8_takes {γ : AG} (hm : γ.2.2.2.2.1 = mTab) (hk : γ.2.2.2.2.2 = kTab) : KOK γ m_X8_takes k_X8_takes :=
 kn_ok
 (kn_ok
 (kn_ok
 (kn_ok
 (kl_ok (ok_aP (ok_aload_n dX8_takes_0 rfl rfl)))
 (kl_ok (ok_aP (ok_getf fo_37 fs_rf (Or.inl q615) dX8_takes_1 rfl))))
 (kn_ok
 (kl_ok (ok_aP (ok_iconst dX8_takes_4 rfl rfl)))
 (kn_ok
 (kl_ok (ok_aP (ok_aload_n dX8_takes_5 rfl rfl)))
 (kl_ok (ok_aP (ok_getf fo_37 fs_rf (Or.inl q615) dX8_takes_6 rfl))))))
 (kn_ok
 (kn_ok
 (kl_ok (ok_aP (ok_iconst dX8_takes_9 rfl rfl)))
 (kl_ok (ok_aP (ok_aload_n dX8_takes_10 rfl rfl))))
 (kn_ok
 (kl_ok (ok_aP (ok_getf fo_37 fs_rf (Or.inl q615) dX8_takes_11 rfl)))
 (kn_ok
 (kl_ok (ok_aP (ok_alen dX8_takes_14 rfl)))
 (kl_ok (ok_hp (ok_copy any_ok q645 q585 q584 q93 dX8_takes_15 rfl) le_copy))))))
 (kn_ok
 (kn_ok
 (kn_ok
 (kl_ok (ok_aP (ok_aload_n dX8_takes_18 rfl rfl)))
 (kl_ok (ok_aP (ok_aload_n dX8_takes_19 rfl rfl))))
 (kn_ok
 (kl_ok (ok_aP (ok_getf fo_4 fs_rf (Or.inl q618) dX8_takes_20 rfl)))
 (kn_ok
 (kl_ok (ok_hp (ok_putf fo_4 fs_rf fn_10 (Or.inl q618) pd_0 vI_ok dX8_takes_23 rfl) le_putf))
 (kl_ok (ok_aP (ok_aload_n dX8_takes_26 rfl rfl))))))
 (kn_ok
 (kn_ok
 (kl_ok (ok_aP (ok_aload_n dX8_takes_27 rfl rfl)))
 (kl_ok (ok_aP (ok_getf fo_6 fs_rf (Or.inl q621) dX8_takes_28 rfl))))
 (kn_ok
 (kl_ok (ok_hp (ok_putf fo_6 fs_rf fn_9 (Or.inl q621) pd_0 vI_ok dX8_takes_31 rfl) le_putf))
 (kn_ok
 (kl_ok (ok_aP (ok_aload_n dX8_takes_34 rfl rfl)))
 (kl_ok (ok_aret rfl (Or.inl ⟨_, rfl⟩) dX8_takes_35))))))
/-- 247: FavourTown$Favour.copy()LFavourTown$Favour; -/
noncomputable def k_X8_copy : Nat → Option AOp :=
 tn 14 (tn 6 (tn 4 (tn 1 (tl 0 (aP (f_aload 0 1)))
  (tl 1 (o_new 5 [.int 0, .int 0, .int 0, .null, .int 0, .int 0] 4)))
  (tn 5 (tl 4 (aP (f_dup 5)))
  (tl 5 (aP (f_aload 0 6)))))
  (tn 10 (tn 9 (tl 6 (aP (f_getf [5, 6] 0 9)))
  (tl 9 (aP (f_aload 0 10))))
  (tn 13 (tl 10 (aP (f_getf [5, 6] 3 13)))
  (tl 13 (aP (f_const (.int (nI 1)) 14))))))
  (tn 20 (tn 16 (tn 15 (tl 14 (aP (f_iald 0 15)))
  (tl 15 (aP (f_aload 0 16))))
  (tn 19 (tl 16 (aP (f_getf [5, 6] 1 19)))
  (tl 19 (aP (f_aload 0 20)))))
  (tn 26 (tn 23 (tl 20 (aP (f_getf [5, 6] 2 23)))
  (tl 23 (o_callI 245 4 26)))
  (tn 29 (tl 26 (o_callV (lkN [(5, 246), (6, 246)]) 1 29))
  (tl 29 (o_aret)))))
theorem kok_X8_copy {γ : AG} (hm : γ.2.2.2.2.1 = mTab) (hk : γ.2.2.2.2.2 = kTab) : KOK γ m_X8_copy k_X8_copy :=
 kn_ok
 (kn_ok
 (kn_ok
 (kn_ok
 (kl_ok (ok_aP (ok_aload_n dX8_copy_0 rfl rfl)))
 (kl_ok (ok_hp (ok_new (by decide +kernel) rfl q647 q648 q96 dX8_copy_1 rfl) le_new)))
 (kn_ok
 (kl_ok (ok_aP (ok_dup dX8_copy_4 rfl)))
 (kl_ok (ok_aP (ok_aload_n dX8_copy_5 rfl rfl)))))
 (kn_ok
 (kn_ok
 (kl_ok (ok_aP (ok_getf fo_5 fs_rf (Or.inl q603) dX8_copy_6 rfl)))
 (kl_ok (ok_aP (ok_aload_n dX8_copy_9 rfl rfl))))
 (kn_ok
 (kl_ok (ok_aP (ok_getf fo_37 fs_rf (Or.inl q615) dX8_copy_10 rfl)))
 (kl_ok (ok_aP (ok_iconst dX8_copy_13 rfl rfl))))))
 (kn_ok
 (kn_ok
 (kn_ok
 (kl_ok (ok_aP (ok_iald dX8_copy_14 rfl)))
 (kl_ok (ok_aP (ok_aload_n dX8_copy_15 rfl rfl))))
 (kn_ok
 (kl_ok (ok_aP (ok_getf fo_10 fs_rf (Or.inl q607) dX8_copy_16 rfl)))
 (kl_ok (ok_aP (ok_aload_n dX8_copy_19 rfl rfl)))))
 (kn_ok
 (kn_ok
 (kl_ok (ok_aP (ok_getf fo_8 fs_rf (Or.inl q611) dX8_copy_20 rfl)))
 (kl_ok (ok_callI (run_I (by rw [hm]; rfl) q649 q599 q96 q600 rfl ⟨nh_5, dl_34⟩ (by decide) dX8_copy_23) rfl)))
 (kn_ok
 (kl_ok (ok_callV (List.forall_mem_cons.mpr ⟨run_V (C0 := "FavourTown$Favour") rfl rfl (by rw [hm]; rfl) q657 q643 q2325 q96 q644 ⟨nh_5, dl_44⟩ (by decide) dX8_copy_26, (List.forall_mem_cons.mpr ⟨run_U (C0 := "FavourTown$Timed") (owner := "FavourTown$Favour") (nx := ⟨"FavourTown$Favour", "takes", "(LFavourTown$Favour;)LFavourTown$Favour;"⟩) rfl rfl (by rw [hm]; rfl) q657 q2324 q2326 q643 q96 q644 ⟨nh_5, dl_44⟩ (by decide) dX8_copy_26, (fun _ h => absurd h List.not_mem_nil)⟩)⟩) rfl))
 (kl_ok (ok_aret rfl (Or.inl ⟨_, rfl⟩) dX8_copy_29)))))
/-- 248: FavourTown$Favour.goes(I)V -/
noncomputable def k_X8_goes : Nat → Option AOp :=
 tn 20 (tn 10 (tn 5 (tn 1 (tl 0 (aP (f_aload 0 1)))
  (tn 2 (tl 1 (aP (f_dup 2)))
  (tl 2 (aP (f_getf [5, 6] 5 5)))))
  (tn 6 (tl 5 (aP (f_const (.int (nI 1)) 6)))
  (tn 7 (tl 6 (aP (f_bin (fun x y => x + y) 7)))
  (tl 7 (o_putf [5, 6] 5 vI 10)))))
  (tn 15 (tn 11 (tl 10 (aP (f_aload 0 11)))
  (tn 14 (tl 11 (aP (f_getf [5, 6] 3 14)))
  (tl 14 (aP (f_aload 0 15)))))
  (tn 18 (tl 15 (aP (f_getf [5, 6] 5 18)))
  (tn 19 (tl 18 (aP (f_const (.int (nI 1)) 19)))
  (tl 19 (aP (f_bin (fun x y => x + y) 20)))))))
  (tn 28 (tn 23 (tn 21 (tl 20 (aP (f_iload 1 21)))
  (tn 22 (tl 21 (o_iast 0 (fun y => y) 22))
  (tl 22 (aP (f_aload 0 23)))))
  (tn 24 (tl 23 (aP (f_iload 1 24)))
  (tn 25 (tl 24 (aP (f_aload 0 25)))
  (tl 25 (aP (f_getf [5, 6] 0 28))))))
  (tn 35 (tn 31 (tl 28 (aP (f_icmp (fun x y => decide (¬ x = y)) 35 31)))
  (tn 32 (tl 31 (aP (f_const (.int (-1)) 32)))
  (tl 32 (aP (f_goto 36)))))
  (tn 36 (tl 35 (aP (f_iload 1 36)))
  (tn 39 (tl 36 (o_putf [5, 6] 4 vI 39))
  (tl 39 (o_vret))))))
theorem kok_X8_goes {γ : AG} (hm : γ.2.2.2.2.1 = mTab) (hk : γ.2.2.2.2.2 = kTab) : KOK γ m_X8_goes k_X8_goes :=
 kn_ok
 (kn_ok
 (kn_ok
 (kn_ok
 (kl_ok (ok_aP (ok_aload_n dX8_goes_0 rfl rfl)))
 (kn_ok
 (kl_ok (ok_aP (ok_dup dX8_goes_1 rfl)))
 (kl_ok (ok_aP (ok_getf fo_6 fs_rf (Or.inl q621) dX8_goes_2 rfl)))))
 (kn_ok
 (kl_ok (ok_aP (ok_iconst dX8_goes_5 rfl rfl)))
 (kn_ok
 (kl_ok (ok_aP (ok_iadd dX8_goes_6 rfl)))
 (kl_ok (ok_hp (ok_putf fo_6 fs_rf fn_9 (Or.inl q621) pd_0 vI_ok dX8_goes_7 rfl) le_putf)))))
 (kn_ok
 (kn_ok
 (kl_ok (ok_aP (ok_aload_n dX8_goes_10 rfl rfl)))
 (kn_ok
 (kl_ok (ok_aP (ok_getf fo_37 fs_rf (Or.inl q615) dX8_goes_11 rfl)))
 (kl_ok (ok_aP (ok_aload_n dX8_goes_14 rfl rfl)))))
 (kn_ok
 (kl_ok (ok_aP (ok_getf fo_6 fs_rf (Or.inl q621) dX8_goes_15 rfl)))
 (kn_ok
 (kl_ok (ok_aP (ok_iconst dX8_goes_18 rfl rfl)))
 (kl_ok (ok_aP (ok_iadd dX8_goes_19 rfl)))))))
 (kn_ok
 (kn_ok
 (kn_ok
 (kl_ok (ok_aP (ok_iload_n dX8_goes_20 rfl rfl)))
 (kn_ok
 (kl_ok (ok_hp (ok_iast dX8_goes_21 rfl) le_iast))
 (kl_ok (ok_aP (ok_aload_n dX8_goes_22 rfl rfl)))))
 (kn_ok
 (kl_ok (ok_aP (ok_iload_n dX8_goes_23 rfl rfl)))
 (kn_ok
 (kl_ok (ok_aP (ok_aload_n dX8_goes_24 rfl rfl)))
 (kl_ok (ok_aP (ok_getf fo_5 fs_rf (Or.inl q603) dX8_goes_25 rfl))))))
 (kn_ok
 (kn_ok
 (kl_ok (ok_aP (ok_icmp_ne dX8_goes_28 rfl rfl)))
 (kn_ok
 (kl_ok (ok_aP (ok_iconst dX8_goes_31 rfl rfl)))
 (kl_ok (ok_aP (ok_goto dX8_goes_32 rfl)))))
 (kn_ok
 (kl_ok (ok_aP (ok_iload_n dX8_goes_35 rfl rfl)))
 (kn_ok
 (kl_ok (ok_hp (ok_putf fo_4 fs_rf fn_10 (Or.inl q618) pd_0 vI_ok dX8_goes_36 rfl) le_putf))
 (kl_ok (ok_vret rfl dX8_goes_39))))))
/-- 249: FavourTown$Timed.end()I -/
noncomputable def k_X9_end : Nat → Option AOp :=
 tn 1 (tl 0 (aP (f_aload 0 1)))
  (tn 4 (tl 1 (aP (f_getf [6] 6 4)))
  (tl 4 (o_iret (fun _ => true))))
theorem kok_X9_end {γ : AG} (hm : γ.2.2.2.2.1 = mTab) (hk : γ.2.2.2.2.2 = kTab) : KOK γ m_X9_end k_X9_end :=
 kn_ok
 (kl_ok (ok_aP (ok_aload_n dX9_end_0 rfl rfl)))
 (kn_ok
 (kl_ok (ok_aP (ok_getf fo_16 fs_rf (Or.inl q602) dX9_end_1 rfl)))
 (kl_ok (ok_iret rfl dX9_end_4)))
/-- 250: FavourTown$Timed.copy()LFavourTown$Favour; -/
noncomputable def k_X9_copy : Nat → Option AOp :=
 tn 15 (tn 6 (tn 4 (tn 1 (tl 0 (aP (f_aload 0 1)))
  (tl 1 (o_new 6 [.int 0, .int 0, .int 0, .null, .int 0, .int 0, .int 0] 4)))
  (tn 5 (tl 4 (aP (f_dup 5)))
  (tl 5 (aP (f_aload 0 6)))))
  (tn 10 (tn 9 (tl 6 (aP (f_getf [5, 6] 0 9)))
  (tl 9 (aP (f_aload 0 10))))
  (tn 13 (tl 10 (aP (f_getf [5, 6] 3 13)))
  (tn 14 (tl 13 (aP (f_const (.int (nI 1)) 14)))
  (tl 14 (aP (f_iald 0 15)))))))
  (tn 23 (tn 19 (tn 16 (tl 15 (aP (f_aload 0 16)))
  (tl 16 (aP (f_getf [5, 6] 1 19))))
  (tn 20 (tl 19 (aP (f_aload 0 20)))
  (tl 20 (aP (f_getf [5, 6] 2 23)))))
  (tn 27 (tn 24 (tl 23 (aP (f_aload 0 24)))
  (tl 24 (aP (f_getf [6] 6 27))))
  (tn 30 (tl 27 (o_callI 251 5 30))
  (tn 33 (tl 30 (o_callV (lkN [(6, 246)]) 1 33))
  (tl 33 (o_aret))))))
theorem kok_X9_copy {γ : AG} (hm : γ.2.2.2.2.1 = mTab) (hk : γ.2.2.2.2.2 = kTab) : KOK γ m_X9_copy k_X9_copy :=
 kn_ok
 (kn_ok
 (kn_ok
 (kn_ok
 (kl_ok (ok_aP (ok_aload_n dX9_copy_0 rfl rfl)))
 (kl_ok (ok_hp (ok_new (by decide +kernel) rfl q593 q594 q97 dX9_copy_1 rfl) le_new)))
 (kn_ok
 (kl_ok (ok_aP (ok_dup dX9_copy_4 rfl)))
 (kl_ok (ok_aP (ok_aload_n dX9_copy_5 rfl rfl)))))
 (kn_ok
 (kn_ok
 (kl_ok (ok_aP (ok_getf fo_5 fs_rf (Or.inr ⟨_, q604⟩) dX9_copy_6 rfl)))
 (kl_ok (ok_aP (ok_aload_n dX9_copy_9 rfl rfl))))
 (kn_ok
 (kl_ok (ok_aP (ok_getf fo_37 fs_rf (Or.inr ⟨_, q616⟩) dX9_copy_10 rfl)))
 (kn_ok
 (kl_ok (ok_aP (ok_iconst dX9_copy_13 rfl rfl)))
 (kl_ok (ok_aP (ok_iald dX9_copy_14 rfl)))))))
 (kn_ok
 (kn_ok
 (kn_ok
 (kl_ok (ok_aP (ok_aload_n dX9_copy_15 rfl rfl)))
 (kl_ok (ok_aP (ok_getf fo_10 fs_rf (Or.inr ⟨_, q608⟩) dX9_copy_16 rfl))))
 (kn_ok
 (kl_ok (ok_aP (ok_aload_n dX9_copy_19 rfl rfl)))
 (kl_ok (ok_aP (ok_getf fo_8 fs_rf (Or.inr ⟨_, q612⟩) dX9_copy_20 rfl)))))
 (kn_ok
 (kn_ok
 (kl_ok (ok_aP (ok_aload_n dX9_copy_23 rfl rfl)))
 (kl_ok (ok_aP (ok_getf fo_16 fs_rf (Or.inl q602) dX9_copy_24 rfl))))
 (kn_ok
 (kl_ok (ok_callI (run_I (by rw [hm]; rfl) q595 q596 q97 q597 rfl ⟨nh_14, dl_35⟩ (by decide) dX9_copy_27) rfl))
 (kn_ok
 (kl_ok (ok_callV (List.forall_mem_cons.mpr ⟨run_U (C0 := "FavourTown$Timed") (owner := "FavourTown$Favour") (nx := ⟨"FavourTown$Timed", "takes", "(LFavourTown$Favour;)LFavourTown$Favour;"⟩) rfl rfl (by rw [hm]; rfl) q639 q640 q642 q643 q96 q644 ⟨nh_5, dl_44⟩ (by decide) dX9_copy_30, (fun _ h => absurd h List.not_mem_nil)⟩) rfl))
 (kl_ok (ok_aret rfl (Or.inl ⟨_, rfl⟩) dX9_copy_33))))))
/-- 251: FavourTown$Timed.<init>(IIIZI)V -/
noncomputable def k_X9_init : Nat → Option AOp :=
 tn 6 (tn 2 (tn 1 (tl 0 (aP (f_aload 0 1)))
  (tl 1 (aP (f_iload 1 2))))
  (tn 3 (tl 2 (aP (f_iload 2 3)))
  (tn 4 (tl 3 (aP (f_iload 3 4)))
  (tl 4 (aP (f_iload 4 6))))))
  (tn 10 (tn 9 (tl 6 (o_callI 245 4 9))
  (tl 9 (aP (f_aload 0 10))))
  (tn 12 (tl 10 (aP (f_iload 5 12)))
  (tn 15 (tl 12 (o_putf [6] 6 vI 15))
  (tl 15 (o_vret)))))
theorem kok_X9_init {γ : AG} (hm : γ.2.2.2.2.1 = mTab) (hk : γ.2.2.2.2.2 = kTab) : KOK γ m_X9_init k_X9_init :=
 kn_ok
 (kn_ok
 (kn_ok
 (kl_ok (ok_aP (ok_aload_n dX9_init_0 rfl rfl)))
 (kl_ok (ok_aP (ok_iload_n dX9_init_1 rfl rfl))))
 (kn_ok
 (kl_ok (ok_aP (ok_iload_n dX9_init_2 rfl rfl)))
 (kn_ok
 (kl_ok (ok_aP (ok_iload_n dX9_init_3 rfl rfl)))
 (kl_ok (ok_aP (ok_iload dX9_init_4 rfl))))))
 (kn_ok
 (kn_ok
 (kl_ok (ok_callI (run_I (by rw [hm]; rfl) q598 q599 q96 q600 rfl ⟨nh_5, dl_34⟩ (by decide) dX9_init_6) rfl))
 (kl_ok (ok_aP (ok_aload_n dX9_init_9 rfl rfl))))
 (kn_ok
 (kl_ok (ok_aP (ok_iload dX9_init_10 rfl)))
 (kn_ok
 (kl_ok (ok_hp (ok_putF fo_16 fn_11 q602 rfl pd_0 vI_ok dX9_init_12 rfl) le_putf))
 (kl_ok (ok_vret rfl dX9_init_15)))))
/-- 303: FavourTown$Wrong.<init>()V -/
noncomputable def k_X10_init : Nat → Option AOp :=
 tn 3 (tn 1 (tl 0 (aP (f_aload 0 1)))
  (tn 2 (tl 1 (aP (f_const .null 2)))
  (tl 2 (aP (f_const .null 3)))))
  (tn 5 (tn 4 (tl 3 (aP (f_const (.int (nI 0)) 4)))
  (tl 4 (aP (f_const (.int (nI 0)) 5))))
  (tn 8 (tl 5 (o_callI 296 4 8))
  (tl 8 (o_vret))))
theorem kok_X10_init {γ : AG} (hm : γ.2.2.2.2.1 = mTab) (hk : γ.2.2.2.2.2 = kTab) : KOK γ m_X10_init k_X10_init :=
 kn_ok
 (kn_ok
 (kl_ok (ok_aP (ok_aload_n dX10_init_0 rfl rfl)))
 (kn_ok
 (kl_ok (ok_aP (ok_null dX10_init_1 rfl)))
 (kl_ok (ok_aP (ok_null dX10_init_2 rfl)))))
 (kn_ok
 (kn_ok
 (kl_ok (ok_aP (ok_iconst dX10_init_3 rfl rfl)))
 (kl_ok (ok_aP (ok_iconst dX10_init_4 rfl rfl))))
 (kn_ok
 (kl_ok (ok_callI (run_I (by rw [hm]; rfl) q1138 q1139 q107 q1140 rfl ⟨nh_27, dl_61⟩ (by decide) dX10_init_5) rfl))
 (kl_ok (ok_vret rfl dX10_init_8))))
/-- 305: FavourTown$Need.<init>(III)V -/
noncomputable def k_X11_init : Nat → Option AOp :=
 tn 10 (tn 5 (tn 1 (tl 0 (aP (f_aload 0 1)))
  (tn 4 (tl 1 (aP (f_objI 4)))
  (tl 4 (aP (f_aload 0 5)))))
  (tn 6 (tl 5 (aP (f_iload 1 6)))
  (tn 9 (tl 6 (o_putf [7] 0 vI 9))
  (tl 9 (aP (f_aload 0 10))))))
  (tn 15 (tn 11 (tl 10 (aP (f_iload 2 11)))
  (tn 14 (tl 11 (o_putf [7] 1 vI 14))
  (tl 14 (aP (f_aload 0 15)))))
  (tn 16 (tl 15 (aP (f_iload 3 16)))
  (tn 19 (tl 16 (o_putf [7] 2 vI 19))
  (tl 19 (o_vret)))))
theorem kok_X11_init {γ : AG} (hm : γ.2.2.2.2.1 = mTab) (hk : γ.2.2.2.2.2 = kTab) : KOK γ m_X11_init k_X11_init :=
 kn_ok
 (kn_ok
 (kn_ok
 (kl_ok (ok_aP (ok_aload_n dX11_init_0 rfl rfl)))
 (kn_ok
 (kl_ok (ok_aP (ok_objI q1288 q135 q136 dX11_init_1 rfl)))
 (kl_ok (ok_aP (ok_aload_n dX11_init_4 rfl rfl)))))
 (kn_ok
 (kl_ok (ok_aP (ok_iload_n dX11_init_5 rfl rfl)))
 (kn_ok
 (kl_ok (ok_hp (ok_putF fo_85 fn_107 q1289 rfl pd_0 vI_ok dX11_init_6 rfl) le_putf))
 (kl_ok (ok_aP (ok_aload_n dX11_init_9 rfl rfl))))))
 (kn_ok
 (kn_ok
 (kl_ok (ok_aP (ok_iload_n dX11_init_10 rfl rfl)))
 (kn_ok
 (kl_ok (ok_hp (ok_putF fo_86 fn_108 q1292 rfl pd_0 vI_ok dX11_init_11 rfl) le_putf))
 (kl_ok (ok_aP (ok_aload_n dX11_init_14 rfl rfl)))))
 (kn_ok
 (kl_ok (ok_aP (ok_iload_n dX11_init_15 rfl rfl)))
 (kn_ok
 (kl_ok (ok_hp (ok_putF fo_87 fn_109 q1295 rfl pd_0 vI_ok dX11_init_16 rfl) le_putf))
 (kl_ok (ok_vret rfl dX11_init_19)))))
/-- 307: FavourTown$Temper.takes(LFavourTown$Scene;)Z -/
noncomputable def k_X12_takes : Nat → Option AOp :=
 tn 26 (tn 13 (tn 3 (tn 1 (tl 0 (aP (f_const (.int (nI 0)) 1)))
  (tn 2 (tl 1 (aP (f_istore 2 2)))
  (tl 2 (aP (f_iload 2 3)))))
  (tn 7 (tn 4 (tl 3 (aP (f_aload 0 4)))
  (tl 4 (aP (f_getf [9] 0 7))))
  (tn 10 (tl 7 (o_callV (lkN [(19, 113)]) 0 10))
  (tl 10 (aP (f_icmp (fun x y => decide (y ≤ x)) 56 13))))))
  (tn 18 (tn 14 (tl 13 (aP (f_aload 0 14)))
  (tn 17 (tl 14 (aP (f_getf [9] 0 17)))
  (tl 17 (aP (f_iload 2 18)))))
  (tn 24 (tn 21 (tl 18 (o_callV (lkN [(19, 114)]) 1 21))
  (tl 21 (aP (f_cast [10] [] 24))))
  (tn 25 (tl 24 (aP (f_astore 3 25)))
  (tl 25 (aP (f_aload 3 26)))))))
  (tn 45 (tn 33 (tn 29 (tl 26 (aP (f_getf [10] 1 29)))
  (tn 32 (tl 29 (aP (f_null 45 32)))
  (tl 32 (aP (f_aload 3 33)))))
  (tn 37 (tn 36 (tl 33 (aP (f_getf [10] 1 36)))
  (tl 36 (aP (f_aload 1 37))))
  (tn 42 (tl 37 (o_callV (lkN [(11, 310), (12, 312), (13, 314), (16, 322)]) 1 42))
  (tl 42 (aP (f_if (fun x => decide (x = 0)) 50 45))))))
  (tn 50 (tn 46 (tl 45 (aP (f_aload 3 46)))
  (tn 49 (tl 46 (aP (f_getf [10] 0 49)))
  (tl 49 (o_iret (fun x => x == 0 || x == 1)))))
  (tn 56 (tn 53 (tl 50 (aP (f_iinc 2 (nI 1) 53)))
  (tl 53 (aP (f_goto 2))))
  (tn 57 (tl 56 (aP (f_const (.int (nI 0)) 57)))
  (tl 57 (o_iret (fun x => x == 0 || x == 1)))))))
theorem kok_X12_takes {γ : AG} (hm : γ.2.2.2.2.1 = mTab) (hk : γ.2.2.2.2.2 = kTab) : KOK γ m_X12_takes k_X12_takes :=
 kn_ok
 (kn_ok
 (kn_ok
 (kn_ok
 (kl_ok (ok_aP (ok_iconst dX12_takes_0 rfl rfl)))
 (kn_ok
 (kl_ok (ok_aP (ok_istore_n dX12_takes_1 rfl rfl)))
 (kl_ok (ok_aP (ok_iload_n dX12_takes_2 rfl rfl)))))
 (kn_ok
 (kn_ok
 (kl_ok (ok_aP (ok_aload_n dX12_takes_3 rfl rfl)))
 (kl_ok (ok_aP (ok_getf fo_17 fs_rf (Or.inl q1363) dX12_takes_4 rfl))))
 (kn_ok
 (kl_ok (ok_callV (List.forall_mem_cons.mpr ⟨run_V (C0 := "java/util/ArrayList") rfl rfl (by rw [hm]; rfl) q477 q401 q402 q87 q403 ⟨nh_4, dl_4⟩ (by decide) dX12_takes_7, (fun _ h => absurd h List.not_mem_nil)⟩) rfl))
 (kl_ok (ok_aP (ok_icmp_ge dX12_takes_10 rfl rfl))))))
 (kn_ok
 (kn_ok
 (kl_ok (ok_aP (ok_aload_n dX12_takes_13 rfl rfl)))
 (kn_ok
 (kl_ok (ok_aP (ok_getf fo_17 fs_rf (Or.inl q1363) dX12_takes_14 rfl)))
 (kl_ok (ok_aP (ok_iload_n dX12_takes_17 rfl rfl)))))
 (kn_ok
 (kn_ok
 (kl_ok (ok_callV (List.forall_mem_cons.mpr ⟨run_V (C0 := "java/util/ArrayList") rfl rfl (by rw [hm]; rfl) q478 q405 q406 q87 q407 ⟨nh_4, dl_21⟩ (by decide) dX12_takes_18, (fun _ h => absurd h List.not_mem_nil)⟩) rfl))
 (kl_ok (ok_aP (ok_cast q479 (List.forall_mem_cons.mpr ⟨Or.inr ⟨_, rfl, rfl⟩, (fun _ h => absurd h List.not_mem_nil)⟩) (fun _ h => absurd h List.not_mem_nil) dX12_takes_21 rfl))))
 (kn_ok
 (kl_ok (ok_aP (ok_astore_n dX12_takes_24 rfl rfl)))
 (kl_ok (ok_aP (ok_aload_n dX12_takes_25 rfl rfl)))))))
 (kn_ok
 (kn_ok
 (kn_ok
 (kl_ok (ok_aP (ok_getf fo_18 fs_rf (Or.inr ⟨_, q1515⟩) dX12_takes_26 rfl)))
 (kn_ok
 (kl_ok (ok_aP (ok_ifnull dX12_takes_29 rfl rfl)))
 (kl_ok (ok_aP (ok_aload_n dX12_takes_32 rfl rfl)))))
 (kn_ok
 (kn_ok
 (kl_ok (ok_aP (ok_getf fo_18 fs_rf (Or.inr ⟨_, q1515⟩) dX12_takes_33 rfl)))
 (kl_ok (ok_aP (ok_aload_n dX12_takes_36 rfl rfl))))
 (kn_ok
 (kl_ok (ok_callF (List.forall_mem_cons.mpr ⟨run_F (C0 := "FavourTown$Row") (nx := ⟨"FavourTown$Cond", "holds", "(LFavourTown$Scene;)Z"⟩) rfl (by decide +kernel) (by rw [hm]; rfl) q481 q534 q536 q119 q538 ⟨nh_7, dl_27⟩ (by decide) dX12_takes_37, (List.forall_mem_cons.mpr ⟨run_F (C0 := "FavourTown$Not") (nx := ⟨"FavourTown$Cond", "holds", "(LFavourTown$Scene;)Z"⟩) rfl (by decide +kernel) (by rw [hm]; rfl) q481 q526 q528 q120 q530 ⟨nh_7, dl_27⟩ (by decide) dX12_takes_37, (List.forall_mem_cons.mpr ⟨run_F (C0 := "FavourTown$Is") (nx := ⟨"FavourTown$Cond", "holds", "(LFavourTown$Scene;)Z"⟩) rfl (by decide +kernel) (by rw [hm]; rfl) q481 q485 q487 q121 q489 ⟨nh_7, dl_27⟩ (by decide) dX12_takes_37, (List.forall_mem_cons.mpr ⟨run_F (C0 := "FavourTown$Less") (nx := ⟨"FavourTown$Cond", "holds", "(LFavourTown$Scene;)Z"⟩) rfl (by decide +kernel) (by rw [hm]; rfl) q481 q499 q501 q125 q503 ⟨nh_7, dl_27⟩ (by decide) dX12_takes_37, (fun _ h => absurd h List.not_mem_nil)⟩)⟩)⟩)⟩) rfl))
 (kl_ok (ok_aP (ok_if_eq dX12_takes_42 rfl rfl))))))
 (kn_ok
 (kn_ok
 (kl_ok (ok_aP (ok_aload_n dX12_takes_45 rfl rfl)))
 (kn_ok
 (kl_ok (ok_aP (ok_getf fo_19 fs_rf (Or.inr ⟨_, q1513⟩) dX12_takes_46 rfl)))
 (kl_ok (ok_zret rfl z_boolean dX12_takes_49))))
 (kn_ok
 (kn_ok
 (kl_ok (ok_aP (ok_iinc dX12_takes_50 (by decide +kernel) rfl)))
 (kl_ok (ok_aP (ok_goto dX12_takes_53 rfl))))
 (kn_ok
 (kl_ok (ok_aP (ok_iconst dX12_takes_56 rfl rfl)))
 (kl_ok (ok_zret rfl z_boolean dX12_takes_57))))))
/-- 308: FavourTown$Temper.<init>()V -/
noncomputable def k_X12_init : Nat → Option AOp :=
 tn 8 (tn 4 (tn 1 (tl 0 (aP (f_aload 0 1)))
  (tl 1 (aP (f_objI 4))))
  (tn 5 (tl 4 (aP (f_aload 0 5)))
  (tl 5 (o_new 19 [.int 0, .null, .int 0] 8))))
  (tn 12 (tn 9 (tl 8 (aP (f_dup 9)))
  (tl 9 (o_callI 112 0 12)))
  (tn 15 (tl 12 (o_putf [9] 0 vA 15))
  (tl 15 (o_vret))))
theorem kok_X12_init {γ : AG} (hm : γ.2.2.2.2.1 = mTab) (hk : γ.2.2.2.2.2 = kTab) : KOK γ m_X12_init k_X12_init :=
 kn_ok
 (kn_ok
 (kn_ok
 (kl_ok (ok_aP (ok_aload_n dX12_init_0 rfl rfl)))
 (kl_ok (ok_aP (ok_objI q1360 q135 q136 dX12_init_1 rfl))))
 (kn_ok
 (kl_ok (ok_aP (ok_aload_n dX12_init_4 rfl rfl)))
 (kl_ok (ok_hp (ok_new (by decide +kernel) rfl q1361 q146 q87 dX12_init_5 rfl) le_new))))
 (kn_ok
 (kn_ok
 (kl_ok (ok_aP (ok_dup dX12_init_8 rfl)))
 (kl_ok (ok_callI (run_I (by rw [hm]; rfl) q1362 q148 q87 q149 rfl ⟨nh_4, dl_0⟩ (by decide) dX12_init_9) rfl)))
 (kn_ok
 (kl_ok (ok_hp (ok_putF fo_17 fn_93 q1363 rfl pd_5 vA_okO dX12_init_12 rfl) le_putf))
 (kl_ok (ok_vret rfl dX12_init_15))))
/-- 309: FavourTown$Line.<init>(ZLFavourTown$Cond;)V -/
noncomputable def k_X13_init : Nat → Option AOp :=
 tn 6 (tn 4 (tn 1 (tl 0 (aP (f_aload 0 1)))
  (tl 1 (aP (f_objI 4))))
  (tn 5 (tl 4 (aP (f_aload 0 5)))
  (tl 5 (aP (f_iload 1 6)))))
  (tn 10 (tn 9 (tl 6 (o_putf [10] 0 vZ 9))
  (tl 9 (aP (f_aload 0 10))))
  (tn 11 (tl 10 (aP (f_aload 2 11)))
  (tn 14 (tl 11 (o_putf [10] 1 vA 14))
  (tl 14 (o_vret)))))
theorem kok_X13_init {γ : AG} (hm : γ.2.2.2.2.1 = mTab) (hk : γ.2.2.2.2.2 = kTab) : KOK γ m_X13_init k_X13_init :=
 kn_ok
 (kn_ok
 (kn_ok
 (kl_ok (ok_aP (ok_aload_n dX13_init_0 rfl rfl)))
 (kl_ok (ok_aP (ok_objI q1511 q135 q136 dX13_init_1 rfl))))
 (kn_ok
 (kl_ok (ok_aP (ok_aload_n dX13_init_4 rfl rfl)))
 (kl_ok (ok_aP (ok_iload_n dX13_init_5 rfl rfl)))))
 (kn_ok
 (kn_ok
 (kl_ok (ok_hp (ok_putF fo_19 fn_94 q1512 rfl pd_1 vZ_ok dX13_init_6 rfl) le_putf))
 (kl_ok (ok_aP (ok_aload_n dX13_init_9 rfl rfl))))
 (kn_ok
 (kl_ok (ok_aP (ok_aload_n dX13_init_10 rfl rfl)))
 (kn_ok
 (kl_ok (ok_hp (ok_putF fo_18 fn_95 q1514 rfl pd_18 vA_okO dX13_init_11 rfl) le_putf))
 (kl_ok (ok_vret rfl dX13_init_14)))))
/-- 310: FavourTown$Row.holds(LFavourTown$Scene;)Z -/
noncomputable def k_X14_holds : Nat → Option AOp :=
 tn 30 (tn 13 (tn 3 (tn 1 (tl 0 (aP (f_const (.int (nI 0)) 1)))
  (tn 2 (tl 1 (aP (f_istore 2 2)))
  (tl 2 (aP (f_iload 2 3)))))
  (tn 7 (tn 4 (tl 3 (aP (f_aload 0 4)))
  (tl 4 (aP (f_getf [11] 1 7))))
  (tn 10 (tl 7 (o_callV (lkN [(19, 113)]) 0 10))
  (tl 10 (aP (f_icmp (fun x y => decide (y ≤ x)) 56 13))))))
  (tn 18 (tn 14 (tl 13 (aP (f_aload 0 14)))
  (tn 17 (tl 14 (aP (f_getf [11] 1 17)))
  (tl 17 (aP (f_iload 2 18)))))
  (tn 24 (tn 21 (tl 18 (o_callV (lkN [(19, 114)]) 1 21))
  (tl 21 (aP (f_cast [11, 12, 13, 16] [] 24))))
  (tn 25 (tl 24 (aP (f_aload 1 25)))
  (tl 25 (o_callV (lkN [(11, 310), (12, 312), (13, 314), (16, 322)]) 1 30))))))
  (tn 45 (tn 37 (tn 31 (tl 30 (aP (f_aload 0 31)))
  (tn 34 (tl 31 (aP (f_getf [11] 0 34)))
  (tl 34 (aP (f_icmp (fun x y => decide (x = y)) 50 37)))))
  (tn 41 (tn 38 (tl 37 (aP (f_aload 0 38)))
  (tl 38 (aP (f_getf [11] 0 41))))
  (tn 44 (tl 41 (aP (f_if (fun x => decide (¬ x = 0)) 48 44)))
  (tl 44 (aP (f_const (.int (nI 1)) 45))))))
  (tn 53 (tn 49 (tn 48 (tl 45 (aP (f_goto 49)))
  (tl 48 (aP (f_const (.int (nI 0)) 49))))
  (tn 50 (tl 49 (o_iret (fun x => x == 0 || x == 1)))
  (tl 50 (aP (f_iinc 2 (nI 1) 53)))))
  (tn 57 (tn 56 (tl 53 (aP (f_goto 2)))
  (tl 56 (aP (f_aload 0 57))))
  (tn 60 (tl 57 (aP (f_getf [11] 0 60)))
  (tl 60 (o_iret (fun x => x == 0 || x == 1)))))))
theorem kok_X14_holds {γ : AG} (hm : γ.2.2.2.2.1 = mTab) (hk : γ.2.2.2.2.2 = kTab) : KOK γ m_X14_holds k_X14_holds :=
 kn_ok
 (kn_ok
 (kn_ok
 (kn_ok
 (kl_ok (ok_aP (ok_iconst dX14_holds_0 rfl rfl)))
 (kn_ok
 (kl_ok (ok_aP (ok_istore_n dX14_holds_1 rfl rfl)))
 (kl_ok (ok_aP (ok_iload_n dX14_holds_2 rfl rfl)))))
 (kn_ok
 (kn_ok
 (kl_ok (ok_aP (ok_aload_n dX14_holds_3 rfl rfl)))
 (kl_ok (ok_aP (ok_getf fo_24 fs_rf (Or.inl q1390) dX14_holds_4 rfl))))
 (kn_ok
 (kl_ok (ok_callV (List.forall_mem_cons.mpr ⟨run_V (C0 := "java/util/ArrayList") rfl rfl (by rw [hm]; rfl) q539 q401 q402 q87 q403 ⟨nh_4, dl_4⟩ (by decide) dX14_holds_7, (fun _ h => absurd h List.not_mem_nil)⟩) rfl))
 (kl_ok (ok_aP (ok_icmp_ge dX14_holds_10 rfl rfl))))))
 (kn_ok
 (kn_ok
 (kl_ok (ok_aP (ok_aload_n dX14_holds_13 rfl rfl)))
 (kn_ok
 (kl_ok (ok_aP (ok_getf fo_24 fs_rf (Or.inl q1390) dX14_holds_14 rfl)))
 (kl_ok (ok_aP (ok_iload_n dX14_holds_17 rfl rfl)))))
 (kn_ok
 (kn_ok
 (kl_ok (ok_callV (List.forall_mem_cons.mpr ⟨run_V (C0 := "java/util/ArrayList") rfl rfl (by rw [hm]; rfl) q540 q405 q406 q87 q407 ⟨nh_4, dl_21⟩ (by decide) dX14_holds_18, (fun _ h => absurd h List.not_mem_nil)⟩) rfl))
 (kl_ok (ok_aP (ok_cast q541 (List.forall_mem_cons.mpr ⟨Or.inl ⟨_, rfl, q533⟩, (List.forall_mem_cons.mpr ⟨Or.inl ⟨_, rfl, q525⟩, (List.forall_mem_cons.mpr ⟨Or.inl ⟨_, rfl, q484⟩, (List.forall_mem_cons.mpr ⟨Or.inl ⟨_, rfl, q498⟩, (fun _ h => absurd h List.not_mem_nil)⟩)⟩)⟩)⟩) (fun _ h => absurd h List.not_mem_nil) dX14_holds_21 rfl))))
 (kn_ok
 (kl_ok (ok_aP (ok_aload_n dX14_holds_24 rfl rfl)))
 (kl_ok (ok_callF (List.forall_mem_cons.mpr ⟨run_F (C0 := "FavourTown$Row") (nx := ⟨"FavourTown$Cond", "holds", "(LFavourTown$Scene;)Z"⟩) rfl (by decide +kernel) (by rw [hm]; rfl) q543 q534 q536 q119 q538 ⟨nh_7, dl_27⟩ (by decide) dX14_holds_25, (List.forall_mem_cons.mpr ⟨run_F (C0 := "FavourTown$Not") (nx := ⟨"FavourTown$Cond", "holds", "(LFavourTown$Scene;)Z"⟩) rfl (by decide +kernel) (by rw [hm]; rfl) q543 q526 q528 q120 q530 ⟨nh_7, dl_27⟩ (by decide) dX14_holds_25, (List.forall_mem_cons.mpr ⟨run_F (C0 := "FavourTown$Is") (nx := ⟨"FavourTown$Cond", "holds", "(LFavourTown$Scene;)Z"⟩) rfl (by decide +kernel) (by rw [hm]; rfl) q543 q485 q487 q121 q489 ⟨nh_7, dl_27⟩ (by decide) dX14_holds_25, (List.forall_mem_cons.mpr ⟨run_F (C0 := "FavourTown$Less") (nx := ⟨"FavourTown$Cond", "holds", "(LFavourTown$Scene;)Z"⟩) rfl (by decide +kernel) (by rw [hm]; rfl) q543 q499 q501 q125 q503 ⟨nh_7, dl_27⟩ (by decide) dX14_holds_25, (fun _ h => absurd h List.not_mem_nil)⟩)⟩)⟩)⟩) rfl))))))
 (kn_ok
 (kn_ok
 (kn_ok
 (kl_ok (ok_aP (ok_aload_n dX14_holds_30 rfl rfl)))
 (kn_ok
 (kl_ok (ok_aP (ok_getf fo_25 fs_rf (Or.inl q1389) dX14_holds_31 rfl)))
 (kl_ok (ok_aP (ok_icmp_eq dX14_holds_34 rfl rfl)))))
 (kn_ok
 (kn_ok
 (kl_ok (ok_aP (ok_aload_n dX14_holds_37 rfl rfl)))
 (kl_ok (ok_aP (ok_getf fo_25 fs_rf (Or.inl q1389) dX14_holds_38 rfl))))
 (kn_ok
 (kl_ok (ok_aP (ok_if_ne dX14_holds_41 rfl rfl)))
 (kl_ok (ok_aP (ok_iconst dX14_holds_44 rfl rfl))))))
 (kn_ok
 (kn_ok
 (kn_ok
 (kl_ok (ok_aP (ok_goto dX14_holds_45 rfl)))
 (kl_ok (ok_aP (ok_iconst dX14_holds_48 rfl rfl))))
 (kn_ok
 (kl_ok (ok_zret rfl z_boolean dX14_holds_49))
 (kl_ok (ok_aP (ok_iinc dX14_holds_50 (by decide +kernel) rfl)))))
 (kn_ok
 (kn_ok
 (kl_ok (ok_aP (ok_goto dX14_holds_53 rfl)))
 (kl_ok (ok_aP (ok_aload_n dX14_holds_56 rfl rfl))))
 (kn_ok
 (kl_ok (ok_aP (ok_getf fo_25 fs_rf (Or.inl q1389) dX14_holds_57 rfl)))
 (kl_ok (ok_zret rfl z_boolean dX14_holds_60))))))
/-- 311: FavourTown$Row.<init>(Z)V -/
noncomputable def k_X14_init : Nat → Option AOp :=
 tn 9 (tn 4 (tn 1 (tl 0 (aP (f_aload 0 1)))
  (tl 1 (aP (f_objI 4))))
  (tn 5 (tl 4 (aP (f_aload 0 5)))
  (tn 8 (tl 5 (o_new 19 [.int 0, .null, .int 0] 8))
  (tl 8 (aP (f_dup 9))))))
  (tn 16 (tn 12 (tl 9 (o_callI 112 0 12))
  (tn 15 (tl 12 (o_putf [11] 1 vA 15))
  (tl 15 (aP (f_aload 0 16)))))
  (tn 17 (tl 16 (aP (f_iload 1 17)))
  (tn 20 (tl 17 (o_putf [11] 0 vZ 20))
  (tl 20 (o_vret)))))
theorem kok_X14_init {γ : AG} (hm : γ.2.2.2.2.1 = mTab) (hk : γ.2.2.2.2.2 = kTab) : KOK γ m_X14_init k_X14_init :=
 kn_ok
 (kn_ok
 (kn_ok
 (kl_ok (ok_aP (ok_aload_n dX14_init_0 rfl rfl)))
 (kl_ok (ok_aP (ok_objI q1386 q135 q136 dX14_init_1 rfl))))
 (kn_ok
 (kl_ok (ok_aP (ok_aload_n dX14_init_4 rfl rfl)))
 (kn_ok
 (kl_ok (ok_hp (ok_new (by decide +kernel) rfl q1387 q146 q87 dX14_init_5 rfl) le_new))
 (kl_ok (ok_aP (ok_dup dX14_init_8 rfl))))))
 (kn_ok
 (kn_ok
 (kl_ok (ok_callI (run_I (by rw [hm]; rfl) q1388 q148 q87 q149 rfl ⟨nh_4, dl_0⟩ (by decide) dX14_init_9) rfl))
 (kn_ok
 (kl_ok (ok_hp (ok_putF fo_24 fn_96 q1390 rfl pd_5 vA_okO dX14_init_12 rfl) le_putf))
 (kl_ok (ok_aP (ok_aload_n dX14_init_15 rfl rfl)))))
 (kn_ok
 (kl_ok (ok_aP (ok_iload_n dX14_init_16 rfl rfl)))
 (kn_ok
 (kl_ok (ok_hp (ok_putF fo_25 fn_97 q1389 rfl pd_1 vZ_ok dX14_init_17 rfl) le_putf))
 (kl_ok (ok_vret rfl dX14_init_20)))))
/-- 312: FavourTown$Not.holds(LFavourTown$Scene;)Z -/
noncomputable def k_X15_holds : Nat → Option AOp :=
 tn 10 (tn 4 (tn 1 (tl 0 (aP (f_aload 0 1)))
  (tl 1 (aP (f_getf [12] 0 4))))
  (tn 5 (tl 4 (aP (f_aload 1 5)))
  (tl 5 (o_callV (lkN [(11, 310), (12, 312), (13, 314), (16, 322)]) 1 10))))
  (tn 14 (tn 13 (tl 10 (aP (f_if (fun x => decide (¬ x = 0)) 17 13)))
  (tl 13 (aP (f_const (.int (nI 1)) 14))))
  (tn 17 (tl 14 (aP (f_goto 18)))
  (tn 18 (tl 17 (aP (f_const (.int (nI 0)) 18)))
  (tl 18 (o_iret (fun x => x == 0 || x == 1))))))
theorem kok_X15_holds {γ : AG} (hm : γ.2.2.2.2.1 = mTab) (hk : γ.2.2.2.2.2 = kTab) : KOK γ m_X15_holds k_X15_holds :=
 kn_ok
 (kn_ok
 (kn_ok
 (kl_ok (ok_aP (ok_aload_n dX15_holds_0 rfl rfl)))
 (kl_ok (ok_aP (ok_getf fo_23 fs_rf (Or.inl q1420) dX15_holds_1 rfl))))
 (kn_ok
 (kl_ok (ok_aP (ok_aload_n dX15_holds_4 rfl rfl)))
 (kl_ok (ok_callF (List.forall_mem_cons.mpr ⟨run_F (C0 := "FavourTown$Row") (nx := ⟨"FavourTown$Cond", "holds", "(LFavourTown$Scene;)Z"⟩) rfl (by decide +kernel) (by rw [hm]; rfl) q532 q534 q536 q119 q538 ⟨nh_7, dl_27⟩ (by decide) dX15_holds_5, (List.forall_mem_cons.mpr ⟨run_F (C0 := "FavourTown$Not") (nx := ⟨"FavourTown$Cond", "holds", "(LFavourTown$Scene;)Z"⟩) rfl (by decide +kernel) (by rw [hm]; rfl) q532 q526 q528 q120 q530 ⟨nh_7, dl_27⟩ (by decide) dX15_holds_5, (List.forall_mem_cons.mpr ⟨run_F (C0 := "FavourTown$Is") (nx := ⟨"FavourTown$Cond", "holds", "(LFavourTown$Scene;)Z"⟩) rfl (by decide +kernel) (by rw [hm]; rfl) q532 q485 q487 q121 q489 ⟨nh_7, dl_27⟩ (by decide) dX15_holds_5, (List.forall_mem_cons.mpr ⟨run_F (C0 := "FavourTown$Less") (nx := ⟨"FavourTown$Cond", "holds", "(LFavourTown$Scene;)Z"⟩) rfl (by decide +kernel) (by rw [hm]; rfl) q532 q499 q501 q125 q503 ⟨nh_7, dl_27⟩ (by decide) dX15_holds_5, (fun _ h => absurd h List.not_mem_nil)⟩)⟩)⟩)⟩) rfl))))
 (kn_ok
 (kn_ok
 (kl_ok (ok_aP (ok_if_ne dX15_holds_10 rfl rfl)))
 (kl_ok (ok_aP (ok_iconst dX15_holds_13 rfl rfl))))
 (kn_ok
 (kl_ok (ok_aP (ok_goto dX15_holds_14 rfl)))
 (kn_ok
 (kl_ok (ok_aP (ok_iconst dX15_holds_17 rfl rfl)))
 (kl_ok (ok_zret rfl z_boolean dX15_holds_18)))))
/-- 313: FavourTown$Not.<init>(LFavourTown$Cond;)V -/
noncomputable def k_X15_init : Nat → Option AOp :=
 tn 5 (tn 1 (tl 0 (aP (f_aload 0 1)))
  (tn 4 (tl 1 (aP (f_objI 4)))
  (tl 4 (aP (f_aload 0 5)))))
  (tn 6 (tl 5 (aP (f_aload 1 6)))
  (tn 9 (tl 6 (o_putf [12] 0 vA 9))
  (tl 9 (o_vret))))
theorem kok_X15_init {γ : AG} (hm : γ.2.2.2.2.1 = mTab) (hk : γ.2.2.2.2.2 = kTab) : KOK γ m_X15_init k_X15_init :=
 kn_ok
 (kn_ok
 (kl_ok (ok_aP (ok_aload_n dX15_init_0 rfl rfl)))
 (kn_ok
 (kl_ok (ok_aP (ok_objI q1419 q135 q136 dX15_init_1 rfl)))
 (kl_ok (ok_aP (ok_aload_n dX15_init_4 rfl rfl)))))
 (kn_ok
 (kl_ok (ok_aP (ok_aload_n dX15_init_5 rfl rfl)))
 (kn_ok
 (kl_ok (ok_hp (ok_putF fo_23 fn_99 q1420 rfl pd_18 vA_okO dX15_init_6 rfl) le_putf))
 (kl_ok (ok_vret rfl dX15_init_9))))
/-- 314: FavourTown$Is.holds(LFavourTown$Scene;)Z -/
noncomputable def k_X16_holds : Nat → Option AOp :=
 tn 2 (tn 1 (tl 0 (aP (f_aload 1 1)))
  (tl 1 (aP (f_aload 0 2))))
  (tn 5 (tl 2 (aP (f_getf [13] 0 5)))
  (tn 8 (tl 5 (o_callV (lkN [(8, 123)]) 1 8))
  (tl 8 (o_iret (fun x => x == 0 || x == 1)))))
theorem kok_X16_holds {γ : AG} (hm : γ.2.2.2.2.1 = mTab) (hk : γ.2.2.2.2.2 = kTab) : KOK γ m_X16_holds k_X16_holds :=
 kn_ok
 (kn_ok
 (kl_ok (ok_aP (ok_aload_n dX16_holds_0 rfl rfl)))
 (kl_ok (ok_aP (ok_aload_n dX16_holds_1 rfl rfl))))
 (kn_ok
 (kl_ok (ok_aP (ok_getf fo_20 fs_rf (Or.inl q1431) dX16_holds_2 rfl)))
 (kn_ok
 (kl_ok (ok_callV (List.forall_mem_cons.mpr ⟨run_V (C0 := "FavourTown$Scene") rfl rfl (by rw [hm]; rfl) q490 q491 q492 q88 q493 ⟨nh_8, dl_28⟩ (by decide) dX16_holds_5, (fun _ h => absurd h List.not_mem_nil)⟩) rfl))
 (kl_ok (ok_zret rfl z_boolean dX16_holds_8))))
/-- 315: FavourTown$Is.<init>(LFavourTown$Tag;)V -/
noncomputable def k_X16_init : Nat → Option AOp :=
 tn 5 (tn 1 (tl 0 (aP (f_aload 0 1)))
  (tn 4 (tl 1 (aP (f_objI 4)))
  (tl 4 (aP (f_aload 0 5)))))
  (tn 6 (tl 5 (aP (f_aload 1 6)))
  (tn 9 (tl 6 (o_putf [13] 0 vA 9))
  (tl 9 (o_vret))))
theorem kok_X16_init {γ : AG} (hm : γ.2.2.2.2.1 = mTab) (hk : γ.2.2.2.2.2 = kTab) : KOK γ m_X16_init k_X16_init :=
 kn_ok
 (kn_ok
 (kl_ok (ok_aP (ok_aload_n dX16_init_0 rfl rfl)))
 (kn_ok
 (kl_ok (ok_aP (ok_objI q1430 q135 q136 dX16_init_1 rfl)))
 (kl_ok (ok_aP (ok_aload_n dX16_init_4 rfl rfl)))))
 (kn_ok
 (kl_ok (ok_aP (ok_aload_n dX16_init_5 rfl rfl)))
 (kn_ok
 (kl_ok (ok_hp (ok_putF fo_20 fn_98 q1431 rfl pd_19 vA_okO dX16_init_6 rfl) le_putf))
 (kl_ok (ok_vret rfl dX16_init_9))))
/-- 316: FavourTown$Sum.in(LFavourTown$Scene;)I -/
noncomputable def k_X17_in : Nat → Option AOp :=
 tn 17 (tn 5 (tn 2 (tn 1 (tl 0 (aP (f_const (.int (nI 0)) 1)))
  (tl 1 (aP (f_istore 2 2))))
  (tn 3 (tl 2 (aP (f_const (.int (nI 0)) 3)))
  (tn 4 (tl 3 (aP (f_istore 3 4)))
  (tl 4 (aP (f_iload 3 5))))))
  (tn 12 (tn 6 (tl 5 (aP (f_aload 0 6)))
  (tn 9 (tl 6 (aP (f_getf [14] 0 9)))
  (tl 9 (o_callV (lkN [(19, 113)]) 0 12))))
  (tn 15 (tl 12 (aP (f_icmp (fun x y => decide (y ≤ x)) 39 15)))
  (tn 16 (tl 15 (aP (f_iload 2 16)))
  (tl 16 (aP (f_aload 0 17)))))))
  (tn 31 (tn 24 (tn 20 (tl 17 (aP (f_getf [14] 0 20)))
  (tn 21 (tl 20 (aP (f_iload 3 21)))
  (tl 21 (o_callV (lkN [(19, 114)]) 1 24))))
  (tn 27 (tl 24 (aP (f_cast [15] [] 27)))
  (tn 28 (tl 27 (aP (f_aload 1 28)))
  (tl 28 (o_callV (lkN [(15, 318)]) 1 31)))))
  (tn 36 (tn 32 (tl 31 (aP (f_bin (fun x y => x + y) 32)))
  (tn 33 (tl 32 (aP (f_istore 2 33)))
  (tl 33 (aP (f_iinc 3 (nI 1) 36)))))
  (tn 39 (tl 36 (aP (f_goto 4)))
  (tn 40 (tl 39 (aP (f_iload 2 40)))
  (tl 40 (o_iret (fun _ => true)))))))
theorem kok_X17_in {γ : AG} (hm : γ.2.2.2.2.1 = mTab) (hk : γ.2.2.2.2.2 = kTab) : KOK γ m_X17_in k_X17_in :=
 kn_ok
 (kn_ok
 (kn_ok
 (kn_ok
 (kl_ok (ok_aP (ok_iconst dX17_in_0 rfl rfl)))
 (kl_ok (ok_aP (ok_istore_n dX17_in_1 rfl rfl))))
 (kn_ok
 (kl_ok (ok_aP (ok_iconst dX17_in_2 rfl rfl)))
 (kn_ok
 (kl_ok (ok_aP (ok_istore_n dX17_in_3 rfl rfl)))
 (kl_ok (ok_aP (ok_iload_n dX17_in_4 rfl rfl))))))
 (kn_ok
 (kn_ok
 (kl_ok (ok_aP (ok_aload_n dX17_in_5 rfl rfl)))
 (kn_ok
 (kl_ok (ok_aP (ok_getf fo_28 fs_rf (Or.inl q1452) dX17_in_6 rfl)))
 (kl_ok (ok_callV (List.forall_mem_cons.mpr ⟨run_V (C0 := "java/util/ArrayList") rfl rfl (by rw [hm]; rfl) q508 q401 q402 q87 q403 ⟨nh_4, dl_4⟩ (by decide) dX17_in_9, (fun _ h => absurd h List.not_mem_nil)⟩) rfl))))
 (kn_ok
 (kl_ok (ok_aP (ok_icmp_ge dX17_in_12 rfl rfl)))
 (kn_ok
 (kl_ok (ok_aP (ok_iload_n dX17_in_15 rfl rfl)))
 (kl_ok (ok_aP (ok_aload_n dX17_in_16 rfl rfl)))))))
 (kn_ok
 (kn_ok
 (kn_ok
 (kl_ok (ok_aP (ok_getf fo_28 fs_rf (Or.inl q1452) dX17_in_17 rfl)))
 (kn_ok
 (kl_ok (ok_aP (ok_iload_n dX17_in_20 rfl rfl)))
 (kl_ok (ok_callV (List.forall_mem_cons.mpr ⟨run_V (C0 := "java/util/ArrayList") rfl rfl (by rw [hm]; rfl) q509 q405 q406 q87 q407 ⟨nh_4, dl_21⟩ (by decide) dX17_in_21, (fun _ h => absurd h List.not_mem_nil)⟩) rfl))))
 (kn_ok
 (kl_ok (ok_aP (ok_cast q510 (List.forall_mem_cons.mpr ⟨Or.inr ⟨_, rfl, rfl⟩, (fun _ h => absurd h List.not_mem_nil)⟩) (fun _ h => absurd h List.not_mem_nil) dX17_in_24 rfl)))
 (kn_ok
 (kl_ok (ok_aP (ok_aload_n dX17_in_27 rfl rfl)))
 (kl_ok (ok_callV (List.forall_mem_cons.mpr ⟨run_V (C0 := "FavourTown$Part") rfl rfl (by rw [hm]; rfl) q511 q512 q513 q123 q514 ⟨nh_10, dl_29⟩ (by decide) dX17_in_28, (fun _ h => absurd h List.not_mem_nil)⟩) rfl)))))
 (kn_ok
 (kn_ok
 (kl_ok (ok_aP (ok_iadd dX17_in_31 rfl)))
 (kn_ok
 (kl_ok (ok_aP (ok_istore_n dX17_in_32 rfl rfl)))
 (kl_ok (ok_aP (ok_iinc dX17_in_33 (by decide +kernel) rfl)))))
 (kn_ok
 (kl_ok (ok_aP (ok_goto dX17_in_36 rfl)))
 (kn_ok
 (kl_ok (ok_aP (ok_iload_n dX17_in_39 rfl rfl)))
 (kl_ok (ok_iret rfl dX17_in_40))))))
/-- 317: FavourTown$Sum.<init>()V -/
noncomputable def k_X17_init : Nat → Option AOp :=
 tn 8 (tn 4 (tn 1 (tl 0 (aP (f_aload 0 1)))
  (tl 1 (aP (f_objI 4))))
  (tn 5 (tl 4 (aP (f_aload 0 5)))
  (tl 5 (o_new 19 [.int 0, .null, .int 0] 8))))
  (tn 12 (tn 9 (tl 8 (aP (f_dup 9)))
  (tl 9 (o_callI 112 0 12)))
  (tn 15 (tl 12 (o_putf [14] 0 vA 15))
  (tl 15 (o_vret))))
theorem kok_X17_init {γ : AG} (hm : γ.2.2.2.2.1 = mTab) (hk : γ.2.2.2.2.2 = kTab) : KOK γ m_X17_init k_X17_init :=
 kn_ok
 (kn_ok
 (kn_ok
 (kl_ok (ok_aP (ok_aload_n dX17_init_0 rfl rfl)))
 (kl_ok (ok_aP (ok_objI q1449 q135 q136 dX17_init_1 rfl))))
 (kn_ok
 (kl_ok (ok_aP (ok_aload_n dX17_init_4 rfl rfl)))
 (kl_ok (ok_hp (ok_new (by decide +kernel) rfl q1450 q146 q87 dX17_init_5 rfl) le_new))))
 (kn_ok
 (kn_ok
 (kl_ok (ok_aP (ok_dup dX17_init_8 rfl)))
 (kl_ok (ok_callI (run_I (by rw [hm]; rfl) q1451 q148 q87 q149 rfl ⟨nh_4, dl_0⟩ (by decide) dX17_init_9) rfl)))
 (kn_ok
 (kl_ok (ok_hp (ok_putF fo_28 fn_100 q1452 rfl pd_5 vA_okO dX17_init_12 rfl) le_putf))
 (kl_ok (ok_vret rfl dX17_init_15))))
/-- 318: FavourTown$Part.in(LFavourTown$Scene;)I -/
noncomputable def k_X18_in : Nat → Option AOp :=
 tn 11 (tn 4 (tn 1 (tl 0 (aP (f_aload 0 1)))
  (tl 1 (aP (f_getf [15] 1 4))))
  (tn 7 (tl 4 (aP (f_null 7 14)))
  (tn 8 (tl 7 (aP (f_aload 0 8)))
  (tl 8 (aP (f_getf [15] 0 11))))))
  (tn 16 (tn 14 (tl 11 (aP (f_goto 22)))
  (tn 15 (tl 14 (aP (f_aload 1 15)))
  (tl 15 (aP (f_aload 0 16)))))
  (tn 19 (tl 16 (aP (f_getf [15] 1 19)))
  (tn 22 (tl 19 (o_callV (lkN [(8, 124)]) 1 22))
  (tl 22 (o_iret (fun _ => true))))))
theorem kok_X18_in {γ : AG} (hm : γ.2.2.2.2.1 = mTab) (hk : γ.2.2.2.2.2 = kTab) : KOK γ m_X18_in k_X18_in :=
 kn_ok
 (kn_ok
 (kn_ok
 (kl_ok (ok_aP (ok_aload_n dX18_in_0 rfl rfl)))
 (kl_ok (ok_aP (ok_getf fo_29 fs_rf (Or.inl q1472) dX18_in_1 rfl))))
 (kn_ok
 (kl_ok (ok_aP (ok_ifnonnull dX18_in_4 rfl rfl)))
 (kn_ok
 (kl_ok (ok_aP (ok_aload_n dX18_in_7 rfl rfl)))
 (kl_ok (ok_aP (ok_getf fo_30 fs_rf (Or.inl q1471) dX18_in_8 rfl))))))
 (kn_ok
 (kn_ok
 (kl_ok (ok_aP (ok_goto dX18_in_11 rfl)))
 (kn_ok
 (kl_ok (ok_aP (ok_aload_n dX18_in_14 rfl rfl)))
 (kl_ok (ok_aP (ok_aload_n dX18_in_15 rfl rfl)))))
 (kn_ok
 (kl_ok (ok_aP (ok_getf fo_29 fs_rf (Or.inl q1472) dX18_in_16 rfl)))
 (kn_ok
 (kl_ok (ok_callV (List.forall_mem_cons.mpr ⟨run_V (C0 := "FavourTown$Scene") rfl rfl (by rw [hm]; rfl) q515 q516 q517 q88 q518 ⟨nh_8, dl_30⟩ (by decide) dX18_in_19, (fun _ h => absurd h List.not_mem_nil)⟩) rfl))
 (kl_ok (ok_iret rfl dX18_in_22)))))
/-- 319: FavourTown$Part.<init>(ILFavourTown$Fact;)V -/
noncomputable def k_X18_init : Nat → Option AOp :=
 tn 6 (tn 4 (tn 1 (tl 0 (aP (f_aload 0 1)))
  (tl 1 (aP (f_objI 4))))
  (tn 5 (tl 4 (aP (f_aload 0 5)))
  (tl 5 (aP (f_iload 1 6)))))
  (tn 10 (tn 9 (tl 6 (o_putf [15] 0 vI 9))
  (tl 9 (aP (f_aload 0 10))))
  (tn 11 (tl 10 (aP (f_aload 2 11)))
  (tn 14 (tl 11 (o_putf [15] 1 vA 14))
  (tl 14 (o_vret)))))
theorem kok_X18_init {γ : AG} (hm : γ.2.2.2.2.1 = mTab) (hk : γ.2.2.2.2.2 = kTab) : KOK γ m_X18_init k_X18_init :=
 kn_ok
 (kn_ok
 (kn_ok
 (kl_ok (ok_aP (ok_aload_n dX18_init_0 rfl rfl)))
 (kl_ok (ok_aP (ok_objI q1470 q135 q136 dX18_init_1 rfl))))
 (kn_ok
 (kl_ok (ok_aP (ok_aload_n dX18_init_4 rfl rfl)))
 (kl_ok (ok_aP (ok_iload_n dX18_init_5 rfl rfl)))))
 (kn_ok
 (kn_ok
 (kl_ok (ok_hp (ok_putF fo_30 fn_101 q1471 rfl pd_0 vI_ok dX18_init_6 rfl) le_putf))
 (kl_ok (ok_aP (ok_aload_n dX18_init_9 rfl rfl))))
 (kn_ok
 (kl_ok (ok_aP (ok_aload_n dX18_init_10 rfl rfl)))
 (kn_ok
 (kl_ok (ok_hp (ok_putF fo_29 fn_102 q1472 rfl pd_20 vA_okO dX18_init_11 rfl) le_putf))
 (kl_ok (ok_vret rfl dX18_init_14)))))
/-- 320: FavourTown$Fact.of(Ljava/lang/String;)LFavourTown$Fact; -/
noncomputable def k_X19_of : Nat → Option AOp :=
 tn 16 (tn 8 (tn 5 (tn 3 (tl 0 (o_callS 321 0 3))
  (tn 4 (tl 3 (aP (f_astore 1 4)))
  (tl 4 (aP (f_aload 1 5)))))
  (tn 6 (tl 5 (aP (f_alen 6)))
  (tn 7 (tl 6 (aP (f_istore 2 7)))
  (tl 7 (aP (f_const (.int (nI 0)) 8))))))
  (tn 11 (tn 9 (tl 8 (aP (f_istore 3 9)))
  (tn 10 (tl 9 (aP (f_iload 3 10)))
  (tl 10 (aP (f_iload 2 11)))))
  (tn 14 (tl 11 (aP (f_icmp (fun x y => decide (y ≤ x)) 40 14)))
  (tn 15 (tl 14 (aP (f_aload 1 15)))
  (tl 15 (aP (f_iload 3 16)))))))
  (tn 28 (tn 21 (tn 17 (tl 16 (aP (f_aald [3, 4, 5] 17)))
  (tn 19 (tl 17 (aP (f_astore 4 19)))
  (tl 19 (aP (f_aload 4 21)))))
  (tn 24 (tl 21 (aP (f_getf [26] 1 24)))
  (tn 25 (tl 24 (aP (f_aload 0 25)))
  (tl 25 (o_callV (lkN [(21, 285)]) 1 28)))))
  (tn 34 (tn 31 (tl 28 (aP (f_if (fun x => decide (x = 0)) 34 31)))
  (tn 33 (tl 31 (aP (f_aload 4 33)))
  (tl 33 (o_aret))))
  (tn 40 (tn 37 (tl 34 (aP (f_iinc 3 (nI 1) 37)))
  (tl 37 (aP (f_goto 9))))
  (tn 41 (tl 40 (aP (f_const .null 41)))
  (tl 41 (o_aret))))))
theorem kok_X19_of {γ : AG} (hm : γ.2.2.2.2.1 = mTab) (hk : γ.2.2.2.2.2 = kTab) : KOK γ m_X19_of k_X19_of :=
 kn_ok
 (kn_ok
 (kn_ok
 (kn_ok
 (kl_ok (ok_callS (run_S (by rw [hm]; rfl) q1481 q1482 q124 q1483 ⟨nh_38, dl_81⟩ (by decide) dX19_of_0) rfl))
 (kn_ok
 (kl_ok (ok_aP (ok_astore_n dX19_of_3 rfl rfl)))
 (kl_ok (ok_aP (ok_aload_n dX19_of_4 rfl rfl)))))
 (kn_ok
 (kl_ok (ok_aP (ok_alen dX19_of_5 rfl)))
 (kn_ok
 (kl_ok (ok_aP (ok_istore_n dX19_of_6 rfl rfl)))
 (kl_ok (ok_aP (ok_iconst dX19_of_7 rfl rfl))))))
 (kn_ok
 (kn_ok
 (kl_ok (ok_aP (ok_istore_n dX19_of_8 rfl rfl)))
 (kn_ok
 (kl_ok (ok_aP (ok_iload_n dX19_of_9 rfl rfl)))
 (kl_ok (ok_aP (ok_iload_n dX19_of_10 rfl rfl)))))
 (kn_ok
 (kl_ok (ok_aP (ok_icmp_ge dX19_of_11 rfl rfl)))
 (kn_ok
 (kl_ok (ok_aP (ok_aload_n dX19_of_14 rfl rfl)))
 (kl_ok (ok_aP (ok_iload_n dX19_of_15 rfl rfl)))))))
 (kn_ok
 (kn_ok
 (kn_ok
 (kl_ok (ok_aP (ok_aald ts345 dX19_of_16 rfl)))
 (kn_ok
 (kl_ok (ok_aP (ok_astore dX19_of_17 rfl)))
 (kl_ok (ok_aP (ok_aload dX19_of_19 rfl)))))
 (kn_ok
 (kl_ok (ok_aP (ok_getf fo_110 fs_rf (Or.inl q2383) dX19_of_21 rfl)))
 (kn_ok
 (kl_ok (ok_aP (ok_aload_n dX19_of_24 rfl rfl)))
 (kl_ok (ok_callV (List.forall_mem_cons.mpr ⟨run_V (C0 := "java/lang/String") rfl rfl (by rw [hm]; rfl) q1492 q1213 q1214 q103 q1215 ⟨nh_21, dl_36⟩ (by decide) dX19_of_25, (fun _ h => absurd h List.not_mem_nil)⟩) rfl)))))
 (kn_ok
 (kn_ok
 (kl_ok (ok_aP (ok_if_eq dX19_of_28 rfl rfl)))
 (kn_ok
 (kl_ok (ok_aP (ok_aload dX19_of_31 rfl)))
 (kl_ok (ok_aret rfl (Or.inl ⟨_, rfl⟩) dX19_of_33))))
 (kn_ok
 (kn_ok
 (kl_ok (ok_aP (ok_iinc dX19_of_34 (by decide +kernel) rfl)))
 (kl_ok (ok_aP (ok_goto dX19_of_37 rfl))))
 (kn_ok
 (kl_ok (ok_aP (ok_null dX19_of_40 rfl)))
 (kl_ok (ok_aret rfl (Or.inl ⟨_, rfl⟩) dX19_of_41))))))
/-- 321: FavourTown$Fact.values()[LFavourTown$Fact; -/
noncomputable def k_X19_values : Nat → Option AOp :=
 tn 6 (tn 3 (tl 0 (aP (f_stat 0 3)))
  (tl 3 (o_clone 6)))
  (tn 9 (tl 6 (aP (f_cast [] [5] 9)))
  (tl 9 (o_aret)))
theorem kok_X19_values {γ : AG} (hm : γ.2.2.2.2.1 = mTab) (hk : γ.2.2.2.2.2 = kTab) : KOK γ m_X19_values k_X19_values :=
 kn_ok
 (kn_ok
 (kl_ok (ok_aP (ok_stat (C0 := "FavourTown$Fact") (by rw [hk]; rfl) (Or.inl q1484) rfl dX19_values_0 rfl)))
 (kl_ok (ok_hp (ok_clone q1486 q1487 q859 q860 q1488 q1489 dX19_values_3 rfl) le_clone)))
 (kn_ok
 (kl_ok (ok_aP (ok_cast q1491 (fun _ h => absurd h List.not_mem_nil) (List.forall_mem_cons.mpr ⟨fc_5 γ, (fun _ h => absurd h List.not_mem_nil)⟩) dX19_values_6 rfl)))
 (kl_ok (ok_aret rfl (Or.inr ⟨_, rfl⟩) dX19_values_9)))
/-- 322: FavourTown$Less.holds(LFavourTown$Scene;)Z -/
noncomputable def k_X20_holds : Nat → Option AOp :=
 tn 12 (tn 5 (tn 1 (tl 0 (aP (f_aload 0 1)))
  (tn 4 (tl 1 (aP (f_getf [16] 0 4)))
  (tl 4 (aP (f_aload 1 5)))))
  (tn 8 (tl 5 (o_callV (lkN [(14, 316)]) 1 8))
  (tn 9 (tl 8 (aP (f_aload 0 9)))
  (tl 9 (aP (f_getf [16] 1 12))))))
  (tn 19 (tn 13 (tl 12 (aP (f_aload 1 13)))
  (tn 16 (tl 13 (o_callV (lkN [(14, 316)]) 1 16))
  (tl 16 (aP (f_icmp (fun x y => decide (y ≤ x)) 23 19)))))
  (tn 23 (tn 20 (tl 19 (aP (f_const (.int (nI 1)) 20)))
  (tl 20 (aP (f_goto 24))))
  (tn 24 (tl 23 (aP (f_const (.int (nI 0)) 24)))
  (tl 24 (o_iret (fun x => x == 0 || x == 1))))))
theorem kok_X20_holds {γ : AG} (hm : γ.2.2.2.2.1 = mTab) (hk : γ.2.2.2.2.2 = kTab) : KOK γ m_X20_holds k_X20_holds :=
 kn_ok
 (kn_ok
 (kn_ok
 (kl_ok (ok_aP (ok_aload_n dX20_holds_0 rfl rfl)))
 (kn_ok
 (kl_ok (ok_aP (ok_getf fo_26 fs_rf (Or.inl q1499) dX20_holds_1 rfl)))
 (kl_ok (ok_aP (ok_aload_n dX20_holds_4 rfl rfl)))))
 (kn_ok
 (kl_ok (ok_callV (List.forall_mem_cons.mpr ⟨run_V (C0 := "FavourTown$Sum") rfl rfl (by rw [hm]; rfl) q504 q505 q506 q122 q507 ⟨nh_9, dl_29⟩ (by decide) dX20_holds_5, (fun _ h => absurd h List.not_mem_nil)⟩) rfl))
 (kn_ok
 (kl_ok (ok_aP (ok_aload_n dX20_holds_8 rfl rfl)))
 (kl_ok (ok_aP (ok_getf fo_27 fs_rf (Or.inl q1500) dX20_holds_9 rfl))))))
 (kn_ok
 (kn_ok
 (kl_ok (ok_aP (ok_aload_n dX20_holds_12 rfl rfl)))
 (kn_ok
 (kl_ok (ok_callV (List.forall_mem_cons.mpr ⟨run_V (C0 := "FavourTown$Sum") rfl rfl (by rw [hm]; rfl) q504 q505 q506 q122 q507 ⟨nh_9, dl_29⟩ (by decide) dX20_holds_13, (fun _ h => absurd h List.not_mem_nil)⟩) rfl))
 (kl_ok (ok_aP (ok_icmp_ge dX20_holds_16 rfl rfl)))))
 (kn_ok
 (kn_ok
 (kl_ok (ok_aP (ok_iconst dX20_holds_19 rfl rfl)))
 (kl_ok (ok_aP (ok_goto dX20_holds_20 rfl))))
 (kn_ok
 (kl_ok (ok_aP (ok_iconst dX20_holds_23 rfl rfl)))
 (kl_ok (ok_zret rfl z_boolean dX20_holds_24)))))
/-- 323: FavourTown$Less.<init>(LFavourTown$Sum;LFavourTown$Sum;)V -/
noncomputable def k_X20_init : Nat → Option AOp :=
 tn 6 (tn 4 (tn 1 (tl 0 (aP (f_aload 0 1)))
  (tl 1 (aP (f_objI 4))))
  (tn 5 (tl 4 (aP (f_aload 0 5)))
  (tl 5 (aP (f_aload 1 6)))))
  (tn 10 (tn 9 (tl 6 (o_putf [16] 0 vA 9))
  (tl 9 (aP (f_aload 0 10))))
  (tn 11 (tl 10 (aP (f_aload 2 11)))
  (tn 14 (tl 11 (o_putf [16] 1 vA 14))
  (tl 14 (o_vret)))))
theorem kok_X20_init {γ : AG} (hm : γ.2.2.2.2.1 = mTab) (hk : γ.2.2.2.2.2 = kTab) : KOK γ m_X20_init k_X20_init :=
 kn_ok
 (kn_ok
 (kn_ok
 (kl_ok (ok_aP (ok_aload_n dX20_init_0 rfl rfl)))
 (kl_ok (ok_aP (ok_objI q1498 q135 q136 dX20_init_1 rfl))))
 (kn_ok
 (kl_ok (ok_aP (ok_aload_n dX20_init_4 rfl rfl)))
 (kl_ok (ok_aP (ok_aload_n dX20_init_5 rfl rfl)))))
 (kn_ok
 (kn_ok
 (kl_ok (ok_hp (ok_putF fo_26 fn_103 q1499 rfl pd_21 vA_okO dX20_init_6 rfl) le_putf))
 (kl_ok (ok_aP (ok_aload_n dX20_init_9 rfl rfl))))
 (kn_ok
 (kl_ok (ok_aP (ok_aload_n dX20_init_10 rfl rfl)))
 (kn_ok
 (kl_ok (ok_hp (ok_putF fo_27 fn_104 q1500 rfl pd_21 vA_okO dX20_init_11 rfl) le_putf))
 (kl_ok (ok_vret rfl dX20_init_14)))))
