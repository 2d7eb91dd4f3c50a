set_option maxRecDepth 100000
/-- 26: FavourTown.<init>()V -/
noncomputable def k_X1_init : Nat → Option AOp :=
 tn 30 (tn 15 (tn 5 (tn 1 (tl 0 (aP (f_aload 0 1)))
  (tn 4 (tl 1 (aP (f_objI 4)))
  (tl 4 (aP (f_aload 0 5)))))
  (tn 9 (tn 8 (tl 5 (o_new 1 [.int 0, .int 0, .int 0, .int 0, .int 0, .null, .null, .null, .null, .null, .null, .null, .null, .null] 8))
  (tl 8 (aP (f_dup 9))))
  (tn 12 (tl 9 (o_callI 89 0 12))
  (tl 12 (o_putf [0] 0 vA 15)))))
  (tn 20 (tn 16 (tl 15 (aP (f_aload 0 16)))
  (tn 19 (tl 16 (o_new 2 [.null, .int 0, .int 0, .int 0, .int 0, .int 0, .int 0] 19))
  (tl 19 (aP (f_dup 20)))))
  (tn 26 (tn 23 (tl 20 (o_callI 125 0 23))
  (tl 23 (o_putf [0] 2 vA 26)))
  (tn 27 (tl 26 (aP (f_aload 0 27)))
  (tl 27 (o_new 3 [.null, .null, .null, .null] 30))))))
  (tn 43 (tn 35 (tn 31 (tl 30 (aP (f_dup 31)))
  (tn 32 (tl 31 (aP (f_aload 0 32)))
  (tl 32 (o_callI 140 1 35))))
  (tn 39 (tn 38 (tl 35 (o_putf [0] 3 vA 38))
  (tl 38 (aP (f_aload 0 39))))
  (tn 41 (tl 39 (aP (f_const (.int (nI 12)) 41)))
  (tl 41 (o_newa 0 (.inl (fun _ => 0)) 43)))))
  (tn 51 (tn 47 (tn 46 (tl 43 (o_putf [0] 4 vA 46))
  (tl 46 (aP (f_aload 0 47))))
  (tn 50 (tl 47 (o_new 4 [.null, .null, .null, .int 0, .null] 50))
  (tl 50 (aP (f_dup 51)))))
  (tn 55 (tn 52 (tl 51 (aP (f_aload 0 52)))
  (tl 52 (o_callI 144 1 55)))
  (tn 58 (tl 55 (o_putf [0] 5 vA 58))
  (tl 58 (o_vret))))))
theorem kok_X1_init {γ : AG} (hm : γ.2.2.2.2.1 = mTab) (hk : γ.2.2.2.2.2 = kTab) : KOK γ m_X1_init k_X1_init :=
 kn_ok
 (kn_ok
 (kn_ok
 (kn_ok
 (kl_ok (ok_aP (ok_aload_n dX1_init_0 rfl rfl)))
 (kn_ok
 (kl_ok (ok_aP (ok_objI q134 q135 q136 dX1_init_1 rfl)))
 (kl_ok (ok_aP (ok_aload_n dX1_init_4 rfl rfl)))))
 (kn_ok
 (kn_ok
 (kl_ok (ok_hp (ok_new (by decide +kernel) rfl q137 q138 q84 dX1_init_5 rfl) le_new))
 (kl_ok (ok_aP (ok_dup dX1_init_8 rfl))))
 (kn_ok
 (kl_ok (ok_callI (run_IN (by rw [hm]; rfl) q139 q140 q84 q141 rfl ⟨nh_3, dl_0⟩ (by decide) dX1_init_9) rfl))
 (kl_ok (ok_hp (ok_putf fo_0 fs_rf fn_52 (Or.inl q351) pd_7 vA_okO dX1_init_12 rfl) le_putf)))))
 (kn_ok
 (kn_ok
 (kl_ok (ok_aP (ok_aload_n dX1_init_15 rfl rfl)))
 (kn_ok
 (kl_ok (ok_hp (ok_new (by decide +kernel) rfl q273 q274 q89 dX1_init_16 rfl) le_new))
 (kl_ok (ok_aP (ok_dup dX1_init_19 rfl)))))
 (kn_ok
 (kn_ok
 (kl_ok (ok_callI (run_IN (by rw [hm]; rfl) q275 q276 q89 q277 rfl ⟨nh_20, dl_0⟩ (by decide) dX1_init_20) rfl))
 (kl_ok (ok_hp (ok_putF fo_47 fn_55 q355 rfl pd_8 vA_okO dX1_init_23 rfl) le_putf)))
 (kn_ok
 (kl_ok (ok_aP (ok_aload_n dX1_init_26 rfl rfl)))
 (kl_ok (ok_hp (ok_new (by decide +kernel) rfl q306 q307 q90 dX1_init_27 rfl) le_new))))))
 (kn_ok
 (kn_ok
 (kn_ok
 (kl_ok (ok_aP (ok_dup dX1_init_30 rfl)))
 (kn_ok
 (kl_ok (ok_aP (ok_aload_n dX1_init_31 rfl rfl)))
 (kl_ok (ok_callI (run_IN (by rw [hm]; rfl) q308 q309 q90 q310 rfl ⟨nh_24, dl_54⟩ (by decide) dX1_init_32) rfl))))
 (kn_ok
 (kn_ok
 (kl_ok (ok_hp (ok_putF fo_89 fn_56 q356 rfl pd_9 vA_okO dX1_init_35 rfl) le_putf))
 (kl_ok (ok_aP (ok_aload_n dX1_init_38 rfl rfl))))
 (kn_ok
 (kl_ok (ok_aP (ok_bipush dX1_init_39 (by decide +kernel) rfl)))
 (kl_ok (ok_hp (na_int dX1_init_41 rfl) le_newa)))))
 (kn_ok
 (kn_ok
 (kn_ok
 (kl_ok (ok_hp (ok_putF fo_90 fn_57 q357 rfl pd_2 vA_okA dX1_init_43 rfl) le_putf))
 (kl_ok (ok_aP (ok_aload_n dX1_init_46 rfl rfl))))
 (kn_ok
 (kl_ok (ok_hp (ok_new (by decide +kernel) rfl q327 q328 q91 dX1_init_47 rfl) le_new))
 (kl_ok (ok_aP (ok_dup dX1_init_50 rfl)))))
 (kn_ok
 (kn_ok
 (kl_ok (ok_aP (ok_aload_n dX1_init_51 rfl rfl)))
 (kl_ok (ok_callI (run_IN (by rw [hm]; rfl) q329 q330 q91 q331 rfl ⟨nh_25, dl_54⟩ (by decide) dX1_init_52) rfl)))
 (kn_ok
 (kl_ok (ok_hp (ok_putF fo_91 fn_58 q358 rfl pd_10 vA_okO dX1_init_55 rfl) le_putf))
 (kl_ok (ok_vret rfl dX1_init_58))))))
/-- 27: FavourTown.feed(IIIII)I -/
noncomputable def k_X1_feed : Nat → Option AOp :=
 tn 16 (tn 9 (tn 5 (tn 1 (tl 0 (aP (f_aload 0 1)))
  (tn 4 (tl 1 (aP (f_getf [0] 2 4)))
  (tl 4 (aP (f_const (.int (nI 5)) 5)))))
  (tn 7 (tl 5 (o_newa 0 (.inl (fun _ => 0)) 7))
  (tn 8 (tl 7 (aP (f_dup 8)))
  (tl 8 (aP (f_const (.int (nI 0)) 9))))))
  (tn 12 (tn 10 (tl 9 (aP (f_iload 1 10)))
  (tn 11 (tl 10 (o_iast 0 (fun y => y) 11))
  (tl 11 (aP (f_dup 12)))))
  (tn 14 (tn 13 (tl 12 (aP (f_const (.int (nI 1)) 13)))
  (tl 13 (aP (f_iload 2 14))))
  (tn 15 (tl 14 (o_iast 0 (fun y => y) 15))
  (tl 15 (aP (f_dup 16)))))))
  (tn 23 (tn 19 (tn 17 (tl 16 (aP (f_const (.int (nI 2)) 17)))
  (tn 18 (tl 17 (aP (f_iload 3 18)))
  (tl 18 (o_iast 0 (fun y => y) 19))))
  (tn 20 (tl 19 (aP (f_dup 20)))
  (tn 21 (tl 20 (aP (f_const (.int (nI 3)) 21)))
  (tl 21 (aP (f_iload 4 23))))))
  (tn 26 (tn 24 (tl 23 (o_iast 0 (fun y => y) 24))
  (tn 25 (tl 24 (aP (f_dup 25)))
  (tl 25 (aP (f_const (.int (nI 4)) 26)))))
  (tn 29 (tn 28 (tl 26 (aP (f_iload 5 28)))
  (tl 28 (o_iast 0 (fun y => y) 29)))
  (tn 32 (tl 29 (o_callV (lkN [(2, 126)]) 1 32))
  (tl 32 (o_iret (fun _ => true)))))))
theorem kok_X1_feed {γ : AG} (hm : γ.2.2.2.2.1 = mTab) (hk : γ.2.2.2.2.2 = kTab) : KOK γ m_X1_feed k_X1_feed :=
 kn_ok
 (kn_ok
 (kn_ok
 (kn_ok
 (kl_ok (ok_aP (ok_aload_n dX1_feed_0 rfl rfl)))
 (kn_ok
 (kl_ok (ok_aP (ok_getf fo_47 fs_rf (Or.inl q355) dX1_feed_1 rfl)))
 (kl_ok (ok_aP (ok_iconst dX1_feed_4 rfl rfl)))))
 (kn_ok
 (kl_ok (ok_hp (na_int dX1_feed_5 rfl) le_newa))
 (kn_ok
 (kl_ok (ok_aP (ok_dup dX1_feed_7 rfl)))
 (kl_ok (ok_aP (ok_iconst dX1_feed_8 rfl rfl))))))
 (kn_ok
 (kn_ok
 (kl_ok (ok_aP (ok_iload_n dX1_feed_9 rfl rfl)))
 (kn_ok
 (kl_ok (ok_hp (ok_iast dX1_feed_10 rfl) le_iast))
 (kl_ok (ok_aP (ok_dup dX1_feed_11 rfl)))))
 (kn_ok
 (kn_ok
 (kl_ok (ok_aP (ok_iconst dX1_feed_12 rfl rfl)))
 (kl_ok (ok_aP (ok_iload_n dX1_feed_13 rfl rfl))))
 (kn_ok
 (kl_ok (ok_hp (ok_iast dX1_feed_14 rfl) le_iast))
 (kl_ok (ok_aP (ok_dup dX1_feed_15 rfl)))))))
 (kn_ok
 (kn_ok
 (kn_ok
 (kl_ok (ok_aP (ok_iconst dX1_feed_16 rfl rfl)))
 (kn_ok
 (kl_ok (ok_aP (ok_iload_n dX1_feed_17 rfl rfl)))
 (kl_ok (ok_hp (ok_iast dX1_feed_18 rfl) le_iast))))
 (kn_ok
 (kl_ok (ok_aP (ok_dup dX1_feed_19 rfl)))
 (kn_ok
 (kl_ok (ok_aP (ok_iconst dX1_feed_20 rfl rfl)))
 (kl_ok (ok_aP (ok_iload dX1_feed_21 rfl))))))
 (kn_ok
 (kn_ok
 (kl_ok (ok_hp (ok_iast dX1_feed_23 rfl) le_iast))
 (kn_ok
 (kl_ok (ok_aP (ok_dup dX1_feed_24 rfl)))
 (kl_ok (ok_aP (ok_iconst dX1_feed_25 rfl rfl)))))
 (kn_ok
 (kn_ok
 (kl_ok (ok_aP (ok_iload dX1_feed_26 rfl)))
 (kl_ok (ok_hp (ok_iast dX1_feed_28 rfl) le_iast)))
 (kn_ok
 (kl_ok (ok_callV (List.forall_mem_cons.mpr ⟨run_V (C0 := "FavourTown$Reader") rfl rfl (by rw [hm]; rfl) q376 q377 q378 q89 q379 ⟨nh_20, dl_53⟩ (by decide) dX1_feed_29, (fun _ h => absurd h List.not_mem_nil)⟩) rfl))
 (kl_ok (ok_iret rfl dX1_feed_32))))))
/-- 28: FavourTown.end(I)Z -/
noncomputable def k_X1_end : Nat → Option AOp :=
 tn 4 (tn 1 (tl 0 (aP (f_aload 0 1)))
  (tl 1 (aP (f_getf [0] 2 4))))
  (tn 5 (tl 4 (aP (f_iload 1 5)))
  (tn 8 (tl 5 (o_callV (lkN [(2, 127)]) 1 8))
  (tl 8 (o_iret (fun x => x == 0 || x == 1)))))
theorem kok_X1_end {γ : AG} (hm : γ.2.2.2.2.1 = mTab) (hk : γ.2.2.2.2.2 = kTab) : KOK γ m_X1_end k_X1_end :=
 kn_ok
 (kn_ok
 (kl_ok (ok_aP (ok_aload_n dX1_end_0 rfl rfl)))
 (kl_ok (ok_aP (ok_getf fo_47 fs_rf (Or.inl q355) dX1_end_1 rfl))))
 (kn_ok
 (kl_ok (ok_aP (ok_iload_n dX1_end_4 rfl rfl)))
 (kn_ok
 (kl_ok (ok_callV (List.forall_mem_cons.mpr ⟨run_V (C0 := "FavourTown$Reader") rfl rfl (by rw [hm]; rfl) q384 q385 q386 q89 q387 ⟨nh_20, dl_2⟩ (by decide) dX1_end_5, (fun _ h => absurd h List.not_mem_nil)⟩) rfl))
 (kl_ok (ok_zret rfl z_boolean dX1_end_8))))
/-- 29: FavourTown.fault()I -/
noncomputable def k_X1_fault : Nat → Option AOp :=
 tn 4 (tn 1 (tl 0 (aP (f_aload 0 1)))
  (tl 1 (aP (f_getf [0] 2 4))))
  (tn 7 (tl 4 (aP (f_getf [2] 5 7)))
  (tl 7 (o_iret (fun _ => true))))
theorem kok_X1_fault {γ : AG} (hm : γ.2.2.2.2.1 = mTab) (hk : γ.2.2.2.2.2 = kTab) : KOK γ m_X1_fault k_X1_fault :=
 kn_ok
 (kn_ok
 (kl_ok (ok_aP (ok_aload_n dX1_fault_0 rfl rfl)))
 (kl_ok (ok_aP (ok_getf fo_47 fs_rf (Or.inl q355) dX1_fault_1 rfl))))
 (kn_ok
 (kl_ok (ok_aP (ok_getf fo_88 fs_rf (Or.inr ⟨_, q288⟩) dX1_fault_4 rfl)))
 (kl_ok (ok_iret rfl dX1_fault_7)))
/-- 30: FavourTown.enough(I)Z -/
noncomputable def k_X1_enough : Nat → Option AOp :=
 tn 9 (tn 4 (tn 1 (tl 0 (aP (f_aload 0 1)))
  (tl 1 (aP (f_getf [0] 0 4))))
  (tn 5 (tl 4 (aP (f_iload 1 5)))
  (tn 8 (tl 5 (o_callV (lkN [(1, 90)]) 1 8))
  (tl 8 (aP (f_const (.int (-1)) 9))))))
  (tn 13 (tn 12 (tl 9 (aP (f_icmp (fun x y => decide (¬ x = y)) 16 12)))
  (tl 12 (aP (f_const (.int (nI 1)) 13))))
  (tn 16 (tl 13 (aP (f_goto 17)))
  (tn 17 (tl 16 (aP (f_const (.int (nI 0)) 17)))
  (tl 17 (o_iret (fun x => x == 0 || x == 1))))))
theorem kok_X1_enough {γ : AG} (hm : γ.2.2.2.2.1 = mTab) (hk : γ.2.2.2.2.2 = kTab) : KOK γ m_X1_enough k_X1_enough :=
 kn_ok
 (kn_ok
 (kn_ok
 (kl_ok (ok_aP (ok_aload_n dX1_enough_0 rfl rfl)))
 (kl_ok (ok_aP (ok_getf fo_0 fs_rf (Or.inl q351) dX1_enough_1 rfl))))
 (kn_ok
 (kl_ok (ok_aP (ok_iload_n dX1_enough_4 rfl rfl)))
 (kn_ok
 (kl_ok (ok_callV (List.forall_mem_cons.mpr ⟨run_V (C0 := "FavourTown$World") rfl rfl (by rw [hm]; rfl) q396 q397 q398 q84 q399 ⟨nh_3, dl_10⟩ (by decide) dX1_enough_5, (fun _ h => absurd h List.not_mem_nil)⟩) rfl))
 (kl_ok (ok_aP (ok_iconst dX1_enough_8 rfl rfl))))))
 (kn_ok
 (kn_ok
 (kl_ok (ok_aP (ok_icmp_ne dX1_enough_9 rfl rfl)))
 (kl_ok (ok_aP (ok_iconst dX1_enough_12 rfl rfl))))
 (kn_ok
 (kl_ok (ok_aP (ok_goto dX1_enough_13 rfl)))
 (kn_ok
 (kl_ok (ok_aP (ok_iconst dX1_enough_16 rfl rfl)))
 (kl_ok (ok_zret rfl z_boolean dX1_enough_17)))))
/-- 31: FavourTown.witness(I)I -/
noncomputable def k_X1_witness : Nat → Option AOp :=
 tn 4 (tn 1 (tl 0 (aP (f_aload 0 1)))
  (tl 1 (aP (f_getf [0] 0 4))))
  (tn 5 (tl 4 (aP (f_iload 1 5)))
  (tn 8 (tl 5 (o_callV (lkN [(1, 90)]) 1 8))
  (tl 8 (o_iret (fun _ => true)))))
theorem kok_X1_witness {γ : AG} (hm : γ.2.2.2.2.1 = mTab) (hk : γ.2.2.2.2.2 = kTab) : KOK γ m_X1_witness k_X1_witness :=
 kn_ok
 (kn_ok
 (kl_ok (ok_aP (ok_aload_n dX1_witness_0 rfl rfl)))
 (kl_ok (ok_aP (ok_getf fo_0 fs_rf (Or.inl q351) dX1_witness_1 rfl))))
 (kn_ok
 (kl_ok (ok_aP (ok_iload_n dX1_witness_4 rfl rfl)))
 (kn_ok
 (kl_ok (ok_callV (List.forall_mem_cons.mpr ⟨run_V (C0 := "FavourTown$World") rfl rfl (by rw [hm]; rfl) q396 q397 q398 q84 q399 ⟨nh_3, dl_10⟩ (by decide) dX1_witness_5, (fun _ h => absurd h List.not_mem_nil)⟩) rfl))
 (kl_ok (ok_iret rfl dX1_witness_8))))
/-- 32: FavourTown.fewest()I -/
noncomputable def k_X1_fewest : Nat → Option AOp :=
 tn 23 (tn 7 (tn 3 (tn 1 (tl 0 (aP (f_const (.int (-1)) 1)))
  (tn 2 (tl 1 (aP (f_istore 1 2)))
  (tl 2 (aP (f_const (.int (nI 0)) 3)))))
  (tn 5 (tn 4 (tl 3 (aP (f_istore 2 4)))
  (tl 4 (aP (f_iload 2 5))))
  (tn 6 (tl 5 (aP (f_const (.int (nI 1)) 6)))
  (tl 6 (aP (f_aload 0 7))))))
  (tn 17 (tn 13 (tn 10 (tl 7 (aP (f_getf [0] 0 10)))
  (tl 10 (aP (f_getf [1] 3 13))))
  (tn 14 (tl 13 (aP (f_bin (fun x y => x <<< (y &&& 31)) 14)))
  (tl 14 (aP (f_icmp (fun x y => decide (y ≤ x)) 53 17)))))
  (tn 19 (tn 18 (tl 17 (aP (f_iload 1 18)))
  (tl 18 (aP (f_const (.int (-1)) 19))))
  (tn 22 (tl 19 (aP (f_icmp (fun x y => decide (x = y)) 33 22)))
  (tl 22 (aP (f_iload 2 23)))))))
  (tn 41 (tn 33 (tn 27 (tn 26 (tl 23 (o_callS 302 1 26))
  (tl 26 (aP (f_iload 1 27))))
  (tn 30 (tl 27 (o_callS 302 1 30))
  (tl 30 (aP (f_icmp (fun x y => decide (y ≤ x)) 47 33)))))
  (tn 37 (tn 34 (tl 33 (aP (f_aload 0 34)))
  (tl 34 (aP (f_getf [0] 0 37))))
  (tn 38 (tl 37 (aP (f_iload 2 38)))
  (tl 38 (o_callV (lkN [(1, 90)]) 1 41)))))
  (tn 47 (tn 45 (tn 42 (tl 41 (aP (f_const (.int (-1)) 42)))
  (tl 42 (aP (f_icmp (fun x y => decide (¬ x = y)) 47 45))))
  (tn 46 (tl 45 (aP (f_iload 2 46)))
  (tl 46 (aP (f_istore 1 47)))))
  (tn 53 (tn 50 (tl 47 (aP (f_iinc 2 (nI 1) 50)))
  (tl 50 (aP (f_goto 4))))
  (tn 54 (tl 53 (aP (f_iload 1 54)))
  (tl 54 (o_iret (fun _ => true)))))))
theorem kok_X1_fewest {γ : AG} (hm : γ.2.2.2.2.1 = mTab) (hk : γ.2.2.2.2.2 = kTab) : KOK γ m_X1_fewest k_X1_fewest :=
 kn_ok
 (kn_ok
 (kn_ok
 (kn_ok
 (kl_ok (ok_aP (ok_iconst dX1_fewest_0 rfl rfl)))
 (kn_ok
 (kl_ok (ok_aP (ok_istore_n dX1_fewest_1 rfl rfl)))
 (kl_ok (ok_aP (ok_iconst dX1_fewest_2 rfl rfl)))))
 (kn_ok
 (kn_ok
 (kl_ok (ok_aP (ok_istore_n dX1_fewest_3 rfl rfl)))
 (kl_ok (ok_aP (ok_iload_n dX1_fewest_4 rfl rfl))))
 (kn_ok
 (kl_ok (ok_aP (ok_iconst dX1_fewest_5 rfl rfl)))
 (kl_ok (ok_aP (ok_aload_n dX1_fewest_6 rfl rfl))))))
 (kn_ok
 (kn_ok
 (kn_ok
 (kl_ok (ok_aP (ok_getf fo_0 fs_rf (Or.inl q351) dX1_fewest_7 rfl)))
 (kl_ok (ok_aP (ok_getf fo_1 fs_rf (Or.inr ⟨_, q224⟩) dX1_fewest_10 rfl))))
 (kn_ok
 (kl_ok (ok_aP (ok_ishl dX1_fewest_13 rfl)))
 (kl_ok (ok_aP (ok_icmp_ge dX1_fewest_14 rfl rfl)))))
 (kn_ok
 (kn_ok
 (kl_ok (ok_aP (ok_iload_n dX1_fewest_17 rfl rfl)))
 (kl_ok (ok_aP (ok_iconst dX1_fewest_18 rfl rfl))))
 (kn_ok
 (kl_ok (ok_aP (ok_icmp_eq dX1_fewest_19 rfl rfl)))
 (kl_ok (ok_aP (ok_iload_n dX1_fewest_22 rfl rfl)))))))
 (kn_ok
 (kn_ok
 (kn_ok
 (kn_ok
 (kl_ok (ok_callS (run_S (by rw [hm]; rfl) q560 q561 q111 q562 ⟨nh_23, dl_10⟩ (by decide) dX1_fewest_23) rfl))
 (kl_ok (ok_aP (ok_iload_n dX1_fewest_26 rfl rfl))))
 (kn_ok
 (kl_ok (ok_callS (run_S (by rw [hm]; rfl) q560 q561 q111 q562 ⟨nh_23, dl_10⟩ (by decide) dX1_fewest_27) rfl))
 (kl_ok (ok_aP (ok_icmp_ge dX1_fewest_30 rfl rfl)))))
 (kn_ok
 (kn_ok
 (kl_ok (ok_aP (ok_aload_n dX1_fewest_33 rfl rfl)))
 (kl_ok (ok_aP (ok_getf fo_0 fs_rf (Or.inl q351) dX1_fewest_34 rfl))))
 (kn_ok
 (kl_ok (ok_aP (ok_iload_n dX1_fewest_37 rfl rfl)))
 (kl_ok (ok_callV (List.forall_mem_cons.mpr ⟨run_V (C0 := "FavourTown$World") rfl rfl (by rw [hm]; rfl) q396 q397 q398 q84 q399 ⟨nh_3, dl_10⟩ (by decide) dX1_fewest_38, (fun _ h => absurd h List.not_mem_nil)⟩) rfl)))))
 (kn_ok
 (kn_ok
 (kn_ok
 (kl_ok (ok_aP (ok_iconst dX1_fewest_41 rfl rfl)))
 (kl_ok (ok_aP (ok_icmp_ne dX1_fewest_42 rfl rfl))))
 (kn_ok
 (kl_ok (ok_aP (ok_iload_n dX1_fewest_45 rfl rfl)))
 (kl_ok (ok_aP (ok_istore_n dX1_fewest_46 rfl rfl)))))
 (kn_ok
 (kn_ok
 (kl_ok (ok_aP (ok_iinc dX1_fewest_47 (by decide +kernel) rfl)))
 (kl_ok (ok_aP (ok_goto dX1_fewest_50 rfl))))
 (kn_ok
 (kl_ok (ok_aP (ok_iload_n dX1_fewest_53 rfl rfl)))
 (kl_ok (ok_iret rfl dX1_fewest_54))))))
/-- 33: FavourTown.forgive(I)I -/
noncomputable def k_X1_forgive : Nat → Option AOp :=
 tn 36 (tn 15 (tn 4 (tn 2 (tn 1 (tl 0 (aP (f_const (.int (nI 0)) 1)))
  (tl 1 (aP (f_istore 2 2))))
  (tn 3 (tl 2 (aP (f_const (.int (nI 0)) 3)))
  (tl 3 (aP (f_istore 3 4)))))
  (tn 6 (tn 5 (tl 4 (aP (f_iload 3 5)))
  (tl 5 (aP (f_aload 0 6))))
  (tn 9 (tl 6 (aP (f_getf [0] 0 9)))
  (tn 12 (tl 9 (aP (f_getf [1] 9 12)))
  (tl 12 (o_callV (lkN [(19, 113)]) 0 15))))))
  (tn 25 (tn 19 (tn 18 (tl 15 (aP (f_icmp (fun x y => decide (y ≤ x)) 73 18)))
  (tl 18 (aP (f_aload 0 19))))
  (tn 22 (tl 19 (aP (f_getf [0] 0 22)))
  (tl 22 (aP (f_getf [1] 9 25)))))
  (tn 29 (tn 26 (tl 25 (aP (f_iload 3 26)))
  (tl 26 (o_callV (lkN [(19, 114)]) 1 29)))
  (tn 32 (tl 29 (aP (f_cast [5, 6] [] 32)))
  (tn 34 (tl 32 (aP (f_astore 4 34)))
  (tl 34 (aP (f_aload 4 36))))))))
  (tn 52 (tn 44 (tn 40 (tn 39 (tl 36 (aP (f_getf [5, 6] 4 39)))
  (tl 39 (aP (f_const (.int (-1)) 40))))
  (tn 43 (tl 40 (aP (f_icmp (fun x y => decide (x = y)) 67 43)))
  (tl 43 (aP (f_iload 1 44)))))
  (tn 49 (tn 46 (tl 44 (aP (f_aload 4 46)))
  (tl 46 (aP (f_getf [5, 6] 4 49))))
  (tn 50 (tl 49 (aP (f_bin (fun x y => x >>> (y &&& 31)) 50)))
  (tn 51 (tl 50 (aP (f_const (.int (nI 1)) 51)))
  (tl 51 (aP (f_bin (fun x y => x &&& y) 52)))))))
  (tn 64 (tn 58 (tn 55 (tl 52 (aP (f_if (fun x => decide (¬ x = 0)) 58 55)))
  (tl 55 (aP (f_goto 67))))
  (tn 60 (tl 58 (aP (f_aload 4 60)))
  (tn 61 (tl 60 (aP (f_const (.int (-1)) 61)))
  (tl 61 (o_putf [5, 6] 4 vI 64)))))
  (tn 70 (tn 67 (tl 64 (aP (f_iinc 2 (nI 1) 67)))
  (tl 67 (aP (f_iinc 3 (nI 1) 70))))
  (tn 73 (tl 70 (aP (f_goto 4)))
  (tn 74 (tl 73 (aP (f_iload 2 74)))
  (tl 74 (o_iret (fun _ => true))))))))
theorem kok_X1_forgive {γ : AG} (hm : γ.2.2.2.2.1 = mTab) (hk : γ.2.2.2.2.2 = kTab) : KOK γ m_X1_forgive k_X1_forgive :=
 kn_ok
 (kn_ok
 (kn_ok
 (kn_ok
 (kn_ok
 (kl_ok (ok_aP (ok_iconst dX1_forgive_0 rfl rfl)))
 (kl_ok (ok_aP (ok_istore_n dX1_forgive_1 rfl rfl))))
 (kn_ok
 (kl_ok (ok_aP (ok_iconst dX1_forgive_2 rfl rfl)))
 (kl_ok (ok_aP (ok_istore_n dX1_forgive_3 rfl rfl)))))
 (kn_ok
 (kn_ok
 (kl_ok (ok_aP (ok_iload_n dX1_forgive_4 rfl rfl)))
 (kl_ok (ok_aP (ok_aload_n dX1_forgive_5 rfl rfl))))
 (kn_ok
 (kl_ok (ok_aP (ok_getf fo_0 fs_rf (Or.inl q351) dX1_forgive_6 rfl)))
 (kn_ok
 (kl_ok (ok_aP (ok_getf fo_2 fs_rf (Or.inr ⟨_, q235⟩) dX1_forgive_9 rfl)))
 (kl_ok (ok_callV (List.forall_mem_cons.mpr ⟨run_V (C0 := "java/util/ArrayList") rfl rfl (by rw [hm]; rfl) q570 q401 q402 q87 q403 ⟨nh_4, dl_4⟩ (by decide) dX1_forgive_12, (fun _ h => absurd h List.not_mem_nil)⟩) rfl))))))
 (kn_ok
 (kn_ok
 (kn_ok
 (kl_ok (ok_aP (ok_icmp_ge dX1_forgive_15 rfl rfl)))
 (kl_ok (ok_aP (ok_aload_n dX1_forgive_18 rfl rfl))))
 (kn_ok
 (kl_ok (ok_aP (ok_getf fo_0 fs_rf (Or.inl q351) dX1_forgive_19 rfl)))
 (kl_ok (ok_aP (ok_getf fo_2 fs_rf (Or.inr ⟨_, q235⟩) dX1_forgive_22 rfl)))))
 (kn_ok
 (kn_ok
 (kl_ok (ok_aP (ok_iload_n dX1_forgive_25 rfl rfl)))
 (kl_ok (ok_callV (List.forall_mem_cons.mpr ⟨run_V (C0 := "java/util/ArrayList") rfl rfl (by rw [hm]; rfl) q571 q405 q406 q87 q407 ⟨nh_4, dl_21⟩ (by decide) dX1_forgive_26, (fun _ h => absurd h List.not_mem_nil)⟩) rfl)))
 (kn_ok
 (kl_ok (ok_aP (ok_cast q572 (List.forall_mem_cons.mpr ⟨Or.inr ⟨_, rfl, rfl⟩, (List.forall_mem_cons.mpr ⟨Or.inl ⟨_, rfl, q2339⟩, (fun _ h => absurd h List.not_mem_nil)⟩)⟩) (fun _ h => absurd h List.not_mem_nil) dX1_forgive_29 rfl)))
 (kn_ok
 (kl_ok (ok_aP (ok_astore dX1_forgive_32 rfl)))
 (kl_ok (ok_aP (ok_aload dX1_forgive_34 rfl))))))))
 (kn_ok
 (kn_ok
 (kn_ok
 (kn_ok
 (kl_ok (ok_aP (ok_getf fo_4 fs_rf (Or.inr ⟨_, q620⟩) dX1_forgive_36 rfl)))
 (kl_ok (ok_aP (ok_iconst dX1_forgive_39 rfl rfl))))
 (kn_ok
 (kl_ok (ok_aP (ok_icmp_eq dX1_forgive_40 rfl rfl)))
 (kl_ok (ok_aP (ok_iload_n dX1_forgive_43 rfl rfl)))))
 (kn_ok
 (kn_ok
 (kl_ok (ok_aP (ok_aload dX1_forgive_44 rfl)))
 (kl_ok (ok_aP (ok_getf fo_4 fs_rf (Or.inr ⟨_, q620⟩) dX1_forgive_46 rfl))))
 (kn_ok
 (kl_ok (ok_aP (ok_ishr dX1_forgive_49 rfl)))
 (kn_ok
 (kl_ok (ok_aP (ok_iconst dX1_forgive_50 rfl rfl)))
 (kl_ok (ok_aP (ok_iand dX1_forgive_51 rfl)))))))
 (kn_ok
 (kn_ok
 (kn_ok
 (kl_ok (ok_aP (ok_if_ne dX1_forgive_52 rfl rfl)))
 (kl_ok (ok_aP (ok_goto dX1_forgive_55 rfl))))
 (kn_ok
 (kl_ok (ok_aP (ok_aload dX1_forgive_58 rfl)))
 (kn_ok
 (kl_ok (ok_aP (ok_iconst dX1_forgive_60 rfl rfl)))
 (kl_ok (ok_hp (ok_putf fo_4 fs_rf fn_10 (Or.inr ⟨_, q620⟩) pd_0 vI_ok dX1_forgive_61 rfl) le_putf)))))
 (kn_ok
 (kn_ok
 (kl_ok (ok_aP (ok_iinc dX1_forgive_64 (by decide +kernel) rfl)))
 (kl_ok (ok_aP (ok_iinc dX1_forgive_67 (by decide +kernel) rfl))))
 (kn_ok
 (kl_ok (ok_aP (ok_goto dX1_forgive_70 rfl)))
 (kn_ok
 (kl_ok (ok_aP (ok_iload_n dX1_forgive_73 rfl rfl)))
 (kl_ok (ok_iret rfl dX1_forgive_74)))))))
/-- 34: FavourTown.image()V -/
noncomputable def k_X1_image : Nat → Option AOp :=
 tn 5 (tn 1 (tl 0 (aP (f_aload 0 1)))
  (tn 2 (tl 1 (aP (f_aload 0 2)))
  (tl 2 (aP (f_getf [0] 0 5)))))
  (tn 8 (tl 5 (o_callV (lkN [(1, 101)]) 0 8))
  (tn 11 (tl 8 (o_putf [0] 1 vA 11))
  (tl 11 (o_vret))))
theorem kok_X1_image {γ : AG} (hm : γ.2.2.2.2.1 = mTab) (hk : γ.2.2.2.2.2 = kTab) : KOK γ m_X1_image k_X1_image :=
 kn_ok
 (kn_ok
 (kl_ok (ok_aP (ok_aload_n dX1_image_0 rfl rfl)))
 (kn_ok
 (kl_ok (ok_aP (ok_aload_n dX1_image_1 rfl rfl)))
 (kl_ok (ok_aP (ok_getf fo_0 fs_rf (Or.inl q351) dX1_image_2 rfl)))))
 (kn_ok
 (kl_ok (ok_callV (List.forall_mem_cons.mpr ⟨run_V (C0 := "FavourTown$World") rfl rfl (by rw [hm]; rfl) q577 q578 q579 q84 q580 ⟨nh_3, dl_20⟩ (by decide) dX1_image_5, (fun _ h => absurd h List.not_mem_nil)⟩) rfl))
 (kn_ok
 (kl_ok (ok_hp (ok_putf fo_84 fs_rf fn_53 (Or.inl q354) pd_7 vA_okO dX1_image_8 rfl) le_putf))
 (kl_ok (ok_vret rfl dX1_image_11))))
/-- 35: FavourTown.back()Z -/
noncomputable def k_X1_back : Nat → Option AOp :=
 tn 10 (tn 7 (tn 1 (tl 0 (aP (f_aload 0 1)))
  (tn 4 (tl 1 (aP (f_getf [0] 1 4)))
  (tl 4 (aP (f_null 7 9)))))
  (tn 8 (tl 7 (aP (f_const (.int (nI 0)) 8)))
  (tn 9 (tl 8 (o_iret (fun x => x == 0 || x == 1)))
  (tl 9 (aP (f_aload 0 10))))))
  (tn 17 (tn 11 (tl 10 (aP (f_aload 0 11)))
  (tn 14 (tl 11 (aP (f_getf [0] 1 14)))
  (tl 14 (o_callV (lkN [(1, 101)]) 0 17))))
  (tn 20 (tl 17 (o_putf [0] 0 vA 20))
  (tn 21 (tl 20 (aP (f_const (.int (nI 1)) 21)))
  (tl 21 (o_iret (fun x => x == 0 || x == 1))))))
theorem kok_X1_back {γ : AG} (hm : γ.2.2.2.2.1 = mTab) (hk : γ.2.2.2.2.2 = kTab) : KOK γ m_X1_back k_X1_back :=
 kn_ok
 (kn_ok
 (kn_ok
 (kl_ok (ok_aP (ok_aload_n dX1_back_0 rfl rfl)))
 (kn_ok
 (kl_ok (ok_aP (ok_getf fo_84 fs_rf (Or.inl q354) dX1_back_1 rfl)))
 (kl_ok (ok_aP (ok_ifnonnull dX1_back_4 rfl rfl)))))
 (kn_ok
 (kl_ok (ok_aP (ok_iconst dX1_back_7 rfl rfl)))
 (kn_ok
 (kl_ok (ok_zret rfl z_boolean dX1_back_8))
 (kl_ok (ok_aP (ok_aload_n dX1_back_9 rfl rfl))))))
 (kn_ok
 (kn_ok
 (kl_ok (ok_aP (ok_aload_n dX1_back_10 rfl rfl)))
 (kn_ok
 (kl_ok (ok_aP (ok_getf fo_84 fs_rf (Or.inl q354) dX1_back_11 rfl)))
 (kl_ok (ok_callV (List.forall_mem_cons.mpr ⟨run_V (C0 := "FavourTown$World") rfl rfl (by rw [hm]; rfl) q577 q578 q579 q84 q580 ⟨nh_3, dl_20⟩ (by decide) dX1_back_14, (fun _ h => absurd h List.not_mem_nil)⟩) rfl))))
 (kn_ok
 (kl_ok (ok_hp (ok_putf fo_0 fs_rf fn_52 (Or.inl q351) pd_7 vA_okO dX1_back_17 rfl) le_putf))
 (kn_ok
 (kl_ok (ok_aP (ok_iconst dX1_back_20 rfl rfl)))
 (kl_ok (ok_zret rfl z_boolean dX1_back_21)))))
/-- 36: FavourTown.count(I)I -/
noncomputable def k_X1_count : Nat → Option AOp :=
 tn 102 (tn 76 (tn 64 (tn 57 (tn 1 (tl 0 (aP (f_iload 1 1)))
  (tn 56 (tl 1 (aP (f_sw (fun x => if x.toInt < 0 ∨ 9 < x.toInt then 148 else [56, 64, 72, 83, 94, 102, 113, 124, 132, 140].getD (x.toInt - 0).toNat 0))))
  (tl 56 (aP (f_aload 0 57)))))
  (tn 60 (tl 57 (aP (f_getf [0] 0 60)))
  (tn 63 (tl 60 (aP (f_getf [1] 3 63)))
  (tl 63 (o_iret (fun _ => true))))))
  (tn 71 (tn 65 (tl 64 (aP (f_aload 0 65)))
  (tn 68 (tl 65 (aP (f_getf [0] 0 68)))
  (tl 68 (aP (f_getf [1] 0 71)))))
  (tn 72 (tl 71 (o_iret (fun _ => true)))
  (tn 73 (tl 72 (aP (f_aload 0 73)))
  (tl 73 (aP (f_getf [0] 0 76)))))))
  (tn 90 (tn 83 (tn 79 (tl 76 (aP (f_getf [1] 11 79)))
  (tn 82 (tl 79 (o_callV (lkN [(19, 113)]) 0 82))
  (tl 82 (o_iret (fun _ => true)))))
  (tn 84 (tl 83 (aP (f_aload 0 84)))
  (tn 87 (tl 84 (aP (f_getf [0] 0 87)))
  (tl 87 (aP (f_getf [1] 9 90))))))
  (tn 95 (tn 93 (tl 90 (o_callV (lkN [(19, 113)]) 0 93))
  (tn 94 (tl 93 (o_iret (fun _ => true)))
  (tl 94 (aP (f_aload 0 95)))))
  (tn 98 (tl 95 (aP (f_getf [0] 0 98)))
  (tn 101 (tl 98 (o_callV (lkN [(1, 102)]) 0 101))
  (tl 101 (o_iret (fun _ => true))))))))
  (tn 128 (tn 114 (tn 109 (tn 103 (tl 102 (aP (f_aload 0 103)))
  (tn 106 (tl 103 (aP (f_getf [0] 0 106)))
  (tl 106 (aP (f_getf [1] 10 109)))))
  (tn 112 (tl 109 (o_callV (lkN [(19, 113)]) 0 112))
  (tn 113 (tl 112 (o_iret (fun _ => true)))
  (tl 113 (aP (f_aload 0 114))))))
  (tn 123 (tn 117 (tl 114 (aP (f_getf [0] 0 117)))
  (tn 120 (tl 117 (aP (f_getf [1] 12 120)))
  (tl 120 (o_callV (lkN [(19, 113)]) 0 123))))
  (tn 124 (tl 123 (o_iret (fun _ => true)))
  (tn 125 (tl 124 (aP (f_aload 0 125)))
  (tl 125 (aP (f_getf [0] 0 128)))))))
  (tn 140 (tn 133 (tn 131 (tl 128 (aP (f_getf [1] 1 131)))
  (tn 132 (tl 131 (o_iret (fun _ => true)))
  (tl 132 (aP (f_aload 0 133)))))
  (tn 136 (tl 133 (aP (f_getf [0] 0 136)))
  (tn 139 (tl 136 (aP (f_getf [1] 2 139)))
  (tl 139 (o_iret (fun _ => true))))))
  (tn 147 (tn 141 (tl 140 (aP (f_aload 0 141)))
  (tn 144 (tl 141 (aP (f_getf [0] 0 144)))
  (tl 144 (o_callV (lkN [(1, 103)]) 0 147))))
  (tn 148 (tl 147 (o_iret (fun _ => true)))
  (tn 149 (tl 148 (aP (f_const (.int (-1)) 149)))
  (tl 149 (o_iret (fun _ => true))))))))
theorem kok_X1_count {γ : AG} (hm : γ.2.2.2.2.1 = mTab) (hk : γ.2.2.2.2.2 = kTab) : KOK γ m_X1_count k_X1_count :=
 kn_ok
 (kn_ok
 (kn_ok
 (kn_ok
 (kn_ok
 (kl_ok (ok_aP (ok_iload_n dX1_count_0 rfl rfl)))
 (kn_ok
 (kl_ok (ok_aP (ok_table (tg := [56, 64, 72, 83, 94, 102, 113, 124, 132, 140]) (td := 148) dX1_count_1 rfl rfl rfl rfl)))
 (kl_ok (ok_aP (ok_aload_n dX1_count_56 rfl rfl)))))
 (kn_ok
 (kl_ok (ok_aP (ok_getf fo_0 fs_rf (Or.inl q351) dX1_count_57 rfl)))
 (kn_ok
 (kl_ok (ok_aP (ok_getf fo_1 fs_rf (Or.inr ⟨_, q224⟩) dX1_count_60 rfl)))
 (kl_ok (ok_iret rfl dX1_count_63)))))
 (kn_ok
 (kn_ok
 (kl_ok (ok_aP (ok_aload_n dX1_count_64 rfl rfl)))
 (kn_ok
 (kl_ok (ok_aP (ok_getf fo_0 fs_rf (Or.inl q351) dX1_count_65 rfl)))
 (kl_ok (ok_aP (ok_getf fo_44 fs_rf (Or.inr ⟨_, q216⟩) dX1_count_68 rfl)))))
 (kn_ok
 (kl_ok (ok_iret rfl dX1_count_71))
 (kn_ok
 (kl_ok (ok_aP (ok_aload_n dX1_count_72 rfl rfl)))
 (kl_ok (ok_aP (ok_getf fo_0 fs_rf (Or.inl q351) dX1_count_73 rfl)))))))
 (kn_ok
 (kn_ok
 (kn_ok
 (kl_ok (ok_aP (ok_getf fo_15 fs_rf (Or.inr ⟨_, q239⟩) dX1_count_76 rfl)))
 (kn_ok
 (kl_ok (ok_callV (List.forall_mem_cons.mpr ⟨run_V (C0 := "java/util/ArrayList") rfl rfl (by rw [hm]; rfl) q570 q401 q402 q87 q403 ⟨nh_4, dl_4⟩ (by decide) dX1_count_79, (fun _ h => absurd h List.not_mem_nil)⟩) rfl))
 (kl_ok (ok_iret rfl dX1_count_82))))
 (kn_ok
 (kl_ok (ok_aP (ok_aload_n dX1_count_83 rfl rfl)))
 (kn_ok
 (kl_ok (ok_aP (ok_getf fo_0 fs_rf (Or.inl q351) dX1_count_84 rfl)))
 (kl_ok (ok_aP (ok_getf fo_2 fs_rf (Or.inr ⟨_, q235⟩) dX1_count_87 rfl))))))
 (kn_ok
 (kn_ok
 (kl_ok (ok_callV (List.forall_mem_cons.mpr ⟨run_V (C0 := "java/util/ArrayList") rfl rfl (by rw [hm]; rfl) q570 q401 q402 q87 q403 ⟨nh_4, dl_4⟩ (by decide) dX1_count_90, (fun _ h => absurd h List.not_mem_nil)⟩) rfl))
 (kn_ok
 (kl_ok (ok_iret rfl dX1_count_93))
 (kl_ok (ok_aP (ok_aload_n dX1_count_94 rfl rfl)))))
 (kn_ok
 (kl_ok (ok_aP (ok_getf fo_0 fs_rf (Or.inl q351) dX1_count_95 rfl)))
 (kn_ok
 (kl_ok (ok_callV (List.forall_mem_cons.mpr ⟨run_V (C0 := "FavourTown$World") rfl rfl (by rw [hm]; rfl) q756 q757 q758 q84 q759 ⟨nh_3, dl_4⟩ (by decide) dX1_count_98, (fun _ h => absurd h List.not_mem_nil)⟩) rfl))
 (kl_ok (ok_iret rfl dX1_count_101)))))))
 (kn_ok
 (kn_ok
 (kn_ok
 (kn_ok
 (kl_ok (ok_aP (ok_aload_n dX1_count_102 rfl rfl)))
 (kn_ok
 (kl_ok (ok_aP (ok_getf fo_0 fs_rf (Or.inl q351) dX1_count_103 rfl)))
 (kl_ok (ok_aP (ok_getf fo_45 fs_rf (Or.inr ⟨_, q237⟩) dX1_count_106 rfl)))))
 (kn_ok
 (kl_ok (ok_callV (List.forall_mem_cons.mpr ⟨run_V (C0 := "java/util/ArrayList") rfl rfl (by rw [hm]; rfl) q570 q401 q402 q87 q403 ⟨nh_4, dl_4⟩ (by decide) dX1_count_109, (fun _ h => absurd h List.not_mem_nil)⟩) rfl))
 (kn_ok
 (kl_ok (ok_iret rfl dX1_count_112))
 (kl_ok (ok_aP (ok_aload_n dX1_count_113 rfl rfl))))))
 (kn_ok
 (kn_ok
 (kl_ok (ok_aP (ok_getf fo_0 fs_rf (Or.inl q351) dX1_count_114 rfl)))
 (kn_ok
 (kl_ok (ok_aP (ok_getf fo_46 fs_rf (Or.inr ⟨_, q242⟩) dX1_count_117 rfl)))
 (kl_ok (ok_callV (List.forall_mem_cons.mpr ⟨run_V (C0 := "java/util/ArrayList") rfl rfl (by rw [hm]; rfl) q570 q401 q402 q87 q403 ⟨nh_4, dl_4⟩ (by decide) dX1_count_120, (fun _ h => absurd h List.not_mem_nil)⟩) rfl))))
 (kn_ok
 (kl_ok (ok_iret rfl dX1_count_123))
 (kn_ok
 (kl_ok (ok_aP (ok_aload_n dX1_count_124 rfl rfl)))
 (kl_ok (ok_aP (ok_getf fo_0 fs_rf (Or.inl q351) dX1_count_125 rfl)))))))
 (kn_ok
 (kn_ok
 (kn_ok
 (kl_ok (ok_aP (ok_getf fo_38 fs_rf (Or.inr ⟨_, q218⟩) dX1_count_128 rfl)))
 (kn_ok
 (kl_ok (ok_iret rfl dX1_count_131))
 (kl_ok (ok_aP (ok_aload_n dX1_count_132 rfl rfl)))))
 (kn_ok
 (kl_ok (ok_aP (ok_getf fo_0 fs_rf (Or.inl q351) dX1_count_133 rfl)))
 (kn_ok
 (kl_ok (ok_aP (ok_getf fo_7 fs_rf (Or.inr ⟨_, q220⟩) dX1_count_136 rfl)))
 (kl_ok (ok_iret rfl dX1_count_139)))))
 (kn_ok
 (kn_ok
 (kl_ok (ok_aP (ok_aload_n dX1_count_140 rfl rfl)))
 (kn_ok
 (kl_ok (ok_aP (ok_getf fo_0 fs_rf (Or.inl q351) dX1_count_141 rfl)))
 (kl_ok (ok_callV (List.forall_mem_cons.mpr ⟨run_V (C0 := "FavourTown$World") rfl rfl (by rw [hm]; rfl) q760 q761 q762 q84 q763 ⟨nh_3, dl_4⟩ (by decide) dX1_count_144, (fun _ h => absurd h List.not_mem_nil)⟩) rfl))))
 (kn_ok
 (kl_ok (ok_iret rfl dX1_count_147))
 (kn_ok
 (kl_ok (ok_aP (ok_iconst dX1_count_148 rfl rfl)))
 (kl_ok (ok_iret rfl dX1_count_149)))))))
/-- 37: FavourTown.town()I -/
noncomputable def k_X1_town : Nat → Option AOp :=
 tn 37 (tn 17 (tn 8 (tn 4 (tn 1 (tl 0 (aP (f_aload 0 1)))
  (tl 1 (aP (f_getf [0] 2 4))))
  (tn 7 (tl 4 (o_callV (lkN [(2, 128)]) 0 7))
  (tl 7 (aP (f_aload 0 8)))))
  (tn 14 (tn 11 (tl 8 (aP (f_getf [0] 0 11)))
  (tl 11 (o_callV (lkN [(1, 101)]) 0 14)))
  (tn 15 (tl 14 (aP (f_astore 1 15)))
  (tn 16 (tl 15 (aP (f_aload 0 16)))
  (tl 16 (aP (f_aload 1 17)))))))
  (tn 28 (tn 21 (tn 20 (tl 17 (o_callV (lkN [(0, 38)]) 1 20))
  (tl 20 (aP (f_aload 0 21))))
  (tn 24 (tl 21 (aP (f_getf [0] 2 24)))
  (tn 25 (tl 24 (aP (f_const (.int (-1)) 25)))
  (tl 25 (o_putf [2] 5 vI 28)))))
  (tn 32 (tn 31 (tl 28 (aP (f_goto 36)))
  (tl 31 (aP (f_astore 2 32))))
  (tn 33 (tl 32 (aP (f_aload 0 33)))
  (tn 36 (tl 33 (o_callV (lkN [(0, 48)]) 0 36))
  (tl 36 (aP (f_aload 0 37))))))))
  (tn 61 (tn 48 (tn 43 (tn 40 (tl 37 (aP (f_getf [0] 0 40)))
  (tl 40 (aP (f_getf [1] 0 43))))
  (tn 45 (tl 43 (aP (f_const (.int (nI 10)) 45)))
  (tl 45 (aP (f_icmp (fun x y => decide (¬ x = y)) 56 48)))))
  (tn 56 (tn 55 (tl 48 (o_make 23 55))
  (tl 55 (o_athrow [17, 22, 23, 24, 25])))
  (tn 57 (tl 56 (aP (f_aload 1 57)))
  (tn 58 (tl 57 (aP (f_dup 58)))
  (tl 58 (aP (f_getf [1] 0 61)))))))
  (tn 68 (tn 63 (tn 62 (tl 61 (aP (f_const (.int (nI 1)) 62)))
  (tl 62 (aP (f_bin (fun x y => x + y) 63))))
  (tn 66 (tl 63 (o_putf [1] 0 vI 66))
  (tn 67 (tl 66 (aP (f_aload 0 67)))
  (tl 67 (aP (f_aload 1 68))))))
  (tn 72 (tn 71 (tl 68 (o_putf [0] 0 vA 71))
  (tl 71 (aP (f_aload 0 72))))
  (tn 75 (tl 72 (aP (f_getf [0] 0 75)))
  (tn 78 (tl 75 (aP (f_getf [1] 0 78)))
  (tl 78 (o_iret (fun _ => true))))))))
theorem kok_X1_town {γ : AG} (hm : γ.2.2.2.2.1 = mTab) (hk : γ.2.2.2.2.2 = kTab) : KOK γ m_X1_town k_X1_town :=
 kn_ok
 (kn_ok
 (kn_ok
 (kn_ok
 (kn_ok
 (kl_ok (ok_aP (ok_aload_n dX1_town_0 rfl rfl)))
 (kl_ok (ok_aP (ok_getf fo_47 fs_rf (Or.inl q355) dX1_town_1 rfl))))
 (kn_ok
 (kl_ok (ok_callV (List.forall_mem_cons.mpr ⟨run_V (C0 := "FavourTown$Reader") rfl rfl (by rw [hm]; rfl) q775 q776 q777 q89 q778 ⟨nh_20, dl_0⟩ (by decide) dX1_town_4, (fun _ h => absurd h List.not_mem_nil)⟩) rfl))
 (kl_ok (ok_aP (ok_aload_n dX1_town_7 rfl rfl)))))
 (kn_ok
 (kn_ok
 (kl_ok (ok_aP (ok_getf fo_0 fs_rf (Or.inl q351) dX1_town_8 rfl)))
 (kl_ok (ok_callV (List.forall_mem_cons.mpr ⟨run_V (C0 := "FavourTown$World") rfl rfl (by rw [hm]; rfl) q577 q578 q579 q84 q580 ⟨nh_3, dl_20⟩ (by decide) dX1_town_11, (fun _ h => absurd h List.not_mem_nil)⟩) rfl)))
 (kn_ok
 (kl_ok (ok_aP (ok_astore_n dX1_town_14 rfl rfl)))
 (kn_ok
 (kl_ok (ok_aP (ok_aload_n dX1_town_15 rfl rfl)))
 (kl_ok (ok_aP (ok_aload_n dX1_town_16 rfl rfl)))))))
 (kn_ok
 (kn_ok
 (kn_ok
 (kl_ok (ok_callV (List.forall_mem_cons.mpr ⟨run_V (C0 := "FavourTown") rfl rfl (by rw [hm]; rfl) q779 q781 qs5 q83 q782 ⟨nh_0, dl_82⟩ (by decide) dX1_town_17, (fun _ h => absurd h List.not_mem_nil)⟩) rfl))
 (kl_ok (ok_aP (ok_aload_n dX1_town_20 rfl rfl))))
 (kn_ok
 (kl_ok (ok_aP (ok_getf fo_47 fs_rf (Or.inl q355) dX1_town_21 rfl)))
 (kn_ok
 (kl_ok (ok_aP (ok_iconst dX1_town_24 rfl rfl)))
 (kl_ok (ok_hp (ok_putf fo_88 fs_rf fn_60 (Or.inr ⟨_, q288⟩) pd_0 vI_ok dX1_town_25 rfl) le_putf)))))
 (kn_ok
 (kn_ok
 (kl_ok (ok_aP (ok_goto dX1_town_28 rfl)))
 (kl_ok (ok_aP (ok_astore_n dX1_town_31 rfl rfl))))
 (kn_ok
 (kl_ok (ok_aP (ok_aload_n dX1_town_32 rfl rfl)))
 (kn_ok
 (kl_ok (ok_callV (List.forall_mem_cons.mpr ⟨run_V (C0 := "FavourTown") rfl rfl (by rw [hm]; rfl) q1314 q1316 qs16 q83 q1317 ⟨nh_0, dl_0⟩ (by decide) dX1_town_33, (fun _ h => absurd h List.not_mem_nil)⟩) rfl))
 (kl_ok (ok_aP (ok_aload_n dX1_town_36 rfl rfl))))))))
 (kn_ok
 (kn_ok
 (kn_ok
 (kn_ok
 (kl_ok (ok_aP (ok_getf fo_0 fs_rf (Or.inl q351) dX1_town_37 rfl)))
 (kl_ok (ok_aP (ok_getf fo_44 fs_rf (Or.inr ⟨_, q216⟩) dX1_town_40 rfl))))
 (kn_ok
 (kl_ok (ok_aP (ok_bipush dX1_town_43 (by decide +kernel) rfl)))
 (kl_ok (ok_aP (ok_icmp_ne dX1_town_45 rfl rfl)))))
 (kn_ok
 (kn_ok
 (kl_ok (ok_hp (ok_make (names := ["java/lang/RuntimeException", "java/lang/Exception"]) rfl (by decide +kernel) (by decide +kernel) (by decide) q1329 q116 vat_6.1 vat_6.2.1 vat_6.2.2 dX1_town_48 dX1_town_51 dX1_town_52 rfl) le_make))
 (kl_ok (ok_athrow dX1_town_55)))
 (kn_ok
 (kl_ok (ok_aP (ok_aload_n dX1_town_56 rfl rfl)))
 (kn_ok
 (kl_ok (ok_aP (ok_dup dX1_town_57 rfl)))
 (kl_ok (ok_aP (ok_getf fo_44 fs_rf (Or.inr ⟨_, q216⟩) dX1_town_58 rfl)))))))
 (kn_ok
 (kn_ok
 (kn_ok
 (kl_ok (ok_aP (ok_iconst dX1_town_61 rfl rfl)))
 (kl_ok (ok_aP (ok_iadd dX1_town_62 rfl))))
 (kn_ok
 (kl_ok (ok_hp (ok_putf fo_44 fs_rf fn_20 (Or.inr ⟨_, q216⟩) pd_0 vI_ok dX1_town_63 rfl) le_putf))
 (kn_ok
 (kl_ok (ok_aP (ok_aload_n dX1_town_66 rfl rfl)))
 (kl_ok (ok_aP (ok_aload_n dX1_town_67 rfl rfl))))))
 (kn_ok
 (kn_ok
 (kl_ok (ok_hp (ok_putf fo_0 fs_rf fn_52 (Or.inl q351) pd_7 vA_okO dX1_town_68 rfl) le_putf))
 (kl_ok (ok_aP (ok_aload_n dX1_town_71 rfl rfl))))
 (kn_ok
 (kl_ok (ok_aP (ok_getf fo_0 fs_rf (Or.inl q351) dX1_town_72 rfl)))
 (kn_ok
 (kl_ok (ok_aP (ok_getf fo_44 fs_rf (Or.inr ⟨_, q216⟩) dX1_town_75 rfl)))
 (kl_ok (ok_iret rfl dX1_town_78)))))))
/-- 38: FavourTown.townText(LFavourTown$World;)V -/
noncomputable def k_X1_townText : Nat → Option AOp :=
 tn 15 (tn 10 (tn 4 (tn 1 (tl 0 (aP (f_aload 0 1)))
  (tl 1 (aP (f_getf [0] 2 4))))
  (tn 7 (tl 4 (o_callV (lkN [(2, 129)]) 0 7))
  (tl 7 (aP (f_if (fun x => decide (x = 0)) 11 10)))))
  (tn 12 (tn 11 (tl 10 (o_vret))
  (tl 11 (aP (f_const (.int (nI 0)) 12))))
  (tn 13 (tl 12 (aP (f_istore 2 13)))
  (tn 14 (tl 13 (aP (f_aload 0 14)))
  (tl 14 (aP (f_iload 2 15)))))))
  (tn 25 (tn 20 (tn 17 (tl 15 (aP (f_const (.int (nI 14)) 17)))
  (tl 17 (o_callV (lkN [(0, 39)]) 2 20)))
  (tn 21 (tl 20 (aP (f_aload 0 21)))
  (tn 22 (tl 21 (aP (f_aload 1 22)))
  (tl 22 (o_callV (lkN [(0, 41)]) 1 25)))))
  (tn 29 (tn 28 (tl 25 (aP (f_iinc 2 (nI 1) 28)))
  (tl 28 (aP (f_aload 0 29))))
  (tn 32 (tl 29 (o_callV (lkN [(0, 47)]) 0 32))
  (tn 35 (tl 32 (aP (f_if (fun x => decide (¬ x = 0)) 13 35)))
  (tl 35 (o_vret))))))
theorem kok_X1_townText {γ : AG} (hm : γ.2.2.2.2.1 = mTab) (hk : γ.2.2.2.2.2 = kTab) : KOK γ m_X1_townText k_X1_townText :=
 kn_ok
 (kn_ok
 (kn_ok
 (kn_ok
 (kl_ok (ok_aP (ok_aload_n dX1_townText_0 rfl rfl)))
 (kl_ok (ok_aP (ok_getf fo_47 fs_rf (Or.inl q355) dX1_townText_1 rfl))))
 (kn_ok
 (kl_ok (ok_callV (List.forall_mem_cons.mpr ⟨run_V (C0 := "FavourTown$Reader") rfl rfl (by rw [hm]; rfl) q783 q784 q785 q89 q786 ⟨nh_20, dl_16⟩ (by decide) dX1_townText_4, (fun _ h => absurd h List.not_mem_nil)⟩) rfl))
 (kl_ok (ok_aP (ok_if_eq dX1_townText_7 rfl rfl)))))
 (kn_ok
 (kn_ok
 (kl_ok (ok_vret rfl dX1_townText_10))
 (kl_ok (ok_aP (ok_iconst dX1_townText_11 rfl rfl))))
 (kn_ok
 (kl_ok (ok_aP (ok_istore_n dX1_townText_12 rfl rfl)))
 (kn_ok
 (kl_ok (ok_aP (ok_aload_n dX1_townText_13 rfl rfl)))
 (kl_ok (ok_aP (ok_iload_n dX1_townText_14 rfl rfl)))))))
 (kn_ok
 (kn_ok
 (kn_ok
 (kl_ok (ok_aP (ok_bipush dX1_townText_15 (by decide +kernel) rfl)))
 (kl_ok (ok_callV (List.forall_mem_cons.mpr ⟨run_V (C0 := "FavourTown") rfl rfl (by rw [hm]; rfl) q795 q797 qs7 q83 q798 ⟨nh_0, dl_19⟩ (by decide) dX1_townText_17, (fun _ h => absurd h List.not_mem_nil)⟩) rfl)))
 (kn_ok
 (kl_ok (ok_aP (ok_aload_n dX1_townText_20 rfl rfl)))
 (kn_ok
 (kl_ok (ok_aP (ok_aload_n dX1_townText_21 rfl rfl)))
 (kl_ok (ok_callV (List.forall_mem_cons.mpr ⟨run_V (C0 := "FavourTown") rfl rfl (by rw [hm]; rfl) q1146 q1148 qs9 q83 q1149 ⟨nh_0, dl_82⟩ (by decide) dX1_townText_22, (fun _ h => absurd h List.not_mem_nil)⟩) rfl)))))
 (kn_ok
 (kn_ok
 (kl_ok (ok_aP (ok_iinc dX1_townText_25 (by decide +kernel) rfl)))
 (kl_ok (ok_aP (ok_aload_n dX1_townText_28 rfl rfl))))
 (kn_ok
 (kl_ok (ok_callV (List.forall_mem_cons.mpr ⟨run_V (C0 := "FavourTown") rfl rfl (by rw [hm]; rfl) q1306 q1308 qs15 q83 q1309 ⟨nh_0, dl_16⟩ (by decide) dX1_townText_29, (fun _ h => absurd h List.not_mem_nil)⟩) rfl))
 (kn_ok
 (kl_ok (ok_aP (ok_if_ne dX1_townText_32 rfl rfl)))
 (kl_ok (ok_vret rfl dX1_townText_35))))))
/-- 39: FavourTown.noMore(II)V -/
noncomputable def k_X1_noMore : Nat → Option AOp :=
 tn 10 (tn 5 (tn 1 (tl 0 (aP (f_iload 1 1)))
  (tn 2 (tl 1 (aP (f_iload 2 2)))
  (tl 2 (aP (f_icmp (fun x y => decide (y ≤ x)) 6 5)))))
  (tn 6 (tl 5 (o_vret))
  (tn 7 (tl 6 (aP (f_aload 0 7)))
  (tl 7 (aP (f_getf [0] 2 10))))))
  (tn 15 (tn 13 (tl 10 (o_callV (lkN [(2, 132)]) 0 13))
  (tn 14 (tl 13 (aP (f_pop 14)))
  (tl 14 (aP (f_aload 0 15)))))
  (tn 18 (tl 15 (aP (f_getf [0] 2 18)))
  (tn 21 (tl 18 (o_callV (lkN [(2, 133)]) 0 21))
  (tl 21 (o_athrow [17, 22, 23, 24, 25])))))
theorem kok_X1_noMore {γ : AG} (hm : γ.2.2.2.2.1 = mTab) (hk : γ.2.2.2.2.2 = kTab) : KOK γ m_X1_noMore k_X1_noMore :=
 kn_ok
 (kn_ok
 (kn_ok
 (kl_ok (ok_aP (ok_iload_n dX1_noMore_0 rfl rfl)))
 (kn_ok
 (kl_ok (ok_aP (ok_iload_n dX1_noMore_1 rfl rfl)))
 (kl_ok (ok_aP (ok_icmp_ge dX1_noMore_2 rfl rfl)))))
 (kn_ok
 (kl_ok (ok_vret rfl dX1_noMore_5))
 (kn_ok
 (kl_ok (ok_aP (ok_aload_n dX1_noMore_6 rfl rfl)))
 (kl_ok (ok_aP (ok_getf fo_47 fs_rf (Or.inl q355) dX1_noMore_7 rfl))))))
 (kn_ok
 (kn_ok
 (kl_ok (ok_callV (List.forall_mem_cons.mpr ⟨run_V (C0 := "FavourTown$Reader") rfl rfl (by rw [hm]; rfl) q799 q800 q801 q89 q802 ⟨nh_20, dl_62⟩ (by decide) dX1_noMore_10, (fun _ h => absurd h List.not_mem_nil)⟩) rfl))
 (kn_ok
 (kl_ok (ok_aP (ok_pop dX1_noMore_13 rfl)))
 (kl_ok (ok_aP (ok_aload_n dX1_noMore_14 rfl rfl)))))
 (kn_ok
 (kl_ok (ok_aP (ok_getf fo_47 fs_rf (Or.inl q355) dX1_noMore_15 rfl)))
 (kn_ok
 (kl_ok (ok_callV (List.forall_mem_cons.mpr ⟨run_V (C0 := "FavourTown$Reader") rfl rfl (by rw [hm]; rfl) q1122 q1123 q1124 q89 q1125 ⟨nh_20, dl_60⟩ (by decide) dX1_noMore_18, (fun _ h => absurd h List.not_mem_nil)⟩) rfl))
 (kl_ok (ok_athrow dX1_noMore_21)))))
/-- 40: FavourTown.in(III)Z -/
noncomputable def k_X1_in : Nat → Option AOp :=
 tn 7 (tn 2 (tn 1 (tl 0 (aP (f_iload 0 1)))
  (tl 1 (aP (f_iload 1 2))))
  (tn 5 (tl 2 (aP (f_icmp (fun x y => decide (x < y)) 14 5)))
  (tn 6 (tl 5 (aP (f_iload 0 6)))
  (tl 6 (aP (f_iload 2 7))))))
  (tn 11 (tn 10 (tl 7 (aP (f_icmp (fun x y => decide (y < x)) 14 10)))
  (tl 10 (aP (f_const (.int (nI 1)) 11))))
  (tn 14 (tl 11 (aP (f_goto 15)))
  (tn 15 (tl 14 (aP (f_const (.int (nI 0)) 15)))
  (tl 15 (o_iret (fun x => x == 0 || x == 1))))))
theorem kok_X1_in {γ : AG} (hm : γ.2.2.2.2.1 = mTab) (hk : γ.2.2.2.2.2 = kTab) : KOK γ m_X1_in k_X1_in :=
 kn_ok
 (kn_ok
 (kn_ok
 (kl_ok (ok_aP (ok_iload_n dX1_in_0 rfl rfl)))
 (kl_ok (ok_aP (ok_iload_n dX1_in_1 rfl rfl))))
 (kn_ok
 (kl_ok (ok_aP (ok_icmp_lt dX1_in_2 rfl rfl)))
 (kn_ok
 (kl_ok (ok_aP (ok_iload_n dX1_in_5 rfl rfl)))
 (kl_ok (ok_aP (ok_iload_n dX1_in_6 rfl rfl))))))
 (kn_ok
 (kn_ok
 (kl_ok (ok_aP (ok_icmp_gt dX1_in_7 rfl rfl)))
 (kl_ok (ok_aP (ok_iconst dX1_in_10 rfl rfl))))
 (kn_ok
 (kl_ok (ok_aP (ok_goto dX1_in_11 rfl)))
 (kn_ok
 (kl_ok (ok_aP (ok_iconst dX1_in_14 rfl rfl)))
 (kl_ok (ok_zret rfl z_boolean dX1_in_15)))))
/-- 41: FavourTown.townLine(LFavourTown$World;)V -/
noncomputable def k_X1_townLine : Nat → Option AOp :=
 tn 326 (tn 179 (tn 123 (tn 95 (tn 10 (tn 5 (tn 1 (tl 0 (aP (f_aload 0 1)))
  (tn 4 (tl 1 (aP (f_getf [0] 2 4)))
  (tl 4 (aP (f_astore 2 5)))))
  (tn 6 (tl 5 (aP (f_aload 2 6)))
  (tn 9 (tl 6 (o_callV (lkN [(2, 132)]) 0 9))
  (tl 9 (aP (f_astore 3 10))))))
  (tn 14 (tn 11 (tl 10 (aP (f_const (.int (-1)) 11)))
  (tn 13 (tl 11 (aP (f_istore 4 13)))
  (tl 13 (aP (f_aload 3 14)))))
  (tn 92 (tn 17 (tl 14 (o_callV (lkN [(21, 283)]) 0 17))
  (tl 17 (aP (f_sw (fun x => if (-991716523 : Int) = x.toInt then 92 else if (106914 : Int) = x.toInt then 122 else if (3045982 : Int) = x.toInt then 167 else if (3076183 : Int) = x.toInt then 182 else if (3173137 : Int) = x.toInt then 137 else if (3377192 : Int) = x.toInt then 107 else if (3377302 : Int) = x.toInt then 198 else if (3433489 : Int) = x.toInt then 152 else 211)))))
  (tn 93 (tl 92 (aP (f_aload 3 93)))
  (tl 93 (aP (f_stat 10 95)))))))
  (tn 108 (tn 102 (tn 98 (tl 95 (o_callV (lkN [(21, 285)]) 1 98))
  (tn 101 (tl 98 (aP (f_if (fun x => decide (x = 0)) 211 101)))
  (tl 101 (aP (f_const (.int (nI 0)) 102)))))
  (tn 104 (tl 102 (aP (f_istore 4 104)))
  (tn 107 (tl 104 (aP (f_goto 211)))
  (tl 107 (aP (f_aload 3 108))))))
  (tn 116 (tn 110 (tl 108 (aP (f_stat 11 110)))
  (tn 113 (tl 110 (o_callV (lkN [(21, 285)]) 1 113))
  (tl 113 (aP (f_if (fun x => decide (x = 0)) 211 116)))))
  (tn 119 (tn 117 (tl 116 (aP (f_const (.int (nI 1)) 117)))
  (tl 117 (aP (f_istore 4 119))))
  (tn 122 (tl 119 (aP (f_goto 211)))
  (tl 122 (aP (f_aload 3 123))))))))
  (tn 152 (tn 137 (tn 131 (tn 125 (tl 123 (aP (f_stat 12 125)))
  (tn 128 (tl 125 (o_callV (lkN [(21, 285)]) 1 128))
  (tl 128 (aP (f_if (fun x => decide (x = 0)) 211 131)))))
  (tn 132 (tl 131 (aP (f_const (.int (nI 2)) 132)))
  (tn 134 (tl 132 (aP (f_istore 4 134)))
  (tl 134 (aP (f_goto 211))))))
  (tn 143 (tn 138 (tl 137 (aP (f_aload 3 138)))
  (tn 140 (tl 138 (aP (f_stat 13 140)))
  (tl 140 (o_callV (lkN [(21, 285)]) 1 143))))
  (tn 147 (tn 146 (tl 143 (aP (f_if (fun x => decide (x = 0)) 211 146)))
  (tl 146 (aP (f_const (.int (nI 3)) 147))))
  (tn 149 (tl 147 (aP (f_istore 4 149)))
  (tl 149 (aP (f_goto 211)))))))
  (tn 164 (tn 158 (tn 153 (tl 152 (aP (f_aload 3 153)))
  (tn 155 (tl 153 (aP (f_stat 14 155)))
  (tl 155 (o_callV (lkN [(21, 285)]) 1 158))))
  (tn 161 (tl 158 (aP (f_if (fun x => decide (x = 0)) 211 161)))
  (tn 162 (tl 161 (aP (f_const (.int (nI 4)) 162)))
  (tl 162 (aP (f_istore 4 164))))))
  (tn 170 (tn 167 (tl 164 (aP (f_goto 211)))
  (tn 168 (tl 167 (aP (f_aload 3 168)))
  (tl 168 (aP (f_stat 15 170)))))
  (tn 176 (tn 173 (tl 170 (o_callV (lkN [(21, 285)]) 1 173))
  (tl 173 (aP (f_if (fun x => decide (x = 0)) 211 176))))
  (tn 177 (tl 176 (aP (f_const (.int (nI 5)) 177)))
  (tl 177 (aP (f_istore 4 179)))))))))
  (tn 279 (tn 209 (tn 193 (tn 185 (tn 182 (tl 179 (aP (f_goto 211)))
  (tn 183 (tl 182 (aP (f_aload 3 183)))
  (tl 183 (aP (f_stat 16 185)))))
  (tn 188 (tl 185 (o_callV (lkN [(21, 285)]) 1 188))
  (tn 191 (tl 188 (aP (f_if (fun x => decide (x = 0)) 211 191)))
  (tl 191 (aP (f_const (.int (nI 6)) 193))))))
  (tn 199 (tn 195 (tl 193 (aP (f_istore 4 195)))
  (tn 198 (tl 195 (aP (f_goto 211)))
  (tl 198 (aP (f_aload 3 199)))))
  (tn 204 (tn 201 (tl 199 (aP (f_stat 17 201)))
  (tl 201 (o_callV (lkN [(21, 285)]) 1 204)))
  (tn 207 (tl 204 (aP (f_if (fun x => decide (x = 0)) 211 207)))
  (tl 207 (aP (f_const (.int (nI 7)) 209)))))))
  (tn 266 (tn 260 (tn 211 (tl 209 (aP (f_istore 4 211)))
  (tn 213 (tl 211 (aP (f_iload 4 213)))
  (tl 213 (aP (f_sw (fun x => if x.toInt < 0 ∨ 7 < x.toInt then 504 else [260, 312, 357, 369, 375, 415, 425, 438].getD (x.toInt - 0).toNat 0))))))
  (tn 261 (tl 260 (aP (f_aload 1 261)))
  (tn 264 (tl 261 (aP (f_getf [1] 3 264)))
  (tl 264 (aP (f_const (.int (nI 12)) 266))))))
  (tn 273 (tn 269 (tl 266 (aP (f_icmp (fun x y => decide (¬ x = y)) 274 269)))
  (tn 270 (tl 269 (aP (f_aload 2 270)))
  (tl 270 (o_callV (lkN [(2, 133)]) 0 273))))
  (tn 275 (tn 274 (tl 273 (o_athrow [17, 22, 23, 24, 25]))
  (tl 274 (aP (f_aload 1 275))))
  (tn 278 (tl 275 (aP (f_getf [1] 5 278)))
  (tl 278 (aP (f_aload 1 279))))))))
  (tn 302 (tn 291 (tn 284 (tn 282 (tl 279 (aP (f_getf [1] 3 282)))
  (tn 283 (tl 282 (aP (f_aload 2 283)))
  (tl 283 (aP (f_const (.int (nI 0)) 284)))))
  (tn 287 (tl 284 (aP (f_const (.int (nI 999)) 287)))
  (tn 290 (tl 287 (o_callV (lkN [(2, 134)]) 2 290))
  (tl 290 (o_iast 0 (fun y => y) 291)))))
  (tn 296 (tn 292 (tl 291 (aP (f_aload 1 292)))
  (tn 295 (tl 292 (aP (f_getf [1] 7 295)))
  (tl 295 (aP (f_aload 1 296)))))
  (tn 300 (tn 299 (tl 296 (aP (f_getf [1] 3 299)))
  (tl 299 (aP (f_const (.int (-1)) 300))))
  (tn 301 (tl 300 (o_iast 0 (fun y => y) 301))
  (tl 301 (aP (f_aload 1 302)))))))
  (tn 313 (tn 307 (tn 303 (tl 302 (aP (f_dup 303)))
  (tn 306 (tl 303 (aP (f_getf [1] 3 306)))
  (tl 306 (aP (f_const (.int (nI 1)) 307)))))
  (tn 311 (tn 308 (tl 307 (aP (f_bin (fun x y => x + y) 308)))
  (tl 308 (o_putf [1] 3 vI 311)))
  (tn 312 (tl 311 (o_vret))
  (tl 312 (aP (f_aload 0 313))))))
  (tn 319 (tn 314 (tl 313 (aP (f_aload 1 314)))
  (tn 317 (tl 314 (o_callV (lkN [(0, 42)]) 1 317))
  (tl 317 (aP (f_istore 5 319)))))
  (tn 321 (tn 320 (tl 319 (aP (f_aload 0 320)))
  (tl 320 (aP (f_aload 1 321))))
  (tn 323 (tl 321 (aP (f_iload 5 323)))
  (tl 323 (o_callV (lkN [(0, 43)]) 2 326)))))))))
  (tn 413 (tn 362 (tn 346 (tn 336 (tn 332 (tn 328 (tl 326 (aP (f_istore 6 328)))
  (tn 329 (tl 328 (aP (f_aload 1 329)))
  (tl 329 (aP (f_getf [1] 6 332)))))
  (tn 334 (tl 332 (aP (f_iload 5 334)))
  (tn 335 (tl 334 (aP (f_dup2 335)))
  (tl 335 (aP (f_iald 0 336))))))
  (tn 340 (tn 337 (tl 336 (aP (f_const (.int (nI 1)) 337)))
  (tn 339 (tl 337 (aP (f_iload 6 339)))
  (tl 339 (aP (f_bin (fun x y => x <<< (y &&& 31)) 340)))))
  (tn 342 (tn 341 (tl 340 (aP (f_bin (fun x y => x ||| y) 341)))
  (tl 341 (o_iast 0 (fun y => y) 342)))
  (tn 343 (tl 342 (aP (f_aload 1 343)))
  (tl 343 (aP (f_getf [1] 6 346)))))))
  (tn 354 (tn 350 (tn 348 (tl 346 (aP (f_iload 6 348)))
  (tn 349 (tl 348 (aP (f_dup2 349)))
  (tl 349 (aP (f_iald 0 350)))))
  (tn 351 (tl 350 (aP (f_const (.int (nI 1)) 351)))
  (tn 353 (tl 351 (aP (f_iload 5 353)))
  (tl 353 (aP (f_bin (fun x y => x <<< (y &&& 31)) 354))))))
  (tn 357 (tn 355 (tl 354 (aP (f_bin (fun x y => x ||| y) 355)))
  (tn 356 (tl 355 (o_iast 0 (fun y => y) 356))
  (tl 356 (o_vret))))
  (tn 359 (tn 358 (tl 357 (aP (f_aload 1 358)))
  (tl 358 (aP (f_aload 2 359))))
  (tn 360 (tl 359 (aP (f_const (.int (nI 0)) 360)))
  (tl 360 (aP (f_const (.int (nI 10)) 362))))))))
  (tn 385 (tn 374 (tn 369 (tn 365 (tl 362 (o_callV (lkN [(2, 134)]) 2 365))
  (tn 368 (tl 365 (o_putf [1] 2 vI 368))
  (tl 368 (o_vret))))
  (tn 370 (tl 369 (aP (f_aload 0 370)))
  (tn 371 (tl 370 (aP (f_aload 1 371)))
  (tl 371 (o_callV (lkN [(0, 44)]) 1 374)))))
  (tn 377 (tn 375 (tl 374 (o_vret))
  (tn 376 (tl 375 (aP (f_aload 0 376)))
  (tl 376 (aP (f_aload 1 377)))))
  (tn 382 (tn 380 (tl 377 (o_callV (lkN [(0, 46)]) 1 380))
  (tl 380 (aP (f_astore 7 382))))
  (tn 383 (tl 382 (aP (f_aload 0 383)))
  (tl 383 (aP (f_stat 18 385)))))))
  (tn 397 (tn 390 (tn 388 (tl 385 (o_callV (lkN [(0, 45)]) 1 388))
  (tn 389 (tl 388 (aP (f_aload 0 389)))
  (tl 389 (aP (f_aload 1 390)))))
  (tn 393 (tl 390 (o_callV (lkN [(0, 42)]) 1 393))
  (tn 395 (tl 393 (aP (f_istore 8 395)))
  (tl 395 (aP (f_aload 7 397))))))
  (tn 405 (tn 400 (tl 397 (aP (f_getf [5, 6] 4 400)))
  (tn 402 (tl 400 (aP (f_iload 8 402)))
  (tl 402 (aP (f_icmp (fun x y => decide (x = y)) 414 405)))))
  (tn 408 (tn 406 (tl 405 (aP (f_aload 1 406)))
  (tl 406 (aP (f_aload 7 408))))
  (tn 410 (tl 408 (aP (f_iload 8 410)))
  (tl 410 (o_callV (lkN [(1, 105)]) 2 413))))))))
  (tn 457 (tn 433 (tn 421 (tn 416 (tn 414 (tl 413 (aP (f_pop 414)))
  (tn 415 (tl 414 (o_vret))
  (tl 415 (aP (f_aload 0 416)))))
  (tn 417 (tl 416 (aP (f_aload 1 417)))
  (tn 420 (tl 417 (o_callV (lkN [(0, 46)]) 1 420))
  (tl 420 (aP (f_const (.int (-1)) 421))))))
  (tn 426 (tn 424 (tl 421 (o_putf [5, 6] 4 vI 424))
  (tn 425 (tl 424 (o_vret))
  (tl 425 (aP (f_aload 1 426)))))
  (tn 428 (tn 427 (tl 426 (aP (f_aload 2 427)))
  (tl 427 (aP (f_const (.int (nI 1)) 428))))
  (tn 430 (tl 428 (aP (f_const (.int (nI 99)) 430)))
  (tl 430 (o_callV (lkN [(2, 134)]) 2 433))))))
  (tn 445 (tn 438 (tn 436 (tl 433 (o_callV (lkN [(1, 106)]) 1 436))
  (tn 437 (tl 436 (aP (f_pop 437)))
  (tl 437 (o_vret))))
  (tn 439 (tl 438 (aP (f_aload 1 439)))
  (tn 442 (tl 439 (aP (f_getf [1] 10 442)))
  (tl 442 (o_callV (lkN [(19, 113)]) 0 445)))))
  (tn 451 (tn 447 (tl 445 (aP (f_const (.int (nI 12)) 447)))
  (tn 450 (tl 447 (aP (f_icmp (fun x y => decide (¬ x = y)) 455 450)))
  (tl 450 (aP (f_aload 2 451)))))
  (tn 455 (tn 454 (tl 451 (o_callV (lkN [(2, 133)]) 0 454))
  (tl 454 (o_athrow [17, 22, 23, 24, 25])))
  (tn 456 (tl 455 (aP (f_aload 0 456)))
  (tl 456 (aP (f_aload 1 457))))))))
  (tn 484 (tn 469 (tn 463 (tn 460 (tl 457 (o_callV (lkN [(0, 42)]) 1 460))
  (tn 462 (tl 460 (aP (f_istore 9 462)))
  (tl 462 (aP (f_aload 0 463)))))
  (tn 465 (tl 463 (aP (f_stat 19 465)))
  (tn 468 (tl 465 (o_callV (lkN [(0, 45)]) 1 468))
  (tl 468 (aP (f_aload 0 469))))))
  (tn 475 (tn 470 (tl 469 (aP (f_aload 1 470)))
  (tn 472 (tl 470 (aP (f_iload 9 472)))
  (tl 472 (o_callV (lkN [(0, 43)]) 2 475))))
  (tn 478 (tn 477 (tl 475 (aP (f_istore 10 477)))
  (tl 477 (aP (f_aload 1 478))))
  (tn 481 (tl 478 (aP (f_getf [1] 10 481)))
  (tl 481 (o_new 7 [.int 0, .int 0, .int 0] 484))))))
  (tn 496 (tn 489 (tn 485 (tl 484 (aP (f_dup 485)))
  (tn 487 (tl 485 (aP (f_iload 9 487)))
  (tl 487 (aP (f_iload 10 489)))))
  (tn 491 (tn 490 (tl 489 (aP (f_aload 2 490)))
  (tl 490 (aP (f_const (.int (nI 1)) 491))))
  (tn 493 (tl 491 (aP (f_const (.int (nI 99)) 493)))
  (tl 493 (o_callV (lkN [(2, 134)]) 2 496)))))
  (tn 503 (tn 499 (tl 496 (o_callI 305 3 499))
  (tn 502 (tl 499 (o_callV (lkN [(19, 116)]) 1 502))
  (tl 502 (aP (f_pop 503)))))
  (tn 505 (tn 504 (tl 503 (o_vret))
  (tl 504 (aP (f_aload 2 505))))
  (tn 508 (tl 505 (o_callV (lkN [(2, 133)]) 0 508))
  (tl 508 (o_athrow [17, 22, 23, 24, 25])))))))))
theorem kok_X1_townLine {γ : AG} (hm : γ.2.2.2.2.1 = mTab) (hk : γ.2.2.2.2.2 = kTab) : KOK γ m_X1_townLine k_X1_townLine :=
 kn_ok
 (kn_ok
 (kn_ok
 (kn_ok
 (kn_ok
 (kn_ok
 (kn_ok
 (kl_ok (ok_aP (ok_aload_n dX1_townLine_0 rfl rfl)))
 (kn_ok
 (kl_ok (ok_aP (ok_getf fo_47 fs_rf (Or.inl q355) dX1_townLine_1 rfl)))
 (kl_ok (ok_aP (ok_astore_n dX1_townLine_4 rfl rfl)))))
 (kn_ok
 (kl_ok (ok_aP (ok_aload_n dX1_townLine_5 rfl rfl)))
 (kn_ok
 (kl_ok (ok_callV (List.forall_mem_cons.mpr ⟨run_V (C0 := "FavourTown$Reader") rfl rfl (by rw [hm]; rfl) q799 q800 q801 q89 q802 ⟨nh_20, dl_62⟩ (by decide) dX1_townLine_6, (fun _ h => absurd h List.not_mem_nil)⟩) rfl))
 (kl_ok (ok_aP (ok_astore_n dX1_townLine_9 rfl rfl))))))
 (kn_ok
 (kn_ok
 (kl_ok (ok_aP (ok_iconst dX1_townLine_10 rfl rfl)))
 (kn_ok
 (kl_ok (ok_aP (ok_istore dX1_townLine_11 rfl)))
 (kl_ok (ok_aP (ok_aload_n dX1_townLine_13 rfl rfl)))))
 (kn_ok
 (kn_ok
 (kl_ok (ok_callV (List.forall_mem_cons.mpr ⟨run_V (C0 := "java/lang/String") rfl rfl (by rw [hm]; rfl) q1150 q1151 q1152 q103 q1153 ⟨nh_21, dl_4⟩ (by decide) dX1_townLine_14, (fun _ h => absurd h List.not_mem_nil)⟩) rfl))
 (kl_ok (ok_aP (ok_lookup dX1_townLine_17 (by decide +kernel) (lp := [((-991716523), 75), (106914, 105), (3045982, 150), (3076183, 165), (3173137, 120), (3377192, 90), (3377302, 181), (3433489, 135)]) rfl (fun v => by
   simp only [Op.lookupswitch.offset_cons, Op.lookupswitch.offset_nil]
   by_cases h0 : (-991716523 : Int) = v.toInt
   · simp only [if_pos h0]; rfl
   by_cases h1 : (106914 : Int) = v.toInt
   · simp only [if_neg h0, if_pos h1]; rfl
   by_cases h2 : (3045982 : Int) = v.toInt
   · simp only [if_neg h0, if_neg h1, if_pos h2]; rfl
   by_cases h3 : (3076183 : Int) = v.toInt
   · simp only [if_neg h0, if_neg h1, if_neg h2, if_pos h3]; rfl
   by_cases h4 : (3173137 : Int) = v.toInt
   · simp only [if_neg h0, if_neg h1, if_neg h2, if_neg h3, if_pos h4]; rfl
   by_cases h5 : (3377192 : Int) = v.toInt
   · simp only [if_neg h0, if_neg h1, if_neg h2, if_neg h3, if_neg h4, if_pos h5]; rfl
   by_cases h6 : (3377302 : Int) = v.toInt
   · simp only [if_neg h0, if_neg h1, if_neg h2, if_neg h3, if_neg h4, if_neg h5, if_pos h6]; rfl
   by_cases h7 : (3433489 : Int) = v.toInt
   · simp only [if_neg h0, if_neg h1, if_neg h2, if_neg h3, if_neg h4, if_neg h5, if_neg h6, if_pos h7]; rfl
   simp only [if_neg h0, if_neg h1, if_neg h2, if_neg h3, if_neg h4, if_neg h5, if_neg h6, if_neg h7]; rfl)))))
 (kn_ok
 (kl_ok (ok_aP (ok_aload_n dX1_townLine_92 rfl rfl)))
 (kl_ok (ok_aP (ok_ldcS (tx := "person") (dd := "") (by rw [hk]; rfl) dX1_townLine_93 rfl)))))))
 (kn_ok
 (kn_ok
 (kn_ok
 (kl_ok (ok_callV (List.forall_mem_cons.mpr ⟨run_V (C0 := "java/lang/String") rfl rfl (by rw [hm]; rfl) q1212 q1213 q1214 q103 q1215 ⟨nh_21, dl_36⟩ (by decide) dX1_townLine_95, (fun _ h => absurd h List.not_mem_nil)⟩) rfl))
 (kn_ok
 (kl_ok (ok_aP (ok_if_eq dX1_townLine_98 rfl rfl)))
 (kl_ok (ok_aP (ok_iconst dX1_townLine_101 rfl rfl)))))
 (kn_ok
 (kl_ok (ok_aP (ok_istore dX1_townLine_102 rfl)))
 (kn_ok
 (kl_ok (ok_aP (ok_goto dX1_townLine_104 rfl)))
 (kl_ok (ok_aP (ok_aload_n dX1_townLine_107 rfl rfl))))))
 (kn_ok
 (kn_ok
 (kl_ok (ok_aP (ok_ldcS (tx := "near") (dd := "") (by rw [hk]; rfl) dX1_townLine_108 rfl)))
 (kn_ok
 (kl_ok (ok_callV (List.forall_mem_cons.mpr ⟨run_V (C0 := "java/lang/String") rfl rfl (by rw [hm]; rfl) q1212 q1213 q1214 q103 q1215 ⟨nh_21, dl_36⟩ (by decide) dX1_townLine_110, (fun _ h => absurd h List.not_mem_nil)⟩) rfl))
 (kl_ok (ok_aP (ok_if_eq dX1_townLine_113 rfl rfl)))))
 (kn_ok
 (kn_ok
 (kl_ok (ok_aP (ok_iconst dX1_townLine_116 rfl rfl)))
 (kl_ok (ok_aP (ok_istore dX1_townLine_117 rfl))))
 (kn_ok
 (kl_ok (ok_aP (ok_goto dX1_townLine_119 rfl)))
 (kl_ok (ok_aP (ok_aload_n dX1_townLine_122 rfl rfl))))))))
 (kn_ok
 (kn_ok
 (kn_ok
 (kn_ok
 (kl_ok (ok_aP (ok_ldcS (tx := "law") (dd := "") (by rw [hk]; rfl) dX1_townLine_123 rfl)))
 (kn_ok
 (kl_ok (ok_callV (List.forall_mem_cons.mpr ⟨run_V (C0 := "java/lang/String") rfl rfl (by rw [hm]; rfl) q1212 q1213 q1214 q103 q1215 ⟨nh_21, dl_36⟩ (by decide) dX1_townLine_125, (fun _ h => absurd h List.not_mem_nil)⟩) rfl))
 (kl_ok (ok_aP (ok_if_eq dX1_townLine_128 rfl rfl)))))
 (kn_ok
 (kl_ok (ok_aP (ok_iconst dX1_townLine_131 rfl rfl)))
 (kn_ok
 (kl_ok (ok_aP (ok_istore dX1_townLine_132 rfl)))
 (kl_ok (ok_aP (ok_goto dX1_townLine_134 rfl))))))
 (kn_ok
 (kn_ok
 (kl_ok (ok_aP (ok_aload_n dX1_townLine_137 rfl rfl)))
 (kn_ok
 (kl_ok (ok_aP (ok_ldcS (tx := "give") (dd := "") (by rw [hk]; rfl) dX1_townLine_138 rfl)))
 (kl_ok (ok_callV (List.forall_mem_cons.mpr ⟨run_V (C0 := "java/lang/String") rfl rfl (by rw [hm]; rfl) q1212 q1213 q1214 q103 q1215 ⟨nh_21, dl_36⟩ (by decide) dX1_townLine_140, (fun _ h => absurd h List.not_mem_nil)⟩) rfl))))
 (kn_ok
 (kn_ok
 (kl_ok (ok_aP (ok_if_eq dX1_townLine_143 rfl rfl)))
 (kl_ok (ok_aP (ok_iconst dX1_townLine_146 rfl rfl))))
 (kn_ok
 (kl_ok (ok_aP (ok_istore dX1_townLine_147 rfl)))
 (kl_ok (ok_aP (ok_goto dX1_townLine_149 rfl)))))))
 (kn_ok
 (kn_ok
 (kn_ok
 (kl_ok (ok_aP (ok_aload_n dX1_townLine_152 rfl rfl)))
 (kn_ok
 (kl_ok (ok_aP (ok_ldcS (tx := "pass") (dd := "") (by rw [hk]; rfl) dX1_townLine_153 rfl)))
 (kl_ok (ok_callV (List.forall_mem_cons.mpr ⟨run_V (C0 := "java/lang/String") rfl rfl (by rw [hm]; rfl) q1212 q1213 q1214 q103 q1215 ⟨nh_21, dl_36⟩ (by decide) dX1_townLine_155, (fun _ h => absurd h List.not_mem_nil)⟩) rfl))))
 (kn_ok
 (kl_ok (ok_aP (ok_if_eq dX1_townLine_158 rfl rfl)))
 (kn_ok
 (kl_ok (ok_aP (ok_iconst dX1_townLine_161 rfl rfl)))
 (kl_ok (ok_aP (ok_istore dX1_townLine_162 rfl))))))
 (kn_ok
 (kn_ok
 (kl_ok (ok_aP (ok_goto dX1_townLine_164 rfl)))
 (kn_ok
 (kl_ok (ok_aP (ok_aload_n dX1_townLine_167 rfl rfl)))
 (kl_ok (ok_aP (ok_ldcS (tx := "call") (dd := "") (by rw [hk]; rfl) dX1_townLine_168 rfl)))))
 (kn_ok
 (kn_ok
 (kl_ok (ok_callV (List.forall_mem_cons.mpr ⟨run_V (C0 := "java/lang/String") rfl rfl (by rw [hm]; rfl) q1212 q1213 q1214 q103 q1215 ⟨nh_21, dl_36⟩ (by decide) dX1_townLine_170, (fun _ h => absurd h List.not_mem_nil)⟩) rfl))
 (kl_ok (ok_aP (ok_if_eq dX1_townLine_173 rfl rfl))))
 (kn_ok
 (kl_ok (ok_aP (ok_iconst dX1_townLine_176 rfl rfl)))
 (kl_ok (ok_aP (ok_istore dX1_townLine_177 rfl)))))))))
 (kn_ok
 (kn_ok
 (kn_ok
 (kn_ok
 (kn_ok
 (kl_ok (ok_aP (ok_goto dX1_townLine_179 rfl)))
 (kn_ok
 (kl_ok (ok_aP (ok_aload_n dX1_townLine_182 rfl rfl)))
 (kl_ok (ok_aP (ok_ldcS (tx := "days") (dd := "") (by rw [hk]; rfl) dX1_townLine_183 rfl)))))
 (kn_ok
 (kl_ok (ok_callV (List.forall_mem_cons.mpr ⟨run_V (C0 := "java/lang/String") rfl rfl (by rw [hm]; rfl) q1212 q1213 q1214 q103 q1215 ⟨nh_21, dl_36⟩ (by decide) dX1_townLine_185, (fun _ h => absurd h List.not_mem_nil)⟩) rfl))
 (kn_ok
 (kl_ok (ok_aP (ok_if_eq dX1_townLine_188 rfl rfl)))
 (kl_ok (ok_aP (ok_bipush dX1_townLine_191 (by decide +kernel) rfl))))))
 (kn_ok
 (kn_ok
 (kl_ok (ok_aP (ok_istore dX1_townLine_193 rfl)))
 (kn_ok
 (kl_ok (ok_aP (ok_goto dX1_townLine_195 rfl)))
 (kl_ok (ok_aP (ok_aload_n dX1_townLine_198 rfl rfl)))))
 (kn_ok
 (kn_ok
 (kl_ok (ok_aP (ok_ldcS (tx := "need") (dd := "") (by rw [hk]; rfl) dX1_townLine_199 rfl)))
 (kl_ok (ok_callV (List.forall_mem_cons.mpr ⟨run_V (C0 := "java/lang/String") rfl rfl (by rw [hm]; rfl) q1212 q1213 q1214 q103 q1215 ⟨nh_21, dl_36⟩ (by decide) dX1_townLine_201, (fun _ h => absurd h List.not_mem_nil)⟩) rfl)))
 (kn_ok
 (kl_ok (ok_aP (ok_if_eq dX1_townLine_204 rfl rfl)))
 (kl_ok (ok_aP (ok_bipush dX1_townLine_207 (by decide +kernel) rfl)))))))
 (kn_ok
 (kn_ok
 (kn_ok
 (kl_ok (ok_aP (ok_istore dX1_townLine_209 rfl)))
 (kn_ok
 (kl_ok (ok_aP (ok_iload dX1_townLine_211 rfl)))
 (kl_ok (ok_aP (ok_table (tg := [260, 312, 357, 369, 375, 415, 425, 438]) (td := 504) dX1_townLine_213 rfl rfl rfl rfl)))))
 (kn_ok
 (kl_ok (ok_aP (ok_aload_n dX1_townLine_260 rfl rfl)))
 (kn_ok
 (kl_ok (ok_aP (ok_getf fo_1 fs_rf (Or.inr ⟨_, q224⟩) dX1_townLine_261 rfl)))
 (kl_ok (ok_aP (ok_bipush dX1_townLine_264 (by decide +kernel) rfl))))))
 (kn_ok
 (kn_ok
 (kl_ok (ok_aP (ok_icmp_ne dX1_townLine_266 rfl rfl)))
 (kn_ok
 (kl_ok (ok_aP (ok_aload_n dX1_townLine_269 rfl rfl)))
 (kl_ok (ok_callV (List.forall_mem_cons.mpr ⟨run_V (C0 := "FavourTown$Reader") rfl rfl (by rw [hm]; rfl) q1122 q1123 q1124 q89 q1125 ⟨nh_20, dl_60⟩ (by decide) dX1_townLine_270, (fun _ h => absurd h List.not_mem_nil)⟩) rfl))))
 (kn_ok
 (kn_ok
 (kl_ok (ok_athrow dX1_townLine_273))
 (kl_ok (ok_aP (ok_aload_n dX1_townLine_274 rfl rfl))))
 (kn_ok
 (kl_ok (ok_aP (ok_getf fo_42 fs_rf (Or.inr ⟨_, q227⟩) dX1_townLine_275 rfl)))
 (kl_ok (ok_aP (ok_aload_n dX1_townLine_278 rfl rfl))))))))
 (kn_ok
 (kn_ok
 (kn_ok
 (kn_ok
 (kl_ok (ok_aP (ok_getf fo_1 fs_rf (Or.inr ⟨_, q224⟩) dX1_townLine_279 rfl)))
 (kn_ok
 (kl_ok (ok_aP (ok_aload_n dX1_townLine_282 rfl rfl)))
 (kl_ok (ok_aP (ok_iconst dX1_townLine_283 rfl rfl)))))
 (kn_ok
 (kl_ok (ok_aP (ok_sipush dX1_townLine_284 (by decide +kernel) rfl)))
 (kn_ok
 (kl_ok (ok_callV (List.forall_mem_cons.mpr ⟨run_V (C0 := "FavourTown$Reader") rfl rfl (by rw [hm]; rfl) q1227 q1228 q1229 q89 q1230 ⟨nh_20, dl_6⟩ (by decide) dX1_townLine_287, (fun _ h => absurd h List.not_mem_nil)⟩) rfl))
 (kl_ok (ok_hp (ok_iast dX1_townLine_290 rfl) le_iast)))))
 (kn_ok
 (kn_ok
 (kl_ok (ok_aP (ok_aload_n dX1_townLine_291 rfl rfl)))
 (kn_ok
 (kl_ok (ok_aP (ok_getf fo_9 fs_rf (Or.inr ⟨_, q231⟩) dX1_townLine_292 rfl)))
 (kl_ok (ok_aP (ok_aload_n dX1_townLine_295 rfl rfl)))))
 (kn_ok
 (kn_ok
 (kl_ok (ok_aP (ok_getf fo_1 fs_rf (Or.inr ⟨_, q224⟩) dX1_townLine_296 rfl)))
 (kl_ok (ok_aP (ok_iconst dX1_townLine_299 rfl rfl))))
 (kn_ok
 (kl_ok (ok_hp (ok_iast dX1_townLine_300 rfl) le_iast))
 (kl_ok (ok_aP (ok_aload_n dX1_townLine_301 rfl rfl)))))))
 (kn_ok
 (kn_ok
 (kn_ok
 (kl_ok (ok_aP (ok_dup dX1_townLine_302 rfl)))
 (kn_ok
 (kl_ok (ok_aP (ok_getf fo_1 fs_rf (Or.inr ⟨_, q224⟩) dX1_townLine_303 rfl)))
 (kl_ok (ok_aP (ok_iconst dX1_townLine_306 rfl rfl)))))
 (kn_ok
 (kn_ok
 (kl_ok (ok_aP (ok_iadd dX1_townLine_307 rfl)))
 (kl_ok (ok_hp (ok_putf fo_1 fs_rf fn_22 (Or.inr ⟨_, q224⟩) pd_0 vI_ok dX1_townLine_308 rfl) le_putf)))
 (kn_ok
 (kl_ok (ok_vret rfl dX1_townLine_311))
 (kl_ok (ok_aP (ok_aload_n dX1_townLine_312 rfl rfl))))))
 (kn_ok
 (kn_ok
 (kl_ok (ok_aP (ok_aload_n dX1_townLine_313 rfl rfl)))
 (kn_ok
 (kl_ok (ok_callV (List.forall_mem_cons.mpr ⟨run_V (C0 := "FavourTown") rfl rfl (by rw [hm]; rfl) q1232 q1234 qs10 q83 q1235 ⟨nh_0, dl_83⟩ (by decide) dX1_townLine_314, (fun _ h => absurd h List.not_mem_nil)⟩) rfl))
 (kl_ok (ok_aP (ok_istore dX1_townLine_317 rfl)))))
 (kn_ok
 (kn_ok
 (kl_ok (ok_aP (ok_aload_n dX1_townLine_319 rfl rfl)))
 (kl_ok (ok_aP (ok_aload_n dX1_townLine_320 rfl rfl))))
 (kn_ok
 (kl_ok (ok_aP (ok_iload dX1_townLine_321 rfl)))
 (kl_ok (ok_callV (List.forall_mem_cons.mpr ⟨run_V (C0 := "FavourTown") rfl rfl (by rw [hm]; rfl) q1236 q1238 qs11 q83 q1239 ⟨nh_0, dl_84⟩ (by decide) dX1_townLine_323, (fun _ h => absurd h List.not_mem_nil)⟩) rfl)))))))))
 (kn_ok
 (kn_ok
 (kn_ok
 (kn_ok
 (kn_ok
 (kn_ok
 (kl_ok (ok_aP (ok_istore dX1_townLine_326 rfl)))
 (kn_ok
 (kl_ok (ok_aP (ok_aload_n dX1_townLine_328 rfl rfl)))
 (kl_ok (ok_aP (ok_getf fo_39 fs_rf (Or.inr ⟨_, q229⟩) dX1_townLine_329 rfl)))))
 (kn_ok
 (kl_ok (ok_aP (ok_iload dX1_townLine_332 rfl)))
 (kn_ok
 (kl_ok (ok_aP (ok_dup2 dX1_townLine_334 rfl)))
 (kl_ok (ok_aP (ok_iald dX1_townLine_335 rfl))))))
 (kn_ok
 (kn_ok
 (kl_ok (ok_aP (ok_iconst dX1_townLine_336 rfl rfl)))
 (kn_ok
 (kl_ok (ok_aP (ok_iload dX1_townLine_337 rfl)))
 (kl_ok (ok_aP (ok_ishl dX1_townLine_339 rfl)))))
 (kn_ok
 (kn_ok
 (kl_ok (ok_aP (ok_ior dX1_townLine_340 rfl)))
 (kl_ok (ok_hp (ok_iast dX1_townLine_341 rfl) le_iast)))
 (kn_ok
 (kl_ok (ok_aP (ok_aload_n dX1_townLine_342 rfl rfl)))
 (kl_ok (ok_aP (ok_getf fo_39 fs_rf (Or.inr ⟨_, q229⟩) dX1_townLine_343 rfl)))))))
 (kn_ok
 (kn_ok
 (kn_ok
 (kl_ok (ok_aP (ok_iload dX1_townLine_346 rfl)))
 (kn_ok
 (kl_ok (ok_aP (ok_dup2 dX1_townLine_348 rfl)))
 (kl_ok (ok_aP (ok_iald dX1_townLine_349 rfl)))))
 (kn_ok
 (kl_ok (ok_aP (ok_iconst dX1_townLine_350 rfl rfl)))
 (kn_ok
 (kl_ok (ok_aP (ok_iload dX1_townLine_351 rfl)))
 (kl_ok (ok_aP (ok_ishl dX1_townLine_353 rfl))))))
 (kn_ok
 (kn_ok
 (kl_ok (ok_aP (ok_ior dX1_townLine_354 rfl)))
 (kn_ok
 (kl_ok (ok_hp (ok_iast dX1_townLine_355 rfl) le_iast))
 (kl_ok (ok_vret rfl dX1_townLine_356))))
 (kn_ok
 (kn_ok
 (kl_ok (ok_aP (ok_aload_n dX1_townLine_357 rfl rfl)))
 (kl_ok (ok_aP (ok_aload_n dX1_townLine_358 rfl rfl))))
 (kn_ok
 (kl_ok (ok_aP (ok_iconst dX1_townLine_359 rfl rfl)))
 (kl_ok (ok_aP (ok_bipush dX1_townLine_360 (by decide +kernel) rfl))))))))
 (kn_ok
 (kn_ok
 (kn_ok
 (kn_ok
 (kl_ok (ok_callV (List.forall_mem_cons.mpr ⟨run_V (C0 := "FavourTown$Reader") rfl rfl (by rw [hm]; rfl) q1227 q1228 q1229 q89 q1230 ⟨nh_20, dl_6⟩ (by decide) dX1_townLine_362, (fun _ h => absurd h List.not_mem_nil)⟩) rfl))
 (kn_ok
 (kl_ok (ok_hp (ok_putf fo_7 fs_rf fn_21 (Or.inr ⟨_, q220⟩) pd_0 vI_ok dX1_townLine_365 rfl) le_putf))
 (kl_ok (ok_vret rfl dX1_townLine_368))))
 (kn_ok
 (kl_ok (ok_aP (ok_aload_n dX1_townLine_369 rfl rfl)))
 (kn_ok
 (kl_ok (ok_aP (ok_aload_n dX1_townLine_370 rfl rfl)))
 (kl_ok (ok_callV (List.forall_mem_cons.mpr ⟨run_V (C0 := "FavourTown") rfl rfl (by rw [hm]; rfl) q1240 q1242 qs12 q83 q1243 ⟨nh_0, dl_82⟩ (by decide) dX1_townLine_371, (fun _ h => absurd h List.not_mem_nil)⟩) rfl)))))
 (kn_ok
 (kn_ok
 (kl_ok (ok_vret rfl dX1_townLine_374))
 (kn_ok
 (kl_ok (ok_aP (ok_aload_n dX1_townLine_375 rfl rfl)))
 (kl_ok (ok_aP (ok_aload_n dX1_townLine_376 rfl rfl)))))
 (kn_ok
 (kn_ok
 (kl_ok (ok_callV (List.forall_mem_cons.mpr ⟨run_V (C0 := "FavourTown") rfl rfl (by rw [hm]; rfl) q1264 q1266 qs14 q83 q1267 ⟨nh_0, dl_85⟩ (by decide) dX1_townLine_377, (fun _ h => absurd h List.not_mem_nil)⟩) rfl))
 (kl_ok (ok_aP (ok_astore dX1_townLine_380 rfl))))
 (kn_ok
 (kl_ok (ok_aP (ok_aload_n dX1_townLine_382 rfl rfl)))
 (kl_ok (ok_aP (ok_ldcS (tx := "to") (dd := "") (by rw [hk]; rfl) dX1_townLine_383 rfl)))))))
 (kn_ok
 (kn_ok
 (kn_ok
 (kl_ok (ok_callV (List.forall_mem_cons.mpr ⟨run_V (C0 := "FavourTown") rfl rfl (by rw [hm]; rfl) q1245 q1247 qs13 q83 q1248 ⟨nh_0, dl_52⟩ (by decide) dX1_townLine_385, (fun _ h => absurd h List.not_mem_nil)⟩) rfl))
 (kn_ok
 (kl_ok (ok_aP (ok_aload_n dX1_townLine_388 rfl rfl)))
 (kl_ok (ok_aP (ok_aload_n dX1_townLine_389 rfl rfl)))))
 (kn_ok
 (kl_ok (ok_callV (List.forall_mem_cons.mpr ⟨run_V (C0 := "FavourTown") rfl rfl (by rw [hm]; rfl) q1232 q1234 qs10 q83 q1235 ⟨nh_0, dl_83⟩ (by decide) dX1_townLine_390, (fun _ h => absurd h List.not_mem_nil)⟩) rfl))
 (kn_ok
 (kl_ok (ok_aP (ok_istore dX1_townLine_393 rfl)))
 (kl_ok (ok_aP (ok_aload dX1_townLine_395 rfl))))))
 (kn_ok
 (kn_ok
 (kl_ok (ok_aP (ok_getf fo_4 fs_rf (Or.inr ⟨_, q620⟩) dX1_townLine_397 rfl)))
 (kn_ok
 (kl_ok (ok_aP (ok_iload dX1_townLine_400 rfl)))
 (kl_ok (ok_aP (ok_icmp_eq dX1_townLine_402 rfl rfl)))))
 (kn_ok
 (kn_ok
 (kl_ok (ok_aP (ok_aload_n dX1_townLine_405 rfl rfl)))
 (kl_ok (ok_aP (ok_aload dX1_townLine_406 rfl))))
 (kn_ok
 (kl_ok (ok_aP (ok_iload dX1_townLine_408 rfl)))
 (kl_ok (ok_callV (List.forall_mem_cons.mpr ⟨run_V (C0 := "FavourTown$World") rfl rfl (by rw [hm]; rfl) q1268 q1269 q1270 q84 q1271 ⟨nh_3, dl_22⟩ (by decide) dX1_townLine_410, (fun _ h => absurd h List.not_mem_nil)⟩) rfl))))))))
 (kn_ok
 (kn_ok
 (kn_ok
 (kn_ok
 (kn_ok
 (kl_ok (ok_aP (ok_pop dX1_townLine_413 rfl)))
 (kn_ok
 (kl_ok (ok_vret rfl dX1_townLine_414))
 (kl_ok (ok_aP (ok_aload_n dX1_townLine_415 rfl rfl)))))
 (kn_ok
 (kl_ok (ok_aP (ok_aload_n dX1_townLine_416 rfl rfl)))
 (kn_ok
 (kl_ok (ok_callV (List.forall_mem_cons.mpr ⟨run_V (C0 := "FavourTown") rfl rfl (by rw [hm]; rfl) q1264 q1266 qs14 q83 q1267 ⟨nh_0, dl_85⟩ (by decide) dX1_townLine_417, (fun _ h => absurd h List.not_mem_nil)⟩) rfl))
 (kl_ok (ok_aP (ok_iconst dX1_townLine_420 rfl rfl))))))
 (kn_ok
 (kn_ok
 (kl_ok (ok_hp (ok_putf fo_4 fs_rf fn_10 (Or.inr ⟨_, q620⟩) pd_0 vI_ok dX1_townLine_421 rfl) le_putf))
 (kn_ok
 (kl_ok (ok_vret rfl dX1_townLine_424))
 (kl_ok (ok_aP (ok_aload_n dX1_townLine_425 rfl rfl)))))
 (kn_ok
 (kn_ok
 (kl_ok (ok_aP (ok_aload_n dX1_townLine_426 rfl rfl)))
 (kl_ok (ok_aP (ok_iconst dX1_townLine_427 rfl rfl))))
 (kn_ok
 (kl_ok (ok_aP (ok_bipush dX1_townLine_428 (by decide +kernel) rfl)))
 (kl_ok (ok_callV (List.forall_mem_cons.mpr ⟨run_V (C0 := "FavourTown$Reader") rfl rfl (by rw [hm]; rfl) q1227 q1228 q1229 q89 q1230 ⟨nh_20, dl_6⟩ (by decide) dX1_townLine_430, (fun _ h => absurd h List.not_mem_nil)⟩) rfl))))))
 (kn_ok
 (kn_ok
 (kn_ok
 (kl_ok (ok_callV (List.forall_mem_cons.mpr ⟨run_V (C0 := "FavourTown$World") rfl rfl (by rw [hm]; rfl) q1278 q1279 q1280 q84 q1281 ⟨nh_3, dl_10⟩ (by decide) dX1_townLine_433, (fun _ h => absurd h List.not_mem_nil)⟩) rfl))
 (kn_ok
 (kl_ok (ok_aP (ok_pop dX1_townLine_436 rfl)))
 (kl_ok (ok_vret rfl dX1_townLine_437))))
 (kn_ok
 (kl_ok (ok_aP (ok_aload_n dX1_townLine_438 rfl rfl)))
 (kn_ok
 (kl_ok (ok_aP (ok_getf fo_45 fs_rf (Or.inr ⟨_, q237⟩) dX1_townLine_439 rfl)))
 (kl_ok (ok_callV (List.forall_mem_cons.mpr ⟨run_V (C0 := "java/util/ArrayList") rfl rfl (by rw [hm]; rfl) q570 q401 q402 q87 q403 ⟨nh_4, dl_4⟩ (by decide) dX1_townLine_442, (fun _ h => absurd h List.not_mem_nil)⟩) rfl)))))
 (kn_ok
 (kn_ok
 (kl_ok (ok_aP (ok_bipush dX1_townLine_445 (by decide +kernel) rfl)))
 (kn_ok
 (kl_ok (ok_aP (ok_icmp_ne dX1_townLine_447 rfl rfl)))
 (kl_ok (ok_aP (ok_aload_n dX1_townLine_450 rfl rfl)))))
 (kn_ok
 (kn_ok
 (kl_ok (ok_callV (List.forall_mem_cons.mpr ⟨run_V (C0 := "FavourTown$Reader") rfl rfl (by rw [hm]; rfl) q1122 q1123 q1124 q89 q1125 ⟨nh_20, dl_60⟩ (by decide) dX1_townLine_451, (fun _ h => absurd h List.not_mem_nil)⟩) rfl))
 (kl_ok (ok_athrow dX1_townLine_454)))
 (kn_ok
 (kl_ok (ok_aP (ok_aload_n dX1_townLine_455 rfl rfl)))
 (kl_ok (ok_aP (ok_aload_n dX1_townLine_456 rfl rfl))))))))
 (kn_ok
 (kn_ok
 (kn_ok
 (kn_ok
 (kl_ok (ok_callV (List.forall_mem_cons.mpr ⟨run_V (C0 := "FavourTown") rfl rfl (by rw [hm]; rfl) q1232 q1234 qs10 q83 q1235 ⟨nh_0, dl_83⟩ (by decide) dX1_townLine_457, (fun _ h => absurd h List.not_mem_nil)⟩) rfl))
 (kn_ok
 (kl_ok (ok_aP (ok_istore dX1_townLine_460 rfl)))
 (kl_ok (ok_aP (ok_aload_n dX1_townLine_462 rfl rfl)))))
 (kn_ok
 (kl_ok (ok_aP (ok_ldcS (tx := "of") (dd := "") (by rw [hk]; rfl) dX1_townLine_463 rfl)))
 (kn_ok
 (kl_ok (ok_callV (List.forall_mem_cons.mpr ⟨run_V (C0 := "FavourTown") rfl rfl (by rw [hm]; rfl) q1245 q1247 qs13 q83 q1248 ⟨nh_0, dl_52⟩ (by decide) dX1_townLine_465, (fun _ h => absurd h List.not_mem_nil)⟩) rfl))
 (kl_ok (ok_aP (ok_aload_n dX1_townLine_468 rfl rfl))))))
 (kn_ok
 (kn_ok
 (kl_ok (ok_aP (ok_aload_n dX1_townLine_469 rfl rfl)))
 (kn_ok
 (kl_ok (ok_aP (ok_iload dX1_townLine_470 rfl)))
 (kl_ok (ok_callV (List.forall_mem_cons.mpr ⟨run_V (C0 := "FavourTown") rfl rfl (by rw [hm]; rfl) q1236 q1238 qs11 q83 q1239 ⟨nh_0, dl_84⟩ (by decide) dX1_townLine_472, (fun _ h => absurd h List.not_mem_nil)⟩) rfl))))
 (kn_ok
 (kn_ok
 (kl_ok (ok_aP (ok_istore dX1_townLine_475 rfl)))
 (kl_ok (ok_aP (ok_aload_n dX1_townLine_477 rfl rfl))))
 (kn_ok
 (kl_ok (ok_aP (ok_getf fo_45 fs_rf (Or.inr ⟨_, q237⟩) dX1_townLine_478 rfl)))
 (kl_ok (ok_hp (ok_new (by decide +kernel) rfl q1283 q1284 q115 dX1_townLine_481 rfl) le_new))))))
 (kn_ok
 (kn_ok
 (kn_ok
 (kl_ok (ok_aP (ok_dup dX1_townLine_484 rfl)))
 (kn_ok
 (kl_ok (ok_aP (ok_iload dX1_townLine_485 rfl)))
 (kl_ok (ok_aP (ok_iload dX1_townLine_487 rfl)))))
 (kn_ok
 (kn_ok
 (kl_ok (ok_aP (ok_aload_n dX1_townLine_489 rfl rfl)))
 (kl_ok (ok_aP (ok_iconst dX1_townLine_490 rfl rfl))))
 (kn_ok
 (kl_ok (ok_aP (ok_bipush dX1_townLine_491 (by decide +kernel) rfl)))
 (kl_ok (ok_callV (List.forall_mem_cons.mpr ⟨run_V (C0 := "FavourTown$Reader") rfl rfl (by rw [hm]; rfl) q1227 q1228 q1229 q89 q1230 ⟨nh_20, dl_6⟩ (by decide) dX1_townLine_493, (fun _ h => absurd h List.not_mem_nil)⟩) rfl)))))
 (kn_ok
 (kn_ok
 (kl_ok (ok_callI (run_I (by rw [hm]; rfl) q1285 q1286 q115 q1287 rfl ⟨nh_39, dl_46⟩ (by decide) dX1_townLine_496) rfl))
 (kn_ok
 (kl_ok (ok_callV (List.forall_mem_cons.mpr ⟨run_V (C0 := "java/util/ArrayList") rfl rfl (by rw [hm]; rfl) q1305 q659 q660 q87 q661 ⟨nh_4, dl_36⟩ (by decide) dX1_townLine_499, (fun _ h => absurd h List.not_mem_nil)⟩) rfl))
 (kl_ok (ok_aP (ok_pop dX1_townLine_502 rfl)))))
 (kn_ok
 (kn_ok
 (kl_ok (ok_vret rfl dX1_townLine_503))
 (kl_ok (ok_aP (ok_aload_n dX1_townLine_504 rfl rfl))))
 (kn_ok
 (kl_ok (ok_callV (List.forall_mem_cons.mpr ⟨run_V (C0 := "FavourTown$Reader") rfl rfl (by rw [hm]; rfl) q1122 q1123 q1124 q89 q1125 ⟨nh_20, dl_60⟩ (by decide) dX1_townLine_505, (fun _ h => absurd h List.not_mem_nil)⟩) rfl))
 (kl_ok (ok_athrow dX1_townLine_508)))))))))
/-- 42: FavourTown.someone(LFavourTown$World;)I -/
noncomputable def k_X1_someone : Nat → Option AOp :=
 tn 6 (tn 4 (tn 1 (tl 0 (aP (f_aload 0 1)))
  (tl 1 (aP (f_getf [0] 2 4))))
  (tn 5 (tl 4 (aP (f_const (.int (nI 0)) 5)))
  (tl 5 (aP (f_aload 1 6)))))
  (tn 10 (tn 9 (tl 6 (aP (f_getf [1] 3 9)))
  (tl 9 (aP (f_const (.int (nI 1)) 10))))
  (tn 11 (tl 10 (aP (f_bin (fun x y => x - y) 11)))
  (tn 14 (tl 11 (o_callV (lkN [(2, 134)]) 2 14))
  (tl 14 (o_iret (fun _ => true))))))
theorem kok_X1_someone {γ : AG} (hm : γ.2.2.2.2.1 = mTab) (hk : γ.2.2.2.2.2 = kTab) : KOK γ m_X1_someone k_X1_someone :=
 kn_ok
 (kn_ok
 (kn_ok
 (kl_ok (ok_aP (ok_aload_n dX1_someone_0 rfl rfl)))
 (kl_ok (ok_aP (ok_getf fo_47 fs_rf (Or.inl q355) dX1_someone_1 rfl))))
 (kn_ok
 (kl_ok (ok_aP (ok_iconst dX1_someone_4 rfl rfl)))
 (kl_ok (ok_aP (ok_aload_n dX1_someone_5 rfl rfl)))))
 (kn_ok
 (kn_ok
 (kl_ok (ok_aP (ok_getf fo_1 fs_rf (Or.inr ⟨_, q224⟩) dX1_someone_6 rfl)))
 (kl_ok (ok_aP (ok_iconst dX1_someone_9 rfl rfl))))
 (kn_ok
 (kl_ok (ok_aP (ok_isub dX1_someone_10 rfl)))
 (kn_ok
 (kl_ok (ok_callV (List.forall_mem_cons.mpr ⟨run_V (C0 := "FavourTown$Reader") rfl rfl (by rw [hm]; rfl) q1227 q1228 q1229 q89 q1230 ⟨nh_20, dl_6⟩ (by decide) dX1_someone_11, (fun _ h => absurd h List.not_mem_nil)⟩) rfl))
 (kl_ok (ok_iret rfl dX1_someone_14)))))
/-- 43: FavourTown.another(LFavourTown$World;I)I -/
noncomputable def k_X1_another : Nat → Option AOp :=
 tn 8 (tn 5 (tn 1 (tl 0 (aP (f_aload 0 1)))
  (tn 2 (tl 1 (aP (f_aload 1 2)))
  (tl 2 (o_callV (lkN [(0, 42)]) 1 5))))
  (tn 6 (tl 5 (aP (f_istore 3 6)))
  (tn 7 (tl 6 (aP (f_iload 3 7)))
  (tl 7 (aP (f_iload 2 8))))))
  (tn 15 (tn 11 (tl 8 (aP (f_icmp (fun x y => decide (¬ x = y)) 19 11)))
  (tn 12 (tl 11 (aP (f_aload 0 12)))
  (tl 12 (aP (f_getf [0] 2 15)))))
  (tn 19 (tn 18 (tl 15 (o_callV (lkN [(2, 133)]) 0 18))
  (tl 18 (o_athrow [17, 22, 23, 24, 25])))
  (tn 20 (tl 19 (aP (f_iload 3 20)))
  (tl 20 (o_iret (fun _ => true))))))
theorem kok_X1_another {γ : AG} (hm : γ.2.2.2.2.1 = mTab) (hk : γ.2.2.2.2.2 = kTab) : KOK γ m_X1_another k_X1_another :=
 kn_ok
 (kn_ok
 (kn_ok
 (kl_ok (ok_aP (ok_aload_n dX1_another_0 rfl rfl)))
 (kn_ok
 (kl_ok (ok_aP (ok_aload_n dX1_another_1 rfl rfl)))
 (kl_ok (ok_callV (List.forall_mem_cons.mpr ⟨run_V (C0 := "FavourTown") rfl rfl (by rw [hm]; rfl) q1232 q1234 qs10 q83 q1235 ⟨nh_0, dl_83⟩ (by decide) dX1_another_2, (fun _ h => absurd h List.not_mem_nil)⟩) rfl))))
 (kn_ok
 (kl_ok (ok_aP (ok_istore_n dX1_another_5 rfl rfl)))
 (kn_ok
 (kl_ok (ok_aP (ok_iload_n dX1_another_6 rfl rfl)))
 (kl_ok (ok_aP (ok_iload_n dX1_another_7 rfl rfl))))))
 (kn_ok
 (kn_ok
 (kl_ok (ok_aP (ok_icmp_ne dX1_another_8 rfl rfl)))
 (kn_ok
 (kl_ok (ok_aP (ok_aload_n dX1_another_11 rfl rfl)))
 (kl_ok (ok_aP (ok_getf fo_47 fs_rf (Or.inl q355) dX1_another_12 rfl)))))
 (kn_ok
 (kn_ok
 (kl_ok (ok_callV (List.forall_mem_cons.mpr ⟨run_V (C0 := "FavourTown$Reader") rfl rfl (by rw [hm]; rfl) q1122 q1123 q1124 q89 q1125 ⟨nh_20, dl_60⟩ (by decide) dX1_another_15, (fun _ h => absurd h List.not_mem_nil)⟩) rfl))
 (kl_ok (ok_athrow dX1_another_18)))
 (kn_ok
 (kl_ok (ok_aP (ok_iload_n dX1_another_19 rfl rfl)))
 (kl_ok (ok_iret rfl dX1_another_20)))))
/-- 44: FavourTown.givesTold(LFavourTown$World;)V -/
noncomputable def k_X1_givesTold : Nat → Option AOp :=
 tn 37 (tn 15 (tn 7 (tn 2 (tn 1 (tl 0 (aP (f_aload 0 1)))
  (tl 1 (aP (f_aload 1 2))))
  (tn 5 (tl 2 (o_callV (lkN [(0, 42)]) 1 5))
  (tn 6 (tl 5 (aP (f_istore 2 6)))
  (tl 6 (aP (f_aload 0 7))))))
  (tn 12 (tn 9 (tl 7 (aP (f_stat 18 9)))
  (tl 9 (o_callV (lkN [(0, 45)]) 1 12)))
  (tn 13 (tl 12 (aP (f_aload 0 13)))
  (tn 14 (tl 13 (aP (f_aload 1 14)))
  (tl 14 (aP (f_iload 2 15)))))))
  (tn 24 (tn 19 (tn 18 (tl 15 (o_callV (lkN [(0, 43)]) 2 18))
  (tl 18 (aP (f_istore 3 19))))
  (tn 20 (tl 19 (aP (f_aload 0 20)))
  (tn 23 (tl 20 (aP (f_getf [0] 2 23)))
  (tl 23 (aP (f_const (.int (nI 1)) 24))))))
  (tn 31 (tn 26 (tl 24 (aP (f_const (.int (nI 99)) 26)))
  (tn 29 (tl 26 (o_callV (lkN [(2, 134)]) 2 29))
  (tl 29 (aP (f_istore 4 31)))))
  (tn 32 (tl 31 (aP (f_aload 0 32)))
  (tn 35 (tl 32 (aP (f_getf [0] 2 35)))
  (tl 35 (aP (f_stat 20 37))))))))
  (tn 60 (tn 48 (tn 43 (tn 40 (tl 37 (o_callV (lkN [(2, 135)]) 1 40))
  (tl 40 (aP (f_if (fun x => decide (x = 0)) 56 43))))
  (tn 44 (tl 43 (aP (f_aload 0 44)))
  (tn 47 (tl 44 (aP (f_getf [0] 2 47)))
  (tl 47 (aP (f_const (.int (nI 1)) 48))))))
  (tn 56 (tn 50 (tl 48 (aP (f_const (.int (nI 99)) 50)))
  (tn 53 (tl 50 (o_callV (lkN [(2, 134)]) 2 53))
  (tl 53 (aP (f_goto 57)))))
  (tn 57 (tl 56 (aP (f_const (.int (nI 0)) 57)))
  (tn 59 (tl 57 (aP (f_istore 5 59)))
  (tl 59 (aP (f_aload 1 60)))))))
  (tn 67 (tn 62 (tn 61 (tl 60 (aP (f_iload 2 61)))
  (tl 61 (aP (f_iload 3 62))))
  (tn 64 (tl 62 (aP (f_iload 4 64)))
  (tn 66 (tl 64 (aP (f_iload 5 66)))
  (tl 66 (aP (f_aload 0 67))))))
  (tn 75 (tn 70 (tl 67 (aP (f_getf [0] 2 70)))
  (tn 72 (tl 70 (aP (f_stat 21 72)))
  (tl 72 (o_callV (lkN [(2, 135)]) 1 75))))
  (tn 78 (tl 75 (o_callV (lkN [(1, 104)]) 5 78))
  (tn 79 (tl 78 (aP (f_pop 79)))
  (tl 79 (o_vret)))))))
theorem kok_X1_givesTold {γ : AG} (hm : γ.2.2.2.2.1 = mTab) (hk : γ.2.2.2.2.2 = kTab) : KOK γ m_X1_givesTold k_X1_givesTold :=
 kn_ok
 (kn_ok
 (kn_ok
 (kn_ok
 (kn_ok
 (kl_ok (ok_aP (ok_aload_n dX1_givesTold_0 rfl rfl)))
 (kl_ok (ok_aP (ok_aload_n dX1_givesTold_1 rfl rfl))))
 (kn_ok
 (kl_ok (ok_callV (List.forall_mem_cons.mpr ⟨run_V (C0 := "FavourTown") rfl rfl (by rw [hm]; rfl) q1232 q1234 qs10 q83 q1235 ⟨nh_0, dl_83⟩ (by decide) dX1_givesTold_2, (fun _ h => absurd h List.not_mem_nil)⟩) rfl))
 (kn_ok
 (kl_ok (ok_aP (ok_istore_n dX1_givesTold_5 rfl rfl)))
 (kl_ok (ok_aP (ok_aload_n dX1_givesTold_6 rfl rfl))))))
 (kn_ok
 (kn_ok
 (kl_ok (ok_aP (ok_ldcS (tx := "to") (dd := "") (by rw [hk]; rfl) dX1_givesTold_7 rfl)))
 (kl_ok (ok_callV (List.forall_mem_cons.mpr ⟨run_V (C0 := "FavourTown") rfl rfl (by rw [hm]; rfl) q1245 q1247 qs13 q83 q1248 ⟨nh_0, dl_52⟩ (by decide) dX1_givesTold_9, (fun _ h => absurd h List.not_mem_nil)⟩) rfl)))
 (kn_ok
 (kl_ok (ok_aP (ok_aload_n dX1_givesTold_12 rfl rfl)))
 (kn_ok
 (kl_ok (ok_aP (ok_aload_n dX1_givesTold_13 rfl rfl)))
 (kl_ok (ok_aP (ok_iload_n dX1_givesTold_14 rfl rfl)))))))
 (kn_ok
 (kn_ok
 (kn_ok
 (kl_ok (ok_callV (List.forall_mem_cons.mpr ⟨run_V (C0 := "FavourTown") rfl rfl (by rw [hm]; rfl) q1236 q1238 qs11 q83 q1239 ⟨nh_0, dl_84⟩ (by decide) dX1_givesTold_15, (fun _ h => absurd h List.not_mem_nil)⟩) rfl))
 (kl_ok (ok_aP (ok_istore_n dX1_givesTold_18 rfl rfl))))
 (kn_ok
 (kl_ok (ok_aP (ok_aload_n dX1_givesTold_19 rfl rfl)))
 (kn_ok
 (kl_ok (ok_aP (ok_getf fo_47 fs_rf (Or.inl q355) dX1_givesTold_20 rfl)))
 (kl_ok (ok_aP (ok_iconst dX1_givesTold_23 rfl rfl))))))
 (kn_ok
 (kn_ok
 (kl_ok (ok_aP (ok_bipush dX1_givesTold_24 (by decide +kernel) rfl)))
 (kn_ok
 (kl_ok (ok_callV (List.forall_mem_cons.mpr ⟨run_V (C0 := "FavourTown$Reader") rfl rfl (by rw [hm]; rfl) q1227 q1228 q1229 q89 q1230 ⟨nh_20, dl_6⟩ (by decide) dX1_givesTold_26, (fun _ h => absurd h List.not_mem_nil)⟩) rfl))
 (kl_ok (ok_aP (ok_istore dX1_givesTold_29 rfl)))))
 (kn_ok
 (kl_ok (ok_aP (ok_aload_n dX1_givesTold_31 rfl rfl)))
 (kn_ok
 (kl_ok (ok_aP (ok_getf fo_47 fs_rf (Or.inl q355) dX1_givesTold_32 rfl)))
 (kl_ok (ok_aP (ok_ldcS (tx := "for") (dd := "") (by rw [hk]; rfl) dX1_givesTold_35 rfl))))))))
 (kn_ok
 (kn_ok
 (kn_ok
 (kn_ok
 (kl_ok (ok_callV (List.forall_mem_cons.mpr ⟨run_V (C0 := "FavourTown$Reader") rfl rfl (by rw [hm]; rfl) q1250 q1251 q1252 q89 q1253 ⟨nh_20, dl_48⟩ (by decide) dX1_givesTold_37, (fun _ h => absurd h List.not_mem_nil)⟩) rfl))
 (kl_ok (ok_aP (ok_if_eq dX1_givesTold_40 rfl rfl))))
 (kn_ok
 (kl_ok (ok_aP (ok_aload_n dX1_givesTold_43 rfl rfl)))
 (kn_ok
 (kl_ok (ok_aP (ok_getf fo_47 fs_rf (Or.inl q355) dX1_givesTold_44 rfl)))
 (kl_ok (ok_aP (ok_iconst dX1_givesTold_47 rfl rfl))))))
 (kn_ok
 (kn_ok
 (kl_ok (ok_aP (ok_bipush dX1_givesTold_48 (by decide +kernel) rfl)))
 (kn_ok
 (kl_ok (ok_callV (List.forall_mem_cons.mpr ⟨run_V (C0 := "FavourTown$Reader") rfl rfl (by rw [hm]; rfl) q1227 q1228 q1229 q89 q1230 ⟨nh_20, dl_6⟩ (by decide) dX1_givesTold_50, (fun _ h => absurd h List.not_mem_nil)⟩) rfl))
 (kl_ok (ok_aP (ok_goto dX1_givesTold_53 rfl)))))
 (kn_ok
 (kl_ok (ok_aP (ok_iconst dX1_givesTold_56 rfl rfl)))
 (kn_ok
 (kl_ok (ok_aP (ok_istore dX1_givesTold_57 rfl)))
 (kl_ok (ok_aP (ok_aload_n dX1_givesTold_59 rfl rfl)))))))
 (kn_ok
 (kn_ok
 (kn_ok
 (kl_ok (ok_aP (ok_iload_n dX1_givesTold_60 rfl rfl)))
 (kl_ok (ok_aP (ok_iload_n dX1_givesTold_61 rfl rfl))))
 (kn_ok
 (kl_ok (ok_aP (ok_iload dX1_givesTold_62 rfl)))
 (kn_ok
 (kl_ok (ok_aP (ok_iload dX1_givesTold_64 rfl)))
 (kl_ok (ok_aP (ok_aload_n dX1_givesTold_66 rfl rfl))))))
 (kn_ok
 (kn_ok
 (kl_ok (ok_aP (ok_getf fo_47 fs_rf (Or.inl q355) dX1_givesTold_67 rfl)))
 (kn_ok
 (kl_ok (ok_aP (ok_ldcS (tx := "forced") (dd := "") (by rw [hk]; rfl) dX1_givesTold_70 rfl)))
 (kl_ok (ok_callV (List.forall_mem_cons.mpr ⟨run_V (C0 := "FavourTown$Reader") rfl rfl (by rw [hm]; rfl) q1250 q1251 q1252 q89 q1253 ⟨nh_20, dl_48⟩ (by decide) dX1_givesTold_72, (fun _ h => absurd h List.not_mem_nil)⟩) rfl))))
 (kn_ok
 (kl_ok (ok_callV (List.forall_mem_cons.mpr ⟨run_V (C0 := "FavourTown$World") rfl rfl (by rw [hm]; rfl) q1257 q1258 q1259 q84 q1260 ⟨nh_3, dl_8⟩ (by decide) dX1_givesTold_75, (fun _ h => absurd h List.not_mem_nil)⟩) rfl))
 (kn_ok
 (kl_ok (ok_aP (ok_pop dX1_givesTold_78 rfl)))
 (kl_ok (ok_vret rfl dX1_givesTold_79)))))))
/-- 45: FavourTown.word(Ljava/lang/String;)V -/
noncomputable def k_X1_word : Nat → Option AOp :=
 tn 11 (tn 4 (tn 1 (tl 0 (aP (f_aload 0 1)))
  (tl 1 (aP (f_getf [0] 2 4))))
  (tn 7 (tl 4 (o_callV (lkN [(2, 132)]) 0 7))
  (tn 8 (tl 7 (aP (f_aload 1 8)))
  (tl 8 (o_callV (lkN [(21, 285)]) 1 11)))))
  (tn 18 (tn 14 (tl 11 (aP (f_if (fun x => decide (¬ x = 0)) 22 14)))
  (tn 15 (tl 14 (aP (f_aload 0 15)))
  (tl 15 (aP (f_getf [0] 2 18)))))
  (tn 21 (tl 18 (o_callV (lkN [(2, 133)]) 0 21))
  (tn 22 (tl 21 (o_athrow [17, 22, 23, 24, 25]))
  (tl 22 (o_vret)))))
theorem kok_X1_word {γ : AG} (hm : γ.2.2.2.2.1 = mTab) (hk : γ.2.2.2.2.2 = kTab) : KOK γ m_X1_word k_X1_word :=
 kn_ok
 (kn_ok
 (kn_ok
 (kl_ok (ok_aP (ok_aload_n dX1_word_0 rfl rfl)))
 (kl_ok (ok_aP (ok_getf fo_47 fs_rf (Or.inl q355) dX1_word_1 rfl))))
 (kn_ok
 (kl_ok (ok_callV (List.forall_mem_cons.mpr ⟨run_V (C0 := "FavourTown$Reader") rfl rfl (by rw [hm]; rfl) q799 q800 q801 q89 q802 ⟨nh_20, dl_62⟩ (by decide) dX1_word_4, (fun _ h => absurd h List.not_mem_nil)⟩) rfl))
 (kn_ok
 (kl_ok (ok_aP (ok_aload_n dX1_word_7 rfl rfl)))
 (kl_ok (ok_callV (List.forall_mem_cons.mpr ⟨run_V (C0 := "java/lang/String") rfl rfl (by rw [hm]; rfl) q1212 q1213 q1214 q103 q1215 ⟨nh_21, dl_36⟩ (by decide) dX1_word_8, (fun _ h => absurd h List.not_mem_nil)⟩) rfl)))))
 (kn_ok
 (kn_ok
 (kl_ok (ok_aP (ok_if_ne dX1_word_11 rfl rfl)))
 (kn_ok
 (kl_ok (ok_aP (ok_aload_n dX1_word_14 rfl rfl)))
 (kl_ok (ok_aP (ok_getf fo_47 fs_rf (Or.inl q355) dX1_word_15 rfl)))))
 (kn_ok
 (kl_ok (ok_callV (List.forall_mem_cons.mpr ⟨run_V (C0 := "FavourTown$Reader") rfl rfl (by rw [hm]; rfl) q1122 q1123 q1124 q89 q1125 ⟨nh_20, dl_60⟩ (by decide) dX1_word_18, (fun _ h => absurd h List.not_mem_nil)⟩) rfl))
 (kn_ok
 (kl_ok (ok_athrow dX1_word_21))
 (kl_ok (ok_vret rfl dX1_word_22)))))
/-- 46: FavourTown.favourTold(LFavourTown$World;)LFavourTown$Favour; -/
noncomputable def k_X1_favourTold : Nat → Option AOp :=
 tn 13 (tn 5 (tn 1 (tl 0 (aP (f_aload 1 1)))
  (tn 4 (tl 1 (aP (f_getf [1] 9 4)))
  (tl 4 (aP (f_aload 0 5)))))
  (tn 9 (tn 8 (tl 5 (aP (f_getf [0] 2 8)))
  (tl 8 (aP (f_const (.int (nI 0)) 9))))
  (tn 10 (tl 9 (aP (f_aload 1 10)))
  (tl 10 (aP (f_getf [1] 9 13))))))
  (tn 18 (tn 16 (tl 13 (o_callV (lkN [(19, 113)]) 0 16))
  (tn 17 (tl 16 (aP (f_const (.int (nI 1)) 17)))
  (tl 17 (aP (f_bin (fun x y => x - y) 18)))))
  (tn 24 (tn 21 (tl 18 (o_callV (lkN [(2, 134)]) 2 21))
  (tl 21 (o_callV (lkN [(19, 114)]) 1 24)))
  (tn 27 (tl 24 (aP (f_cast [5, 6] [] 27)))
  (tl 27 (o_aret)))))
theorem kok_X1_favourTold {γ : AG} (hm : γ.2.2.2.2.1 = mTab) (hk : γ.2.2.2.2.2 = kTab) : KOK γ m_X1_favourTold k_X1_favourTold :=
 kn_ok
 (kn_ok
 (kn_ok
 (kl_ok (ok_aP (ok_aload_n dX1_favourTold_0 rfl rfl)))
 (kn_ok
 (kl_ok (ok_aP (ok_getf fo_2 fs_rf (Or.inr ⟨_, q235⟩) dX1_favourTold_1 rfl)))
 (kl_ok (ok_aP (ok_aload_n dX1_favourTold_4 rfl rfl)))))
 (kn_ok
 (kn_ok
 (kl_ok (ok_aP (ok_getf fo_47 fs_rf (Or.inl q355) dX1_favourTold_5 rfl)))
 (kl_ok (ok_aP (ok_iconst dX1_favourTold_8 rfl rfl))))
 (kn_ok
 (kl_ok (ok_aP (ok_aload_n dX1_favourTold_9 rfl rfl)))
 (kl_ok (ok_aP (ok_getf fo_2 fs_rf (Or.inr ⟨_, q235⟩) dX1_favourTold_10 rfl))))))
 (kn_ok
 (kn_ok
 (kl_ok (ok_callV (List.forall_mem_cons.mpr ⟨run_V (C0 := "java/util/ArrayList") rfl rfl (by rw [hm]; rfl) q570 q401 q402 q87 q403 ⟨nh_4, dl_4⟩ (by decide) dX1_favourTold_13, (fun _ h => absurd h List.not_mem_nil)⟩) rfl))
 (kn_ok
 (kl_ok (ok_aP (ok_iconst dX1_favourTold_16 rfl rfl)))
 (kl_ok (ok_aP (ok_isub dX1_favourTold_17 rfl)))))
 (kn_ok
 (kn_ok
 (kl_ok (ok_callV (List.forall_mem_cons.mpr ⟨run_V (C0 := "FavourTown$Reader") rfl rfl (by rw [hm]; rfl) q1227 q1228 q1229 q89 q1230 ⟨nh_20, dl_6⟩ (by decide) dX1_favourTold_18, (fun _ h => absurd h List.not_mem_nil)⟩) rfl))
 (kl_ok (ok_callV (List.forall_mem_cons.mpr ⟨run_V (C0 := "java/util/ArrayList") rfl rfl (by rw [hm]; rfl) q571 q405 q406 q87 q407 ⟨nh_4, dl_21⟩ (by decide) dX1_favourTold_21, (fun _ h => absurd h List.not_mem_nil)⟩) rfl)))
 (kn_ok
 (kl_ok (ok_aP (ok_cast q572 (List.forall_mem_cons.mpr ⟨Or.inr ⟨_, rfl, rfl⟩, (List.forall_mem_cons.mpr ⟨Or.inl ⟨_, rfl, q2339⟩, (fun _ h => absurd h List.not_mem_nil)⟩)⟩) (fun _ h => absurd h List.not_mem_nil) dX1_favourTold_24 rfl)))
 (kl_ok (ok_aret rfl (Or.inl ⟨_, rfl⟩) dX1_favourTold_27)))))
/-- 47: FavourTown.goesOn()Z -/
noncomputable def k_X1_goesOn : Nat → Option AOp :=
 tn 16 (tn 10 (tn 4 (tn 1 (tl 0 (aP (f_aload 0 1)))
  (tl 1 (aP (f_getf [0] 2 4))))
  (tn 7 (tl 4 (o_callV (lkN [(2, 129)]) 0 7))
  (tl 7 (aP (f_if (fun x => decide (x = 0)) 12 10)))))
  (tn 12 (tn 11 (tl 10 (aP (f_const (.int (nI 0)) 11)))
  (tl 11 (o_iret (fun x => x == 0 || x == 1))))
  (tn 13 (tl 12 (aP (f_aload 0 13)))
  (tl 13 (aP (f_getf [0] 2 16))))))
  (tn 25 (tn 21 (tn 18 (tl 16 (aP (f_const (.int (nI 59)) 18)))
  (tl 18 (o_callV (lkN [(2, 136)]) 1 21)))
  (tn 24 (tl 21 (aP (f_if (fun x => decide (x = 0)) 26 24)))
  (tl 24 (aP (f_const (.int (nI 1)) 25)))))
  (tn 27 (tn 26 (tl 25 (o_iret (fun x => x == 0 || x == 1)))
  (tl 26 (aP (f_aload 0 27))))
  (tn 30 (tl 27 (aP (f_getf [0] 2 30)))
  (tn 33 (tl 30 (o_callV (lkN [(2, 133)]) 0 33))
  (tl 33 (o_athrow [17, 22, 23, 24, 25]))))))
theorem kok_X1_goesOn {γ : AG} (hm : γ.2.2.2.2.1 = mTab) (hk : γ.2.2.2.2.2 = kTab) : KOK γ m_X1_goesOn k_X1_goesOn :=
 kn_ok
 (kn_ok
 (kn_ok
 (kn_ok
 (kl_ok (ok_aP (ok_aload_n dX1_goesOn_0 rfl rfl)))
 (kl_ok (ok_aP (ok_getf fo_47 fs_rf (Or.inl q355) dX1_goesOn_1 rfl))))
 (kn_ok
 (kl_ok (ok_callV (List.forall_mem_cons.mpr ⟨run_V (C0 := "FavourTown$Reader") rfl rfl (by rw [hm]; rfl) q783 q784 q785 q89 q786 ⟨nh_20, dl_16⟩ (by decide) dX1_goesOn_4, (fun _ h => absurd h List.not_mem_nil)⟩) rfl))
 (kl_ok (ok_aP (ok_if_eq dX1_goesOn_7 rfl rfl)))))
 (kn_ok
 (kn_ok
 (kl_ok (ok_aP (ok_iconst dX1_goesOn_10 rfl rfl)))
 (kl_ok (ok_zret rfl z_boolean dX1_goesOn_11)))
 (kn_ok
 (kl_ok (ok_aP (ok_aload_n dX1_goesOn_12 rfl rfl)))
 (kl_ok (ok_aP (ok_getf fo_47 fs_rf (Or.inl q355) dX1_goesOn_13 rfl))))))
 (kn_ok
 (kn_ok
 (kn_ok
 (kl_ok (ok_aP (ok_bipush dX1_goesOn_16 (by decide +kernel) rfl)))
 (kl_ok (ok_callV (List.forall_mem_cons.mpr ⟨run_V (C0 := "FavourTown$Reader") rfl rfl (by rw [hm]; rfl) q1310 q1311 q1312 q89 q1313 ⟨nh_20, dl_2⟩ (by decide) dX1_goesOn_18, (fun _ h => absurd h List.not_mem_nil)⟩) rfl)))
 (kn_ok
 (kl_ok (ok_aP (ok_if_eq dX1_goesOn_21 rfl rfl)))
 (kl_ok (ok_aP (ok_iconst dX1_goesOn_24 rfl rfl)))))
 (kn_ok
 (kn_ok
 (kl_ok (ok_zret rfl z_boolean dX1_goesOn_25))
 (kl_ok (ok_aP (ok_aload_n dX1_goesOn_26 rfl rfl))))
 (kn_ok
 (kl_ok (ok_aP (ok_getf fo_47 fs_rf (Or.inl q355) dX1_goesOn_27 rfl)))
 (kn_ok
 (kl_ok (ok_callV (List.forall_mem_cons.mpr ⟨run_V (C0 := "FavourTown$Reader") rfl rfl (by rw [hm]; rfl) q1122 q1123 q1124 q89 q1125 ⟨nh_20, dl_60⟩ (by decide) dX1_goesOn_30, (fun _ h => absurd h List.not_mem_nil)⟩) rfl))
 (kl_ok (ok_athrow dX1_goesOn_33))))))
/-- 48: FavourTown.fails()V -/
noncomputable def k_X1_fails : Nat → Option AOp :=
 tn 8 (tn 4 (tn 1 (tl 0 (aP (f_aload 0 1)))
  (tl 1 (aP (f_getf [0] 2 4))))
  (tn 5 (tl 4 (aP (f_aload 0 5)))
  (tl 5 (aP (f_getf [0] 2 8)))))
  (tn 14 (tn 11 (tl 8 (aP (f_getf [2] 4 11)))
  (tl 11 (o_putf [2] 5 vI 14)))
  (tn 21 (tl 14 (o_make 22 21))
  (tl 21 (o_athrow [17, 22, 23, 24, 25]))))
theorem kok_X1_fails {γ : AG} (hm : γ.2.2.2.2.1 = mTab) (hk : γ.2.2.2.2.2 = kTab) : KOK γ m_X1_fails k_X1_fails :=
 kn_ok
 (kn_ok
 (kn_ok
 (kl_ok (ok_aP (ok_aload_n dX1_fails_0 rfl rfl)))
 (kl_ok (ok_aP (ok_getf fo_47 fs_rf (Or.inl q355) dX1_fails_1 rfl))))
 (kn_ok
 (kl_ok (ok_aP (ok_aload_n dX1_fails_4 rfl rfl)))
 (kl_ok (ok_aP (ok_getf fo_47 fs_rf (Or.inl q355) dX1_fails_5 rfl)))))
 (kn_ok
 (kn_ok
 (kl_ok (ok_aP (ok_getf fo_101 fs_rf (Or.inr ⟨_, q286⟩) dX1_fails_8 rfl)))
 (kl_ok (ok_hp (ok_putf fo_88 fs_rf fn_60 (Or.inr ⟨_, q288⟩) pd_0 vI_ok dX1_fails_11 rfl) le_putf)))
 (kn_ok
 (kl_ok (ok_hp (ok_make (names := ["java/lang/RuntimeException", "java/lang/Exception"]) rfl (by decide +kernel) (by decide +kernel) (by decide) q1318 q109 vat_5.1 vat_5.2.1 vat_5.2.2 dX1_fails_14 dX1_fails_17 dX1_fails_18 rfl) le_make))
 (kl_ok (ok_athrow dX1_fails_21))))
/-- 49: FavourTown.temper()I -/
noncomputable def k_X1_temper : Nat → Option AOp :=
 tn 34 (tn 15 (tn 8 (tn 4 (tn 1 (tl 0 (aP (f_aload 0 1)))
  (tl 1 (aP (f_getf [0] 2 4))))
  (tn 7 (tl 4 (o_callV (lkN [(2, 128)]) 0 7))
  (tl 7 (aP (f_const .null 8)))))
  (tn 10 (tn 9 (tl 8 (aP (f_astore 1 9)))
  (tl 9 (aP (f_aload 0 10))))
  (tn 13 (tl 10 (o_callV (lkN [(0, 50)]) 0 13))
  (tn 14 (tl 13 (aP (f_astore 1 14)))
  (tl 14 (aP (f_aload 0 15)))))))
  (tn 25 (tn 19 (tn 18 (tl 15 (aP (f_getf [0] 2 18)))
  (tl 18 (aP (f_const (.int (-1)) 19))))
  (tn 22 (tl 19 (o_putf [2] 5 vI 22))
  (tl 22 (aP (f_goto 30)))))
  (tn 27 (tn 26 (tl 25 (aP (f_astore 2 26)))
  (tl 26 (aP (f_aload 0 27))))
  (tn 30 (tl 27 (o_callV (lkN [(0, 48)]) 0 30))
  (tn 31 (tl 30 (aP (f_aload 0 31)))
  (tl 31 (aP (f_getf [0] 0 34))))))))
  (tn 60 (tn 45 (tn 40 (tn 37 (tl 34 (aP (f_getf [1] 11 37)))
  (tl 37 (o_callV (lkN [(19, 113)]) 0 40)))
  (tn 42 (tl 40 (aP (f_const (.int (nI 6)) 42)))
  (tl 42 (aP (f_icmp (fun x y => decide (¬ x = y)) 53 45)))))
  (tn 53 (tn 52 (tl 45 (o_make 23 52))
  (tl 52 (o_athrow [17, 22, 23, 24, 25])))
  (tn 54 (tl 53 (aP (f_aload 0 54)))
  (tn 57 (tl 54 (aP (f_getf [0] 0 57)))
  (tl 57 (aP (f_getf [1] 11 60)))))))
  (tn 69 (tn 64 (tn 61 (tl 60 (aP (f_aload 1 61)))
  (tl 61 (o_callV (lkN [(19, 116)]) 1 64)))
  (tn 65 (tl 64 (aP (f_pop 65)))
  (tn 66 (tl 65 (aP (f_aload 0 66)))
  (tl 66 (aP (f_getf [0] 0 69))))))
  (tn 75 (tn 72 (tl 69 (aP (f_getf [1] 11 72)))
  (tl 72 (o_callV (lkN [(19, 113)]) 0 75)))
  (tn 76 (tl 75 (aP (f_const (.int (nI 1)) 76)))
  (tn 77 (tl 76 (aP (f_bin (fun x y => x - y) 77)))
  (tl 77 (o_iret (fun _ => true))))))))
theorem kok_X1_temper {γ : AG} (hm : γ.2.2.2.2.1 = mTab) (hk : γ.2.2.2.2.2 = kTab) : KOK γ m_X1_temper k_X1_temper :=
 kn_ok
 (kn_ok
 (kn_ok
 (kn_ok
 (kn_ok
 (kl_ok (ok_aP (ok_aload_n dX1_temper_0 rfl rfl)))
 (kl_ok (ok_aP (ok_getf fo_47 fs_rf (Or.inl q355) dX1_temper_1 rfl))))
 (kn_ok
 (kl_ok (ok_callV (List.forall_mem_cons.mpr ⟨run_V (C0 := "FavourTown$Reader") rfl rfl (by rw [hm]; rfl) q775 q776 q777 q89 q778 ⟨nh_20, dl_0⟩ (by decide) dX1_temper_4, (fun _ h => absurd h List.not_mem_nil)⟩) rfl))
 (kl_ok (ok_aP (ok_null dX1_temper_7 rfl)))))
 (kn_ok
 (kn_ok
 (kl_ok (ok_aP (ok_astore_n dX1_temper_8 rfl rfl)))
 (kl_ok (ok_aP (ok_aload_n dX1_temper_9 rfl rfl))))
 (kn_ok
 (kl_ok (ok_callV (List.forall_mem_cons.mpr ⟨run_V (C0 := "FavourTown") rfl rfl (by rw [hm]; rfl) q1351 q1353 qs17 q83 q1354 ⟨nh_0, dl_58⟩ (by decide) dX1_temper_10, (fun _ h => absurd h List.not_mem_nil)⟩) rfl))
 (kn_ok
 (kl_ok (ok_aP (ok_astore_n dX1_temper_13 rfl rfl)))
 (kl_ok (ok_aP (ok_aload_n dX1_temper_14 rfl rfl)))))))
 (kn_ok
 (kn_ok
 (kn_ok
 (kl_ok (ok_aP (ok_getf fo_47 fs_rf (Or.inl q355) dX1_temper_15 rfl)))
 (kl_ok (ok_aP (ok_iconst dX1_temper_18 rfl rfl))))
 (kn_ok
 (kl_ok (ok_hp (ok_putf fo_88 fs_rf fn_60 (Or.inr ⟨_, q288⟩) pd_0 vI_ok dX1_temper_19 rfl) le_putf))
 (kl_ok (ok_aP (ok_goto dX1_temper_22 rfl)))))
 (kn_ok
 (kn_ok
 (kl_ok (ok_aP (ok_astore_n dX1_temper_25 rfl rfl)))
 (kl_ok (ok_aP (ok_aload_n dX1_temper_26 rfl rfl))))
 (kn_ok
 (kl_ok (ok_callV (List.forall_mem_cons.mpr ⟨run_V (C0 := "FavourTown") rfl rfl (by rw [hm]; rfl) q1314 q1316 qs16 q83 q1317 ⟨nh_0, dl_0⟩ (by decide) dX1_temper_27, (fun _ h => absurd h List.not_mem_nil)⟩) rfl))
 (kn_ok
 (kl_ok (ok_aP (ok_aload_n dX1_temper_30 rfl rfl)))
 (kl_ok (ok_aP (ok_getf fo_0 fs_rf (Or.inl q351) dX1_temper_31 rfl))))))))
 (kn_ok
 (kn_ok
 (kn_ok
 (kn_ok
 (kl_ok (ok_aP (ok_getf fo_15 fs_rf (Or.inr ⟨_, q239⟩) dX1_temper_34 rfl)))
 (kl_ok (ok_callV (List.forall_mem_cons.mpr ⟨run_V (C0 := "java/util/ArrayList") rfl rfl (by rw [hm]; rfl) q570 q401 q402 q87 q403 ⟨nh_4, dl_4⟩ (by decide) dX1_temper_37, (fun _ h => absurd h List.not_mem_nil)⟩) rfl)))
 (kn_ok
 (kl_ok (ok_aP (ok_bipush dX1_temper_40 (by decide +kernel) rfl)))
 (kl_ok (ok_aP (ok_icmp_ne dX1_temper_42 rfl rfl)))))
 (kn_ok
 (kn_ok
 (kl_ok (ok_hp (ok_make (names := ["java/lang/RuntimeException", "java/lang/Exception"]) rfl (by decide +kernel) (by decide +kernel) (by decide) q1329 q116 vat_4.1 vat_4.2.1 vat_4.2.2 dX1_temper_45 dX1_temper_48 dX1_temper_49 rfl) le_make))
 (kl_ok (ok_athrow dX1_temper_52)))
 (kn_ok
 (kl_ok (ok_aP (ok_aload_n dX1_temper_53 rfl rfl)))
 (kn_ok
 (kl_ok (ok_aP (ok_getf fo_0 fs_rf (Or.inl q351) dX1_temper_54 rfl)))
 (kl_ok (ok_aP (ok_getf fo_15 fs_rf (Or.inr ⟨_, q239⟩) dX1_temper_57 rfl)))))))
 (kn_ok
 (kn_ok
 (kn_ok
 (kl_ok (ok_aP (ok_aload_n dX1_temper_60 rfl rfl)))
 (kl_ok (ok_callV (List.forall_mem_cons.mpr ⟨run_V (C0 := "java/util/ArrayList") rfl rfl (by rw [hm]; rfl) q1305 q659 q660 q87 q661 ⟨nh_4, dl_36⟩ (by decide) dX1_temper_61, (fun _ h => absurd h List.not_mem_nil)⟩) rfl)))
 (kn_ok
 (kl_ok (ok_aP (ok_pop dX1_temper_64 rfl)))
 (kn_ok
 (kl_ok (ok_aP (ok_aload_n dX1_temper_65 rfl rfl)))
 (kl_ok (ok_aP (ok_getf fo_0 fs_rf (Or.inl q351) dX1_temper_66 rfl))))))
 (kn_ok
 (kn_ok
 (kl_ok (ok_aP (ok_getf fo_15 fs_rf (Or.inr ⟨_, q239⟩) dX1_temper_69 rfl)))
 (kl_ok (ok_callV (List.forall_mem_cons.mpr ⟨run_V (C0 := "java/util/ArrayList") rfl rfl (by rw [hm]; rfl) q570 q401 q402 q87 q403 ⟨nh_4, dl_4⟩ (by decide) dX1_temper_72, (fun _ h => absurd h List.not_mem_nil)⟩) rfl)))
 (kn_ok
 (kl_ok (ok_aP (ok_iconst dX1_temper_75 rfl rfl)))
 (kn_ok
 (kl_ok (ok_aP (ok_isub dX1_temper_76 rfl)))
 (kl_ok (ok_iret rfl dX1_temper_77)))))))
/-- 50: FavourTown.temperText()LFavourTown$Temper; -/
noncomputable def k_X1_temperText : Nat → Option AOp :=
 tn 25 (tn 12 (tn 7 (tn 3 (tl 0 (o_new 9 [.null] 3))
  (tn 4 (tl 3 (aP (f_dup 4)))
  (tl 4 (o_callI 308 0 7))))
  (tn 8 (tl 7 (aP (f_astore 1 8)))
  (tn 9 (tl 8 (aP (f_aload 0 9)))
  (tl 9 (aP (f_getf [0] 2 12))))))
  (tn 19 (tn 15 (tl 12 (o_callV (lkN [(2, 129)]) 0 15))
  (tn 18 (tl 15 (aP (f_if (fun x => decide (x = 0)) 20 18)))
  (tl 18 (aP (f_aload 1 19)))))
  (tn 21 (tn 20 (tl 19 (o_aret))
  (tl 20 (aP (f_aload 0 21))))
  (tn 22 (tl 21 (aP (f_aload 1 22)))
  (tl 22 (aP (f_getf [9] 0 25)))))))
  (tn 41 (tn 33 (tn 28 (tl 25 (o_callV (lkN [(19, 113)]) 0 28))
  (tn 30 (tl 28 (aP (f_const (.int (nI 12)) 30)))
  (tl 30 (o_callV (lkN [(0, 39)]) 2 33))))
  (tn 37 (tn 34 (tl 33 (aP (f_aload 1 34)))
  (tl 34 (aP (f_getf [9] 0 37))))
  (tn 38 (tl 37 (aP (f_aload 0 38)))
  (tl 38 (o_callV (lkN [(0, 51)]) 0 41)))))
  (tn 46 (tn 44 (tl 41 (o_callV (lkN [(19, 116)]) 1 44))
  (tn 45 (tl 44 (aP (f_pop 45)))
  (tl 45 (aP (f_aload 0 46)))))
  (tn 52 (tn 49 (tl 46 (o_callV (lkN [(0, 47)]) 0 49))
  (tl 49 (aP (f_if (fun x => decide (¬ x = 0)) 20 52))))
  (tn 53 (tl 52 (aP (f_aload 1 53)))
  (tl 53 (o_aret))))))
theorem kok_X1_temperText {γ : AG} (hm : γ.2.2.2.2.1 = mTab) (hk : γ.2.2.2.2.2 = kTab) : KOK γ m_X1_temperText k_X1_temperText :=
 kn_ok
 (kn_ok
 (kn_ok
 (kn_ok
 (kl_ok (ok_hp (ok_new (by decide +kernel) rfl q1355 q1356 q117 dX1_temperText_0 rfl) le_new))
 (kn_ok
 (kl_ok (ok_aP (ok_dup dX1_temperText_3 rfl)))
 (kl_ok (ok_callI (run_IN (by rw [hm]; rfl) q1357 q1358 q117 q1359 rfl ⟨nh_6, dl_0⟩ (by decide) dX1_temperText_4) rfl))))
 (kn_ok
 (kl_ok (ok_aP (ok_astore_n dX1_temperText_7 rfl rfl)))
 (kn_ok
 (kl_ok (ok_aP (ok_aload_n dX1_temperText_8 rfl rfl)))
 (kl_ok (ok_aP (ok_getf fo_47 fs_rf (Or.inl q355) dX1_temperText_9 rfl))))))
 (kn_ok
 (kn_ok
 (kl_ok (ok_callV (List.forall_mem_cons.mpr ⟨run_V (C0 := "FavourTown$Reader") rfl rfl (by rw [hm]; rfl) q783 q784 q785 q89 q786 ⟨nh_20, dl_16⟩ (by decide) dX1_temperText_12, (fun _ h => absurd h List.not_mem_nil)⟩) rfl))
 (kn_ok
 (kl_ok (ok_aP (ok_if_eq dX1_temperText_15 rfl rfl)))
 (kl_ok (ok_aP (ok_aload_n dX1_temperText_18 rfl rfl)))))
 (kn_ok
 (kn_ok
 (kl_ok (ok_aret rfl (Or.inl ⟨_, rfl⟩) dX1_temperText_19))
 (kl_ok (ok_aP (ok_aload_n dX1_temperText_20 rfl rfl))))
 (kn_ok
 (kl_ok (ok_aP (ok_aload_n dX1_temperText_21 rfl rfl)))
 (kl_ok (ok_aP (ok_getf fo_17 fs_rf (Or.inr ⟨_, q1364⟩) dX1_temperText_22 rfl)))))))
 (kn_ok
 (kn_ok
 (kn_ok
 (kl_ok (ok_callV (List.forall_mem_cons.mpr ⟨run_V (C0 := "java/util/ArrayList") rfl rfl (by rw [hm]; rfl) q570 q401 q402 q87 q403 ⟨nh_4, dl_4⟩ (by decide) dX1_temperText_25, (fun _ h => absurd h List.not_mem_nil)⟩) rfl))
 (kn_ok
 (kl_ok (ok_aP (ok_bipush dX1_temperText_28 (by decide +kernel) rfl)))
 (kl_ok (ok_callV (List.forall_mem_cons.mpr ⟨run_V (C0 := "FavourTown") rfl rfl (by rw [hm]; rfl) q795 q797 qs7 q83 q798 ⟨nh_0, dl_19⟩ (by decide) dX1_temperText_30, (fun _ h => absurd h List.not_mem_nil)⟩) rfl))))
 (kn_ok
 (kn_ok
 (kl_ok (ok_aP (ok_aload_n dX1_temperText_33 rfl rfl)))
 (kl_ok (ok_aP (ok_getf fo_17 fs_rf (Or.inr ⟨_, q1364⟩) dX1_temperText_34 rfl))))
 (kn_ok
 (kl_ok (ok_aP (ok_aload_n dX1_temperText_37 rfl rfl)))
 (kl_ok (ok_callV (List.forall_mem_cons.mpr ⟨run_V (C0 := "FavourTown") rfl rfl (by rw [hm]; rfl) q1368 q1370 qs18 q83 q1371 ⟨nh_0, dl_59⟩ (by decide) dX1_temperText_38, (fun _ h => absurd h List.not_mem_nil)⟩) rfl)))))
 (kn_ok
 (kn_ok
 (kl_ok (ok_callV (List.forall_mem_cons.mpr ⟨run_V (C0 := "java/util/ArrayList") rfl rfl (by rw [hm]; rfl) q1305 q659 q660 q87 q661 ⟨nh_4, dl_36⟩ (by decide) dX1_temperText_41, (fun _ h => absurd h List.not_mem_nil)⟩) rfl))
 (kn_ok
 (kl_ok (ok_aP (ok_pop dX1_temperText_44 rfl)))
 (kl_ok (ok_aP (ok_aload_n dX1_temperText_45 rfl rfl)))))
 (kn_ok
 (kn_ok
 (kl_ok (ok_callV (List.forall_mem_cons.mpr ⟨run_V (C0 := "FavourTown") rfl rfl (by rw [hm]; rfl) q1306 q1308 qs15 q83 q1309 ⟨nh_0, dl_16⟩ (by decide) dX1_temperText_46, (fun _ h => absurd h List.not_mem_nil)⟩) rfl))
 (kl_ok (ok_aP (ok_if_ne dX1_temperText_49 rfl rfl))))
 (kn_ok
 (kl_ok (ok_aP (ok_aload_n dX1_temperText_52 rfl rfl)))
 (kl_ok (ok_aret rfl (Or.inl ⟨_, rfl⟩) dX1_temperText_53))))))
/-- 51: FavourTown.temperLine()LFavourTown$Line; -/
noncomputable def k_X1_temperLine : Nat → Option AOp :=
 tn 34 (tn 16 (tn 8 (tn 4 (tn 1 (tl 0 (aP (f_aload 0 1)))
  (tl 1 (aP (f_getf [0] 2 4))))
  (tn 7 (tl 4 (o_callV (lkN [(2, 132)]) 0 7))
  (tl 7 (aP (f_astore 1 8)))))
  (tn 12 (tn 9 (tl 8 (aP (f_aload 1 9)))
  (tl 9 (aP (f_stat 27 12))))
  (tn 15 (tl 12 (o_callV (lkN [(21, 285)]) 1 15))
  (tl 15 (aP (f_istore 2 16))))))
  (tn 24 (tn 20 (tn 17 (tl 16 (aP (f_iload 2 17)))
  (tl 17 (aP (f_if (fun x => decide (¬ x = 0)) 38 20))))
  (tn 21 (tl 20 (aP (f_aload 1 21)))
  (tl 21 (aP (f_stat 28 24)))))
  (tn 30 (tn 27 (tl 24 (o_callV (lkN [(21, 285)]) 1 27))
  (tl 27 (aP (f_if (fun x => decide (¬ x = 0)) 38 30))))
  (tn 31 (tl 30 (aP (f_aload 0 31)))
  (tl 31 (aP (f_getf [0] 2 34)))))))
  (tn 50 (tn 42 (tn 38 (tn 37 (tl 34 (o_callV (lkN [(2, 133)]) 0 37))
  (tl 37 (o_athrow [17, 22, 23, 24, 25])))
  (tn 41 (tl 38 (o_new 10 [.int 0, .null] 41))
  (tl 41 (aP (f_dup 42)))))
  (tn 44 (tn 43 (tl 42 (aP (f_iload 2 43)))
  (tl 43 (aP (f_aload 0 44))))
  (tn 47 (tl 44 (aP (f_getf [0] 2 47)))
  (tl 47 (aP (f_stat 29 50))))))
  (tn 60 (tn 56 (tn 53 (tl 50 (o_callV (lkN [(2, 135)]) 1 53))
  (tl 53 (aP (f_if (fun x => decide (x = 0)) 63 56))))
  (tn 57 (tl 56 (aP (f_aload 0 57)))
  (tl 57 (o_callV (lkN [(0, 52)]) 0 60))))
  (tn 64 (tn 63 (tl 60 (aP (f_goto 64)))
  (tl 63 (aP (f_const .null 64))))
  (tn 67 (tl 64 (o_callI 309 2 67))
  (tl 67 (o_aret))))))
theorem kok_X1_temperLine {γ : AG} (hm : γ.2.2.2.2.1 = mTab) (hk : γ.2.2.2.2.2 = kTab) : KOK γ m_X1_temperLine k_X1_temperLine :=
 kn_ok
 (kn_ok
 (kn_ok
 (kn_ok
 (kn_ok
 (kl_ok (ok_aP (ok_aload_n dX1_temperLine_0 rfl rfl)))
 (kl_ok (ok_aP (ok_getf fo_47 fs_rf (Or.inl q355) dX1_temperLine_1 rfl))))
 (kn_ok
 (kl_ok (ok_callV (List.forall_mem_cons.mpr ⟨run_V (C0 := "FavourTown$Reader") rfl rfl (by rw [hm]; rfl) q799 q800 q801 q89 q802 ⟨nh_20, dl_62⟩ (by decide) dX1_temperLine_4, (fun _ h => absurd h List.not_mem_nil)⟩) rfl))
 (kl_ok (ok_aP (ok_astore_n dX1_temperLine_7 rfl rfl)))))
 (kn_ok
 (kn_ok
 (kl_ok (ok_aP (ok_aload_n dX1_temperLine_8 rfl rfl)))
 (kl_ok (ok_aP (ok_ldcSW (tx := "take") (dd := "") (by rw [hk]; rfl) dX1_temperLine_9 rfl))))
 (kn_ok
 (kl_ok (ok_callV (List.forall_mem_cons.mpr ⟨run_V (C0 := "java/lang/String") rfl rfl (by rw [hm]; rfl) q1212 q1213 q1214 q103 q1215 ⟨nh_21, dl_36⟩ (by decide) dX1_temperLine_12, (fun _ h => absurd h List.not_mem_nil)⟩) rfl))
 (kl_ok (ok_aP (ok_istore_n dX1_temperLine_15 rfl rfl))))))
 (kn_ok
 (kn_ok
 (kn_ok
 (kl_ok (ok_aP (ok_iload_n dX1_temperLine_16 rfl rfl)))
 (kl_ok (ok_aP (ok_if_ne dX1_temperLine_17 rfl rfl))))
 (kn_ok
 (kl_ok (ok_aP (ok_aload_n dX1_temperLine_20 rfl rfl)))
 (kl_ok (ok_aP (ok_ldcSW (tx := "refuse") (dd := "") (by rw [hk]; rfl) dX1_temperLine_21 rfl)))))
 (kn_ok
 (kn_ok
 (kl_ok (ok_callV (List.forall_mem_cons.mpr ⟨run_V (C0 := "java/lang/String") rfl rfl (by rw [hm]; rfl) q1212 q1213 q1214 q103 q1215 ⟨nh_21, dl_36⟩ (by decide) dX1_temperLine_24, (fun _ h => absurd h List.not_mem_nil)⟩) rfl))
 (kl_ok (ok_aP (ok_if_ne dX1_temperLine_27 rfl rfl))))
 (kn_ok
 (kl_ok (ok_aP (ok_aload_n dX1_temperLine_30 rfl rfl)))
 (kl_ok (ok_aP (ok_getf fo_47 fs_rf (Or.inl q355) dX1_temperLine_31 rfl)))))))
 (kn_ok
 (kn_ok
 (kn_ok
 (kn_ok
 (kl_ok (ok_callV (List.forall_mem_cons.mpr ⟨run_V (C0 := "FavourTown$Reader") rfl rfl (by rw [hm]; rfl) q1122 q1123 q1124 q89 q1125 ⟨nh_20, dl_60⟩ (by decide) dX1_temperLine_34, (fun _ h => absurd h List.not_mem_nil)⟩) rfl))
 (kl_ok (ok_athrow dX1_temperLine_37)))
 (kn_ok
 (kl_ok (ok_hp (ok_new (by decide +kernel) rfl q1374 q1375 q118 dX1_temperLine_38 rfl) le_new))
 (kl_ok (ok_aP (ok_dup dX1_temperLine_41 rfl)))))
 (kn_ok
 (kn_ok
 (kl_ok (ok_aP (ok_iload_n dX1_temperLine_42 rfl rfl)))
 (kl_ok (ok_aP (ok_aload_n dX1_temperLine_43 rfl rfl))))
 (kn_ok
 (kl_ok (ok_aP (ok_getf fo_47 fs_rf (Or.inl q355) dX1_temperLine_44 rfl)))
 (kl_ok (ok_aP (ok_ldcSW (tx := "if") (dd := "") (by rw [hk]; rfl) dX1_temperLine_47 rfl))))))
 (kn_ok
 (kn_ok
 (kn_ok
 (kl_ok (ok_callV (List.forall_mem_cons.mpr ⟨run_V (C0 := "FavourTown$Reader") rfl rfl (by rw [hm]; rfl) q1250 q1251 q1252 q89 q1253 ⟨nh_20, dl_48⟩ (by decide) dX1_temperLine_50, (fun _ h => absurd h List.not_mem_nil)⟩) rfl))
 (kl_ok (ok_aP (ok_if_eq dX1_temperLine_53 rfl rfl))))
 (kn_ok
 (kl_ok (ok_aP (ok_aload_n dX1_temperLine_56 rfl rfl)))
 (kl_ok (ok_callV (List.forall_mem_cons.mpr ⟨run_V (C0 := "FavourTown") rfl rfl (by rw [hm]; rfl) q1377 q1379 qs19 q83 q1380 ⟨nh_0, dl_71⟩ (by decide) dX1_temperLine_57, (fun _ h => absurd h List.not_mem_nil)⟩) rfl))))
 (kn_ok
 (kn_ok
 (kl_ok (ok_aP (ok_goto dX1_temperLine_60 rfl)))
 (kl_ok (ok_aP (ok_null dX1_temperLine_63 rfl))))
 (kn_ok
 (kl_ok (ok_callI (run_I (by rw [hm]; rfl) q1508 q1509 q118 q1510 rfl ⟨nh_33, dl_72⟩ (by decide) dX1_temperLine_64) rfl))
 (kl_ok (ok_aret rfl (Or.inl ⟨_, rfl⟩) dX1_temperLine_67))))))
/-- 52: FavourTown.cond()LFavourTown$Cond; -/
noncomputable def k_X1_cond : Nat → Option AOp :=
 tn 17 (tn 8 (tn 4 (tn 3 (tl 0 (o_new 11 [.int 0, .null] 3))
  (tl 3 (aP (f_dup 4))))
  (tn 5 (tl 4 (aP (f_const (.int (nI 0)) 5)))
  (tl 5 (o_callI 311 1 8))))
  (tn 10 (tn 9 (tl 8 (aP (f_astore 1 9)))
  (tl 9 (aP (f_aload 1 10))))
  (tn 13 (tl 10 (aP (f_getf [11] 1 13)))
  (tn 14 (tl 13 (aP (f_aload 0 14)))
  (tl 14 (o_callV (lkN [(0, 53)]) 0 17))))))
  (tn 25 (tn 21 (tn 20 (tl 17 (o_callV (lkN [(19, 116)]) 1 20))
  (tl 20 (aP (f_pop 21))))
  (tn 22 (tl 21 (aP (f_aload 0 22)))
  (tl 22 (aP (f_getf [0] 2 25)))))
  (tn 31 (tn 28 (tl 25 (aP (f_stat 26 28)))
  (tl 28 (o_callV (lkN [(2, 135)]) 1 31)))
  (tn 34 (tl 31 (aP (f_if (fun x => decide (¬ x = 0)) 9 34)))
  (tn 35 (tl 34 (aP (f_aload 1 35)))
  (tl 35 (o_aret))))))
theorem kok_X1_cond {γ : AG} (hm : γ.2.2.2.2.1 = mTab) (hk : γ.2.2.2.2.2 = kTab) : KOK γ m_X1_cond k_X1_cond :=
 kn_ok
 (kn_ok
 (kn_ok
 (kn_ok
 (kl_ok (ok_hp (ok_new (by decide +kernel) rfl q1381 q1382 q119 dX1_cond_0 rfl) le_new))
 (kl_ok (ok_aP (ok_dup dX1_cond_3 rfl))))
 (kn_ok
 (kl_ok (ok_aP (ok_iconst dX1_cond_4 rfl rfl)))
 (kl_ok (ok_callI (run_I (by rw [hm]; rfl) q1383 q1384 q119 q1385 rfl ⟨nh_34, dl_18⟩ (by decide) dX1_cond_5) rfl))))
 (kn_ok
 (kn_ok
 (kl_ok (ok_aP (ok_astore_n dX1_cond_8 rfl rfl)))
 (kl_ok (ok_aP (ok_aload_n dX1_cond_9 rfl rfl))))
 (kn_ok
 (kl_ok (ok_aP (ok_getf fo_24 fs_rf (Or.inr ⟨_, q1391⟩) dX1_cond_10 rfl)))
 (kn_ok
 (kl_ok (ok_aP (ok_aload_n dX1_cond_13 rfl rfl)))
 (kl_ok (ok_callV (List.forall_mem_cons.mpr ⟨run_V (C0 := "FavourTown") rfl rfl (by rw [hm]; rfl) q1397 q1399 qs20 q83 q1400 ⟨nh_0, dl_71⟩ (by decide) dX1_cond_14, (fun _ h => absurd h List.not_mem_nil)⟩) rfl))))))
 (kn_ok
 (kn_ok
 (kn_ok
 (kl_ok (ok_callV (List.forall_mem_cons.mpr ⟨run_V (C0 := "java/util/ArrayList") rfl rfl (by rw [hm]; rfl) q1305 q659 q660 q87 q661 ⟨nh_4, dl_36⟩ (by decide) dX1_cond_17, (fun _ h => absurd h List.not_mem_nil)⟩) rfl))
 (kl_ok (ok_aP (ok_pop dX1_cond_20 rfl))))
 (kn_ok
 (kl_ok (ok_aP (ok_aload_n dX1_cond_21 rfl rfl)))
 (kl_ok (ok_aP (ok_getf fo_47 fs_rf (Or.inl q355) dX1_cond_22 rfl)))))
 (kn_ok
 (kn_ok
 (kl_ok (ok_aP (ok_ldcSW (tx := "or") (dd := "") (by rw [hk]; rfl) dX1_cond_25 rfl)))
 (kl_ok (ok_callV (List.forall_mem_cons.mpr ⟨run_V (C0 := "FavourTown$Reader") rfl rfl (by rw [hm]; rfl) q1250 q1251 q1252 q89 q1253 ⟨nh_20, dl_48⟩ (by decide) dX1_cond_28, (fun _ h => absurd h List.not_mem_nil)⟩) rfl)))
 (kn_ok
 (kl_ok (ok_aP (ok_if_ne dX1_cond_31 rfl rfl)))
 (kn_ok
 (kl_ok (ok_aP (ok_aload_n dX1_cond_34 rfl rfl)))
 (kl_ok (ok_aret rfl (Or.inl ⟨_, rfl⟩) dX1_cond_35))))))
/-- 53: FavourTown.allOf()LFavourTown$Cond; -/
noncomputable def k_X1_allOf : Nat → Option AOp :=
 tn 17 (tn 8 (tn 4 (tn 3 (tl 0 (o_new 11 [.int 0, .null] 3))
  (tl 3 (aP (f_dup 4))))
  (tn 5 (tl 4 (aP (f_const (.int (nI 1)) 5)))
  (tl 5 (o_callI 311 1 8))))
  (tn 10 (tn 9 (tl 8 (aP (f_astore 1 9)))
  (tl 9 (aP (f_aload 1 10))))
  (tn 13 (tl 10 (aP (f_getf [11] 1 13)))
  (tn 14 (tl 13 (aP (f_aload 0 14)))
  (tl 14 (o_callV (lkN [(0, 54)]) 0 17))))))
  (tn 25 (tn 21 (tn 20 (tl 17 (o_callV (lkN [(19, 116)]) 1 20))
  (tl 20 (aP (f_pop 21))))
  (tn 22 (tl 21 (aP (f_aload 0 22)))
  (tl 22 (aP (f_getf [0] 2 25)))))
  (tn 31 (tn 28 (tl 25 (aP (f_stat 25 28)))
  (tl 28 (o_callV (lkN [(2, 135)]) 1 31)))
  (tn 34 (tl 31 (aP (f_if (fun x => decide (¬ x = 0)) 9 34)))
  (tn 35 (tl 34 (aP (f_aload 1 35)))
  (tl 35 (o_aret))))))
theorem kok_X1_allOf {γ : AG} (hm : γ.2.2.2.2.1 = mTab) (hk : γ.2.2.2.2.2 = kTab) : KOK γ m_X1_allOf k_X1_allOf :=
 kn_ok
 (kn_ok
 (kn_ok
 (kn_ok
 (kl_ok (ok_hp (ok_new (by decide +kernel) rfl q1381 q1382 q119 dX1_allOf_0 rfl) le_new))
 (kl_ok (ok_aP (ok_dup dX1_allOf_3 rfl))))
 (kn_ok
 (kl_ok (ok_aP (ok_iconst dX1_allOf_4 rfl rfl)))
 (kl_ok (ok_callI (run_I (by rw [hm]; rfl) q1383 q1384 q119 q1385 rfl ⟨nh_34, dl_18⟩ (by decide) dX1_allOf_5) rfl))))
 (kn_ok
 (kn_ok
 (kl_ok (ok_aP (ok_astore_n dX1_allOf_8 rfl rfl)))
 (kl_ok (ok_aP (ok_aload_n dX1_allOf_9 rfl rfl))))
 (kn_ok
 (kl_ok (ok_aP (ok_getf fo_24 fs_rf (Or.inr ⟨_, q1391⟩) dX1_allOf_10 rfl)))
 (kn_ok
 (kl_ok (ok_aP (ok_aload_n dX1_allOf_13 rfl rfl)))
 (kl_ok (ok_callV (List.forall_mem_cons.mpr ⟨run_V (C0 := "FavourTown") rfl rfl (by rw [hm]; rfl) q1401 q1403 qs21 q83 q1404 ⟨nh_0, dl_71⟩ (by decide) dX1_allOf_14, (fun _ h => absurd h List.not_mem_nil)⟩) rfl))))))
 (kn_ok
 (kn_ok
 (kn_ok
 (kl_ok (ok_callV (List.forall_mem_cons.mpr ⟨run_V (C0 := "java/util/ArrayList") rfl rfl (by rw [hm]; rfl) q1305 q659 q660 q87 q661 ⟨nh_4, dl_36⟩ (by decide) dX1_allOf_17, (fun _ h => absurd h List.not_mem_nil)⟩) rfl))
 (kl_ok (ok_aP (ok_pop dX1_allOf_20 rfl))))
 (kn_ok
 (kl_ok (ok_aP (ok_aload_n dX1_allOf_21 rfl rfl)))
 (kl_ok (ok_aP (ok_getf fo_47 fs_rf (Or.inl q355) dX1_allOf_22 rfl)))))
 (kn_ok
 (kn_ok
 (kl_ok (ok_aP (ok_ldcSW (tx := "and") (dd := "") (by rw [hk]; rfl) dX1_allOf_25 rfl)))
 (kl_ok (ok_callV (List.forall_mem_cons.mpr ⟨run_V (C0 := "FavourTown$Reader") rfl rfl (by rw [hm]; rfl) q1250 q1251 q1252 q89 q1253 ⟨nh_20, dl_48⟩ (by decide) dX1_allOf_28, (fun _ h => absurd h List.not_mem_nil)⟩) rfl)))
 (kn_ok
 (kl_ok (ok_aP (ok_if_ne dX1_allOf_31 rfl rfl)))
 (kn_ok
 (kl_ok (ok_aP (ok_aload_n dX1_allOf_34 rfl rfl)))
 (kl_ok (ok_aret rfl (Or.inl ⟨_, rfl⟩) dX1_allOf_35))))))
/-- 54: FavourTown.atom()LFavourTown$Cond; -/
noncomputable def k_X1_atom : Nat → Option AOp :=
 tn 93 (tn 43 (tn 22 (tn 8 (tn 4 (tn 1 (tl 0 (aP (f_aload 0 1)))
  (tl 1 (aP (f_getf [0] 2 4))))
  (tn 5 (tl 4 (aP (f_astore 1 5)))
  (tn 6 (tl 5 (aP (f_aload 1 6)))
  (tl 6 (aP (f_const (.int (nI 40)) 8))))))
  (tn 15 (tn 11 (tl 8 (o_callV (lkN [(2, 136)]) 1 11))
  (tn 14 (tl 11 (aP (f_if (fun x => decide (x = 0)) 43 14)))
  (tl 14 (aP (f_aload 1 15)))))
  (tn 18 (tl 15 (o_callV (lkN [(2, 137)]) 0 18))
  (tn 19 (tl 18 (aP (f_aload 0 19)))
  (tl 19 (o_callV (lkN [(0, 52)]) 0 22))))))
  (tn 33 (tn 27 (tn 23 (tl 22 (aP (f_astore 2 23)))
  (tn 24 (tl 23 (aP (f_aload 1 24)))
  (tl 24 (o_callV (lkN [(2, 138)]) 0 27))))
  (tn 28 (tl 27 (aP (f_aload 1 28)))
  (tn 30 (tl 28 (aP (f_const (.int (nI 41)) 30)))
  (tl 30 (o_callV (lkN [(2, 136)]) 1 33)))))
  (tn 40 (tn 36 (tl 33 (aP (f_if (fun x => decide (¬ x = 0)) 41 36)))
  (tn 37 (tl 36 (aP (f_aload 1 37)))
  (tl 37 (o_callV (lkN [(2, 133)]) 0 40))))
  (tn 41 (tl 40 (o_athrow [17, 22, 23, 24, 25]))
  (tn 42 (tl 41 (aP (f_aload 2 42)))
  (tl 42 (o_aret)))))))
  (tn 68 (tn 56 (tn 49 (tn 44 (tl 43 (aP (f_aload 1 44)))
  (tn 46 (tl 44 (aP (f_stat 22 46)))
  (tl 46 (o_callV (lkN [(2, 135)]) 1 49))))
  (tn 52 (tl 49 (aP (f_if (fun x => decide (x = 0)) 74 52)))
  (tn 53 (tl 52 (aP (f_aload 1 53)))
  (tl 53 (o_callV (lkN [(2, 137)]) 0 56)))))
  (tn 61 (tn 57 (tl 56 (aP (f_aload 0 57)))
  (tn 60 (tl 57 (o_callV (lkN [(0, 54)]) 0 60))
  (tl 60 (aP (f_astore 2 61)))))
  (tn 62 (tl 61 (aP (f_aload 1 62)))
  (tn 65 (tl 62 (o_callV (lkN [(2, 138)]) 0 65))
  (tl 65 (o_new 12 [.null] 68))))))
  (tn 77 (tn 73 (tn 69 (tl 68 (aP (f_dup 69)))
  (tn 70 (tl 69 (aP (f_aload 2 70)))
  (tl 70 (o_callI 313 1 73))))
  (tn 74 (tl 73 (o_aret))
  (tn 75 (tl 74 (aP (f_aload 1 75)))
  (tl 75 (aP (f_stat 11 77))))))
  (tn 86 (tn 80 (tl 77 (o_callV (lkN [(2, 135)]) 1 80))
  (tn 83 (tl 80 (aP (f_if (fun x => decide (x = 0)) 94 83)))
  (tl 83 (o_new 13 [.null] 86))))
  (tn 87 (tl 86 (aP (f_dup 87)))
  (tn 90 (tl 87 (aP (f_stat 1 90)))
  (tl 90 (o_callI 315 1 93))))))))
  (tn 142 (tn 116 (tn 104 (tn 95 (tn 94 (tl 93 (o_aret))
  (tl 94 (aP (f_aload 1 95))))
  (tn 98 (tl 95 (aP (f_stat 23 98)))
  (tn 101 (tl 98 (o_callV (lkN [(2, 135)]) 1 101))
  (tl 101 (aP (f_if (fun x => decide (x = 0)) 115 104))))))
  (tn 111 (tn 107 (tl 104 (o_new 13 [.null] 107))
  (tn 108 (tl 107 (aP (f_dup 108)))
  (tl 108 (aP (f_stat 2 111)))))
  (tn 114 (tl 111 (o_callI 315 1 114))
  (tn 115 (tl 114 (o_aret))
  (tl 115 (aP (f_aload 1 116)))))))
  (tn 132 (tn 125 (tn 119 (tl 116 (aP (f_stat 24 119)))
  (tn 122 (tl 119 (o_callV (lkN [(2, 135)]) 1 122))
  (tl 122 (aP (f_if (fun x => decide (x = 0)) 136 125)))))
  (tn 128 (tl 125 (o_new 13 [.null] 128))
  (tn 129 (tl 128 (aP (f_dup 129)))
  (tl 129 (aP (f_stat 3 132))))))
  (tn 137 (tn 135 (tl 132 (o_callI 315 1 135))
  (tn 136 (tl 135 (o_aret))
  (tl 136 (aP (f_aload 0 137)))))
  (tn 140 (tl 137 (o_callV (lkN [(0, 55)]) 0 140))
  (tn 141 (tl 140 (aP (f_astore 2 141)))
  (tl 141 (aP (f_aload 1 142))))))))
  (tn 166 (tn 155 (tn 150 (tn 144 (tl 142 (aP (f_const (.int (nI 60)) 144)))
  (tn 147 (tl 144 (o_callV (lkN [(2, 136)]) 1 147))
  (tl 147 (aP (f_if (fun x => decide (x = 0)) 163 150)))))
  (tn 153 (tl 150 (o_new 16 [.null, .null] 153))
  (tn 154 (tl 153 (aP (f_dup 154)))
  (tl 154 (aP (f_aload 2 155))))))
  (tn 162 (tn 156 (tl 155 (aP (f_aload 0 156)))
  (tn 159 (tl 156 (o_callV (lkN [(0, 55)]) 0 159))
  (tl 159 (o_callI 323 2 162))))
  (tn 163 (tl 162 (o_aret))
  (tn 164 (tl 163 (aP (f_aload 1 164)))
  (tl 164 (aP (f_const (.int (nI 62)) 166)))))))
  (tn 180 (tn 173 (tn 169 (tl 166 (o_callV (lkN [(2, 136)]) 1 169))
  (tn 172 (tl 169 (aP (f_if (fun x => decide (¬ x = 0)) 177 172)))
  (tl 172 (aP (f_aload 1 173)))))
  (tn 176 (tl 173 (o_callV (lkN [(2, 133)]) 0 176))
  (tn 177 (tl 176 (o_athrow [17, 22, 23, 24, 25]))
  (tl 177 (o_new 16 [.null, .null] 180)))))
  (tn 185 (tn 181 (tl 180 (aP (f_dup 181)))
  (tn 182 (tl 181 (aP (f_aload 0 182)))
  (tl 182 (o_callV (lkN [(0, 55)]) 0 185))))
  (tn 186 (tl 185 (aP (f_aload 2 186)))
  (tn 189 (tl 186 (o_callI 323 2 189))
  (tl 189 (o_aret))))))))
theorem kok_X1_atom {γ : AG} (hm : γ.2.2.2.2.1 = mTab) (hk : γ.2.2.2.2.2 = kTab) : KOK γ m_X1_atom k_X1_atom :=
 kn_ok
 (kn_ok
 (kn_ok
 (kn_ok
 (kn_ok
 (kn_ok
 (kl_ok (ok_aP (ok_aload_n dX1_atom_0 rfl rfl)))
 (kl_ok (ok_aP (ok_getf fo_47 fs_rf (Or.inl q355) dX1_atom_1 rfl))))
 (kn_ok
 (kl_ok (ok_aP (ok_astore_n dX1_atom_4 rfl rfl)))
 (kn_ok
 (kl_ok (ok_aP (ok_aload_n dX1_atom_5 rfl rfl)))
 (kl_ok (ok_aP (ok_bipush dX1_atom_6 (by decide +kernel) rfl))))))
 (kn_ok
 (kn_ok
 (kl_ok (ok_callV (List.forall_mem_cons.mpr ⟨run_V (C0 := "FavourTown$Reader") rfl rfl (by rw [hm]; rfl) q1310 q1311 q1312 q89 q1313 ⟨nh_20, dl_2⟩ (by decide) dX1_atom_8, (fun _ h => absurd h List.not_mem_nil)⟩) rfl))
 (kn_ok
 (kl_ok (ok_aP (ok_if_eq dX1_atom_11 rfl rfl)))
 (kl_ok (ok_aP (ok_aload_n dX1_atom_14 rfl rfl)))))
 (kn_ok
 (kl_ok (ok_callV (List.forall_mem_cons.mpr ⟨run_V (C0 := "FavourTown$Reader") rfl rfl (by rw [hm]; rfl) q1405 q1406 q1407 q89 q1408 ⟨nh_20, dl_0⟩ (by decide) dX1_atom_15, (fun _ h => absurd h List.not_mem_nil)⟩) rfl))
 (kn_ok
 (kl_ok (ok_aP (ok_aload_n dX1_atom_18 rfl rfl)))
 (kl_ok (ok_callV (List.forall_mem_cons.mpr ⟨run_V (C0 := "FavourTown") rfl rfl (by rw [hm]; rfl) q1377 q1379 qs19 q83 q1380 ⟨nh_0, dl_71⟩ (by decide) dX1_atom_19, (fun _ h => absurd h List.not_mem_nil)⟩) rfl))))))
 (kn_ok
 (kn_ok
 (kn_ok
 (kl_ok (ok_aP (ok_astore_n dX1_atom_22 rfl rfl)))
 (kn_ok
 (kl_ok (ok_aP (ok_aload_n dX1_atom_23 rfl rfl)))
 (kl_ok (ok_callV (List.forall_mem_cons.mpr ⟨run_V (C0 := "FavourTown$Reader") rfl rfl (by rw [hm]; rfl) q1409 q1410 q1411 q89 q1412 ⟨nh_20, dl_0⟩ (by decide) dX1_atom_24, (fun _ h => absurd h List.not_mem_nil)⟩) rfl))))
 (kn_ok
 (kl_ok (ok_aP (ok_aload_n dX1_atom_27 rfl rfl)))
 (kn_ok
 (kl_ok (ok_aP (ok_bipush dX1_atom_28 (by decide +kernel) rfl)))
 (kl_ok (ok_callV (List.forall_mem_cons.mpr ⟨run_V (C0 := "FavourTown$Reader") rfl rfl (by rw [hm]; rfl) q1310 q1311 q1312 q89 q1313 ⟨nh_20, dl_2⟩ (by decide) dX1_atom_30, (fun _ h => absurd h List.not_mem_nil)⟩) rfl)))))
 (kn_ok
 (kn_ok
 (kl_ok (ok_aP (ok_if_ne dX1_atom_33 rfl rfl)))
 (kn_ok
 (kl_ok (ok_aP (ok_aload_n dX1_atom_36 rfl rfl)))
 (kl_ok (ok_callV (List.forall_mem_cons.mpr ⟨run_V (C0 := "FavourTown$Reader") rfl rfl (by rw [hm]; rfl) q1122 q1123 q1124 q89 q1125 ⟨nh_20, dl_60⟩ (by decide) dX1_atom_37, (fun _ h => absurd h List.not_mem_nil)⟩) rfl))))
 (kn_ok
 (kl_ok (ok_athrow dX1_atom_40))
 (kn_ok
 (kl_ok (ok_aP (ok_aload_n dX1_atom_41 rfl rfl)))
 (kl_ok (ok_aret rfl (Or.inl ⟨_, rfl⟩) dX1_atom_42)))))))
 (kn_ok
 (kn_ok
 (kn_ok
 (kn_ok
 (kl_ok (ok_aP (ok_aload_n dX1_atom_43 rfl rfl)))
 (kn_ok
 (kl_ok (ok_aP (ok_ldcS (tx := "not") (dd := "") (by rw [hk]; rfl) dX1_atom_44 rfl)))
 (kl_ok (ok_callV (List.forall_mem_cons.mpr ⟨run_V (C0 := "FavourTown$Reader") rfl rfl (by rw [hm]; rfl) q1250 q1251 q1252 q89 q1253 ⟨nh_20, dl_48⟩ (by decide) dX1_atom_46, (fun _ h => absurd h List.not_mem_nil)⟩) rfl))))
 (kn_ok
 (kl_ok (ok_aP (ok_if_eq dX1_atom_49 rfl rfl)))
 (kn_ok
 (kl_ok (ok_aP (ok_aload_n dX1_atom_52 rfl rfl)))
 (kl_ok (ok_callV (List.forall_mem_cons.mpr ⟨run_V (C0 := "FavourTown$Reader") rfl rfl (by rw [hm]; rfl) q1405 q1406 q1407 q89 q1408 ⟨nh_20, dl_0⟩ (by decide) dX1_atom_53, (fun _ h => absurd h List.not_mem_nil)⟩) rfl)))))
 (kn_ok
 (kn_ok
 (kl_ok (ok_aP (ok_aload_n dX1_atom_56 rfl rfl)))
 (kn_ok
 (kl_ok (ok_callV (List.forall_mem_cons.mpr ⟨run_V (C0 := "FavourTown") rfl rfl (by rw [hm]; rfl) q1401 q1403 qs21 q83 q1404 ⟨nh_0, dl_71⟩ (by decide) dX1_atom_57, (fun _ h => absurd h List.not_mem_nil)⟩) rfl))
 (kl_ok (ok_aP (ok_astore_n dX1_atom_60 rfl rfl)))))
 (kn_ok
 (kl_ok (ok_aP (ok_aload_n dX1_atom_61 rfl rfl)))
 (kn_ok
 (kl_ok (ok_callV (List.forall_mem_cons.mpr ⟨run_V (C0 := "FavourTown$Reader") rfl rfl (by rw [hm]; rfl) q1409 q1410 q1411 q89 q1412 ⟨nh_20, dl_0⟩ (by decide) dX1_atom_62, (fun _ h => absurd h List.not_mem_nil)⟩) rfl))
 (kl_ok (ok_hp (ok_new (by decide +kernel) rfl q1414 q1415 q120 dX1_atom_65 rfl) le_new))))))
 (kn_ok
 (kn_ok
 (kn_ok
 (kl_ok (ok_aP (ok_dup dX1_atom_68 rfl)))
 (kn_ok
 (kl_ok (ok_aP (ok_aload_n dX1_atom_69 rfl rfl)))
 (kl_ok (ok_callI (run_I (by rw [hm]; rfl) q1416 q1417 q120 q1418 rfl ⟨nh_35, dl_74⟩ (by decide) dX1_atom_70) rfl))))
 (kn_ok
 (kl_ok (ok_aret rfl (Or.inl ⟨_, rfl⟩) dX1_atom_73))
 (kn_ok
 (kl_ok (ok_aP (ok_aload_n dX1_atom_74 rfl rfl)))
 (kl_ok (ok_aP (ok_ldcS (tx := "near") (dd := "") (by rw [hk]; rfl) dX1_atom_75 rfl))))))
 (kn_ok
 (kn_ok
 (kl_ok (ok_callV (List.forall_mem_cons.mpr ⟨run_V (C0 := "FavourTown$Reader") rfl rfl (by rw [hm]; rfl) q1250 q1251 q1252 q89 q1253 ⟨nh_20, dl_48⟩ (by decide) dX1_atom_77, (fun _ h => absurd h List.not_mem_nil)⟩) rfl))
 (kn_ok
 (kl_ok (ok_aP (ok_if_eq dX1_atom_80 rfl rfl)))
 (kl_ok (ok_hp (ok_new (by decide +kernel) rfl q1424 q1425 q121 dX1_atom_83 rfl) le_new))))
 (kn_ok
 (kl_ok (ok_aP (ok_dup dX1_atom_86 rfl)))
 (kn_ok
 (kl_ok (ok_aP (ok_stat (C0 := "FavourTown$Tag") (by rw [hk]; rfl) (Or.inl q1426) rfl dX1_atom_87 rfl)))
 (kl_ok (ok_callI (run_I (by rw [hm]; rfl) q1427 q1428 q121 q1429 rfl ⟨nh_36, dl_75⟩ (by decide) dX1_atom_90) rfl))))))))
 (kn_ok
 (kn_ok
 (kn_ok
 (kn_ok
 (kn_ok
 (kl_ok (ok_aret rfl (Or.inl ⟨_, rfl⟩) dX1_atom_93))
 (kl_ok (ok_aP (ok_aload_n dX1_atom_94 rfl rfl))))
 (kn_ok
 (kl_ok (ok_aP (ok_ldcSW (tx := "timed") (dd := "") (by rw [hk]; rfl) dX1_atom_95 rfl)))
 (kn_ok
 (kl_ok (ok_callV (List.forall_mem_cons.mpr ⟨run_V (C0 := "FavourTown$Reader") rfl rfl (by rw [hm]; rfl) q1250 q1251 q1252 q89 q1253 ⟨nh_20, dl_48⟩ (by decide) dX1_atom_98, (fun _ h => absurd h List.not_mem_nil)⟩) rfl))
 (kl_ok (ok_aP (ok_if_eq dX1_atom_101 rfl rfl))))))
 (kn_ok
 (kn_ok
 (kl_ok (ok_hp (ok_new (by decide +kernel) rfl q1424 q1425 q121 dX1_atom_104 rfl) le_new))
 (kn_ok
 (kl_ok (ok_aP (ok_dup dX1_atom_107 rfl)))
 (kl_ok (ok_aP (ok_stat (C0 := "FavourTown$Tag") (by rw [hk]; rfl) (Or.inl q1436) rfl dX1_atom_108 rfl)))))
 (kn_ok
 (kl_ok (ok_callI (run_I (by rw [hm]; rfl) q1427 q1428 q121 q1429 rfl ⟨nh_36, dl_75⟩ (by decide) dX1_atom_111) rfl))
 (kn_ok
 (kl_ok (ok_aret rfl (Or.inl ⟨_, rfl⟩) dX1_atom_114))
 (kl_ok (ok_aP (ok_aload_n dX1_atom_115 rfl rfl)))))))
 (kn_ok
 (kn_ok
 (kn_ok
 (kl_ok (ok_aP (ok_ldcSW (tx := "again") (dd := "") (by rw [hk]; rfl) dX1_atom_116 rfl)))
 (kn_ok
 (kl_ok (ok_callV (List.forall_mem_cons.mpr ⟨run_V (C0 := "FavourTown$Reader") rfl rfl (by rw [hm]; rfl) q1250 q1251 q1252 q89 q1253 ⟨nh_20, dl_48⟩ (by decide) dX1_atom_119, (fun _ h => absurd h List.not_mem_nil)⟩) rfl))
 (kl_ok (ok_aP (ok_if_eq dX1_atom_122 rfl rfl)))))
 (kn_ok
 (kl_ok (ok_hp (ok_new (by decide +kernel) rfl q1424 q1425 q121 dX1_atom_125 rfl) le_new))
 (kn_ok
 (kl_ok (ok_aP (ok_dup dX1_atom_128 rfl)))
 (kl_ok (ok_aP (ok_stat (C0 := "FavourTown$Tag") (by rw [hk]; rfl) (Or.inl q1438) rfl dX1_atom_129 rfl))))))
 (kn_ok
 (kn_ok
 (kl_ok (ok_callI (run_I (by rw [hm]; rfl) q1427 q1428 q121 q1429 rfl ⟨nh_36, dl_75⟩ (by decide) dX1_atom_132) rfl))
 (kn_ok
 (kl_ok (ok_aret rfl (Or.inl ⟨_, rfl⟩) dX1_atom_135))
 (kl_ok (ok_aP (ok_aload_n dX1_atom_136 rfl rfl)))))
 (kn_ok
 (kl_ok (ok_callV (List.forall_mem_cons.mpr ⟨run_V (C0 := "FavourTown") rfl rfl (by rw [hm]; rfl) q1440 q1442 qs22 q83 q1443 ⟨nh_0, dl_76⟩ (by decide) dX1_atom_137, (fun _ h => absurd h List.not_mem_nil)⟩) rfl))
 (kn_ok
 (kl_ok (ok_aP (ok_astore_n dX1_atom_140 rfl rfl)))
 (kl_ok (ok_aP (ok_aload_n dX1_atom_141 rfl rfl))))))))
 (kn_ok
 (kn_ok
 (kn_ok
 (kn_ok
 (kl_ok (ok_aP (ok_bipush dX1_atom_142 (by decide +kernel) rfl)))
 (kn_ok
 (kl_ok (ok_callV (List.forall_mem_cons.mpr ⟨run_V (C0 := "FavourTown$Reader") rfl rfl (by rw [hm]; rfl) q1310 q1311 q1312 q89 q1313 ⟨nh_20, dl_2⟩ (by decide) dX1_atom_144, (fun _ h => absurd h List.not_mem_nil)⟩) rfl))
 (kl_ok (ok_aP (ok_if_eq dX1_atom_147 rfl rfl)))))
 (kn_ok
 (kl_ok (ok_hp (ok_new (by decide +kernel) rfl q1493 q1494 q125 dX1_atom_150 rfl) le_new))
 (kn_ok
 (kl_ok (ok_aP (ok_dup dX1_atom_153 rfl)))
 (kl_ok (ok_aP (ok_aload_n dX1_atom_154 rfl rfl))))))
 (kn_ok
 (kn_ok
 (kl_ok (ok_aP (ok_aload_n dX1_atom_155 rfl rfl)))
 (kn_ok
 (kl_ok (ok_callV (List.forall_mem_cons.mpr ⟨run_V (C0 := "FavourTown") rfl rfl (by rw [hm]; rfl) q1440 q1442 qs22 q83 q1443 ⟨nh_0, dl_76⟩ (by decide) dX1_atom_156, (fun _ h => absurd h List.not_mem_nil)⟩) rfl))
 (kl_ok (ok_callI (run_I (by rw [hm]; rfl) q1495 q1496 q125 q1497 rfl ⟨nh_37, dl_77⟩ (by decide) dX1_atom_159) rfl))))
 (kn_ok
 (kl_ok (ok_aret rfl (Or.inl ⟨_, rfl⟩) dX1_atom_162))
 (kn_ok
 (kl_ok (ok_aP (ok_aload_n dX1_atom_163 rfl rfl)))
 (kl_ok (ok_aP (ok_bipush dX1_atom_164 (by decide +kernel) rfl)))))))
 (kn_ok
 (kn_ok
 (kn_ok
 (kl_ok (ok_callV (List.forall_mem_cons.mpr ⟨run_V (C0 := "FavourTown$Reader") rfl rfl (by rw [hm]; rfl) q1310 q1311 q1312 q89 q1313 ⟨nh_20, dl_2⟩ (by decide) dX1_atom_166, (fun _ h => absurd h List.not_mem_nil)⟩) rfl))
 (kn_ok
 (kl_ok (ok_aP (ok_if_ne dX1_atom_169 rfl rfl)))
 (kl_ok (ok_aP (ok_aload_n dX1_atom_172 rfl rfl)))))
 (kn_ok
 (kl_ok (ok_callV (List.forall_mem_cons.mpr ⟨run_V (C0 := "FavourTown$Reader") rfl rfl (by rw [hm]; rfl) q1122 q1123 q1124 q89 q1125 ⟨nh_20, dl_60⟩ (by decide) dX1_atom_173, (fun _ h => absurd h List.not_mem_nil)⟩) rfl))
 (kn_ok
 (kl_ok (ok_athrow dX1_atom_176))
 (kl_ok (ok_hp (ok_new (by decide +kernel) rfl q1493 q1494 q125 dX1_atom_177 rfl) le_new)))))
 (kn_ok
 (kn_ok
 (kl_ok (ok_aP (ok_dup dX1_atom_180 rfl)))
 (kn_ok
 (kl_ok (ok_aP (ok_aload_n dX1_atom_181 rfl rfl)))
 (kl_ok (ok_callV (List.forall_mem_cons.mpr ⟨run_V (C0 := "FavourTown") rfl rfl (by rw [hm]; rfl) q1440 q1442 qs22 q83 q1443 ⟨nh_0, dl_76⟩ (by decide) dX1_atom_182, (fun _ h => absurd h List.not_mem_nil)⟩) rfl))))
 (kn_ok
 (kl_ok (ok_aP (ok_aload_n dX1_atom_185 rfl rfl)))
 (kn_ok
 (kl_ok (ok_callI (run_I (by rw [hm]; rfl) q1495 q1496 q125 q1497 rfl ⟨nh_37, dl_77⟩ (by decide) dX1_atom_186) rfl))
 (kl_ok (ok_aret rfl (Or.inl ⟨_, rfl⟩) dX1_atom_189))))))))
/-- 55: FavourTown.sum()LFavourTown$Sum; -/
noncomputable def k_X1_sum : Nat → Option AOp :=
 tn 16 (tn 8 (tn 4 (tn 3 (tl 0 (o_new 14 [.null] 3))
  (tl 3 (aP (f_dup 4))))
  (tn 7 (tl 4 (o_callI 317 0 7))
  (tl 7 (aP (f_astore 1 8)))))
  (tn 12 (tn 9 (tl 8 (aP (f_aload 1 9)))
  (tl 9 (aP (f_getf [14] 0 12))))
  (tn 13 (tl 12 (aP (f_aload 0 13)))
  (tl 13 (o_callV (lkN [(0, 56)]) 0 16)))))
  (tn 24 (tn 20 (tn 19 (tl 16 (o_callV (lkN [(19, 116)]) 1 19))
  (tl 19 (aP (f_pop 20))))
  (tn 21 (tl 20 (aP (f_aload 0 21)))
  (tl 21 (aP (f_getf [0] 2 24)))))
  (tn 29 (tn 26 (tl 24 (aP (f_const (.int (nI 43)) 26)))
  (tl 26 (o_callV (lkN [(2, 136)]) 1 29)))
  (tn 32 (tl 29 (aP (f_if (fun x => decide (¬ x = 0)) 8 32)))
  (tn 33 (tl 32 (aP (f_aload 1 33)))
  (tl 33 (o_aret))))))
theorem kok_X1_sum {γ : AG} (hm : γ.2.2.2.2.1 = mTab) (hk : γ.2.2.2.2.2 = kTab) : KOK γ m_X1_sum k_X1_sum :=
 kn_ok
 (kn_ok
 (kn_ok
 (kn_ok
 (kl_ok (ok_hp (ok_new (by decide +kernel) rfl q1444 q1445 q122 dX1_sum_0 rfl) le_new))
 (kl_ok (ok_aP (ok_dup dX1_sum_3 rfl))))
 (kn_ok
 (kl_ok (ok_callI (run_IN (by rw [hm]; rfl) q1446 q1447 q122 q1448 rfl ⟨nh_9, dl_0⟩ (by decide) dX1_sum_4) rfl))
 (kl_ok (ok_aP (ok_astore_n dX1_sum_7 rfl rfl)))))
 (kn_ok
 (kn_ok
 (kl_ok (ok_aP (ok_aload_n dX1_sum_8 rfl rfl)))
 (kl_ok (ok_aP (ok_getf fo_28 fs_rf (Or.inr ⟨_, q1453⟩) dX1_sum_9 rfl))))
 (kn_ok
 (kl_ok (ok_aP (ok_aload_n dX1_sum_12 rfl rfl)))
 (kl_ok (ok_callV (List.forall_mem_cons.mpr ⟨run_V (C0 := "FavourTown") rfl rfl (by rw [hm]; rfl) q1457 q1459 qs23 q83 q1460 ⟨nh_0, dl_78⟩ (by decide) dX1_sum_13, (fun _ h => absurd h List.not_mem_nil)⟩) rfl)))))
 (kn_ok
 (kn_ok
 (kn_ok
 (kl_ok (ok_callV (List.forall_mem_cons.mpr ⟨run_V (C0 := "java/util/ArrayList") rfl rfl (by rw [hm]; rfl) q1305 q659 q660 q87 q661 ⟨nh_4, dl_36⟩ (by decide) dX1_sum_16, (fun _ h => absurd h List.not_mem_nil)⟩) rfl))
 (kl_ok (ok_aP (ok_pop dX1_sum_19 rfl))))
 (kn_ok
 (kl_ok (ok_aP (ok_aload_n dX1_sum_20 rfl rfl)))
 (kl_ok (ok_aP (ok_getf fo_47 fs_rf (Or.inl q355) dX1_sum_21 rfl)))))
 (kn_ok
 (kn_ok
 (kl_ok (ok_aP (ok_bipush dX1_sum_24 (by decide +kernel) rfl)))
 (kl_ok (ok_callV (List.forall_mem_cons.mpr ⟨run_V (C0 := "FavourTown$Reader") rfl rfl (by rw [hm]; rfl) q1310 q1311 q1312 q89 q1313 ⟨nh_20, dl_2⟩ (by decide) dX1_sum_26, (fun _ h => absurd h List.not_mem_nil)⟩) rfl)))
 (kn_ok
 (kl_ok (ok_aP (ok_if_ne dX1_sum_29 rfl rfl)))
 (kn_ok
 (kl_ok (ok_aP (ok_aload_n dX1_sum_32 rfl rfl)))
 (kl_ok (ok_aret rfl (Or.inl ⟨_, rfl⟩) dX1_sum_33))))))
/-- 56: FavourTown.onePart()LFavourTown$Part; -/
noncomputable def k_X1_onePart : Nat → Option AOp :=
 tn 31 (tn 15 (tn 7 (tn 1 (tl 0 (aP (f_aload 0 1)))
  (tn 4 (tl 1 (aP (f_getf [0] 2 4)))
  (tl 4 (o_callV (lkN [(2, 139)]) 0 7))))
  (tn 13 (tn 10 (tl 7 (aP (f_if (fun x => decide (x = 0)) 30 10)))
  (tl 10 (o_new 15 [.int 0, .null] 13)))
  (tn 14 (tl 13 (aP (f_dup 14)))
  (tl 14 (aP (f_aload 0 15))))))
  (tn 25 (tn 19 (tn 18 (tl 15 (aP (f_getf [0] 2 18)))
  (tl 18 (aP (f_const (.int (nI 0)) 19))))
  (tn 22 (tl 19 (aP (f_const (.int (nI 999)) 22)))
  (tl 22 (o_callV (lkN [(2, 134)]) 2 25))))
  (tn 29 (tn 26 (tl 25 (aP (f_const .null 26)))
  (tl 26 (o_callI 319 2 29)))
  (tn 30 (tl 29 (o_aret))
  (tl 30 (aP (f_aload 0 31)))))))
  (tn 49 (tn 41 (tn 37 (tn 34 (tl 31 (aP (f_getf [0] 2 34)))
  (tl 34 (o_callV (lkN [(2, 132)]) 0 37)))
  (tn 40 (tl 37 (o_callS 320 1 40))
  (tl 40 (aP (f_astore 1 41)))))
  (tn 45 (tn 42 (tl 41 (aP (f_aload 1 42)))
  (tl 42 (aP (f_null 45 53))))
  (tn 46 (tl 45 (aP (f_aload 0 46)))
  (tl 46 (aP (f_getf [0] 2 49))))))
  (tn 57 (tn 53 (tn 52 (tl 49 (o_callV (lkN [(2, 133)]) 0 52))
  (tl 52 (o_athrow [17, 22, 23, 24, 25])))
  (tn 56 (tl 53 (o_new 15 [.int 0, .null] 56))
  (tl 56 (aP (f_dup 57)))))
  (tn 59 (tn 58 (tl 57 (aP (f_const (.int (nI 0)) 58)))
  (tl 58 (aP (f_aload 1 59))))
  (tn 62 (tl 59 (o_callI 319 2 62))
  (tl 62 (o_aret))))))
theorem kok_X1_onePart {γ : AG} (hm : γ.2.2.2.2.1 = mTab) (hk : γ.2.2.2.2.2 = kTab) : KOK γ m_X1_onePart k_X1_onePart :=
 kn_ok
 (kn_ok
 (kn_ok
 (kn_ok
 (kl_ok (ok_aP (ok_aload_n dX1_onePart_0 rfl rfl)))
 (kn_ok
 (kl_ok (ok_aP (ok_getf fo_47 fs_rf (Or.inl q355) dX1_onePart_1 rfl)))
 (kl_ok (ok_callV (List.forall_mem_cons.mpr ⟨run_V (C0 := "FavourTown$Reader") rfl rfl (by rw [hm]; rfl) q1461 q1462 q1463 q89 q1464 ⟨nh_20, dl_16⟩ (by decide) dX1_onePart_4, (fun _ h => absurd h List.not_mem_nil)⟩) rfl))))
 (kn_ok
 (kn_ok
 (kl_ok (ok_aP (ok_if_eq dX1_onePart_7 rfl rfl)))
 (kl_ok (ok_hp (ok_new (by decide +kernel) rfl q1465 q1466 q123 dX1_onePart_10 rfl) le_new)))
 (kn_ok
 (kl_ok (ok_aP (ok_dup dX1_onePart_13 rfl)))
 (kl_ok (ok_aP (ok_aload_n dX1_onePart_14 rfl rfl))))))
 (kn_ok
 (kn_ok
 (kn_ok
 (kl_ok (ok_aP (ok_getf fo_47 fs_rf (Or.inl q355) dX1_onePart_15 rfl)))
 (kl_ok (ok_aP (ok_iconst dX1_onePart_18 rfl rfl))))
 (kn_ok
 (kl_ok (ok_aP (ok_sipush dX1_onePart_19 (by decide +kernel) rfl)))
 (kl_ok (ok_callV (List.forall_mem_cons.mpr ⟨run_V (C0 := "FavourTown$Reader") rfl rfl (by rw [hm]; rfl) q1227 q1228 q1229 q89 q1230 ⟨nh_20, dl_6⟩ (by decide) dX1_onePart_22, (fun _ h => absurd h List.not_mem_nil)⟩) rfl))))
 (kn_ok
 (kn_ok
 (kl_ok (ok_aP (ok_null dX1_onePart_25 rfl)))
 (kl_ok (ok_callI (run_I (by rw [hm]; rfl) q1467 q1468 q123 q1469 rfl ⟨nh_10, dl_79⟩ (by decide) dX1_onePart_26) rfl)))
 (kn_ok
 (kl_ok (ok_aret rfl (Or.inl ⟨_, rfl⟩) dX1_onePart_29))
 (kl_ok (ok_aP (ok_aload_n dX1_onePart_30 rfl rfl)))))))
 (kn_ok
 (kn_ok
 (kn_ok
 (kn_ok
 (kl_ok (ok_aP (ok_getf fo_47 fs_rf (Or.inl q355) dX1_onePart_31 rfl)))
 (kl_ok (ok_callV (List.forall_mem_cons.mpr ⟨run_V (C0 := "FavourTown$Reader") rfl rfl (by rw [hm]; rfl) q799 q800 q801 q89 q802 ⟨nh_20, dl_62⟩ (by decide) dX1_onePart_34, (fun _ h => absurd h List.not_mem_nil)⟩) rfl)))
 (kn_ok
 (kl_ok (ok_callS (run_S (by rw [hm]; rfl) q1478 q1479 q124 q1480 ⟨nh_38, dl_80⟩ (by decide) dX1_onePart_37) rfl))
 (kl_ok (ok_aP (ok_astore_n dX1_onePart_40 rfl rfl)))))
 (kn_ok
 (kn_ok
 (kl_ok (ok_aP (ok_aload_n dX1_onePart_41 rfl rfl)))
 (kl_ok (ok_aP (ok_ifnonnull dX1_onePart_42 rfl rfl))))
 (kn_ok
 (kl_ok (ok_aP (ok_aload_n dX1_onePart_45 rfl rfl)))
 (kl_ok (ok_aP (ok_getf fo_47 fs_rf (Or.inl q355) dX1_onePart_46 rfl))))))
 (kn_ok
 (kn_ok
 (kn_ok
 (kl_ok (ok_callV (List.forall_mem_cons.mpr ⟨run_V (C0 := "FavourTown$Reader") rfl rfl (by rw [hm]; rfl) q1122 q1123 q1124 q89 q1125 ⟨nh_20, dl_60⟩ (by decide) dX1_onePart_49, (fun _ h => absurd h List.not_mem_nil)⟩) rfl))
 (kl_ok (ok_athrow dX1_onePart_52)))
 (kn_ok
 (kl_ok (ok_hp (ok_new (by decide +kernel) rfl q1465 q1466 q123 dX1_onePart_53 rfl) le_new))
 (kl_ok (ok_aP (ok_dup dX1_onePart_56 rfl)))))
 (kn_ok
 (kn_ok
 (kl_ok (ok_aP (ok_iconst dX1_onePart_57 rfl rfl)))
 (kl_ok (ok_aP (ok_aload_n dX1_onePart_58 rfl rfl))))
 (kn_ok
 (kl_ok (ok_callI (run_I (by rw [hm]; rfl) q1467 q1468 q123 q1469 rfl ⟨nh_10, dl_79⟩ (by decide) dX1_onePart_59) rfl))
 (kl_ok (ok_aret rfl (Or.inl ⟨_, rfl⟩) dX1_onePart_62))))))
/-- 57: FavourTown.has(II)I -/
noncomputable def k_X1_has : Nat → Option AOp :=
 tn 25 (tn 10 (tn 5 (tn 1 (tl 0 (aP (f_aload 0 1)))
  (tn 2 (tl 1 (aP (f_iload 1 2)))
  (tl 2 (o_callV (lkN [(0, 58)]) 1 5))))
  (tn 6 (tl 5 (aP (f_iload 2 6)))
  (tn 7 (tl 6 (aP (f_const (.int (-1)) 7)))
  (tl 7 (aP (f_icmp (fun x y => decide (x = y)) 24 10))))))
  (tn 15 (tn 11 (tl 10 (aP (f_iload 2 11)))
  (tn 12 (tl 11 (aP (f_aload 0 12)))
  (tl 12 (aP (f_getf [0] 0 15)))))
  (tn 21 (tn 18 (tl 15 (aP (f_getf [1] 11 18)))
  (tl 18 (o_callV (lkN [(19, 113)]) 0 21)))
  (tn 24 (tl 21 (o_callS 59 2 24))
  (tl 24 (aP (f_aload 0 25)))))))
  (tn 35 (tn 32 (tn 28 (tl 25 (aP (f_getf [0] 0 28)))
  (tn 31 (tl 28 (aP (f_getf [1] 7 31)))
  (tl 31 (aP (f_iload 1 32)))))
  (tn 33 (tl 32 (aP (f_iald 0 33)))
  (tn 34 (tl 33 (aP (f_istore 3 34)))
  (tl 34 (aP (f_aload 0 35))))))
  (tn 42 (tn 38 (tl 35 (aP (f_getf [0] 0 38)))
  (tn 41 (tl 38 (aP (f_getf [1] 7 41)))
  (tl 41 (aP (f_iload 1 42)))))
  (tn 44 (tn 43 (tl 42 (aP (f_iload 2 43)))
  (tl 43 (o_iast 0 (fun y => y) 44)))
  (tn 45 (tl 44 (aP (f_iload 3 45)))
  (tl 45 (o_iret (fun _ => true)))))))
theorem kok_X1_has {γ : AG} (hm : γ.2.2.2.2.1 = mTab) (hk : γ.2.2.2.2.2 = kTab) : KOK γ m_X1_has k_X1_has :=
 kn_ok
 (kn_ok
 (kn_ok
 (kn_ok
 (kl_ok (ok_aP (ok_aload_n dX1_has_0 rfl rfl)))
 (kn_ok
 (kl_ok (ok_aP (ok_iload_n dX1_has_1 rfl rfl)))
 (kl_ok (ok_callV (List.forall_mem_cons.mpr ⟨run_V (C0 := "FavourTown") rfl rfl (by rw [hm]; rfl) q1547 q1549 qs24 q83 q1550 ⟨nh_0, dl_32⟩ (by decide) dX1_has_2, (fun _ h => absurd h List.not_mem_nil)⟩) rfl))))
 (kn_ok
 (kl_ok (ok_aP (ok_iload_n dX1_has_5 rfl rfl)))
 (kn_ok
 (kl_ok (ok_aP (ok_iconst dX1_has_6 rfl rfl)))
 (kl_ok (ok_aP (ok_icmp_eq dX1_has_7 rfl rfl))))))
 (kn_ok
 (kn_ok
 (kl_ok (ok_aP (ok_iload_n dX1_has_10 rfl rfl)))
 (kn_ok
 (kl_ok (ok_aP (ok_aload_n dX1_has_11 rfl rfl)))
 (kl_ok (ok_aP (ok_getf fo_0 fs_rf (Or.inl q351) dX1_has_12 rfl)))))
 (kn_ok
 (kn_ok
 (kl_ok (ok_aP (ok_getf fo_15 fs_rf (Or.inr ⟨_, q239⟩) dX1_has_15 rfl)))
 (kl_ok (ok_callV (List.forall_mem_cons.mpr ⟨run_V (C0 := "java/util/ArrayList") rfl rfl (by rw [hm]; rfl) q570 q401 q402 q87 q403 ⟨nh_4, dl_4⟩ (by decide) dX1_has_18, (fun _ h => absurd h List.not_mem_nil)⟩) rfl)))
 (kn_ok
 (kl_ok (ok_callS (run_S (by rw [hm]; rfl) q1551 q1552 q83 q1553 ⟨nh_0, dl_19⟩ (by decide) dX1_has_21) rfl))
 (kl_ok (ok_aP (ok_aload_n dX1_has_24 rfl rfl)))))))
 (kn_ok
 (kn_ok
 (kn_ok
 (kl_ok (ok_aP (ok_getf fo_0 fs_rf (Or.inl q351) dX1_has_25 rfl)))
 (kn_ok
 (kl_ok (ok_aP (ok_getf fo_9 fs_rf (Or.inr ⟨_, q231⟩) dX1_has_28 rfl)))
 (kl_ok (ok_aP (ok_iload_n dX1_has_31 rfl rfl)))))
 (kn_ok
 (kl_ok (ok_aP (ok_iald dX1_has_32 rfl)))
 (kn_ok
 (kl_ok (ok_aP (ok_istore_n dX1_has_33 rfl rfl)))
 (kl_ok (ok_aP (ok_aload_n dX1_has_34 rfl rfl))))))
 (kn_ok
 (kn_ok
 (kl_ok (ok_aP (ok_getf fo_0 fs_rf (Or.inl q351) dX1_has_35 rfl)))
 (kn_ok
 (kl_ok (ok_aP (ok_getf fo_9 fs_rf (Or.inr ⟨_, q231⟩) dX1_has_38 rfl)))
 (kl_ok (ok_aP (ok_iload_n dX1_has_41 rfl rfl)))))
 (kn_ok
 (kn_ok
 (kl_ok (ok_aP (ok_iload_n dX1_has_42 rfl rfl)))
 (kl_ok (ok_hp (ok_iast dX1_has_43 rfl) le_iast)))
 (kn_ok
 (kl_ok (ok_aP (ok_iload_n dX1_has_44 rfl rfl)))
 (kl_ok (ok_iret rfl dX1_has_45))))))
/-- 58: FavourTown.person(I)V -/
noncomputable def k_X1_person : Nat → Option AOp :=
 tn 5 (tn 1 (tl 0 (aP (f_iload 1 1)))
  (tn 2 (tl 1 (aP (f_aload 0 2)))
  (tl 2 (aP (f_getf [0] 0 5)))))
  (tn 8 (tl 5 (aP (f_getf [1] 3 8)))
  (tn 11 (tl 8 (o_callS 59 2 11))
  (tl 11 (o_vret))))
theorem kok_X1_person {γ : AG} (hm : γ.2.2.2.2.1 = mTab) (hk : γ.2.2.2.2.2 = kTab) : KOK γ m_X1_person k_X1_person :=
 kn_ok
 (kn_ok
 (kl_ok (ok_aP (ok_iload_n dX1_person_0 rfl rfl)))
 (kn_ok
 (kl_ok (ok_aP (ok_aload_n dX1_person_1 rfl rfl)))
 (kl_ok (ok_aP (ok_getf fo_0 fs_rf (Or.inl q351) dX1_person_2 rfl)))))
 (kn_ok
 (kl_ok (ok_aP (ok_getf fo_1 fs_rf (Or.inr ⟨_, q224⟩) dX1_person_5 rfl)))
 (kn_ok
 (kl_ok (ok_callS (run_S (by rw [hm]; rfl) q1551 q1552 q83 q1553 ⟨nh_0, dl_19⟩ (by decide) dX1_person_8) rfl))
 (kl_ok (ok_vret rfl dX1_person_11))))
/-- 59: FavourTown.there(II)V -/
noncomputable def k_X1_there : Nat → Option AOp :=
 tn 5 (tn 2 (tn 1 (tl 0 (aP (f_iload 0 1)))
  (tl 1 (aP (f_const (.int (nI 0)) 2))))
  (tn 3 (tl 2 (aP (f_iload 1 3)))
  (tn 4 (tl 3 (aP (f_const (.int (nI 1)) 4)))
  (tl 4 (aP (f_bin (fun x y => x - y) 5))))))
  (tn 11 (tn 8 (tl 5 (o_callS 40 3 8))
  (tl 8 (aP (f_if (fun x => decide (¬ x = 0)) 19 11))))
  (tn 18 (tl 11 (o_make 24 18))
  (tn 19 (tl 18 (o_athrow [17, 22, 23, 24, 25]))
  (tl 19 (o_vret)))))
theorem kok_X1_there {γ : AG} (hm : γ.2.2.2.2.1 = mTab) (hk : γ.2.2.2.2.2 = kTab) : KOK γ m_X1_there k_X1_there :=
 kn_ok
 (kn_ok
 (kn_ok
 (kl_ok (ok_aP (ok_iload_n dX1_there_0 rfl rfl)))
 (kl_ok (ok_aP (ok_iconst dX1_there_1 rfl rfl))))
 (kn_ok
 (kl_ok (ok_aP (ok_iload_n dX1_there_2 rfl rfl)))
 (kn_ok
 (kl_ok (ok_aP (ok_iconst dX1_there_3 rfl rfl)))
 (kl_ok (ok_aP (ok_isub dX1_there_4 rfl))))))
 (kn_ok
 (kn_ok
 (kl_ok (ok_callS (run_S (by rw [hm]; rfl) q1554 q804 q83 q805 ⟨nh_0, dl_17⟩ (by decide) dX1_there_5) rfl))
 (kl_ok (ok_aP (ok_if_ne dX1_there_8 rfl rfl))))
 (kn_ok
 (kl_ok (ok_hp (ok_make (names := ["java/lang/RuntimeException", "java/lang/Exception"]) rfl (by decide +kernel) (by decide +kernel) (by decide) q1555 q126 vat_2.1 vat_2.2.1 vat_2.2.2 dX1_there_11 dX1_there_14 dX1_there_15 rfl) le_make))
 (kn_ok
 (kl_ok (ok_athrow dX1_there_18))
 (kl_ok (ok_vret rfl dX1_there_19)))))
/-- 60: FavourTown.give(IIIIZ)I -/
noncomputable def k_X1_give : Nat → Option AOp :=
 tn 24 (tn 8 (tn 3 (tn 1 (tl 0 (aP (f_aload 0 1)))
  (tn 2 (tl 1 (aP (f_iload 1 2)))
  (tl 2 (aP (f_iload 2 3)))))
  (tn 6 (tl 3 (o_callV (lkN [(0, 61)]) 2 6))
  (tn 7 (tl 6 (aP (f_iload 3 7)))
  (tl 7 (aP (f_const (.int (nI 1)) 8))))))
  (tn 16 (tn 10 (tl 8 (aP (f_const (.int (nI 99)) 10)))
  (tn 13 (tl 10 (o_callS 40 3 13))
  (tl 13 (aP (f_if (fun x => decide (x = 0)) 31 16)))))
  (tn 19 (tn 18 (tl 16 (aP (f_iload 4 18)))
  (tl 18 (aP (f_const (.int (nI 0)) 19))))
  (tn 21 (tl 19 (aP (f_const (.int (nI 99)) 21)))
  (tl 21 (o_callS 40 3 24))))))
  (tn 39 (tn 31 (tn 27 (tl 24 (aP (f_if (fun x => decide (x = 0)) 31 27)))
  (tn 28 (tl 27 (aP (f_const (.int (nI 1)) 28)))
  (tl 28 (aP (f_goto 32)))))
  (tn 35 (tn 32 (tl 31 (aP (f_const (.int (nI 0)) 32)))
  (tl 32 (o_callS 62 1 35)))
  (tn 36 (tl 35 (aP (f_aload 0 36)))
  (tl 36 (aP (f_getf [0] 0 39))))))
  (tn 42 (tn 40 (tl 39 (aP (f_iload 1 40)))
  (tn 41 (tl 40 (aP (f_iload 2 41)))
  (tl 41 (aP (f_iload 3 42)))))
  (tn 46 (tn 44 (tl 42 (aP (f_iload 4 44)))
  (tl 44 (aP (f_iload 5 46))))
  (tn 49 (tl 46 (o_callV (lkN [(1, 104)]) 5 49))
  (tl 49 (o_iret (fun _ => true)))))))
theorem kok_X1_give {γ : AG} (hm : γ.2.2.2.2.1 = mTab) (hk : γ.2.2.2.2.2 = kTab) : KOK γ m_X1_give k_X1_give :=
 kn_ok
 (kn_ok
 (kn_ok
 (kn_ok
 (kl_ok (ok_aP (ok_aload_n dX1_give_0 rfl rfl)))
 (kn_ok
 (kl_ok (ok_aP (ok_iload_n dX1_give_1 rfl rfl)))
 (kl_ok (ok_aP (ok_iload_n dX1_give_2 rfl rfl)))))
 (kn_ok
 (kl_ok (ok_callV (List.forall_mem_cons.mpr ⟨run_V (C0 := "FavourTown") rfl rfl (by rw [hm]; rfl) q1577 q1579 qs25 q83 q1580 ⟨nh_0, dl_19⟩ (by decide) dX1_give_3, (fun _ h => absurd h List.not_mem_nil)⟩) rfl))
 (kn_ok
 (kl_ok (ok_aP (ok_iload_n dX1_give_6 rfl rfl)))
 (kl_ok (ok_aP (ok_iconst dX1_give_7 rfl rfl))))))
 (kn_ok
 (kn_ok
 (kl_ok (ok_aP (ok_bipush dX1_give_8 (by decide +kernel) rfl)))
 (kn_ok
 (kl_ok (ok_callS (run_S (by rw [hm]; rfl) q1554 q804 q83 q805 ⟨nh_0, dl_17⟩ (by decide) dX1_give_10) rfl))
 (kl_ok (ok_aP (ok_if_eq dX1_give_13 rfl rfl)))))
 (kn_ok
 (kn_ok
 (kl_ok (ok_aP (ok_iload dX1_give_16 rfl)))
 (kl_ok (ok_aP (ok_iconst dX1_give_18 rfl rfl))))
 (kn_ok
 (kl_ok (ok_aP (ok_bipush dX1_give_19 (by decide +kernel) rfl)))
 (kl_ok (ok_callS (run_S (by rw [hm]; rfl) q1554 q804 q83 q805 ⟨nh_0, dl_17⟩ (by decide) dX1_give_21) rfl))))))
 (kn_ok
 (kn_ok
 (kn_ok
 (kl_ok (ok_aP (ok_if_eq dX1_give_24 rfl rfl)))
 (kn_ok
 (kl_ok (ok_aP (ok_iconst dX1_give_27 rfl rfl)))
 (kl_ok (ok_aP (ok_goto dX1_give_28 rfl)))))
 (kn_ok
 (kn_ok
 (kl_ok (ok_aP (ok_iconst dX1_give_31 rfl rfl)))
 (kl_ok (ok_callS (run_S (by rw [hm]; rfl) q1581 q1582 q83 q1583 ⟨nh_0, dl_18⟩ (by decide) dX1_give_32) rfl)))
 (kn_ok
 (kl_ok (ok_aP (ok_aload_n dX1_give_35 rfl rfl)))
 (kl_ok (ok_aP (ok_getf fo_0 fs_rf (Or.inl q351) dX1_give_36 rfl))))))
 (kn_ok
 (kn_ok
 (kl_ok (ok_aP (ok_iload_n dX1_give_39 rfl rfl)))
 (kn_ok
 (kl_ok (ok_aP (ok_iload_n dX1_give_40 rfl rfl)))
 (kl_ok (ok_aP (ok_iload_n dX1_give_41 rfl rfl)))))
 (kn_ok
 (kn_ok
 (kl_ok (ok_aP (ok_iload dX1_give_42 rfl)))
 (kl_ok (ok_aP (ok_iload dX1_give_44 rfl))))
 (kn_ok
 (kl_ok (ok_callV (List.forall_mem_cons.mpr ⟨run_V (C0 := "FavourTown$World") rfl rfl (by rw [hm]; rfl) q1257 q1258 q1259 q84 q1260 ⟨nh_3, dl_8⟩ (by decide) dX1_give_46, (fun _ h => absurd h List.not_mem_nil)⟩) rfl))
 (kl_ok (ok_iret rfl dX1_give_49))))))
/-- 61: FavourTown.two(II)V -/
noncomputable def k_X1_two : Nat → Option AOp :=
 tn 11 (tn 5 (tn 1 (tl 0 (aP (f_aload 0 1)))
  (tn 2 (tl 1 (aP (f_iload 1 2)))
  (tl 2 (o_callV (lkN [(0, 58)]) 1 5))))
  (tn 7 (tn 6 (tl 5 (aP (f_aload 0 6)))
  (tl 6 (aP (f_iload 2 7))))
  (tn 10 (tl 7 (o_callV (lkN [(0, 58)]) 1 10))
  (tl 10 (aP (f_iload 1 11))))))
  (tn 16 (tn 12 (tl 11 (aP (f_iload 2 12)))
  (tn 15 (tl 12 (aP (f_icmp (fun x y => decide (x = y)) 19 15)))
  (tl 15 (aP (f_const (.int (nI 1)) 16)))))
  (tn 20 (tn 19 (tl 16 (aP (f_goto 20)))
  (tl 19 (aP (f_const (.int (nI 0)) 20))))
  (tn 23 (tl 20 (o_callS 62 1 23))
  (tl 23 (o_vret)))))
theorem kok_X1_two {γ : AG} (hm : γ.2.2.2.2.1 = mTab) (hk : γ.2.2.2.2.2 = kTab) : KOK γ m_X1_two k_X1_two :=
 kn_ok
 (kn_ok
 (kn_ok
 (kl_ok (ok_aP (ok_aload_n dX1_two_0 rfl rfl)))
 (kn_ok
 (kl_ok (ok_aP (ok_iload_n dX1_two_1 rfl rfl)))
 (kl_ok (ok_callV (List.forall_mem_cons.mpr ⟨run_V (C0 := "FavourTown") rfl rfl (by rw [hm]; rfl) q1547 q1549 qs24 q83 q1550 ⟨nh_0, dl_32⟩ (by decide) dX1_two_2, (fun _ h => absurd h List.not_mem_nil)⟩) rfl))))
 (kn_ok
 (kn_ok
 (kl_ok (ok_aP (ok_aload_n dX1_two_5 rfl rfl)))
 (kl_ok (ok_aP (ok_iload_n dX1_two_6 rfl rfl))))
 (kn_ok
 (kl_ok (ok_callV (List.forall_mem_cons.mpr ⟨run_V (C0 := "FavourTown") rfl rfl (by rw [hm]; rfl) q1547 q1549 qs24 q83 q1550 ⟨nh_0, dl_32⟩ (by decide) dX1_two_7, (fun _ h => absurd h List.not_mem_nil)⟩) rfl))
 (kl_ok (ok_aP (ok_iload_n dX1_two_10 rfl rfl))))))
 (kn_ok
 (kn_ok
 (kl_ok (ok_aP (ok_iload_n dX1_two_11 rfl rfl)))
 (kn_ok
 (kl_ok (ok_aP (ok_icmp_eq dX1_two_12 rfl rfl)))
 (kl_ok (ok_aP (ok_iconst dX1_two_15 rfl rfl)))))
 (kn_ok
 (kn_ok
 (kl_ok (ok_aP (ok_goto dX1_two_16 rfl)))
 (kl_ok (ok_aP (ok_iconst dX1_two_19 rfl rfl))))
 (kn_ok
 (kl_ok (ok_callS (run_S (by rw [hm]; rfl) q1581 q1582 q83 q1583 ⟨nh_0, dl_18⟩ (by decide) dX1_two_20) rfl))
 (kl_ok (ok_vret rfl dX1_two_23)))))
/-- 62: FavourTown.demand(Z)V -/
noncomputable def k_X1_demand : Nat → Option AOp :=
 tn 4 (tn 1 (tl 0 (aP (f_iload 0 1)))
  (tl 1 (aP (f_if (fun x => decide (¬ x = 0)) 12 4))))
  (tn 11 (tl 4 (o_make 22 11))
  (tn 12 (tl 11 (o_athrow [17, 22, 23, 24, 25]))
  (tl 12 (o_vret))))
theorem kok_X1_demand {γ : AG} (hm : γ.2.2.2.2.1 = mTab) (hk : γ.2.2.2.2.2 = kTab) : KOK γ m_X1_demand k_X1_demand :=
 kn_ok
 (kn_ok
 (kl_ok (ok_aP (ok_iload_n dX1_demand_0 rfl rfl)))
 (kl_ok (ok_aP (ok_if_ne dX1_demand_1 rfl rfl))))
 (kn_ok
 (kl_ok (ok_hp (ok_make (names := ["java/lang/RuntimeException", "java/lang/Exception"]) rfl (by decide +kernel) (by decide +kernel) (by decide) q1318 q109 vat_0.1 vat_0.2.1 vat_0.2.2 dX1_demand_4 dX1_demand_7 dX1_demand_8 rfl) le_make))
 (kn_ok
 (kl_ok (ok_athrow dX1_demand_11))
 (kl_ok (ok_vret rfl dX1_demand_12))))
/-- 63: FavourTown.pass(II)I -/
noncomputable def k_X1_pass : Nat → Option AOp :=
 tn 16 (tn 7 (tn 2 (tn 1 (tl 0 (aP (f_aload 0 1)))
  (tl 1 (aP (f_iload 1 2))))
  (tn 5 (tl 2 (o_callV (lkN [(0, 64)]) 1 5))
  (tn 6 (tl 5 (aP (f_astore 3 6)))
  (tl 6 (aP (f_aload 0 7))))))
  (tn 11 (tn 8 (tl 7 (aP (f_iload 2 8)))
  (tl 8 (o_callV (lkN [(0, 58)]) 1 11)))
  (tn 12 (tl 11 (aP (f_aload 3 12)))
  (tn 15 (tl 12 (aP (f_getf [5, 6] 4 15)))
  (tl 15 (aP (f_iload 2 16)))))))
  (tn 27 (tn 20 (tn 19 (tl 16 (aP (f_icmp (fun x y => decide (x = y)) 23 19)))
  (tl 19 (aP (f_const (.int (nI 1)) 20))))
  (tn 23 (tl 20 (aP (f_goto 24)))
  (tn 24 (tl 23 (aP (f_const (.int (nI 0)) 24)))
  (tl 24 (o_callS 62 1 27)))))
  (tn 32 (tn 28 (tl 27 (aP (f_aload 0 28)))
  (tn 31 (tl 28 (aP (f_getf [0] 0 31)))
  (tl 31 (aP (f_aload 3 32)))))
  (tn 33 (tl 32 (aP (f_iload 2 33)))
  (tn 36 (tl 33 (o_callV (lkN [(1, 105)]) 2 36))
  (tl 36 (o_iret (fun _ => true)))))))
theorem kok_X1_pass {γ : AG} (hm : γ.2.2.2.2.1 = mTab) (hk : γ.2.2.2.2.2 = kTab) : KOK γ m_X1_pass k_X1_pass :=
 kn_ok
 (kn_ok
 (kn_ok
 (kn_ok
 (kl_ok (ok_aP (ok_aload_n dX1_pass_0 rfl rfl)))
 (kl_ok (ok_aP (ok_iload_n dX1_pass_1 rfl rfl))))
 (kn_ok
 (kl_ok (ok_callV (List.forall_mem_cons.mpr ⟨run_V (C0 := "FavourTown") rfl rfl (by rw [hm]; rfl) q1591 q1593 qs26 q83 q1594 ⟨nh_0, dl_45⟩ (by decide) dX1_pass_2, (fun _ h => absurd h List.not_mem_nil)⟩) rfl))
 (kn_ok
 (kl_ok (ok_aP (ok_astore_n dX1_pass_5 rfl rfl)))
 (kl_ok (ok_aP (ok_aload_n dX1_pass_6 rfl rfl))))))
 (kn_ok
 (kn_ok
 (kl_ok (ok_aP (ok_iload_n dX1_pass_7 rfl rfl)))
 (kl_ok (ok_callV (List.forall_mem_cons.mpr ⟨run_V (C0 := "FavourTown") rfl rfl (by rw [hm]; rfl) q1547 q1549 qs24 q83 q1550 ⟨nh_0, dl_32⟩ (by decide) dX1_pass_8, (fun _ h => absurd h List.not_mem_nil)⟩) rfl)))
 (kn_ok
 (kl_ok (ok_aP (ok_aload_n dX1_pass_11 rfl rfl)))
 (kn_ok
 (kl_ok (ok_aP (ok_getf fo_4 fs_rf (Or.inr ⟨_, q620⟩) dX1_pass_12 rfl)))
 (kl_ok (ok_aP (ok_iload_n dX1_pass_15 rfl rfl)))))))
 (kn_ok
 (kn_ok
 (kn_ok
 (kl_ok (ok_aP (ok_icmp_eq dX1_pass_16 rfl rfl)))
 (kl_ok (ok_aP (ok_iconst dX1_pass_19 rfl rfl))))
 (kn_ok
 (kl_ok (ok_aP (ok_goto dX1_pass_20 rfl)))
 (kn_ok
 (kl_ok (ok_aP (ok_iconst dX1_pass_23 rfl rfl)))
 (kl_ok (ok_callS (run_S (by rw [hm]; rfl) q1581 q1582 q83 q1583 ⟨nh_0, dl_18⟩ (by decide) dX1_pass_24) rfl)))))
 (kn_ok
 (kn_ok
 (kl_ok (ok_aP (ok_aload_n dX1_pass_27 rfl rfl)))
 (kn_ok
 (kl_ok (ok_aP (ok_getf fo_0 fs_rf (Or.inl q351) dX1_pass_28 rfl)))
 (kl_ok (ok_aP (ok_aload_n dX1_pass_31 rfl rfl)))))
 (kn_ok
 (kl_ok (ok_aP (ok_iload_n dX1_pass_32 rfl rfl)))
 (kn_ok
 (kl_ok (ok_callV (List.forall_mem_cons.mpr ⟨run_V (C0 := "FavourTown$World") rfl rfl (by rw [hm]; rfl) q1268 q1269 q1270 q84 q1271 ⟨nh_3, dl_22⟩ (by decide) dX1_pass_33, (fun _ h => absurd h List.not_mem_nil)⟩) rfl))
 (kl_ok (ok_iret rfl dX1_pass_36))))))
/-- 64: FavourTown.favourAt(I)LFavourTown$Favour; -/
noncomputable def k_X1_favourAt : Nat → Option AOp :=
 tn 14 (tn 5 (tn 1 (tl 0 (aP (f_iload 1 1)))
  (tn 2 (tl 1 (aP (f_aload 0 2)))
  (tl 2 (aP (f_getf [0] 0 5)))))
  (tn 8 (tl 5 (aP (f_getf [1] 9 8)))
  (tn 11 (tl 8 (o_callV (lkN [(19, 113)]) 0 11))
  (tl 11 (o_callS 59 2 14)))))
  (tn 21 (tn 15 (tl 14 (aP (f_aload 0 15)))
  (tn 18 (tl 15 (aP (f_getf [0] 0 18)))
  (tl 18 (aP (f_getf [1] 9 21)))))
  (tn 25 (tn 22 (tl 21 (aP (f_iload 1 22)))
  (tl 22 (o_callV (lkN [(19, 114)]) 1 25)))
  (tn 28 (tl 25 (aP (f_cast [5, 6] [] 28)))
  (tl 28 (o_aret)))))
theorem kok_X1_favourAt {γ : AG} (hm : γ.2.2.2.2.1 = mTab) (hk : γ.2.2.2.2.2 = kTab) : KOK γ m_X1_favourAt k_X1_favourAt :=
 kn_ok
 (kn_ok
 (kn_ok
 (kl_ok (ok_aP (ok_iload_n dX1_favourAt_0 rfl rfl)))
 (kn_ok
 (kl_ok (ok_aP (ok_aload_n dX1_favourAt_1 rfl rfl)))
 (kl_ok (ok_aP (ok_getf fo_0 fs_rf (Or.inl q351) dX1_favourAt_2 rfl)))))
 (kn_ok
 (kl_ok (ok_aP (ok_getf fo_2 fs_rf (Or.inr ⟨_, q235⟩) dX1_favourAt_5 rfl)))
 (kn_ok
 (kl_ok (ok_callV (List.forall_mem_cons.mpr ⟨run_V (C0 := "java/util/ArrayList") rfl rfl (by rw [hm]; rfl) q570 q401 q402 q87 q403 ⟨nh_4, dl_4⟩ (by decide) dX1_favourAt_8, (fun _ h => absurd h List.not_mem_nil)⟩) rfl))
 (kl_ok (ok_callS (run_S (by rw [hm]; rfl) q1551 q1552 q83 q1553 ⟨nh_0, dl_19⟩ (by decide) dX1_favourAt_11) rfl)))))
 (kn_ok
 (kn_ok
 (kl_ok (ok_aP (ok_aload_n dX1_favourAt_14 rfl rfl)))
 (kn_ok
 (kl_ok (ok_aP (ok_getf fo_0 fs_rf (Or.inl q351) dX1_favourAt_15 rfl)))
 (kl_ok (ok_aP (ok_getf fo_2 fs_rf (Or.inr ⟨_, q235⟩) dX1_favourAt_18 rfl)))))
 (kn_ok
 (kn_ok
 (kl_ok (ok_aP (ok_iload_n dX1_favourAt_21 rfl rfl)))
 (kl_ok (ok_callV (List.forall_mem_cons.mpr ⟨run_V (C0 := "java/util/ArrayList") rfl rfl (by rw [hm]; rfl) q571 q405 q406 q87 q407 ⟨nh_4, dl_21⟩ (by decide) dX1_favourAt_22, (fun _ h => absurd h List.not_mem_nil)⟩) rfl)))
 (kn_ok
 (kl_ok (ok_aP (ok_cast q572 (List.forall_mem_cons.mpr ⟨Or.inr ⟨_, rfl, rfl⟩, (List.forall_mem_cons.mpr ⟨Or.inl ⟨_, rfl, q2339⟩, (fun _ h => absurd h List.not_mem_nil)⟩)⟩) (fun _ h => absurd h List.not_mem_nil) dX1_favourAt_25 rfl)))
 (kl_ok (ok_aret rfl (Or.inl ⟨_, rfl⟩) dX1_favourAt_28)))))
/-- 65: FavourTown.call(I)I -/
noncomputable def k_X1_call : Nat → Option AOp :=
 tn 15 (tn 6 (tn 2 (tn 1 (tl 0 (aP (f_aload 0 1)))
  (tl 1 (aP (f_iload 1 2))))
  (tn 5 (tl 2 (o_callV (lkN [(0, 64)]) 1 5))
  (tl 5 (aP (f_astore 2 6)))))
  (tn 10 (tn 7 (tl 6 (aP (f_aload 2 7)))
  (tl 7 (aP (f_getf [5, 6] 4 10))))
  (tn 11 (tl 10 (aP (f_const (.int (-1)) 11)))
  (tn 14 (tl 11 (aP (f_icmp (fun x y => decide (¬ x = y)) 16 14)))
  (tl 14 (aP (f_const (.int (-1)) 15)))))))
  (tn 21 (tn 17 (tn 16 (tl 15 (o_iret (fun _ => true)))
  (tl 16 (aP (f_aload 2 17))))
  (tn 18 (tl 17 (aP (f_const (.int (-1)) 18)))
  (tl 18 (o_putf [5, 6] 4 vI 21))))
  (tn 23 (tn 22 (tl 21 (aP (f_aload 2 22)))
  (tl 22 (aP (f_aload 2 23))))
  (tn 26 (tl 23 (aP (f_getf [5, 6] 5 26)))
  (tn 29 (tl 26 (o_callV (lkN [(5, 243), (6, 243)]) 1 29))
  (tl 29 (o_iret (fun _ => true)))))))
theorem kok_X1_call {γ : AG} (hm : γ.2.2.2.2.1 = mTab) (hk : γ.2.2.2.2.2 = kTab) : KOK γ m_X1_call k_X1_call :=
 kn_ok
 (kn_ok
 (kn_ok
 (kn_ok
 (kl_ok (ok_aP (ok_aload_n dX1_call_0 rfl rfl)))
 (kl_ok (ok_aP (ok_iload_n dX1_call_1 rfl rfl))))
 (kn_ok
 (kl_ok (ok_callV (List.forall_mem_cons.mpr ⟨run_V (C0 := "FavourTown") rfl rfl (by rw [hm]; rfl) q1591 q1593 qs26 q83 q1594 ⟨nh_0, dl_45⟩ (by decide) dX1_call_2, (fun _ h => absurd h List.not_mem_nil)⟩) rfl))
 (kl_ok (ok_aP (ok_astore_n dX1_call_5 rfl rfl)))))
 (kn_ok
 (kn_ok
 (kl_ok (ok_aP (ok_aload_n dX1_call_6 rfl rfl)))
 (kl_ok (ok_aP (ok_getf fo_4 fs_rf (Or.inr ⟨_, q620⟩) dX1_call_7 rfl))))
 (kn_ok
 (kl_ok (ok_aP (ok_iconst dX1_call_10 rfl rfl)))
 (kn_ok
 (kl_ok (ok_aP (ok_icmp_ne dX1_call_11 rfl rfl)))
 (kl_ok (ok_aP (ok_iconst dX1_call_14 rfl rfl)))))))
 (kn_ok
 (kn_ok
 (kn_ok
 (kl_ok (ok_iret rfl dX1_call_15))
 (kl_ok (ok_aP (ok_aload_n dX1_call_16 rfl rfl))))
 (kn_ok
 (kl_ok (ok_aP (ok_iconst dX1_call_17 rfl rfl)))
 (kl_ok (ok_hp (ok_putf fo_4 fs_rf fn_10 (Or.inr ⟨_, q620⟩) pd_0 vI_ok dX1_call_18 rfl) le_putf))))
 (kn_ok
 (kn_ok
 (kl_ok (ok_aP (ok_aload_n dX1_call_21 rfl rfl)))
 (kl_ok (ok_aP (ok_aload_n dX1_call_22 rfl rfl))))
 (kn_ok
 (kl_ok (ok_aP (ok_getf fo_6 fs_rf (Or.inr ⟨_, q623⟩) dX1_call_23 rfl)))
 (kn_ok
 (kl_ok (ok_callV (List.forall_mem_cons.mpr ⟨run_V (C0 := "FavourTown$Favour") rfl rfl (by rw [hm]; rfl) q1602 q457 q458 q96 q461 ⟨nh_5, dl_10⟩ (by decide) dX1_call_26, (List.forall_mem_cons.mpr ⟨run_U (C0 := "FavourTown$Timed") (owner := "FavourTown$Favour") (nx := ⟨"FavourTown$Favour", "worthAt", "(I)I"⟩) rfl rfl (by rw [hm]; rfl) q1602 q459 q460 q457 q96 q461 ⟨nh_5, dl_10⟩ (by decide) dX1_call_26, (fun _ h => absurd h List.not_mem_nil)⟩)⟩) rfl))
 (kl_ok (ok_iret rfl dX1_call_29))))))
/-- 66: FavourTown.days(I)I -/
noncomputable def k_X1_days : Nat → Option AOp :=
 tn 10 (tn 2 (tn 1 (tl 0 (aP (f_iload 1 1)))
  (tl 1 (aP (f_const (.int (nI 1)) 2))))
  (tn 4 (tl 2 (aP (f_const (.int (nI 99)) 4)))
  (tn 7 (tl 4 (o_callS 40 3 7))
  (tl 7 (o_callS 62 1 10)))))
  (tn 14 (tn 11 (tl 10 (aP (f_aload 0 11)))
  (tl 11 (aP (f_getf [0] 0 14))))
  (tn 15 (tl 14 (aP (f_iload 1 15)))
  (tn 18 (tl 15 (o_callV (lkN [(1, 106)]) 1 18))
  (tl 18 (o_iret (fun _ => true))))))
theorem kok_X1_days {γ : AG} (hm : γ.2.2.2.2.1 = mTab) (hk : γ.2.2.2.2.2 = kTab) : KOK γ m_X1_days k_X1_days :=
 kn_ok
 (kn_ok
 (kn_ok
 (kl_ok (ok_aP (ok_iload_n dX1_days_0 rfl rfl)))
 (kl_ok (ok_aP (ok_iconst dX1_days_1 rfl rfl))))
 (kn_ok
 (kl_ok (ok_aP (ok_bipush dX1_days_2 (by decide +kernel) rfl)))
 (kn_ok
 (kl_ok (ok_callS (run_S (by rw [hm]; rfl) q1554 q804 q83 q805 ⟨nh_0, dl_17⟩ (by decide) dX1_days_4) rfl))
 (kl_ok (ok_callS (run_S (by rw [hm]; rfl) q1581 q1582 q83 q1583 ⟨nh_0, dl_18⟩ (by decide) dX1_days_7) rfl)))))
 (kn_ok
 (kn_ok
 (kl_ok (ok_aP (ok_aload_n dX1_days_10 rfl rfl)))
 (kl_ok (ok_aP (ok_getf fo_0 fs_rf (Or.inl q351) dX1_days_11 rfl))))
 (kn_ok
 (kl_ok (ok_aP (ok_iload_n dX1_days_14 rfl rfl)))
 (kn_ok
 (kl_ok (ok_callV (List.forall_mem_cons.mpr ⟨run_V (C0 := "FavourTown$World") rfl rfl (by rw [hm]; rfl) q1278 q1279 q1280 q84 q1281 ⟨nh_3, dl_10⟩ (by decide) dX1_days_15, (fun _ h => absurd h List.not_mem_nil)⟩) rfl))
 (kl_ok (ok_iret rfl dX1_days_18)))))
/-- 67: FavourTown.look(II)I -/
noncomputable def k_X1_look : Nat → Option AOp :=
 tn 72 (tn 53 (tn 7 (tn 2 (tn 1 (tl 0 (aP (f_aload 0 1)))
  (tl 1 (aP (f_iload 1 2))))
  (tn 5 (tl 2 (o_callV (lkN [(0, 64)]) 1 5))
  (tn 6 (tl 5 (aP (f_astore 3 6)))
  (tl 6 (aP (f_iload 2 7))))))
  (tn 12 (tn 9 (tl 7 (aP (f_const (.int (nI 6)) 9)))
  (tl 9 (o_callS 68 2 12)))
  (tn 13 (tl 12 (aP (f_iload 2 13)))
  (tn 52 (tl 13 (aP (f_sw (fun x => if x.toInt < 0 ∨ 5 < x.toInt then 98 else [52, 57, 62, 67, 72, 93].getD (x.toInt - 0).toNat 0))))
  (tl 52 (aP (f_aload 3 53)))))))
  (tn 62 (tn 57 (tn 56 (tl 53 (aP (f_getf [5, 6] 0 56)))
  (tl 56 (o_iret (fun _ => true))))
  (tn 58 (tl 57 (aP (f_aload 3 58)))
  (tn 61 (tl 58 (aP (f_getf [5, 6] 4 61)))
  (tl 61 (o_iret (fun _ => true))))))
  (tn 67 (tn 63 (tl 62 (aP (f_aload 3 63)))
  (tn 66 (tl 63 (aP (f_getf [5, 6] 1 66)))
  (tl 66 (o_iret (fun _ => true)))))
  (tn 68 (tl 67 (aP (f_aload 3 68)))
  (tn 71 (tl 68 (aP (f_getf [5, 6] 5 71)))
  (tl 71 (o_iret (fun _ => true))))))))
  (tn 92 (tn 81 (tn 76 (tn 73 (tl 72 (aP (f_aload 3 73)))
  (tl 73 (aP (f_getf [5, 6] 4 76))))
  (tn 77 (tl 76 (aP (f_const (.int (-1)) 77)))
  (tn 80 (tl 77 (aP (f_icmp (fun x y => decide (¬ x = y)) 84 80)))
  (tl 80 (aP (f_const (.int (nI 0)) 81))))))
  (tn 85 (tn 84 (tl 81 (aP (f_goto 92)))
  (tl 84 (aP (f_aload 3 85))))
  (tn 86 (tl 85 (aP (f_aload 3 86)))
  (tn 89 (tl 86 (aP (f_getf [5, 6] 5 89)))
  (tl 89 (o_callV (lkN [(5, 243), (6, 243)]) 1 92))))))
  (tn 99 (tn 94 (tn 93 (tl 92 (o_iret (fun _ => true)))
  (tl 93 (aP (f_aload 3 94))))
  (tn 97 (tl 94 (o_callV (lkN [(5, 242), (6, 249)]) 0 97))
  (tn 98 (tl 97 (o_iret (fun _ => true)))
  (tl 98 (aP (f_aload 3 99))))))
  (tn 106 (tn 102 (tl 99 (aP (f_getf [5, 6] 2 102)))
  (tn 105 (tl 102 (aP (f_if (fun x => decide (x = 0)) 109 105)))
  (tl 105 (aP (f_const (.int (nI 1)) 106)))))
  (tn 109 (tl 106 (aP (f_goto 110)))
  (tn 110 (tl 109 (aP (f_const (.int (nI 0)) 110)))
  (tl 110 (o_iret (fun _ => true))))))))
theorem kok_X1_look {γ : AG} (hm : γ.2.2.2.2.1 = mTab) (hk : γ.2.2.2.2.2 = kTab) : KOK γ m_X1_look k_X1_look :=
 kn_ok
 (kn_ok
 (kn_ok
 (kn_ok
 (kn_ok
 (kl_ok (ok_aP (ok_aload_n dX1_look_0 rfl rfl)))
 (kl_ok (ok_aP (ok_iload_n dX1_look_1 rfl rfl))))
 (kn_ok
 (kl_ok (ok_callV (List.forall_mem_cons.mpr ⟨run_V (C0 := "FavourTown") rfl rfl (by rw [hm]; rfl) q1591 q1593 qs26 q83 q1594 ⟨nh_0, dl_45⟩ (by decide) dX1_look_2, (fun _ h => absurd h List.not_mem_nil)⟩) rfl))
 (kn_ok
 (kl_ok (ok_aP (ok_astore_n dX1_look_5 rfl rfl)))
 (kl_ok (ok_aP (ok_iload_n dX1_look_6 rfl rfl))))))
 (kn_ok
 (kn_ok
 (kl_ok (ok_aP (ok_bipush dX1_look_7 (by decide +kernel) rfl)))
 (kl_ok (ok_callS (run_S (by rw [hm]; rfl) q1618 q1619 q83 q1620 ⟨nh_0, dl_19⟩ (by decide) dX1_look_9) rfl)))
 (kn_ok
 (kl_ok (ok_aP (ok_iload_n dX1_look_12 rfl rfl)))
 (kn_ok
 (kl_ok (ok_aP (ok_table (tg := [52, 57, 62, 67, 72, 93]) (td := 98) dX1_look_13 rfl rfl rfl rfl)))
 (kl_ok (ok_aP (ok_aload_n dX1_look_52 rfl rfl)))))))
 (kn_ok
 (kn_ok
 (kn_ok
 (kl_ok (ok_aP (ok_getf fo_5 fs_rf (Or.inr ⟨_, q606⟩) dX1_look_53 rfl)))
 (kl_ok (ok_iret rfl dX1_look_56)))
 (kn_ok
 (kl_ok (ok_aP (ok_aload_n dX1_look_57 rfl rfl)))
 (kn_ok
 (kl_ok (ok_aP (ok_getf fo_4 fs_rf (Or.inr ⟨_, q620⟩) dX1_look_58 rfl)))
 (kl_ok (ok_iret rfl dX1_look_61)))))
 (kn_ok
 (kn_ok
 (kl_ok (ok_aP (ok_aload_n dX1_look_62 rfl rfl)))
 (kn_ok
 (kl_ok (ok_aP (ok_getf fo_10 fs_rf (Or.inr ⟨_, q610⟩) dX1_look_63 rfl)))
 (kl_ok (ok_iret rfl dX1_look_66))))
 (kn_ok
 (kl_ok (ok_aP (ok_aload_n dX1_look_67 rfl rfl)))
 (kn_ok
 (kl_ok (ok_aP (ok_getf fo_6 fs_rf (Or.inr ⟨_, q623⟩) dX1_look_68 rfl)))
 (kl_ok (ok_iret rfl dX1_look_71)))))))
 (kn_ok
 (kn_ok
 (kn_ok
 (kn_ok
 (kl_ok (ok_aP (ok_aload_n dX1_look_72 rfl rfl)))
 (kl_ok (ok_aP (ok_getf fo_4 fs_rf (Or.inr ⟨_, q620⟩) dX1_look_73 rfl))))
 (kn_ok
 (kl_ok (ok_aP (ok_iconst dX1_look_76 rfl rfl)))
 (kn_ok
 (kl_ok (ok_aP (ok_icmp_ne dX1_look_77 rfl rfl)))
 (kl_ok (ok_aP (ok_iconst dX1_look_80 rfl rfl))))))
 (kn_ok
 (kn_ok
 (kl_ok (ok_aP (ok_goto dX1_look_81 rfl)))
 (kl_ok (ok_aP (ok_aload_n dX1_look_84 rfl rfl))))
 (kn_ok
 (kl_ok (ok_aP (ok_aload_n dX1_look_85 rfl rfl)))
 (kn_ok
 (kl_ok (ok_aP (ok_getf fo_6 fs_rf (Or.inr ⟨_, q623⟩) dX1_look_86 rfl)))
 (kl_ok (ok_callV (List.forall_mem_cons.mpr ⟨run_V (C0 := "FavourTown$Favour") rfl rfl (by rw [hm]; rfl) q1602 q457 q458 q96 q461 ⟨nh_5, dl_10⟩ (by decide) dX1_look_89, (List.forall_mem_cons.mpr ⟨run_U (C0 := "FavourTown$Timed") (owner := "FavourTown$Favour") (nx := ⟨"FavourTown$Favour", "worthAt", "(I)I"⟩) rfl rfl (by rw [hm]; rfl) q1602 q459 q460 q457 q96 q461 ⟨nh_5, dl_10⟩ (by decide) dX1_look_89, (fun _ h => absurd h List.not_mem_nil)⟩)⟩) rfl))))))
 (kn_ok
 (kn_ok
 (kn_ok
 (kl_ok (ok_iret rfl dX1_look_92))
 (kl_ok (ok_aP (ok_aload_n dX1_look_93 rfl rfl))))
 (kn_ok
 (kl_ok (ok_callV (List.forall_mem_cons.mpr ⟨run_V (C0 := "FavourTown$Favour") rfl rfl (by rw [hm]; rfl) q1636 q441 q442 q96 q447 ⟨nh_5, dl_4⟩ (by decide) dX1_look_94, (List.forall_mem_cons.mpr ⟨run_O (C0 := "FavourTown$Timed") (owner := "FavourTown$Favour") (nx := ⟨"FavourTown$Favour", "end", "()I"⟩) rfl (by rw [hm]; rfl) q1636 q443 q441 q444 q445 q97 q446 q447 ⟨nh_5, dl_4⟩ (by decide) dX1_look_94, (fun _ h => absurd h List.not_mem_nil)⟩)⟩) rfl))
 (kn_ok
 (kl_ok (ok_iret rfl dX1_look_97))
 (kl_ok (ok_aP (ok_aload_n dX1_look_98 rfl rfl))))))
 (kn_ok
 (kn_ok
 (kl_ok (ok_aP (ok_getf fo_8 fs_rf (Or.inr ⟨_, q614⟩) dX1_look_99 rfl)))
 (kn_ok
 (kl_ok (ok_aP (ok_if_eq dX1_look_102 rfl rfl)))
 (kl_ok (ok_aP (ok_iconst dX1_look_105 rfl rfl)))))
 (kn_ok
 (kl_ok (ok_aP (ok_goto dX1_look_106 rfl)))
 (kn_ok
 (kl_ok (ok_aP (ok_iconst dX1_look_109 rfl rfl)))
 (kl_ok (ok_iret rfl dX1_look_110)))))))
/-- 68: FavourTown.asked(II)V -/
noncomputable def k_X1_asked : Nat → Option AOp :=
 tn 6 (tn 2 (tn 1 (tl 0 (aP (f_iload 0 1)))
  (tl 1 (aP (f_const (.int (nI 0)) 2))))
  (tn 3 (tl 2 (aP (f_iload 1 3)))
  (tl 3 (o_callS 40 3 6))))
  (tn 16 (tn 9 (tl 6 (aP (f_if (fun x => decide (¬ x = 0)) 17 9)))
  (tl 9 (o_make 25 16)))
  (tn 17 (tl 16 (o_athrow [17, 22, 23, 24, 25]))
  (tl 17 (o_vret))))
theorem kok_X1_asked {γ : AG} (hm : γ.2.2.2.2.1 = mTab) (hk : γ.2.2.2.2.2 = kTab) : KOK γ m_X1_asked k_X1_asked :=
 kn_ok
 (kn_ok
 (kn_ok
 (kl_ok (ok_aP (ok_iload_n dX1_asked_0 rfl rfl)))
 (kl_ok (ok_aP (ok_iconst dX1_asked_1 rfl rfl))))
 (kn_ok
 (kl_ok (ok_aP (ok_iload_n dX1_asked_2 rfl rfl)))
 (kl_ok (ok_callS (run_S (by rw [hm]; rfl) q1554 q804 q83 q805 ⟨nh_0, dl_17⟩ (by decide) dX1_asked_3) rfl))))
 (kn_ok
 (kn_ok
 (kl_ok (ok_aP (ok_if_ne dX1_asked_6 rfl rfl)))
 (kl_ok (ok_hp (ok_make (names := ["java/lang/RuntimeException", "java/lang/Exception"]) rfl (by decide +kernel) (by decide +kernel) (by decide) q1621 q128 vat_1.1 vat_1.2.1 vat_1.2.2 dX1_asked_9 dX1_asked_12 dX1_asked_13 rfl) le_make)))
 (kn_ok
 (kl_ok (ok_athrow dX1_asked_16))
 (kl_ok (ok_vret rfl dX1_asked_17))))
/-- 69: FavourTown.hand(II)I -/
noncomputable def k_X1_hand : Nat → Option AOp :=
 tn 13 (tn 6 (tn 2 (tn 1 (tl 0 (aP (f_aload 0 1)))
  (tl 1 (aP (f_iload 1 2))))
  (tn 5 (tl 2 (o_callV (lkN [(0, 64)]) 1 5))
  (tl 5 (aP (f_astore 3 6)))))
  (tn 8 (tn 7 (tl 6 (aP (f_iload 2 7)))
  (tl 7 (aP (f_const (.int (nI 0)) 8))))
  (tn 9 (tl 8 (aP (f_aload 3 9)))
  (tn 12 (tl 9 (aP (f_getf [5, 6] 5 12)))
  (tl 12 (aP (f_const (.int (nI 1)) 13)))))))
  (tn 24 (tn 17 (tn 14 (tl 13 (aP (f_bin (fun x y => x + y) 14)))
  (tl 14 (o_callS 40 3 17)))
  (tn 20 (tl 17 (aP (f_if (fun x => decide (x = 0)) 29 20)))
  (tn 21 (tl 20 (aP (f_aload 3 21)))
  (tl 21 (aP (f_getf [5, 6] 3 24))))))
  (tn 26 (tn 25 (tl 24 (aP (f_iload 2 25)))
  (tl 25 (aP (f_iald 0 26))))
  (tn 29 (tl 26 (aP (f_goto 30)))
  (tn 30 (tl 29 (aP (f_const (.int (-1)) 30)))
  (tl 30 (o_iret (fun _ => true)))))))
theorem kok_X1_hand {γ : AG} (hm : γ.2.2.2.2.1 = mTab) (hk : γ.2.2.2.2.2 = kTab) : KOK γ m_X1_hand k_X1_hand :=
 kn_ok
 (kn_ok
 (kn_ok
 (kn_ok
 (kl_ok (ok_aP (ok_aload_n dX1_hand_0 rfl rfl)))
 (kl_ok (ok_aP (ok_iload_n dX1_hand_1 rfl rfl))))
 (kn_ok
 (kl_ok (ok_callV (List.forall_mem_cons.mpr ⟨run_V (C0 := "FavourTown") rfl rfl (by rw [hm]; rfl) q1591 q1593 qs26 q83 q1594 ⟨nh_0, dl_45⟩ (by decide) dX1_hand_2, (fun _ h => absurd h List.not_mem_nil)⟩) rfl))
 (kl_ok (ok_aP (ok_astore_n dX1_hand_5 rfl rfl)))))
 (kn_ok
 (kn_ok
 (kl_ok (ok_aP (ok_iload_n dX1_hand_6 rfl rfl)))
 (kl_ok (ok_aP (ok_iconst dX1_hand_7 rfl rfl))))
 (kn_ok
 (kl_ok (ok_aP (ok_aload_n dX1_hand_8 rfl rfl)))
 (kn_ok
 (kl_ok (ok_aP (ok_getf fo_6 fs_rf (Or.inr ⟨_, q623⟩) dX1_hand_9 rfl)))
 (kl_ok (ok_aP (ok_iconst dX1_hand_12 rfl rfl)))))))
 (kn_ok
 (kn_ok
 (kn_ok
 (kl_ok (ok_aP (ok_iadd dX1_hand_13 rfl)))
 (kl_ok (ok_callS (run_S (by rw [hm]; rfl) q1554 q804 q83 q805 ⟨nh_0, dl_17⟩ (by decide) dX1_hand_14) rfl)))
 (kn_ok
 (kl_ok (ok_aP (ok_if_eq dX1_hand_17 rfl rfl)))
 (kn_ok
 (kl_ok (ok_aP (ok_aload_n dX1_hand_20 rfl rfl)))
 (kl_ok (ok_aP (ok_getf fo_37 fs_rf (Or.inr ⟨_, q617⟩) dX1_hand_21 rfl))))))
 (kn_ok
 (kn_ok
 (kl_ok (ok_aP (ok_iload_n dX1_hand_24 rfl rfl)))
 (kl_ok (ok_aP (ok_iald dX1_hand_25 rfl))))
 (kn_ok
 (kl_ok (ok_aP (ok_goto dX1_hand_26 rfl)))
 (kn_ok
 (kl_ok (ok_aP (ok_iconst dX1_hand_29 rfl rfl)))
 (kl_ok (ok_iret rfl dX1_hand_30))))))
/-- 70: FavourTown.takes(II)Z -/
noncomputable def k_X1_takes : Nat → Option AOp :=
 tn 10 (tn 5 (tn 1 (tl 0 (aP (f_aload 0 1)))
  (tn 2 (tl 1 (aP (f_iload 1 2)))
  (tl 2 (o_callV (lkN [(0, 58)]) 1 5))))
  (tn 6 (tl 5 (aP (f_aload 0 6)))
  (tn 7 (tl 6 (aP (f_iload 2 7)))
  (tl 7 (o_callV (lkN [(0, 64)]) 1 10)))))
  (tn 15 (tn 11 (tl 10 (aP (f_astore 3 11)))
  (tn 12 (tl 11 (aP (f_aload 0 12)))
  (tl 12 (aP (f_getf [0] 0 15)))))
  (tn 17 (tn 16 (tl 15 (aP (f_iload 1 16)))
  (tl 16 (aP (f_aload 3 17))))
  (tn 20 (tl 17 (o_callV (lkN [(1, 95)]) 2 20))
  (tl 20 (o_iret (fun x => x == 0 || x == 1))))))
theorem kok_X1_takes {γ : AG} (hm : γ.2.2.2.2.1 = mTab) (hk : γ.2.2.2.2.2 = kTab) : KOK γ m_X1_takes k_X1_takes :=
 kn_ok
 (kn_ok
 (kn_ok
 (kl_ok (ok_aP (ok_aload_n dX1_takes_0 rfl rfl)))
 (kn_ok
 (kl_ok (ok_aP (ok_iload_n dX1_takes_1 rfl rfl)))
 (kl_ok (ok_callV (List.forall_mem_cons.mpr ⟨run_V (C0 := "FavourTown") rfl rfl (by rw [hm]; rfl) q1547 q1549 qs24 q83 q1550 ⟨nh_0, dl_32⟩ (by decide) dX1_takes_2, (fun _ h => absurd h List.not_mem_nil)⟩) rfl))))
 (kn_ok
 (kl_ok (ok_aP (ok_aload_n dX1_takes_5 rfl rfl)))
 (kn_ok
 (kl_ok (ok_aP (ok_iload_n dX1_takes_6 rfl rfl)))
 (kl_ok (ok_callV (List.forall_mem_cons.mpr ⟨run_V (C0 := "FavourTown") rfl rfl (by rw [hm]; rfl) q1591 q1593 qs26 q83 q1594 ⟨nh_0, dl_45⟩ (by decide) dX1_takes_7, (fun _ h => absurd h List.not_mem_nil)⟩) rfl)))))
 (kn_ok
 (kn_ok
 (kl_ok (ok_aP (ok_astore_n dX1_takes_10 rfl rfl)))
 (kn_ok
 (kl_ok (ok_aP (ok_aload_n dX1_takes_11 rfl rfl)))
 (kl_ok (ok_aP (ok_getf fo_0 fs_rf (Or.inl q351) dX1_takes_12 rfl)))))
 (kn_ok
 (kn_ok
 (kl_ok (ok_aP (ok_iload_n dX1_takes_15 rfl rfl)))
 (kl_ok (ok_aP (ok_aload_n dX1_takes_16 rfl rfl))))
 (kn_ok
 (kl_ok (ok_callV (List.forall_mem_cons.mpr ⟨run_V (C0 := "FavourTown$World") rfl rfl (by rw [hm]; rfl) q1651 q437 q438 q84 q439 ⟨nh_3, dl_25⟩ (by decide) dX1_takes_17, (fun _ h => absurd h List.not_mem_nil)⟩) rfl))
 (kl_ok (ok_zret rfl z_boolean dX1_takes_20)))))
/-- 71: FavourTown.rich(I)I -/
noncomputable def k_X1_rich : Nat → Option AOp :=
 tn 6 (tn 2 (tn 1 (tl 0 (aP (f_aload 0 1)))
  (tl 1 (aP (f_iload 1 2))))
  (tn 5 (tl 2 (o_callV (lkN [(0, 58)]) 1 5))
  (tl 5 (aP (f_aload 0 6)))))
  (tn 10 (tn 9 (tl 6 (aP (f_getf [0] 0 9)))
  (tl 9 (aP (f_iload 1 10))))
  (tn 13 (tl 10 (o_callV (lkN [(1, 97)]) 1 13))
  (tl 13 (o_iret (fun _ => true)))))
theorem kok_X1_rich {γ : AG} (hm : γ.2.2.2.2.1 = mTab) (hk : γ.2.2.2.2.2 = kTab) : KOK γ m_X1_rich k_X1_rich :=
 kn_ok
 (kn_ok
 (kn_ok
 (kl_ok (ok_aP (ok_aload_n dX1_rich_0 rfl rfl)))
 (kl_ok (ok_aP (ok_iload_n dX1_rich_1 rfl rfl))))
 (kn_ok
 (kl_ok (ok_callV (List.forall_mem_cons.mpr ⟨run_V (C0 := "FavourTown") rfl rfl (by rw [hm]; rfl) q1547 q1549 qs24 q83 q1550 ⟨nh_0, dl_32⟩ (by decide) dX1_rich_2, (fun _ h => absurd h List.not_mem_nil)⟩) rfl))
 (kl_ok (ok_aP (ok_aload_n dX1_rich_5 rfl rfl)))))
 (kn_ok
 (kn_ok
 (kl_ok (ok_aP (ok_getf fo_0 fs_rf (Or.inl q351) dX1_rich_6 rfl)))
 (kl_ok (ok_aP (ok_iload_n dX1_rich_9 rfl rfl))))
 (kn_ok
 (kl_ok (ok_callV (List.forall_mem_cons.mpr ⟨run_V (C0 := "FavourTown$World") rfl rfl (by rw [hm]; rfl) q1659 q453 q454 q84 q455 ⟨nh_3, dl_10⟩ (by decide) dX1_rich_10, (fun _ h => absurd h List.not_mem_nil)⟩) rfl))
 (kl_ok (ok_iret rfl dX1_rich_13))))
/-- 72: FavourTown.debt(I)I -/
noncomputable def k_X1_debt : Nat → Option AOp :=
 tn 6 (tn 2 (tn 1 (tl 0 (aP (f_aload 0 1)))
  (tl 1 (aP (f_iload 1 2))))
  (tn 5 (tl 2 (o_callV (lkN [(0, 58)]) 1 5))
  (tl 5 (aP (f_aload 0 6)))))
  (tn 10 (tn 9 (tl 6 (aP (f_getf [0] 0 9)))
  (tl 9 (aP (f_iload 1 10))))
  (tn 13 (tl 10 (o_callV (lkN [(1, 98)]) 1 13))
  (tl 13 (o_iret (fun _ => true)))))
theorem kok_X1_debt {γ : AG} (hm : γ.2.2.2.2.1 = mTab) (hk : γ.2.2.2.2.2 = kTab) : KOK γ m_X1_debt k_X1_debt :=
 kn_ok
 (kn_ok
 (kn_ok
 (kl_ok (ok_aP (ok_aload_n dX1_debt_0 rfl rfl)))
 (kl_ok (ok_aP (ok_iload_n dX1_debt_1 rfl rfl))))
 (kn_ok
 (kl_ok (ok_callV (List.forall_mem_cons.mpr ⟨run_V (C0 := "FavourTown") rfl rfl (by rw [hm]; rfl) q1547 q1549 qs24 q83 q1550 ⟨nh_0, dl_32⟩ (by decide) dX1_debt_2, (fun _ h => absurd h List.not_mem_nil)⟩) rfl))
 (kl_ok (ok_aP (ok_aload_n dX1_debt_5 rfl rfl)))))
 (kn_ok
 (kn_ok
 (kl_ok (ok_aP (ok_getf fo_0 fs_rf (Or.inl q351) dX1_debt_6 rfl)))
 (kl_ok (ok_aP (ok_iload_n dX1_debt_9 rfl rfl))))
 (kn_ok
 (kl_ok (ok_callV (List.forall_mem_cons.mpr ⟨run_V (C0 := "FavourTown$World") rfl rfl (by rw [hm]; rfl) q1667 q463 q464 q84 q465 ⟨nh_3, dl_10⟩ (by decide) dX1_debt_10, (fun _ h => absurd h List.not_mem_nil)⟩) rfl))
 (kl_ok (ok_iret rfl dX1_debt_13))))
/-- 73: FavourTown.owes(II)I -/
noncomputable def k_X1_owes : Nat → Option AOp :=
 tn 10 (tn 5 (tn 1 (tl 0 (aP (f_aload 0 1)))
  (tn 2 (tl 1 (aP (f_iload 1 2)))
  (tl 2 (o_callV (lkN [(0, 58)]) 1 5))))
  (tn 6 (tl 5 (aP (f_aload 0 6)))
  (tn 7 (tl 6 (aP (f_iload 2 7)))
  (tl 7 (o_callV (lkN [(0, 58)]) 1 10)))))
  (tn 15 (tn 11 (tl 10 (aP (f_aload 0 11)))
  (tn 14 (tl 11 (aP (f_getf [0] 0 14)))
  (tl 14 (aP (f_iload 1 15)))))
  (tn 16 (tl 15 (aP (f_iload 2 16)))
  (tn 19 (tl 16 (o_callV (lkN [(1, 107)]) 2 19))
  (tl 19 (o_iret (fun _ => true))))))
theorem kok_X1_owes {γ : AG} (hm : γ.2.2.2.2.1 = mTab) (hk : γ.2.2.2.2.2 = kTab) : KOK γ m_X1_owes k_X1_owes :=
 kn_ok
 (kn_ok
 (kn_ok
 (kl_ok (ok_aP (ok_aload_n dX1_owes_0 rfl rfl)))
 (kn_ok
 (kl_ok (ok_aP (ok_iload_n dX1_owes_1 rfl rfl)))
 (kl_ok (ok_callV (List.forall_mem_cons.mpr ⟨run_V (C0 := "FavourTown") rfl rfl (by rw [hm]; rfl) q1547 q1549 qs24 q83 q1550 ⟨nh_0, dl_32⟩ (by decide) dX1_owes_2, (fun _ h => absurd h List.not_mem_nil)⟩) rfl))))
 (kn_ok
 (kl_ok (ok_aP (ok_aload_n dX1_owes_5 rfl rfl)))
 (kn_ok
 (kl_ok (ok_aP (ok_iload_n dX1_owes_6 rfl rfl)))
 (kl_ok (ok_callV (List.forall_mem_cons.mpr ⟨run_V (C0 := "FavourTown") rfl rfl (by rw [hm]; rfl) q1547 q1549 qs24 q83 q1550 ⟨nh_0, dl_32⟩ (by decide) dX1_owes_7, (fun _ h => absurd h List.not_mem_nil)⟩) rfl)))))
 (kn_ok
 (kn_ok
 (kl_ok (ok_aP (ok_aload_n dX1_owes_10 rfl rfl)))
 (kn_ok
 (kl_ok (ok_aP (ok_getf fo_0 fs_rf (Or.inl q351) dX1_owes_11 rfl)))
 (kl_ok (ok_aP (ok_iload_n dX1_owes_14 rfl rfl)))))
 (kn_ok
 (kl_ok (ok_aP (ok_iload_n dX1_owes_15 rfl rfl)))
 (kn_ok
 (kl_ok (ok_callV (List.forall_mem_cons.mpr ⟨run_V (C0 := "FavourTown$World") rfl rfl (by rw [hm]; rfl) q1675 q1676 q1677 q84 q1678 ⟨nh_3, dl_6⟩ (by decide) dX1_owes_16, (fun _ h => absurd h List.not_mem_nil)⟩) rfl))
 (kl_ok (ok_iret rfl dX1_owes_19)))))
/-- 74: FavourTown.pays(III)I -/
noncomputable def k_X1_pays : Nat → Option AOp :=
 tn 13 (tn 6 (tn 2 (tn 1 (tl 0 (aP (f_aload 0 1)))
  (tl 1 (aP (f_iload 1 2))))
  (tn 3 (tl 2 (aP (f_iload 2 3)))
  (tl 3 (o_callV (lkN [(0, 61)]) 2 6))))
  (tn 8 (tn 7 (tl 6 (aP (f_iload 3 7)))
  (tl 7 (aP (f_const (.int (nI 1)) 8))))
  (tn 10 (tl 8 (aP (f_const (.int (nI 99)) 10)))
  (tl 10 (o_callS 40 3 13)))))
  (tn 21 (tn 17 (tn 16 (tl 13 (o_callS 62 1 16))
  (tl 16 (aP (f_aload 0 17))))
  (tn 20 (tl 17 (aP (f_getf [0] 0 20)))
  (tl 20 (aP (f_iload 1 21)))))
  (tn 23 (tn 22 (tl 21 (aP (f_iload 2 22)))
  (tl 22 (aP (f_iload 3 23))))
  (tn 26 (tl 23 (o_callV (lkN [(1, 92)]) 3 26))
  (tl 26 (o_iret (fun _ => true))))))
theorem kok_X1_pays {γ : AG} (hm : γ.2.2.2.2.1 = mTab) (hk : γ.2.2.2.2.2 = kTab) : KOK γ m_X1_pays k_X1_pays :=
 kn_ok
 (kn_ok
 (kn_ok
 (kn_ok
 (kl_ok (ok_aP (ok_aload_n dX1_pays_0 rfl rfl)))
 (kl_ok (ok_aP (ok_iload_n dX1_pays_1 rfl rfl))))
 (kn_ok
 (kl_ok (ok_aP (ok_iload_n dX1_pays_2 rfl rfl)))
 (kl_ok (ok_callV (List.forall_mem_cons.mpr ⟨run_V (C0 := "FavourTown") rfl rfl (by rw [hm]; rfl) q1577 q1579 qs25 q83 q1580 ⟨nh_0, dl_19⟩ (by decide) dX1_pays_3, (fun _ h => absurd h List.not_mem_nil)⟩) rfl))))
 (kn_ok
 (kn_ok
 (kl_ok (ok_aP (ok_iload_n dX1_pays_6 rfl rfl)))
 (kl_ok (ok_aP (ok_iconst dX1_pays_7 rfl rfl))))
 (kn_ok
 (kl_ok (ok_aP (ok_bipush dX1_pays_8 (by decide +kernel) rfl)))
 (kl_ok (ok_callS (run_S (by rw [hm]; rfl) q1554 q804 q83 q805 ⟨nh_0, dl_17⟩ (by decide) dX1_pays_10) rfl)))))
 (kn_ok
 (kn_ok
 (kn_ok
 (kl_ok (ok_callS (run_S (by rw [hm]; rfl) q1581 q1582 q83 q1583 ⟨nh_0, dl_18⟩ (by decide) dX1_pays_13) rfl))
 (kl_ok (ok_aP (ok_aload_n dX1_pays_16 rfl rfl))))
 (kn_ok
 (kl_ok (ok_aP (ok_getf fo_0 fs_rf (Or.inl q351) dX1_pays_17 rfl)))
 (kl_ok (ok_aP (ok_iload_n dX1_pays_20 rfl rfl)))))
 (kn_ok
 (kn_ok
 (kl_ok (ok_aP (ok_iload_n dX1_pays_21 rfl rfl)))
 (kl_ok (ok_aP (ok_iload_n dX1_pays_22 rfl rfl))))
 (kn_ok
 (kl_ok (ok_callV (List.forall_mem_cons.mpr ⟨run_V (C0 := "FavourTown$World") rfl rfl (by rw [hm]; rfl) q1686 q424 q425 q84 q426 ⟨nh_3, dl_13⟩ (by decide) dX1_pays_23, (fun _ h => absurd h List.not_mem_nil)⟩) rfl))
 (kl_ok (ok_iret rfl dX1_pays_26)))))
/-- 75: FavourTown.can(I)Z -/
noncomputable def k_X1_can : Nat → Option AOp :=
 tn 11 (tn 5 (tn 1 (tl 0 (aP (f_aload 0 1)))
  (tn 2 (tl 1 (aP (f_iload 1 2)))
  (tl 2 (o_callV (lkN [(0, 76)]) 1 5))))
  (tn 7 (tn 6 (tl 5 (aP (f_astore 2 6)))
  (tl 6 (aP (f_aload 0 7))))
  (tn 10 (tl 7 (aP (f_getf [0] 0 10)))
  (tl 10 (aP (f_aload 2 11))))))
  (tn 18 (tn 14 (tl 11 (aP (f_getf [7] 0 14)))
  (tn 15 (tl 14 (aP (f_aload 2 15)))
  (tl 15 (aP (f_getf [7] 1 18)))))
  (tn 22 (tn 19 (tl 18 (aP (f_aload 2 19)))
  (tl 19 (aP (f_getf [7] 2 22))))
  (tn 25 (tl 22 (o_callV (lkN [(1, 91)]) 3 25))
  (tl 25 (o_iret (fun x => x == 0 || x == 1))))))
theorem kok_X1_can {γ : AG} (hm : γ.2.2.2.2.1 = mTab) (hk : γ.2.2.2.2.2 = kTab) : KOK γ m_X1_can k_X1_can :=
 kn_ok
 (kn_ok
 (kn_ok
 (kl_ok (ok_aP (ok_aload_n dX1_can_0 rfl rfl)))
 (kn_ok
 (kl_ok (ok_aP (ok_iload_n dX1_can_1 rfl rfl)))
 (kl_ok (ok_callV (List.forall_mem_cons.mpr ⟨run_V (C0 := "FavourTown") rfl rfl (by rw [hm]; rfl) q1694 q1696 qs27 q83 q1697 ⟨nh_0, dl_57⟩ (by decide) dX1_can_2, (fun _ h => absurd h List.not_mem_nil)⟩) rfl))))
 (kn_ok
 (kn_ok
 (kl_ok (ok_aP (ok_astore_n dX1_can_5 rfl rfl)))
 (kl_ok (ok_aP (ok_aload_n dX1_can_6 rfl rfl))))
 (kn_ok
 (kl_ok (ok_aP (ok_getf fo_0 fs_rf (Or.inl q351) dX1_can_7 rfl)))
 (kl_ok (ok_aP (ok_aload_n dX1_can_10 rfl rfl))))))
 (kn_ok
 (kn_ok
 (kl_ok (ok_aP (ok_getf fo_85 fs_rf (Or.inr ⟨_, q1291⟩) dX1_can_11 rfl)))
 (kn_ok
 (kl_ok (ok_aP (ok_aload_n dX1_can_14 rfl rfl)))
 (kl_ok (ok_aP (ok_getf fo_86 fs_rf (Or.inr ⟨_, q1294⟩) dX1_can_15 rfl)))))
 (kn_ok
 (kn_ok
 (kl_ok (ok_aP (ok_aload_n dX1_can_18 rfl rfl)))
 (kl_ok (ok_aP (ok_getf fo_87 fs_rf (Or.inr ⟨_, q1297⟩) dX1_can_19 rfl))))
 (kn_ok
 (kl_ok (ok_callV (List.forall_mem_cons.mpr ⟨run_V (C0 := "FavourTown$World") rfl rfl (by rw [hm]; rfl) q1698 q420 q421 q84 q422 ⟨nh_3, dl_17⟩ (by decide) dX1_can_22, (fun _ h => absurd h List.not_mem_nil)⟩) rfl))
 (kl_ok (ok_zret rfl z_boolean dX1_can_25)))))
/-- 76: FavourTown.needAt(I)LFavourTown$Need; -/
noncomputable def k_X1_needAt : Nat → Option AOp :=
 tn 14 (tn 5 (tn 1 (tl 0 (aP (f_iload 1 1)))
  (tn 2 (tl 1 (aP (f_aload 0 2)))
  (tl 2 (aP (f_getf [0] 0 5)))))
  (tn 8 (tl 5 (aP (f_getf [1] 10 8)))
  (tn 11 (tl 8 (o_callV (lkN [(19, 113)]) 0 11))
  (tl 11 (o_callS 59 2 14)))))
  (tn 21 (tn 15 (tl 14 (aP (f_aload 0 15)))
  (tn 18 (tl 15 (aP (f_getf [0] 0 18)))
  (tl 18 (aP (f_getf [1] 10 21)))))
  (tn 25 (tn 22 (tl 21 (aP (f_iload 1 22)))
  (tl 22 (o_callV (lkN [(19, 114)]) 1 25)))
  (tn 28 (tl 25 (aP (f_cast [7] [] 28)))
  (tl 28 (o_aret)))))
theorem kok_X1_needAt {γ : AG} (hm : γ.2.2.2.2.1 = mTab) (hk : γ.2.2.2.2.2 = kTab) : KOK γ m_X1_needAt k_X1_needAt :=
 kn_ok
 (kn_ok
 (kn_ok
 (kl_ok (ok_aP (ok_iload_n dX1_needAt_0 rfl rfl)))
 (kn_ok
 (kl_ok (ok_aP (ok_aload_n dX1_needAt_1 rfl rfl)))
 (kl_ok (ok_aP (ok_getf fo_0 fs_rf (Or.inl q351) dX1_needAt_2 rfl)))))
 (kn_ok
 (kl_ok (ok_aP (ok_getf fo_45 fs_rf (Or.inr ⟨_, q237⟩) dX1_needAt_5 rfl)))
 (kn_ok
 (kl_ok (ok_callV (List.forall_mem_cons.mpr ⟨run_V (C0 := "java/util/ArrayList") rfl rfl (by rw [hm]; rfl) q570 q401 q402 q87 q403 ⟨nh_4, dl_4⟩ (by decide) dX1_needAt_8, (fun _ h => absurd h List.not_mem_nil)⟩) rfl))
 (kl_ok (ok_callS (run_S (by rw [hm]; rfl) q1551 q1552 q83 q1553 ⟨nh_0, dl_19⟩ (by decide) dX1_needAt_11) rfl)))))
 (kn_ok
 (kn_ok
 (kl_ok (ok_aP (ok_aload_n dX1_needAt_14 rfl rfl)))
 (kn_ok
 (kl_ok (ok_aP (ok_getf fo_0 fs_rf (Or.inl q351) dX1_needAt_15 rfl)))
 (kl_ok (ok_aP (ok_getf fo_45 fs_rf (Or.inr ⟨_, q237⟩) dX1_needAt_18 rfl)))))
 (kn_ok
 (kn_ok
 (kl_ok (ok_aP (ok_iload_n dX1_needAt_21 rfl rfl)))
 (kl_ok (ok_callV (List.forall_mem_cons.mpr ⟨run_V (C0 := "java/util/ArrayList") rfl rfl (by rw [hm]; rfl) q571 q405 q406 q87 q407 ⟨nh_4, dl_21⟩ (by decide) dX1_needAt_22, (fun _ h => absurd h List.not_mem_nil)⟩) rfl)))
 (kn_ok
 (kl_ok (ok_aP (ok_cast q1283 (List.forall_mem_cons.mpr ⟨Or.inr ⟨_, rfl, rfl⟩, (fun _ h => absurd h List.not_mem_nil)⟩) (fun _ h => absurd h List.not_mem_nil) dX1_needAt_25 rfl)))
 (kl_ok (ok_aret rfl (Or.inl ⟨_, rfl⟩) dX1_needAt_28)))))
/-- 77: FavourTown.meet(I)I -/
noncomputable def k_X1_meet : Nat → Option AOp :=
 tn 11 (tn 5 (tn 1 (tl 0 (aP (f_aload 0 1)))
  (tn 2 (tl 1 (aP (f_iload 1 2)))
  (tl 2 (o_callV (lkN [(0, 76)]) 1 5))))
  (tn 7 (tn 6 (tl 5 (aP (f_astore 2 6)))
  (tl 6 (aP (f_aload 0 7))))
  (tn 10 (tl 7 (aP (f_getf [0] 0 10)))
  (tl 10 (aP (f_aload 2 11))))))
  (tn 18 (tn 14 (tl 11 (aP (f_getf [7] 0 14)))
  (tn 15 (tl 14 (aP (f_aload 2 15)))
  (tl 15 (aP (f_getf [7] 1 18)))))
  (tn 22 (tn 19 (tl 18 (aP (f_aload 2 19)))
  (tl 19 (aP (f_getf [7] 2 22))))
  (tn 25 (tl 22 (o_callV (lkN [(1, 108)]) 3 25))
  (tl 25 (o_iret (fun _ => true))))))
theorem kok_X1_meet {γ : AG} (hm : γ.2.2.2.2.1 = mTab) (hk : γ.2.2.2.2.2 = kTab) : KOK γ m_X1_meet k_X1_meet :=
 kn_ok
 (kn_ok
 (kn_ok
 (kl_ok (ok_aP (ok_aload_n dX1_meet_0 rfl rfl)))
 (kn_ok
 (kl_ok (ok_aP (ok_iload_n dX1_meet_1 rfl rfl)))
 (kl_ok (ok_callV (List.forall_mem_cons.mpr ⟨run_V (C0 := "FavourTown") rfl rfl (by rw [hm]; rfl) q1694 q1696 qs27 q83 q1697 ⟨nh_0, dl_57⟩ (by decide) dX1_meet_2, (fun _ h => absurd h List.not_mem_nil)⟩) rfl))))
 (kn_ok
 (kn_ok
 (kl_ok (ok_aP (ok_astore_n dX1_meet_5 rfl rfl)))
 (kl_ok (ok_aP (ok_aload_n dX1_meet_6 rfl rfl))))
 (kn_ok
 (kl_ok (ok_aP (ok_getf fo_0 fs_rf (Or.inl q351) dX1_meet_7 rfl)))
 (kl_ok (ok_aP (ok_aload_n dX1_meet_10 rfl rfl))))))
 (kn_ok
 (kn_ok
 (kl_ok (ok_aP (ok_getf fo_85 fs_rf (Or.inr ⟨_, q1291⟩) dX1_meet_11 rfl)))
 (kn_ok
 (kl_ok (ok_aP (ok_aload_n dX1_meet_14 rfl rfl)))
 (kl_ok (ok_aP (ok_getf fo_86 fs_rf (Or.inr ⟨_, q1294⟩) dX1_meet_15 rfl)))))
 (kn_ok
 (kn_ok
 (kl_ok (ok_aP (ok_aload_n dX1_meet_18 rfl rfl)))
 (kl_ok (ok_aP (ok_getf fo_87 fs_rf (Or.inr ⟨_, q1297⟩) dX1_meet_19 rfl))))
 (kn_ok
 (kl_ok (ok_callV (List.forall_mem_cons.mpr ⟨run_V (C0 := "FavourTown$World") rfl rfl (by rw [hm]; rfl) q1706 q1707 q1708 q84 q1709 ⟨nh_3, dl_13⟩ (by decide) dX1_meet_22, (fun _ h => absurd h List.not_mem_nil)⟩) rfl))
 (kl_ok (ok_iret rfl dX1_meet_25)))))
/-- 78: FavourTown.port(II)I -/
noncomputable def k_X1_port : Nat → Option AOp :=
 tn 7 (tn 2 (tn 1 (tl 0 (aP (f_aload 0 1)))
  (tl 1 (aP (f_iload 1 2))))
  (tn 3 (tl 2 (aP (f_iload 2 3)))
  (tn 6 (tl 3 (o_callV (lkN [(0, 61)]) 2 6))
  (tl 6 (aP (f_aload 0 7))))))
  (tn 11 (tn 10 (tl 7 (aP (f_getf [0] 0 10)))
  (tl 10 (aP (f_iload 1 11))))
  (tn 12 (tl 11 (aP (f_iload 2 12)))
  (tn 15 (tl 12 (o_callV (lkN [(1, 109)]) 2 15))
  (tl 15 (o_iret (fun _ => true))))))
theorem kok_X1_port {γ : AG} (hm : γ.2.2.2.2.1 = mTab) (hk : γ.2.2.2.2.2 = kTab) : KOK γ m_X1_port k_X1_port :=
 kn_ok
 (kn_ok
 (kn_ok
 (kl_ok (ok_aP (ok_aload_n dX1_port_0 rfl rfl)))
 (kl_ok (ok_aP (ok_iload_n dX1_port_1 rfl rfl))))
 (kn_ok
 (kl_ok (ok_aP (ok_iload_n dX1_port_2 rfl rfl)))
 (kn_ok
 (kl_ok (ok_callV (List.forall_mem_cons.mpr ⟨run_V (C0 := "FavourTown") rfl rfl (by rw [hm]; rfl) q1577 q1579 qs25 q83 q1580 ⟨nh_0, dl_19⟩ (by decide) dX1_port_3, (fun _ h => absurd h List.not_mem_nil)⟩) rfl))
 (kl_ok (ok_aP (ok_aload_n dX1_port_6 rfl rfl))))))
 (kn_ok
 (kn_ok
 (kl_ok (ok_aP (ok_getf fo_0 fs_rf (Or.inl q351) dX1_port_7 rfl)))
 (kl_ok (ok_aP (ok_iload_n dX1_port_10 rfl rfl))))
 (kn_ok
 (kl_ok (ok_aP (ok_iload_n dX1_port_11 rfl rfl)))
 (kn_ok
 (kl_ok (ok_callV (List.forall_mem_cons.mpr ⟨run_V (C0 := "FavourTown$World") rfl rfl (by rw [hm]; rfl) q1719 q1720 q1721 q84 q1722 ⟨nh_3, dl_6⟩ (by decide) dX1_port_12, (fun _ h => absurd h List.not_mem_nil)⟩) rfl))
 (kl_ok (ok_iret rfl dX1_port_15)))))
/-- 79: FavourTown.most(II)I -/
noncomputable def k_X1_most : Nat → Option AOp :=
 tn 7 (tn 2 (tn 1 (tl 0 (aP (f_aload 0 1)))
  (tl 1 (aP (f_iload 1 2))))
  (tn 3 (tl 2 (aP (f_iload 2 3)))
  (tn 6 (tl 3 (o_callV (lkN [(0, 61)]) 2 6))
  (tl 6 (aP (f_aload 0 7))))))
  (tn 14 (tn 10 (tl 7 (aP (f_getf [0] 3 10)))
  (tn 13 (tl 10 (o_callV (lkN [(3, 141)]) 0 13))
  (tl 13 (aP (f_iload 1 14)))))
  (tn 15 (tl 14 (aP (f_iload 2 15)))
  (tn 18 (tl 15 (o_callV (lkN [(3, 142)]) 2 18))
  (tl 18 (o_iret (fun _ => true))))))
theorem kok_X1_most {γ : AG} (hm : γ.2.2.2.2.1 = mTab) (hk : γ.2.2.2.2.2 = kTab) : KOK γ m_X1_most k_X1_most :=
 kn_ok
 (kn_ok
 (kn_ok
 (kl_ok (ok_aP (ok_aload_n dX1_most_0 rfl rfl)))
 (kl_ok (ok_aP (ok_iload_n dX1_most_1 rfl rfl))))
 (kn_ok
 (kl_ok (ok_aP (ok_iload_n dX1_most_2 rfl rfl)))
 (kn_ok
 (kl_ok (ok_callV (List.forall_mem_cons.mpr ⟨run_V (C0 := "FavourTown") rfl rfl (by rw [hm]; rfl) q1577 q1579 qs25 q83 q1580 ⟨nh_0, dl_19⟩ (by decide) dX1_most_3, (fun _ h => absurd h List.not_mem_nil)⟩) rfl))
 (kl_ok (ok_aP (ok_aload_n dX1_most_6 rfl rfl))))))
 (kn_ok
 (kn_ok
 (kl_ok (ok_aP (ok_getf fo_89 fs_rf (Or.inl q356) dX1_most_7 rfl)))
 (kn_ok
 (kl_ok (ok_callV (List.forall_mem_cons.mpr ⟨run_V (C0 := "FavourTown$Flow") rfl rfl (by rw [hm]; rfl) q1730 q1731 q1732 q90 q1733 ⟨nh_24, dl_56⟩ (by decide) dX1_most_10, (fun _ h => absurd h List.not_mem_nil)⟩) rfl))
 (kl_ok (ok_aP (ok_iload_n dX1_most_13 rfl rfl)))))
 (kn_ok
 (kl_ok (ok_aP (ok_iload_n dX1_most_14 rfl rfl)))
 (kn_ok
 (kl_ok (ok_callV (List.forall_mem_cons.mpr ⟨run_V (C0 := "FavourTown$Flow") rfl rfl (by rw [hm]; rfl) q1735 q1736 q1737 q90 q1738 ⟨nh_24, dl_6⟩ (by decide) dX1_most_15, (fun _ h => absurd h List.not_mem_nil)⟩) rfl))
 (kl_ok (ok_iret rfl dX1_most_18)))))
/-- 80: FavourTown.cut(II)I -/
noncomputable def k_X1_cut : Nat → Option AOp :=
 tn 14 (tn 6 (tn 2 (tn 1 (tl 0 (aP (f_aload 0 1)))
  (tl 1 (aP (f_iload 1 2))))
  (tn 3 (tl 2 (aP (f_iload 2 3)))
  (tl 3 (o_callV (lkN [(0, 61)]) 2 6))))
  (tn 10 (tn 7 (tl 6 (aP (f_aload 0 7)))
  (tl 7 (aP (f_getf [0] 3 10))))
  (tn 13 (tl 10 (o_callV (lkN [(3, 141)]) 0 13))
  (tl 13 (aP (f_iload 1 14))))))
  (tn 20 (tn 18 (tn 15 (tl 14 (aP (f_iload 2 15)))
  (tl 15 (o_callV (lkN [(3, 142)]) 2 18)))
  (tn 19 (tl 18 (aP (f_pop 19)))
  (tl 19 (aP (f_aload 0 20)))))
  (tn 24 (tn 23 (tl 20 (aP (f_getf [0] 3 23)))
  (tl 23 (aP (f_iload 1 24))))
  (tn 27 (tl 24 (o_callV (lkN [(3, 143)]) 1 27))
  (tl 27 (o_iret (fun _ => true))))))
theorem kok_X1_cut {γ : AG} (hm : γ.2.2.2.2.1 = mTab) (hk : γ.2.2.2.2.2 = kTab) : KOK γ m_X1_cut k_X1_cut :=
 kn_ok
 (kn_ok
 (kn_ok
 (kn_ok
 (kl_ok (ok_aP (ok_aload_n dX1_cut_0 rfl rfl)))
 (kl_ok (ok_aP (ok_iload_n dX1_cut_1 rfl rfl))))
 (kn_ok
 (kl_ok (ok_aP (ok_iload_n dX1_cut_2 rfl rfl)))
 (kl_ok (ok_callV (List.forall_mem_cons.mpr ⟨run_V (C0 := "FavourTown") rfl rfl (by rw [hm]; rfl) q1577 q1579 qs25 q83 q1580 ⟨nh_0, dl_19⟩ (by decide) dX1_cut_3, (fun _ h => absurd h List.not_mem_nil)⟩) rfl))))
 (kn_ok
 (kn_ok
 (kl_ok (ok_aP (ok_aload_n dX1_cut_6 rfl rfl)))
 (kl_ok (ok_aP (ok_getf fo_89 fs_rf (Or.inl q356) dX1_cut_7 rfl))))
 (kn_ok
 (kl_ok (ok_callV (List.forall_mem_cons.mpr ⟨run_V (C0 := "FavourTown$Flow") rfl rfl (by rw [hm]; rfl) q1730 q1731 q1732 q90 q1733 ⟨nh_24, dl_56⟩ (by decide) dX1_cut_10, (fun _ h => absurd h List.not_mem_nil)⟩) rfl))
 (kl_ok (ok_aP (ok_iload_n dX1_cut_13 rfl rfl))))))
 (kn_ok
 (kn_ok
 (kn_ok
 (kl_ok (ok_aP (ok_iload_n dX1_cut_14 rfl rfl)))
 (kl_ok (ok_callV (List.forall_mem_cons.mpr ⟨run_V (C0 := "FavourTown$Flow") rfl rfl (by rw [hm]; rfl) q1735 q1736 q1737 q90 q1738 ⟨nh_24, dl_6⟩ (by decide) dX1_cut_15, (fun _ h => absurd h List.not_mem_nil)⟩) rfl)))
 (kn_ok
 (kl_ok (ok_aP (ok_pop dX1_cut_18 rfl)))
 (kl_ok (ok_aP (ok_aload_n dX1_cut_19 rfl rfl)))))
 (kn_ok
 (kn_ok
 (kl_ok (ok_aP (ok_getf fo_89 fs_rf (Or.inl q356) dX1_cut_20 rfl)))
 (kl_ok (ok_aP (ok_iload_n dX1_cut_23 rfl rfl))))
 (kn_ok
 (kl_ok (ok_callV (List.forall_mem_cons.mpr ⟨run_V (C0 := "FavourTown$Flow") rfl rfl (by rw [hm]; rfl) q1752 q1740 q1741 q90 q1742 ⟨nh_24, dl_10⟩ (by decide) dX1_cut_24, (fun _ h => absurd h List.not_mem_nil)⟩) rfl))
 (kl_ok (ok_iret rfl dX1_cut_27)))))
/-- 81: FavourTown.chain(IIII)I -/
noncomputable def k_X1_chain : Nat → Option AOp :=
 tn 78 (tn 39 (tn 18 (tn 7 (tn 2 (tn 1 (tl 0 (aP (f_aload 0 1)))
  (tl 1 (aP (f_iload 1 2))))
  (tn 3 (tl 2 (aP (f_iload 2 3)))
  (tn 6 (tl 3 (o_callV (lkN [(0, 61)]) 2 6))
  (tl 6 (aP (f_iload 3 7))))))
  (tn 10 (tn 8 (tl 7 (aP (f_const (.int (nI 1)) 8)))
  (tl 8 (aP (f_const (.int (nI 99)) 10))))
  (tn 13 (tl 10 (o_callS 40 3 13))
  (tn 16 (tl 13 (aP (f_if (fun x => decide (x = 0)) 26 16)))
  (tl 16 (aP (f_iload 4 18)))))))
  (tn 27 (tn 22 (tn 19 (tl 18 (aP (f_const (.int (-1)) 19)))
  (tl 19 (aP (f_icmp (fun x y => decide (x < y)) 26 22))))
  (tn 23 (tl 22 (aP (f_const (.int (nI 1)) 23)))
  (tn 26 (tl 23 (aP (f_goto 27)))
  (tl 26 (aP (f_const (.int (nI 0)) 27))))))
  (tn 34 (tn 30 (tl 27 (o_callS 62 1 30))
  (tn 31 (tl 30 (aP (f_aload 0 31)))
  (tl 31 (aP (f_getf [0] 3 34)))))
  (tn 37 (tl 34 (o_callV (lkN [(3, 141)]) 0 37))
  (tn 38 (tl 37 (aP (f_pop 38)))
  (tl 38 (aP (f_aload 0 39))))))))
  (tn 57 (tn 47 (tn 41 (tn 40 (tl 39 (aP (f_iload 2 40)))
  (tl 40 (aP (f_iload 3 41))))
  (tn 44 (tl 41 (o_callV (lkN [(0, 82)]) 2 44))
  (tn 46 (tl 44 (aP (f_iload 4 46)))
  (tl 46 (aP (f_const (.int (-1)) 47))))))
  (tn 54 (tn 50 (tl 47 (aP (f_icmp (fun x y => decide (x = y)) 71 50)))
  (tn 51 (tl 50 (aP (f_aload 0 51)))
  (tl 51 (aP (f_getf [0] 4 54)))))
  (tn 55 (tl 54 (aP (f_iload 1 55)))
  (tn 56 (tl 55 (aP (f_iald 0 56)))
  (tl 56 (aP (f_const (.int (-1)) 57)))))))
  (tn 67 (tn 62 (tn 60 (tl 57 (aP (f_icmp (fun x y => decide (x = y)) 71 60)))
  (tl 60 (aP (f_iload 4 62))))
  (tn 63 (tl 62 (aP (f_aload 0 63)))
  (tn 66 (tl 63 (aP (f_getf [0] 4 66)))
  (tl 66 (aP (f_iload 1 67))))))
  (tn 73 (tn 68 (tl 67 (aP (f_iald 0 68)))
  (tn 71 (tl 68 (aP (f_icmp (fun x y => decide (x ≤ y)) 88 71)))
  (tl 71 (aP (f_iload 4 73)))))
  (tn 74 (tl 73 (aP (f_const (.int (-1)) 74)))
  (tn 77 (tl 74 (aP (f_icmp (fun x y => decide (¬ x = y)) 86 77)))
  (tl 77 (aP (f_aload 0 78)))))))))
  (tn 115 (tn 94 (tn 87 (tn 82 (tn 81 (tl 78 (aP (f_getf [0] 4 81)))
  (tl 81 (aP (f_iload 1 82))))
  (tn 83 (tl 82 (aP (f_iald 0 83)))
  (tn 86 (tl 83 (aP (f_goto 87)))
  (tl 86 (aP (f_const (.int (-1)) 87))))))
  (tn 89 (tn 88 (tl 87 (o_iret (fun _ => true)))
  (tl 88 (aP (f_iload 1 89))))
  (tn 91 (tl 89 (aP (f_istore 5 91)))
  (tn 92 (tl 91 (aP (f_const (.int (nI 0)) 92)))
  (tl 92 (aP (f_istore 6 94)))))))
  (tn 104 (tn 98 (tn 96 (tl 94 (aP (f_iload 6 96)))
  (tl 96 (aP (f_iload 4 98))))
  (tn 101 (tl 98 (aP (f_icmp (fun x y => decide (y ≤ x)) 156 101)))
  (tn 102 (tl 101 (aP (f_const (.int (nI 0)) 102)))
  (tl 102 (aP (f_istore 7 104))))))
  (tn 110 (tn 105 (tl 104 (aP (f_aload 0 105)))
  (tn 108 (tl 105 (aP (f_getf [0] 4 108)))
  (tl 108 (aP (f_iload 7 110)))))
  (tn 111 (tl 110 (aP (f_iald 0 111)))
  (tn 112 (tl 111 (aP (f_aload 0 112)))
  (tl 112 (aP (f_getf [0] 4 115))))))))
  (tn 135 (tn 123 (tn 118 (tn 117 (tl 115 (aP (f_iload 5 117)))
  (tl 117 (aP (f_iald 0 118))))
  (tn 119 (tl 118 (aP (f_const (.int (nI 1)) 119)))
  (tn 120 (tl 119 (aP (f_bin (fun x y => x - y) 120)))
  (tl 120 (aP (f_icmp (fun x y => decide (¬ x = y)) 140 123))))))
  (tn 130 (tn 124 (tl 123 (aP (f_aload 0 124)))
  (tn 127 (tl 124 (aP (f_getf [0] 3 127)))
  (tl 127 (aP (f_getf [3] 0 130)))))
  (tn 132 (tl 130 (aP (f_iload 5 132)))
  (tn 133 (tl 132 (aP (f_aald [3, 4, 5] 133)))
  (tl 133 (aP (f_iload 7 135)))))))
  (tn 146 (tn 137 (tn 136 (tl 135 (aP (f_iald 0 136)))
  (tl 136 (aP (f_iload 3 137))))
  (tn 140 (tl 137 (aP (f_icmp (fun x y => decide (y ≤ x)) 146 140)))
  (tn 143 (tl 140 (aP (f_iinc 7 (nI 1) 143)))
  (tl 143 (aP (f_goto 104))))))
  (tn 153 (tn 148 (tl 146 (aP (f_iload 7 148)))
  (tn 150 (tl 148 (aP (f_istore 5 150)))
  (tl 150 (aP (f_iinc 6 (nI 1) 153)))))
  (tn 156 (tl 153 (aP (f_goto 94)))
  (tn 158 (tl 156 (aP (f_iload 5 158)))
  (tl 158 (o_iret (fun _ => true)))))))))
theorem kok_X1_chain {γ : AG} (hm : γ.2.2.2.2.1 = mTab) (hk : γ.2.2.2.2.2 = kTab) : KOK γ m_X1_chain k_X1_chain :=
 kn_ok
 (kn_ok
 (kn_ok
 (kn_ok
 (kn_ok
 (kn_ok
 (kl_ok (ok_aP (ok_aload_n dX1_chain_0 rfl rfl)))
 (kl_ok (ok_aP (ok_iload_n dX1_chain_1 rfl rfl))))
 (kn_ok
 (kl_ok (ok_aP (ok_iload_n dX1_chain_2 rfl rfl)))
 (kn_ok
 (kl_ok (ok_callV (List.forall_mem_cons.mpr ⟨run_V (C0 := "FavourTown") rfl rfl (by rw [hm]; rfl) q1577 q1579 qs25 q83 q1580 ⟨nh_0, dl_19⟩ (by decide) dX1_chain_3, (fun _ h => absurd h List.not_mem_nil)⟩) rfl))
 (kl_ok (ok_aP (ok_iload_n dX1_chain_6 rfl rfl))))))
 (kn_ok
 (kn_ok
 (kl_ok (ok_aP (ok_iconst dX1_chain_7 rfl rfl)))
 (kl_ok (ok_aP (ok_bipush dX1_chain_8 (by decide +kernel) rfl))))
 (kn_ok
 (kl_ok (ok_callS (run_S (by rw [hm]; rfl) q1554 q804 q83 q805 ⟨nh_0, dl_17⟩ (by decide) dX1_chain_10) rfl))
 (kn_ok
 (kl_ok (ok_aP (ok_if_eq dX1_chain_13 rfl rfl)))
 (kl_ok (ok_aP (ok_iload dX1_chain_16 rfl)))))))
 (kn_ok
 (kn_ok
 (kn_ok
 (kl_ok (ok_aP (ok_iconst dX1_chain_18 rfl rfl)))
 (kl_ok (ok_aP (ok_icmp_lt dX1_chain_19 rfl rfl))))
 (kn_ok
 (kl_ok (ok_aP (ok_iconst dX1_chain_22 rfl rfl)))
 (kn_ok
 (kl_ok (ok_aP (ok_goto dX1_chain_23 rfl)))
 (kl_ok (ok_aP (ok_iconst dX1_chain_26 rfl rfl))))))
 (kn_ok
 (kn_ok
 (kl_ok (ok_callS (run_S (by rw [hm]; rfl) q1581 q1582 q83 q1583 ⟨nh_0, dl_18⟩ (by decide) dX1_chain_27) rfl))
 (kn_ok
 (kl_ok (ok_aP (ok_aload_n dX1_chain_30 rfl rfl)))
 (kl_ok (ok_aP (ok_getf fo_89 fs_rf (Or.inl q356) dX1_chain_31 rfl)))))
 (kn_ok
 (kl_ok (ok_callV (List.forall_mem_cons.mpr ⟨run_V (C0 := "FavourTown$Flow") rfl rfl (by rw [hm]; rfl) q1730 q1731 q1732 q90 q1733 ⟨nh_24, dl_56⟩ (by decide) dX1_chain_34, (fun _ h => absurd h List.not_mem_nil)⟩) rfl))
 (kn_ok
 (kl_ok (ok_aP (ok_pop dX1_chain_37 rfl)))
 (kl_ok (ok_aP (ok_aload_n dX1_chain_38 rfl rfl))))))))
 (kn_ok
 (kn_ok
 (kn_ok
 (kn_ok
 (kl_ok (ok_aP (ok_iload_n dX1_chain_39 rfl rfl)))
 (kl_ok (ok_aP (ok_iload_n dX1_chain_40 rfl rfl))))
 (kn_ok
 (kl_ok (ok_callV (List.forall_mem_cons.mpr ⟨run_V (C0 := "FavourTown") rfl rfl (by rw [hm]; rfl) q1760 q1762 qs28 q83 q1763 ⟨nh_0, dl_19⟩ (by decide) dX1_chain_41, (fun _ h => absurd h List.not_mem_nil)⟩) rfl))
 (kn_ok
 (kl_ok (ok_aP (ok_iload dX1_chain_44 rfl)))
 (kl_ok (ok_aP (ok_iconst dX1_chain_46 rfl rfl))))))
 (kn_ok
 (kn_ok
 (kl_ok (ok_aP (ok_icmp_eq dX1_chain_47 rfl rfl)))
 (kn_ok
 (kl_ok (ok_aP (ok_aload_n dX1_chain_50 rfl rfl)))
 (kl_ok (ok_aP (ok_getf fo_90 fs_rf (Or.inl q357) dX1_chain_51 rfl)))))
 (kn_ok
 (kl_ok (ok_aP (ok_iload_n dX1_chain_54 rfl rfl)))
 (kn_ok
 (kl_ok (ok_aP (ok_iald dX1_chain_55 rfl)))
 (kl_ok (ok_aP (ok_iconst dX1_chain_56 rfl rfl)))))))
 (kn_ok
 (kn_ok
 (kn_ok
 (kl_ok (ok_aP (ok_icmp_eq dX1_chain_57 rfl rfl)))
 (kl_ok (ok_aP (ok_iload dX1_chain_60 rfl))))
 (kn_ok
 (kl_ok (ok_aP (ok_aload_n dX1_chain_62 rfl rfl)))
 (kn_ok
 (kl_ok (ok_aP (ok_getf fo_90 fs_rf (Or.inl q357) dX1_chain_63 rfl)))
 (kl_ok (ok_aP (ok_iload_n dX1_chain_66 rfl rfl))))))
 (kn_ok
 (kn_ok
 (kl_ok (ok_aP (ok_iald dX1_chain_67 rfl)))
 (kn_ok
 (kl_ok (ok_aP (ok_icmp_le dX1_chain_68 rfl rfl)))
 (kl_ok (ok_aP (ok_iload dX1_chain_71 rfl)))))
 (kn_ok
 (kl_ok (ok_aP (ok_iconst dX1_chain_73 rfl rfl)))
 (kn_ok
 (kl_ok (ok_aP (ok_icmp_ne dX1_chain_74 rfl rfl)))
 (kl_ok (ok_aP (ok_aload_n dX1_chain_77 rfl rfl)))))))))
 (kn_ok
 (kn_ok
 (kn_ok
 (kn_ok
 (kn_ok
 (kl_ok (ok_aP (ok_getf fo_90 fs_rf (Or.inl q357) dX1_chain_78 rfl)))
 (kl_ok (ok_aP (ok_iload_n dX1_chain_81 rfl rfl))))
 (kn_ok
 (kl_ok (ok_aP (ok_iald dX1_chain_82 rfl)))
 (kn_ok
 (kl_ok (ok_aP (ok_goto dX1_chain_83 rfl)))
 (kl_ok (ok_aP (ok_iconst dX1_chain_86 rfl rfl))))))
 (kn_ok
 (kn_ok
 (kl_ok (ok_iret rfl dX1_chain_87))
 (kl_ok (ok_aP (ok_iload_n dX1_chain_88 rfl rfl))))
 (kn_ok
 (kl_ok (ok_aP (ok_istore dX1_chain_89 rfl)))
 (kn_ok
 (kl_ok (ok_aP (ok_iconst dX1_chain_91 rfl rfl)))
 (kl_ok (ok_aP (ok_istore dX1_chain_92 rfl)))))))
 (kn_ok
 (kn_ok
 (kn_ok
 (kl_ok (ok_aP (ok_iload dX1_chain_94 rfl)))
 (kl_ok (ok_aP (ok_iload dX1_chain_96 rfl))))
 (kn_ok
 (kl_ok (ok_aP (ok_icmp_ge dX1_chain_98 rfl rfl)))
 (kn_ok
 (kl_ok (ok_aP (ok_iconst dX1_chain_101 rfl rfl)))
 (kl_ok (ok_aP (ok_istore dX1_chain_102 rfl))))))
 (kn_ok
 (kn_ok
 (kl_ok (ok_aP (ok_aload_n dX1_chain_104 rfl rfl)))
 (kn_ok
 (kl_ok (ok_aP (ok_getf fo_90 fs_rf (Or.inl q357) dX1_chain_105 rfl)))
 (kl_ok (ok_aP (ok_iload dX1_chain_108 rfl)))))
 (kn_ok
 (kl_ok (ok_aP (ok_iald dX1_chain_110 rfl)))
 (kn_ok
 (kl_ok (ok_aP (ok_aload_n dX1_chain_111 rfl rfl)))
 (kl_ok (ok_aP (ok_getf fo_90 fs_rf (Or.inl q357) dX1_chain_112 rfl))))))))
 (kn_ok
 (kn_ok
 (kn_ok
 (kn_ok
 (kl_ok (ok_aP (ok_iload dX1_chain_115 rfl)))
 (kl_ok (ok_aP (ok_iald dX1_chain_117 rfl))))
 (kn_ok
 (kl_ok (ok_aP (ok_iconst dX1_chain_118 rfl rfl)))
 (kn_ok
 (kl_ok (ok_aP (ok_isub dX1_chain_119 rfl)))
 (kl_ok (ok_aP (ok_icmp_ne dX1_chain_120 rfl rfl))))))
 (kn_ok
 (kn_ok
 (kl_ok (ok_aP (ok_aload_n dX1_chain_123 rfl rfl)))
 (kn_ok
 (kl_ok (ok_aP (ok_getf fo_89 fs_rf (Or.inl q356) dX1_chain_124 rfl)))
 (kl_ok (ok_aP (ok_getf fo_93 fs_rf (Or.inr ⟨_, q314⟩) dX1_chain_127 rfl)))))
 (kn_ok
 (kl_ok (ok_aP (ok_iload dX1_chain_130 rfl)))
 (kn_ok
 (kl_ok (ok_aP (ok_aald ts345 dX1_chain_132 rfl)))
 (kl_ok (ok_aP (ok_iload dX1_chain_133 rfl)))))))
 (kn_ok
 (kn_ok
 (kn_ok
 (kl_ok (ok_aP (ok_iald dX1_chain_135 rfl)))
 (kl_ok (ok_aP (ok_iload_n dX1_chain_136 rfl rfl))))
 (kn_ok
 (kl_ok (ok_aP (ok_icmp_ge dX1_chain_137 rfl rfl)))
 (kn_ok
 (kl_ok (ok_aP (ok_iinc dX1_chain_140 (by decide +kernel) rfl)))
 (kl_ok (ok_aP (ok_goto dX1_chain_143 rfl))))))
 (kn_ok
 (kn_ok
 (kl_ok (ok_aP (ok_iload dX1_chain_146 rfl)))
 (kn_ok
 (kl_ok (ok_aP (ok_istore dX1_chain_148 rfl)))
 (kl_ok (ok_aP (ok_iinc dX1_chain_150 (by decide +kernel) rfl)))))
 (kn_ok
 (kl_ok (ok_aP (ok_goto dX1_chain_153 rfl)))
 (kn_ok
 (kl_ok (ok_aP (ok_iload dX1_chain_156 rfl)))
 (kl_ok (ok_iret rfl dX1_chain_158))))))))
/-- 82: FavourTown.steps(II)V -/
noncomputable def k_X1_steps : Nat → Option AOp :=
 tn 62 (tn 28 (tn 14 (tn 8 (tn 4 (tn 1 (tl 0 (aP (f_aload 0 1)))
  (tl 1 (aP (f_getf [0] 4 4))))
  (tn 5 (tl 4 (aP (f_const (.int (-1)) 5)))
  (tl 5 (o_callS 261 2 8))))
  (tn 12 (tn 9 (tl 8 (aP (f_aload 0 9)))
  (tl 9 (aP (f_getf [0] 4 12))))
  (tn 13 (tl 12 (aP (f_iload 1 13)))
  (tl 13 (aP (f_const (.int (nI 0)) 14))))))
  (tn 18 (tn 16 (tn 15 (tl 14 (o_iast 0 (fun y => y) 15))
  (tl 15 (aP (f_const (.int (nI 0)) 16))))
  (tn 17 (tl 16 (aP (f_istore 3 17)))
  (tl 17 (aP (f_iload 3 18)))))
  (tn 22 (tn 19 (tl 18 (aP (f_aload 0 19)))
  (tl 19 (aP (f_getf [0] 0 22))))
  (tn 25 (tl 22 (aP (f_getf [1] 3 25)))
  (tl 25 (aP (f_icmp (fun x y => decide (y ≤ x)) 128 28)))))))
  (tn 44 (tn 34 (tn 31 (tn 29 (tl 28 (aP (f_const (.int (nI 0)) 29)))
  (tl 29 (aP (f_istore 4 31))))
  (tn 33 (tl 31 (aP (f_iload 4 33)))
  (tl 33 (aP (f_aload 0 34)))))
  (tn 40 (tn 37 (tl 34 (aP (f_getf [0] 0 37)))
  (tl 37 (aP (f_getf [1] 3 40))))
  (tn 43 (tl 40 (aP (f_icmp (fun x y => decide (y ≤ x)) 122 43)))
  (tl 43 (aP (f_aload 0 44))))))
  (tn 51 (tn 49 (tn 47 (tl 44 (aP (f_getf [0] 4 47)))
  (tl 47 (aP (f_iload 4 49))))
  (tn 50 (tl 49 (aP (f_iald 0 50)))
  (tl 50 (aP (f_const (.int (-1)) 51)))))
  (tn 57 (tn 54 (tl 51 (aP (f_icmp (fun x y => decide (x = y)) 57 54)))
  (tl 54 (aP (f_goto 116))))
  (tn 58 (tl 57 (aP (f_const (.int (nI 0)) 58)))
  (tn 60 (tl 58 (aP (f_istore 5 60)))
  (tl 60 (aP (f_iload 5 62)))))))))
  (tn 95 (tn 79 (tn 72 (tn 66 (tn 63 (tl 62 (aP (f_aload 0 63)))
  (tl 63 (aP (f_getf [0] 0 66))))
  (tn 69 (tl 66 (aP (f_getf [1] 3 69)))
  (tl 69 (aP (f_icmp (fun x y => decide (y ≤ x)) 116 72)))))
  (tn 76 (tn 73 (tl 72 (aP (f_aload 0 73)))
  (tl 73 (aP (f_getf [0] 4 76))))
  (tn 78 (tl 76 (aP (f_iload 5 78)))
  (tl 78 (aP (f_iald 0 79))))))
  (tn 87 (tn 83 (tn 80 (tl 79 (aP (f_iload 3 80)))
  (tl 80 (aP (f_icmp (fun x y => decide (¬ x = y)) 110 83))))
  (tn 84 (tl 83 (aP (f_aload 0 84)))
  (tl 84 (aP (f_getf [0] 3 87)))))
  (tn 92 (tn 90 (tl 87 (aP (f_getf [3] 0 90)))
  (tl 90 (aP (f_iload 4 92))))
  (tn 93 (tl 92 (aP (f_aald [3, 4, 5] 93)))
  (tl 93 (aP (f_iload 5 95)))))))
  (tn 108 (tn 101 (tn 97 (tn 96 (tl 95 (aP (f_iald 0 96)))
  (tl 96 (aP (f_iload 2 97))))
  (tn 100 (tl 97 (aP (f_icmp (fun x y => decide (x < y)) 110 100)))
  (tl 100 (aP (f_aload 0 101)))))
  (tn 106 (tn 104 (tl 101 (aP (f_getf [0] 4 104)))
  (tl 104 (aP (f_iload 4 106))))
  (tn 107 (tl 106 (aP (f_iload 3 107)))
  (tl 107 (aP (f_const (.int (nI 1)) 108))))))
  (tn 116 (tn 110 (tn 109 (tl 108 (aP (f_bin (fun x y => x + y) 109)))
  (tl 109 (o_iast 0 (fun y => y) 110)))
  (tn 113 (tl 110 (aP (f_iinc 5 (nI 1) 113)))
  (tl 113 (aP (f_goto 60)))))
  (tn 122 (tn 119 (tl 116 (aP (f_iinc 4 (nI 1) 119)))
  (tl 119 (aP (f_goto 31))))
  (tn 125 (tl 122 (aP (f_iinc 3 (nI 1) 125)))
  (tn 128 (tl 125 (aP (f_goto 17)))
  (tl 128 (o_vret))))))))
theorem kok_X1_steps {γ : AG} (hm : γ.2.2.2.2.1 = mTab) (hk : γ.2.2.2.2.2 = kTab) : KOK γ m_X1_steps k_X1_steps :=
 kn_ok
 (kn_ok
 (kn_ok
 (kn_ok
 (kn_ok
 (kn_ok
 (kl_ok (ok_aP (ok_aload_n dX1_steps_0 rfl rfl)))
 (kl_ok (ok_aP (ok_getf fo_90 fs_rf (Or.inl q357) dX1_steps_1 rfl))))
 (kn_ok
 (kl_ok (ok_aP (ok_iconst dX1_steps_4 rfl rfl)))
 (kl_ok (ok_callS (run_S (by rw [hm]; rfl) q1764 q1765 q100 q1766 ⟨nh_16, dl_55⟩ (by decide) dX1_steps_5) rfl))))
 (kn_ok
 (kn_ok
 (kl_ok (ok_aP (ok_aload_n dX1_steps_8 rfl rfl)))
 (kl_ok (ok_aP (ok_getf fo_90 fs_rf (Or.inl q357) dX1_steps_9 rfl))))
 (kn_ok
 (kl_ok (ok_aP (ok_iload_n dX1_steps_12 rfl rfl)))
 (kl_ok (ok_aP (ok_iconst dX1_steps_13 rfl rfl))))))
 (kn_ok
 (kn_ok
 (kn_ok
 (kl_ok (ok_hp (ok_iast dX1_steps_14 rfl) le_iast))
 (kl_ok (ok_aP (ok_iconst dX1_steps_15 rfl rfl))))
 (kn_ok
 (kl_ok (ok_aP (ok_istore_n dX1_steps_16 rfl rfl)))
 (kl_ok (ok_aP (ok_iload_n dX1_steps_17 rfl rfl)))))
 (kn_ok
 (kn_ok
 (kl_ok (ok_aP (ok_aload_n dX1_steps_18 rfl rfl)))
 (kl_ok (ok_aP (ok_getf fo_0 fs_rf (Or.inl q351) dX1_steps_19 rfl))))
 (kn_ok
 (kl_ok (ok_aP (ok_getf fo_1 fs_rf (Or.inr ⟨_, q224⟩) dX1_steps_22 rfl)))
 (kl_ok (ok_aP (ok_icmp_ge dX1_steps_25 rfl rfl)))))))
 (kn_ok
 (kn_ok
 (kn_ok
 (kn_ok
 (kl_ok (ok_aP (ok_iconst dX1_steps_28 rfl rfl)))
 (kl_ok (ok_aP (ok_istore dX1_steps_29 rfl))))
 (kn_ok
 (kl_ok (ok_aP (ok_iload dX1_steps_31 rfl)))
 (kl_ok (ok_aP (ok_aload_n dX1_steps_33 rfl rfl)))))
 (kn_ok
 (kn_ok
 (kl_ok (ok_aP (ok_getf fo_0 fs_rf (Or.inl q351) dX1_steps_34 rfl)))
 (kl_ok (ok_aP (ok_getf fo_1 fs_rf (Or.inr ⟨_, q224⟩) dX1_steps_37 rfl))))
 (kn_ok
 (kl_ok (ok_aP (ok_icmp_ge dX1_steps_40 rfl rfl)))
 (kl_ok (ok_aP (ok_aload_n dX1_steps_43 rfl rfl))))))
 (kn_ok
 (kn_ok
 (kn_ok
 (kl_ok (ok_aP (ok_getf fo_90 fs_rf (Or.inl q357) dX1_steps_44 rfl)))
 (kl_ok (ok_aP (ok_iload dX1_steps_47 rfl))))
 (kn_ok
 (kl_ok (ok_aP (ok_iald dX1_steps_49 rfl)))
 (kl_ok (ok_aP (ok_iconst dX1_steps_50 rfl rfl)))))
 (kn_ok
 (kn_ok
 (kl_ok (ok_aP (ok_icmp_eq dX1_steps_51 rfl rfl)))
 (kl_ok (ok_aP (ok_goto dX1_steps_54 rfl))))
 (kn_ok
 (kl_ok (ok_aP (ok_iconst dX1_steps_57 rfl rfl)))
 (kn_ok
 (kl_ok (ok_aP (ok_istore dX1_steps_58 rfl)))
 (kl_ok (ok_aP (ok_iload dX1_steps_60 rfl)))))))))
 (kn_ok
 (kn_ok
 (kn_ok
 (kn_ok
 (kn_ok
 (kl_ok (ok_aP (ok_aload_n dX1_steps_62 rfl rfl)))
 (kl_ok (ok_aP (ok_getf fo_0 fs_rf (Or.inl q351) dX1_steps_63 rfl))))
 (kn_ok
 (kl_ok (ok_aP (ok_getf fo_1 fs_rf (Or.inr ⟨_, q224⟩) dX1_steps_66 rfl)))
 (kl_ok (ok_aP (ok_icmp_ge dX1_steps_69 rfl rfl)))))
 (kn_ok
 (kn_ok
 (kl_ok (ok_aP (ok_aload_n dX1_steps_72 rfl rfl)))
 (kl_ok (ok_aP (ok_getf fo_90 fs_rf (Or.inl q357) dX1_steps_73 rfl))))
 (kn_ok
 (kl_ok (ok_aP (ok_iload dX1_steps_76 rfl)))
 (kl_ok (ok_aP (ok_iald dX1_steps_78 rfl))))))
 (kn_ok
 (kn_ok
 (kn_ok
 (kl_ok (ok_aP (ok_iload_n dX1_steps_79 rfl rfl)))
 (kl_ok (ok_aP (ok_icmp_ne dX1_steps_80 rfl rfl))))
 (kn_ok
 (kl_ok (ok_aP (ok_aload_n dX1_steps_83 rfl rfl)))
 (kl_ok (ok_aP (ok_getf fo_89 fs_rf (Or.inl q356) dX1_steps_84 rfl)))))
 (kn_ok
 (kn_ok
 (kl_ok (ok_aP (ok_getf fo_93 fs_rf (Or.inr ⟨_, q314⟩) dX1_steps_87 rfl)))
 (kl_ok (ok_aP (ok_iload dX1_steps_90 rfl))))
 (kn_ok
 (kl_ok (ok_aP (ok_aald ts345 dX1_steps_92 rfl)))
 (kl_ok (ok_aP (ok_iload dX1_steps_93 rfl)))))))
 (kn_ok
 (kn_ok
 (kn_ok
 (kn_ok
 (kl_ok (ok_aP (ok_iald dX1_steps_95 rfl)))
 (kl_ok (ok_aP (ok_iload_n dX1_steps_96 rfl rfl))))
 (kn_ok
 (kl_ok (ok_aP (ok_icmp_lt dX1_steps_97 rfl rfl)))
 (kl_ok (ok_aP (ok_aload_n dX1_steps_100 rfl rfl)))))
 (kn_ok
 (kn_ok
 (kl_ok (ok_aP (ok_getf fo_90 fs_rf (Or.inl q357) dX1_steps_101 rfl)))
 (kl_ok (ok_aP (ok_iload dX1_steps_104 rfl))))
 (kn_ok
 (kl_ok (ok_aP (ok_iload_n dX1_steps_106 rfl rfl)))
 (kl_ok (ok_aP (ok_iconst dX1_steps_107 rfl rfl))))))
 (kn_ok
 (kn_ok
 (kn_ok
 (kl_ok (ok_aP (ok_iadd dX1_steps_108 rfl)))
 (kl_ok (ok_hp (ok_iast dX1_steps_109 rfl) le_iast)))
 (kn_ok
 (kl_ok (ok_aP (ok_iinc dX1_steps_110 (by decide +kernel) rfl)))
 (kl_ok (ok_aP (ok_goto dX1_steps_113 rfl)))))
 (kn_ok
 (kn_ok
 (kl_ok (ok_aP (ok_iinc dX1_steps_116 (by decide +kernel) rfl)))
 (kl_ok (ok_aP (ok_goto dX1_steps_119 rfl))))
 (kn_ok
 (kl_ok (ok_aP (ok_iinc dX1_steps_122 (by decide +kernel) rfl)))
 (kn_ok
 (kl_ok (ok_aP (ok_goto dX1_steps_125 rfl)))
 (kl_ok (ok_vret rfl dX1_steps_128))))))))
/-- 83: FavourTown.ring()I -/
noncomputable def k_X1_ring : Nat → Option AOp :=
 tn 75 (tn 37 (tn 19 (tn 9 (tn 4 (tn 1 (tl 0 (aP (f_aload 0 1)))
  (tl 1 (aP (f_getf [0] 2 4))))
  (tn 5 (tl 4 (aP (f_astore 1 5)))
  (tn 6 (tl 5 (aP (f_aload 1 6)))
  (tl 6 (o_callV (lkN [(2, 128)]) 0 9)))))
  (tn 13 (tn 10 (tl 9 (aP (f_aload 1 10)))
  (tl 10 (aP (f_getf [2] 2 13))))
  (tn 14 (tl 13 (aP (f_const (.int (nI 2)) 14)))
  (tn 16 (tl 14 (aP (f_const (.int (nI 6)) 16)))
  (tl 16 (o_callS 40 3 19))))))
  (tn 29 (tn 23 (tn 22 (tl 19 (o_callS 62 1 22))
  (tl 22 (aP (f_aload 1 23))))
  (tn 26 (tl 23 (aP (f_getf [2] 2 26)))
  (tn 28 (tl 26 (o_newa 0 (.inl (fun _ => 0)) 28))
  (tl 28 (aP (f_astore 2 29))))))
  (tn 32 (tn 30 (tl 29 (aP (f_const (.int (nI 0)) 30)))
  (tn 31 (tl 30 (aP (f_istore 3 31)))
  (tl 31 (aP (f_const (.int (nI 0)) 32)))))
  (tn 34 (tl 32 (aP (f_istore 4 34)))
  (tn 36 (tl 34 (aP (f_iload 4 36)))
  (tl 36 (aP (f_aload 2 37))))))))
  (tn 55 (tn 45 (tn 41 (tn 38 (tl 37 (aP (f_alen 38)))
  (tl 38 (aP (f_icmp (fun x y => decide (y ≤ x)) 109 41))))
  (tn 42 (tl 41 (aP (f_aload 2 42)))
  (tn 44 (tl 42 (aP (f_iload 4 44)))
  (tl 44 (aP (f_aload 1 45))))))
  (tn 51 (tn 48 (tl 45 (aP (f_getf [2] 0 48)))
  (tn 50 (tl 48 (aP (f_iload 4 50)))
  (tl 50 (aP (f_iald 1 51)))))
  (tn 53 (tl 51 (aP (f_const (.int (nI 97)) 53)))
  (tn 54 (tl 53 (aP (f_bin (fun x y => x - y) 54)))
  (tl 54 (o_iast 0 (fun y => y) 55))))))
  (tn 61 (tn 58 (tn 56 (tl 55 (aP (f_aload 2 56)))
  (tl 56 (aP (f_iload 4 58))))
  (tn 59 (tl 58 (aP (f_iald 0 59)))
  (tn 60 (tl 59 (aP (f_const (.int (nI 0)) 60)))
  (tl 60 (aP (f_aload 0 61))))))
  (tn 68 (tn 64 (tl 61 (aP (f_getf [0] 0 64)))
  (tn 67 (tl 64 (aP (f_getf [1] 3 67)))
  (tl 67 (aP (f_const (.int (nI 1)) 68)))))
  (tn 69 (tl 68 (aP (f_bin (fun x y => x - y) 69)))
  (tn 72 (tl 69 (o_callS 40 3 72))
  (tl 72 (aP (f_if (fun x => decide (x = 0)) 90 75)))))))))
  (tn 106 (tn 90 (tn 81 (tn 77 (tn 76 (tl 75 (aP (f_iload 3 76)))
  (tl 76 (aP (f_aload 2 77))))
  (tn 79 (tl 77 (aP (f_iload 4 79)))
  (tn 80 (tl 79 (aP (f_iald 0 80)))
  (tl 80 (aP (f_bin (fun x y => x >>> (y &&& 31)) 81))))))
  (tn 83 (tn 82 (tl 81 (aP (f_const (.int (nI 1)) 82)))
  (tl 82 (aP (f_bin (fun x y => x &&& y) 83))))
  (tn 86 (tl 83 (aP (f_if (fun x => decide (¬ x = 0)) 90 86)))
  (tn 87 (tl 86 (aP (f_const (.int (nI 1)) 87)))
  (tl 87 (aP (f_goto 91)))))))
  (tn 97 (tn 94 (tn 91 (tl 90 (aP (f_const (.int (nI 0)) 91)))
  (tl 91 (o_callS 62 1 94)))
  (tn 95 (tl 94 (aP (f_iload 3 95)))
  (tn 96 (tl 95 (aP (f_const (.int (nI 1)) 96)))
  (tl 96 (aP (f_aload 2 97))))))
  (tn 101 (tn 99 (tl 97 (aP (f_iload 4 99)))
  (tn 100 (tl 99 (aP (f_iald 0 100)))
  (tl 100 (aP (f_bin (fun x y => x <<< (y &&& 31)) 101)))))
  (tn 102 (tl 101 (aP (f_bin (fun x y => x ||| y) 102)))
  (tn 103 (tl 102 (aP (f_istore 3 103)))
  (tl 103 (aP (f_iinc 4 (nI 1) 106))))))))
  (tn 136 (tn 119 (tn 110 (tn 109 (tl 106 (aP (f_goto 34)))
  (tl 109 (aP (f_aload 0 110))))
  (tn 113 (tl 110 (aP (f_getf [0] 0 113)))
  (tn 116 (tl 113 (aP (f_getf [1] 12 116)))
  (tl 116 (o_callV (lkN [(19, 113)]) 0 119)))))
  (tn 131 (tn 121 (tl 119 (aP (f_const (.int (nI 8)) 121)))
  (tn 124 (tl 121 (aP (f_icmp (fun x y => decide (¬ x = y)) 132 124)))
  (tl 124 (o_make 23 131))))
  (tn 132 (tl 131 (o_athrow [17, 22, 23, 24, 25]))
  (tn 133 (tl 132 (aP (f_aload 0 133)))
  (tl 133 (aP (f_getf [0] 0 136)))))))
  (tn 145 (tn 140 (tn 139 (tl 136 (aP (f_getf [1] 12 139)))
  (tl 139 (aP (f_aload 2 140))))
  (tn 143 (tl 140 (o_callV (lkN [(19, 116)]) 1 143))
  (tn 144 (tl 143 (aP (f_pop 144)))
  (tl 144 (aP (f_aload 0 145))))))
  (tn 154 (tn 148 (tl 145 (aP (f_getf [0] 0 148)))
  (tn 151 (tl 148 (aP (f_getf [1] 12 151)))
  (tl 151 (o_callV (lkN [(19, 113)]) 0 154))))
  (tn 155 (tl 154 (aP (f_const (.int (nI 1)) 155)))
  (tn 156 (tl 155 (aP (f_bin (fun x y => x - y) 156)))
  (tl 156 (o_iret (fun _ => true)))))))))
theorem kok_X1_ring {γ : AG} (hm : γ.2.2.2.2.1 = mTab) (hk : γ.2.2.2.2.2 = kTab) : KOK γ m_X1_ring k_X1_ring :=
 kn_ok
 (kn_ok
 (kn_ok
 (kn_ok
 (kn_ok
 (kn_ok
 (kl_ok (ok_aP (ok_aload_n dX1_ring_0 rfl rfl)))
 (kl_ok (ok_aP (ok_getf fo_47 fs_rf (Or.inl q355) dX1_ring_1 rfl))))
 (kn_ok
 (kl_ok (ok_aP (ok_astore_n dX1_ring_4 rfl rfl)))
 (kn_ok
 (kl_ok (ok_aP (ok_aload_n dX1_ring_5 rfl rfl)))
 (kl_ok (ok_callV (List.forall_mem_cons.mpr ⟨run_V (C0 := "FavourTown$Reader") rfl rfl (by rw [hm]; rfl) q775 q776 q777 q89 q778 ⟨nh_20, dl_0⟩ (by decide) dX1_ring_6, (fun _ h => absurd h List.not_mem_nil)⟩) rfl)))))
 (kn_ok
 (kn_ok
 (kl_ok (ok_aP (ok_aload_n dX1_ring_9 rfl rfl)))
 (kl_ok (ok_aP (ok_getf fo_48 fs_rf (Or.inr ⟨_, q283⟩) dX1_ring_10 rfl))))
 (kn_ok
 (kl_ok (ok_aP (ok_iconst dX1_ring_13 rfl rfl)))
 (kn_ok
 (kl_ok (ok_aP (ok_bipush dX1_ring_14 (by decide +kernel) rfl)))
 (kl_ok (ok_callS (run_S (by rw [hm]; rfl) q1554 q804 q83 q805 ⟨nh_0, dl_17⟩ (by decide) dX1_ring_16) rfl))))))
 (kn_ok
 (kn_ok
 (kn_ok
 (kl_ok (ok_callS (run_S (by rw [hm]; rfl) q1581 q1582 q83 q1583 ⟨nh_0, dl_18⟩ (by decide) dX1_ring_19) rfl))
 (kl_ok (ok_aP (ok_aload_n dX1_ring_22 rfl rfl))))
 (kn_ok
 (kl_ok (ok_aP (ok_getf fo_48 fs_rf (Or.inr ⟨_, q283⟩) dX1_ring_23 rfl)))
 (kn_ok
 (kl_ok (ok_hp (na_int dX1_ring_26 rfl) le_newa))
 (kl_ok (ok_aP (ok_astore_n dX1_ring_28 rfl rfl))))))
 (kn_ok
 (kn_ok
 (kl_ok (ok_aP (ok_iconst dX1_ring_29 rfl rfl)))
 (kn_ok
 (kl_ok (ok_aP (ok_istore_n dX1_ring_30 rfl rfl)))
 (kl_ok (ok_aP (ok_iconst dX1_ring_31 rfl rfl)))))
 (kn_ok
 (kl_ok (ok_aP (ok_istore dX1_ring_32 rfl)))
 (kn_ok
 (kl_ok (ok_aP (ok_iload dX1_ring_34 rfl)))
 (kl_ok (ok_aP (ok_aload_n dX1_ring_36 rfl rfl))))))))
 (kn_ok
 (kn_ok
 (kn_ok
 (kn_ok
 (kl_ok (ok_aP (ok_alen dX1_ring_37 rfl)))
 (kl_ok (ok_aP (ok_icmp_ge dX1_ring_38 rfl rfl))))
 (kn_ok
 (kl_ok (ok_aP (ok_aload_n dX1_ring_41 rfl rfl)))
 (kn_ok
 (kl_ok (ok_aP (ok_iload dX1_ring_42 rfl)))
 (kl_ok (ok_aP (ok_aload_n dX1_ring_44 rfl rfl))))))
 (kn_ok
 (kn_ok
 (kl_ok (ok_aP (ok_getf fo_49 fs_rf (Or.inr ⟨_, q280⟩) dX1_ring_45 rfl)))
 (kn_ok
 (kl_ok (ok_aP (ok_iload dX1_ring_48 rfl)))
 (kl_ok (ok_aP (ok_bald dX1_ring_50 rfl)))))
 (kn_ok
 (kl_ok (ok_aP (ok_bipush dX1_ring_51 (by decide +kernel) rfl)))
 (kn_ok
 (kl_ok (ok_aP (ok_isub dX1_ring_53 rfl)))
 (kl_ok (ok_hp (ok_iast dX1_ring_54 rfl) le_iast))))))
 (kn_ok
 (kn_ok
 (kn_ok
 (kl_ok (ok_aP (ok_aload_n dX1_ring_55 rfl rfl)))
 (kl_ok (ok_aP (ok_iload dX1_ring_56 rfl))))
 (kn_ok
 (kl_ok (ok_aP (ok_iald dX1_ring_58 rfl)))
 (kn_ok
 (kl_ok (ok_aP (ok_iconst dX1_ring_59 rfl rfl)))
 (kl_ok (ok_aP (ok_aload_n dX1_ring_60 rfl rfl))))))
 (kn_ok
 (kn_ok
 (kl_ok (ok_aP (ok_getf fo_0 fs_rf (Or.inl q351) dX1_ring_61 rfl)))
 (kn_ok
 (kl_ok (ok_aP (ok_getf fo_1 fs_rf (Or.inr ⟨_, q224⟩) dX1_ring_64 rfl)))
 (kl_ok (ok_aP (ok_iconst dX1_ring_67 rfl rfl)))))
 (kn_ok
 (kl_ok (ok_aP (ok_isub dX1_ring_68 rfl)))
 (kn_ok
 (kl_ok (ok_callS (run_S (by rw [hm]; rfl) q1554 q804 q83 q805 ⟨nh_0, dl_17⟩ (by decide) dX1_ring_69) rfl))
 (kl_ok (ok_aP (ok_if_eq dX1_ring_72 rfl rfl)))))))))
 (kn_ok
 (kn_ok
 (kn_ok
 (kn_ok
 (kn_ok
 (kl_ok (ok_aP (ok_iload_n dX1_ring_75 rfl rfl)))
 (kl_ok (ok_aP (ok_aload_n dX1_ring_76 rfl rfl))))
 (kn_ok
 (kl_ok (ok_aP (ok_iload dX1_ring_77 rfl)))
 (kn_ok
 (kl_ok (ok_aP (ok_iald dX1_ring_79 rfl)))
 (kl_ok (ok_aP (ok_ishr dX1_ring_80 rfl))))))
 (kn_ok
 (kn_ok
 (kl_ok (ok_aP (ok_iconst dX1_ring_81 rfl rfl)))
 (kl_ok (ok_aP (ok_iand dX1_ring_82 rfl))))
 (kn_ok
 (kl_ok (ok_aP (ok_if_ne dX1_ring_83 rfl rfl)))
 (kn_ok
 (kl_ok (ok_aP (ok_iconst dX1_ring_86 rfl rfl)))
 (kl_ok (ok_aP (ok_goto dX1_ring_87 rfl)))))))
 (kn_ok
 (kn_ok
 (kn_ok
 (kl_ok (ok_aP (ok_iconst dX1_ring_90 rfl rfl)))
 (kl_ok (ok_callS (run_S (by rw [hm]; rfl) q1581 q1582 q83 q1583 ⟨nh_0, dl_18⟩ (by decide) dX1_ring_91) rfl)))
 (kn_ok
 (kl_ok (ok_aP (ok_iload_n dX1_ring_94 rfl rfl)))
 (kn_ok
 (kl_ok (ok_aP (ok_iconst dX1_ring_95 rfl rfl)))
 (kl_ok (ok_aP (ok_aload_n dX1_ring_96 rfl rfl))))))
 (kn_ok
 (kn_ok
 (kl_ok (ok_aP (ok_iload dX1_ring_97 rfl)))
 (kn_ok
 (kl_ok (ok_aP (ok_iald dX1_ring_99 rfl)))
 (kl_ok (ok_aP (ok_ishl dX1_ring_100 rfl)))))
 (kn_ok
 (kl_ok (ok_aP (ok_ior dX1_ring_101 rfl)))
 (kn_ok
 (kl_ok (ok_aP (ok_istore_n dX1_ring_102 rfl rfl)))
 (kl_ok (ok_aP (ok_iinc dX1_ring_103 (by decide +kernel) rfl))))))))
 (kn_ok
 (kn_ok
 (kn_ok
 (kn_ok
 (kl_ok (ok_aP (ok_goto dX1_ring_106 rfl)))
 (kl_ok (ok_aP (ok_aload_n dX1_ring_109 rfl rfl))))
 (kn_ok
 (kl_ok (ok_aP (ok_getf fo_0 fs_rf (Or.inl q351) dX1_ring_110 rfl)))
 (kn_ok
 (kl_ok (ok_aP (ok_getf fo_46 fs_rf (Or.inr ⟨_, q242⟩) dX1_ring_113 rfl)))
 (kl_ok (ok_callV (List.forall_mem_cons.mpr ⟨run_V (C0 := "java/util/ArrayList") rfl rfl (by rw [hm]; rfl) q570 q401 q402 q87 q403 ⟨nh_4, dl_4⟩ (by decide) dX1_ring_116, (fun _ h => absurd h List.not_mem_nil)⟩) rfl)))))
 (kn_ok
 (kn_ok
 (kl_ok (ok_aP (ok_bipush dX1_ring_119 (by decide +kernel) rfl)))
 (kn_ok
 (kl_ok (ok_aP (ok_icmp_ne dX1_ring_121 rfl rfl)))
 (kl_ok (ok_hp (ok_make (names := ["java/lang/RuntimeException", "java/lang/Exception"]) rfl (by decide +kernel) (by decide +kernel) (by decide) q1329 q116 vat_3.1 vat_3.2.1 vat_3.2.2 dX1_ring_124 dX1_ring_127 dX1_ring_128 rfl) le_make))))
 (kn_ok
 (kl_ok (ok_athrow dX1_ring_131))
 (kn_ok
 (kl_ok (ok_aP (ok_aload_n dX1_ring_132 rfl rfl)))
 (kl_ok (ok_aP (ok_getf fo_0 fs_rf (Or.inl q351) dX1_ring_133 rfl)))))))
 (kn_ok
 (kn_ok
 (kn_ok
 (kl_ok (ok_aP (ok_getf fo_46 fs_rf (Or.inr ⟨_, q242⟩) dX1_ring_136 rfl)))
 (kl_ok (ok_aP (ok_aload_n dX1_ring_139 rfl rfl))))
 (kn_ok
 (kl_ok (ok_callV (List.forall_mem_cons.mpr ⟨run_V (C0 := "java/util/ArrayList") rfl rfl (by rw [hm]; rfl) q1305 q659 q660 q87 q661 ⟨nh_4, dl_36⟩ (by decide) dX1_ring_140, (fun _ h => absurd h List.not_mem_nil)⟩) rfl))
 (kn_ok
 (kl_ok (ok_aP (ok_pop dX1_ring_143 rfl)))
 (kl_ok (ok_aP (ok_aload_n dX1_ring_144 rfl rfl))))))
 (kn_ok
 (kn_ok
 (kl_ok (ok_aP (ok_getf fo_0 fs_rf (Or.inl q351) dX1_ring_145 rfl)))
 (kn_ok
 (kl_ok (ok_aP (ok_getf fo_46 fs_rf (Or.inr ⟨_, q242⟩) dX1_ring_148 rfl)))
 (kl_ok (ok_callV (List.forall_mem_cons.mpr ⟨run_V (C0 := "java/util/ArrayList") rfl rfl (by rw [hm]; rfl) q570 q401 q402 q87 q403 ⟨nh_4, dl_4⟩ (by decide) dX1_ring_151, (fun _ h => absurd h List.not_mem_nil)⟩) rfl))))
 (kn_ok
 (kl_ok (ok_aP (ok_iconst dX1_ring_154 rfl rfl)))
 (kn_ok
 (kl_ok (ok_aP (ok_isub dX1_ring_155 rfl)))
 (kl_ok (ok_iret rfl dX1_ring_156))))))))
/-- 84: FavourTown.clear(I)I -/
noncomputable def k_X1_clear : Nat → Option AOp :=
 tn 27 (tn 13 (tn 5 (tn 1 (tl 0 (aP (f_iload 1 1)))
  (tn 2 (tl 1 (aP (f_const (.int (-1)) 2)))
  (tl 2 (aP (f_icmp (fun x y => decide (x < y)) 9 5)))))
  (tn 9 (tn 6 (tl 5 (aP (f_const (.int (nI 1)) 6)))
  (tl 6 (aP (f_goto 10))))
  (tn 10 (tl 9 (aP (f_const (.int (nI 0)) 10)))
  (tl 10 (o_callS 62 1 13)))))
  (tn 21 (tn 17 (tn 14 (tl 13 (aP (f_aload 0 14)))
  (tl 14 (aP (f_getf [0] 5 17))))
  (tn 20 (tl 17 (o_callV (lkN [(4, 145)]) 0 20))
  (tl 20 (aP (f_istore 2 21)))))
  (tn 23 (tn 22 (tl 21 (aP (f_iload 1 22)))
  (tl 22 (aP (f_const (.int (-1)) 23))))
  (tn 26 (tl 23 (aP (f_icmp (fun x y => decide (¬ x = y)) 30 26)))
  (tl 26 (aP (f_iload 2 27)))))))
  (tn 44 (tn 32 (tn 30 (tl 27 (aP (f_goto 57)))
  (tn 31 (tl 30 (aP (f_iload 1 31)))
  (tl 31 (aP (f_aload 0 32)))))
  (tn 38 (tn 35 (tl 32 (aP (f_getf [0] 0 35)))
  (tl 35 (aP (f_getf [1] 12 38))))
  (tn 41 (tl 38 (o_callV (lkN [(19, 113)]) 0 41))
  (tl 41 (aP (f_icmp (fun x y => decide (y ≤ x)) 56 44))))))
  (tn 52 (tn 48 (tn 45 (tl 44 (aP (f_aload 0 45)))
  (tl 45 (aP (f_getf [0] 5 48))))
  (tn 51 (tl 48 (aP (f_getf [4] 2 51)))
  (tl 51 (aP (f_iload 1 52)))))
  (tn 56 (tn 53 (tl 52 (aP (f_iald 0 53)))
  (tl 53 (aP (f_goto 57))))
  (tn 57 (tl 56 (aP (f_const (.int (-1)) 57)))
  (tl 57 (o_iret (fun _ => true)))))))
theorem kok_X1_clear {γ : AG} (hm : γ.2.2.2.2.1 = mTab) (hk : γ.2.2.2.2.2 = kTab) : KOK γ m_X1_clear k_X1_clear :=
 kn_ok
 (kn_ok
 (kn_ok
 (kn_ok
 (kl_ok (ok_aP (ok_iload_n dX1_clear_0 rfl rfl)))
 (kn_ok
 (kl_ok (ok_aP (ok_iconst dX1_clear_1 rfl rfl)))
 (kl_ok (ok_aP (ok_icmp_lt dX1_clear_2 rfl rfl)))))
 (kn_ok
 (kn_ok
 (kl_ok (ok_aP (ok_iconst dX1_clear_5 rfl rfl)))
 (kl_ok (ok_aP (ok_goto dX1_clear_6 rfl))))
 (kn_ok
 (kl_ok (ok_aP (ok_iconst dX1_clear_9 rfl rfl)))
 (kl_ok (ok_callS (run_S (by rw [hm]; rfl) q1581 q1582 q83 q1583 ⟨nh_0, dl_18⟩ (by decide) dX1_clear_10) rfl)))))
 (kn_ok
 (kn_ok
 (kn_ok
 (kl_ok (ok_aP (ok_aload_n dX1_clear_13 rfl rfl)))
 (kl_ok (ok_aP (ok_getf fo_91 fs_rf (Or.inl q358) dX1_clear_14 rfl))))
 (kn_ok
 (kl_ok (ok_callV (List.forall_mem_cons.mpr ⟨run_V (C0 := "FavourTown$Clearing") rfl rfl (by rw [hm]; rfl) q1781 q1782 q1783 q91 q1784 ⟨nh_25, dl_4⟩ (by decide) dX1_clear_17, (fun _ h => absurd h List.not_mem_nil)⟩) rfl))
 (kl_ok (ok_aP (ok_istore_n dX1_clear_20 rfl rfl)))))
 (kn_ok
 (kn_ok
 (kl_ok (ok_aP (ok_iload_n dX1_clear_21 rfl rfl)))
 (kl_ok (ok_aP (ok_iconst dX1_clear_22 rfl rfl))))
 (kn_ok
 (kl_ok (ok_aP (ok_icmp_ne dX1_clear_23 rfl rfl)))
 (kl_ok (ok_aP (ok_iload_n dX1_clear_26 rfl rfl)))))))
 (kn_ok
 (kn_ok
 (kn_ok
 (kl_ok (ok_aP (ok_goto dX1_clear_27 rfl)))
 (kn_ok
 (kl_ok (ok_aP (ok_iload_n dX1_clear_30 rfl rfl)))
 (kl_ok (ok_aP (ok_aload_n dX1_clear_31 rfl rfl)))))
 (kn_ok
 (kn_ok
 (kl_ok (ok_aP (ok_getf fo_0 fs_rf (Or.inl q351) dX1_clear_32 rfl)))
 (kl_ok (ok_aP (ok_getf fo_46 fs_rf (Or.inr ⟨_, q242⟩) dX1_clear_35 rfl))))
 (kn_ok
 (kl_ok (ok_callV (List.forall_mem_cons.mpr ⟨run_V (C0 := "java/util/ArrayList") rfl rfl (by rw [hm]; rfl) q570 q401 q402 q87 q403 ⟨nh_4, dl_4⟩ (by decide) dX1_clear_38, (fun _ h => absurd h List.not_mem_nil)⟩) rfl))
 (kl_ok (ok_aP (ok_icmp_ge dX1_clear_41 rfl rfl))))))
 (kn_ok
 (kn_ok
 (kn_ok
 (kl_ok (ok_aP (ok_aload_n dX1_clear_44 rfl rfl)))
 (kl_ok (ok_aP (ok_getf fo_91 fs_rf (Or.inl q358) dX1_clear_45 rfl))))
 (kn_ok
 (kl_ok (ok_aP (ok_getf fo_99 fs_rf (Or.inr ⟨_, q337⟩) dX1_clear_48 rfl)))
 (kl_ok (ok_aP (ok_iload_n dX1_clear_51 rfl rfl)))))
 (kn_ok
 (kn_ok
 (kl_ok (ok_aP (ok_iald dX1_clear_52 rfl)))
 (kl_ok (ok_aP (ok_goto dX1_clear_53 rfl))))
 (kn_ok
 (kl_ok (ok_aP (ok_iconst dX1_clear_56 rfl rfl)))
 (kl_ok (ok_iret rfl dX1_clear_57))))))
/-- 85: FavourTown.loss(II)I -/
noncomputable def k_X1_loss : Nat → Option AOp :=
 tn 11 (tn 5 (tn 1 (tl 0 (aP (f_aload 0 1)))
  (tn 2 (tl 1 (aP (f_iload 1 2)))
  (tl 2 (o_callV (lkN [(0, 58)]) 1 5))))
  (tn 7 (tn 6 (tl 5 (aP (f_aload 0 6)))
  (tl 6 (aP (f_iload 2 7))))
  (tn 10 (tl 7 (o_callV (lkN [(0, 58)]) 1 10))
  (tl 10 (aP (f_aload 0 11))))))
  (tn 18 (tn 14 (tl 11 (aP (f_getf [0] 0 14)))
  (tn 17 (tl 14 (aP (f_getf [1] 8 17)))
  (tl 17 (aP (f_iload 1 18)))))
  (tn 20 (tn 19 (tl 18 (aP (f_aald [3, 4, 5] 19)))
  (tl 19 (aP (f_iload 2 20))))
  (tn 21 (tl 20 (aP (f_iald 0 21)))
  (tl 21 (o_iret (fun _ => true))))))
theorem kok_X1_loss {γ : AG} (hm : γ.2.2.2.2.1 = mTab) (hk : γ.2.2.2.2.2 = kTab) : KOK γ m_X1_loss k_X1_loss :=
 kn_ok
 (kn_ok
 (kn_ok
 (kl_ok (ok_aP (ok_aload_n dX1_loss_0 rfl rfl)))
 (kn_ok
 (kl_ok (ok_aP (ok_iload_n dX1_loss_1 rfl rfl)))
 (kl_ok (ok_callV (List.forall_mem_cons.mpr ⟨run_V (C0 := "FavourTown") rfl rfl (by rw [hm]; rfl) q1547 q1549 qs24 q83 q1550 ⟨nh_0, dl_32⟩ (by decide) dX1_loss_2, (fun _ h => absurd h List.not_mem_nil)⟩) rfl))))
 (kn_ok
 (kn_ok
 (kl_ok (ok_aP (ok_aload_n dX1_loss_5 rfl rfl)))
 (kl_ok (ok_aP (ok_iload_n dX1_loss_6 rfl rfl))))
 (kn_ok
 (kl_ok (ok_callV (List.forall_mem_cons.mpr ⟨run_V (C0 := "FavourTown") rfl rfl (by rw [hm]; rfl) q1547 q1549 qs24 q83 q1550 ⟨nh_0, dl_32⟩ (by decide) dX1_loss_7, (fun _ h => absurd h List.not_mem_nil)⟩) rfl))
 (kl_ok (ok_aP (ok_aload_n dX1_loss_10 rfl rfl))))))
 (kn_ok
 (kn_ok
 (kl_ok (ok_aP (ok_getf fo_0 fs_rf (Or.inl q351) dX1_loss_11 rfl)))
 (kn_ok
 (kl_ok (ok_aP (ok_getf fo_41 fs_rf (Or.inr ⟨_, q233⟩) dX1_loss_14 rfl)))
 (kl_ok (ok_aP (ok_iload_n dX1_loss_17 rfl rfl)))))
 (kn_ok
 (kn_ok
 (kl_ok (ok_aP (ok_aald ts345 dX1_loss_18 rfl)))
 (kl_ok (ok_aP (ok_iload_n dX1_loss_19 rfl rfl))))
 (kn_ok
 (kl_ok (ok_aP (ok_iald dX1_loss_20 rfl)))
 (kl_ok (ok_iret rfl dX1_loss_21)))))
/-- 86: FavourTown.ruined(I)I -/
noncomputable def k_X1_ruined : Nat → Option AOp :=
 tn 31 (tn 11 (tn 6 (tn 2 (tn 1 (tl 0 (aP (f_aload 0 1)))
  (tl 1 (aP (f_iload 1 2))))
  (tn 5 (tl 2 (o_callV (lkN [(0, 58)]) 1 5))
  (tl 5 (aP (f_const (.int (-1)) 6)))))
  (tn 8 (tn 7 (tl 6 (aP (f_istore 2 7)))
  (tl 7 (aP (f_const (.int (nI 0)) 8))))
  (tn 9 (tl 8 (aP (f_istore 3 9)))
  (tn 10 (tl 9 (aP (f_iload 3 10)))
  (tl 10 (aP (f_aload 0 11)))))))
  (tn 24 (tn 17 (tn 14 (tl 11 (aP (f_getf [0] 0 14)))
  (tl 14 (aP (f_getf [1] 3 17))))
  (tn 20 (tl 17 (aP (f_icmp (fun x y => decide (y ≤ x)) 62 20)))
  (tn 21 (tl 20 (aP (f_aload 0 21)))
  (tl 21 (aP (f_getf [0] 0 24))))))
  (tn 28 (tn 27 (tl 24 (aP (f_getf [1] 8 27)))
  (tl 27 (aP (f_iload 1 28))))
  (tn 29 (tl 28 (aP (f_aald [3, 4, 5] 29)))
  (tn 30 (tl 29 (aP (f_iload 3 30)))
  (tl 30 (aP (f_iald 0 31))))))))
  (tn 48 (tn 37 (tn 33 (tn 32 (tl 31 (aP (f_iload 2 32)))
  (tl 32 (aP (f_const (.int (-1)) 33))))
  (tn 36 (tl 33 (aP (f_icmp (fun x y => decide (¬ x = y)) 40 36)))
  (tl 36 (aP (f_const (.int (nI 0)) 37)))))
  (tn 41 (tn 40 (tl 37 (aP (f_goto 51)))
  (tl 40 (aP (f_aload 0 41))))
  (tn 44 (tl 41 (aP (f_getf [0] 0 44)))
  (tn 47 (tl 44 (aP (f_getf [1] 8 47)))
  (tl 47 (aP (f_iload 1 48)))))))
  (tn 55 (tn 50 (tn 49 (tl 48 (aP (f_aald [3, 4, 5] 49)))
  (tl 49 (aP (f_iload 2 50))))
  (tn 51 (tl 50 (aP (f_iald 0 51)))
  (tn 54 (tl 51 (aP (f_icmp (fun x y => decide (x ≤ y)) 56 54)))
  (tl 54 (aP (f_iload 3 55))))))
  (tn 59 (tn 56 (tl 55 (aP (f_istore 2 56)))
  (tl 56 (aP (f_iinc 3 (nI 1) 59))))
  (tn 62 (tl 59 (aP (f_goto 9)))
  (tn 63 (tl 62 (aP (f_iload 2 63)))
  (tl 63 (o_iret (fun _ => true))))))))
theorem kok_X1_ruined {γ : AG} (hm : γ.2.2.2.2.1 = mTab) (hk : γ.2.2.2.2.2 = kTab) : KOK γ m_X1_ruined k_X1_ruined :=
 kn_ok
 (kn_ok
 (kn_ok
 (kn_ok
 (kn_ok
 (kl_ok (ok_aP (ok_aload_n dX1_ruined_0 rfl rfl)))
 (kl_ok (ok_aP (ok_iload_n dX1_ruined_1 rfl rfl))))
 (kn_ok
 (kl_ok (ok_callV (List.forall_mem_cons.mpr ⟨run_V (C0 := "FavourTown") rfl rfl (by rw [hm]; rfl) q1547 q1549 qs24 q83 q1550 ⟨nh_0, dl_32⟩ (by decide) dX1_ruined_2, (fun _ h => absurd h List.not_mem_nil)⟩) rfl))
 (kl_ok (ok_aP (ok_iconst dX1_ruined_5 rfl rfl)))))
 (kn_ok
 (kn_ok
 (kl_ok (ok_aP (ok_istore_n dX1_ruined_6 rfl rfl)))
 (kl_ok (ok_aP (ok_iconst dX1_ruined_7 rfl rfl))))
 (kn_ok
 (kl_ok (ok_aP (ok_istore_n dX1_ruined_8 rfl rfl)))
 (kn_ok
 (kl_ok (ok_aP (ok_iload_n dX1_ruined_9 rfl rfl)))
 (kl_ok (ok_aP (ok_aload_n dX1_ruined_10 rfl rfl)))))))
 (kn_ok
 (kn_ok
 (kn_ok
 (kl_ok (ok_aP (ok_getf fo_0 fs_rf (Or.inl q351) dX1_ruined_11 rfl)))
 (kl_ok (ok_aP (ok_getf fo_1 fs_rf (Or.inr ⟨_, q224⟩) dX1_ruined_14 rfl))))
 (kn_ok
 (kl_ok (ok_aP (ok_icmp_ge dX1_ruined_17 rfl rfl)))
 (kn_ok
 (kl_ok (ok_aP (ok_aload_n dX1_ruined_20 rfl rfl)))
 (kl_ok (ok_aP (ok_getf fo_0 fs_rf (Or.inl q351) dX1_ruined_21 rfl))))))
 (kn_ok
 (kn_ok
 (kl_ok (ok_aP (ok_getf fo_41 fs_rf (Or.inr ⟨_, q233⟩) dX1_ruined_24 rfl)))
 (kl_ok (ok_aP (ok_iload_n dX1_ruined_27 rfl rfl))))
 (kn_ok
 (kl_ok (ok_aP (ok_aald ts345 dX1_ruined_28 rfl)))
 (kn_ok
 (kl_ok (ok_aP (ok_iload_n dX1_ruined_29 rfl rfl)))
 (kl_ok (ok_aP (ok_iald dX1_ruined_30 rfl))))))))
 (kn_ok
 (kn_ok
 (kn_ok
 (kn_ok
 (kl_ok (ok_aP (ok_iload_n dX1_ruined_31 rfl rfl)))
 (kl_ok (ok_aP (ok_iconst dX1_ruined_32 rfl rfl))))
 (kn_ok
 (kl_ok (ok_aP (ok_icmp_ne dX1_ruined_33 rfl rfl)))
 (kl_ok (ok_aP (ok_iconst dX1_ruined_36 rfl rfl)))))
 (kn_ok
 (kn_ok
 (kl_ok (ok_aP (ok_goto dX1_ruined_37 rfl)))
 (kl_ok (ok_aP (ok_aload_n dX1_ruined_40 rfl rfl))))
 (kn_ok
 (kl_ok (ok_aP (ok_getf fo_0 fs_rf (Or.inl q351) dX1_ruined_41 rfl)))
 (kn_ok
 (kl_ok (ok_aP (ok_getf fo_41 fs_rf (Or.inr ⟨_, q233⟩) dX1_ruined_44 rfl)))
 (kl_ok (ok_aP (ok_iload_n dX1_ruined_47 rfl rfl)))))))
 (kn_ok
 (kn_ok
 (kn_ok
 (kl_ok (ok_aP (ok_aald ts345 dX1_ruined_48 rfl)))
 (kl_ok (ok_aP (ok_iload_n dX1_ruined_49 rfl rfl))))
 (kn_ok
 (kl_ok (ok_aP (ok_iald dX1_ruined_50 rfl)))
 (kn_ok
 (kl_ok (ok_aP (ok_icmp_le dX1_ruined_51 rfl rfl)))
 (kl_ok (ok_aP (ok_iload_n dX1_ruined_54 rfl rfl))))))
 (kn_ok
 (kn_ok
 (kl_ok (ok_aP (ok_istore_n dX1_ruined_55 rfl rfl)))
 (kl_ok (ok_aP (ok_iinc dX1_ruined_56 (by decide +kernel) rfl))))
 (kn_ok
 (kl_ok (ok_aP (ok_goto dX1_ruined_59 rfl)))
 (kn_ok
 (kl_ok (ok_aP (ok_iload_n dX1_ruined_62 rfl rfl)))
 (kl_ok (ok_iret rfl dX1_ruined_63)))))))
/-- 87: FavourTown.fits(I)I -/
noncomputable def k_X1_fits : Nat → Option AOp :=
 tn 42 (tn 19 (tn 9 (tn 4 (tn 1 (tl 0 (aP (f_aload 0 1)))
  (tl 1 (aP (f_getf [0] 2 4))))
  (tn 5 (tl 4 (aP (f_astore 2 5)))
  (tn 6 (tl 5 (aP (f_aload 2 6)))
  (tl 6 (o_callV (lkN [(2, 128)]) 0 9)))))
  (tn 14 (tn 10 (tl 9 (aP (f_aload 0 10)))
  (tn 11 (tl 10 (aP (f_iload 1 11)))
  (tl 11 (o_callV (lkN [(0, 64)]) 1 14))))
  (tn 15 (tl 14 (aP (f_astore 3 15)))
  (tn 16 (tl 15 (aP (f_aload 3 16)))
  (tl 16 (aP (f_getf [5, 6] 5 19)))))))
  (tn 28 (tn 23 (tn 20 (tl 19 (aP (f_const (.int (nI 2)) 20)))
  (tn 21 (tl 20 (aP (f_bin (fun x y => x + y) 21)))
  (tl 21 (aP (f_istore 4 23)))))
  (tn 24 (tl 23 (aP (f_const (.int (nI 0)) 24)))
  (tn 26 (tl 24 (aP (f_istore 5 26)))
  (tl 26 (aP (f_iload 5 28))))))
  (tn 35 (tn 30 (tl 28 (aP (f_iload 4 30)))
  (tn 33 (tl 30 (aP (f_icmp (fun x y => decide (y ≤ x)) 68 33)))
  (tl 33 (aP (f_iload 5 35)))))
  (tn 36 (tl 35 (aP (f_aload 2 36)))
  (tn 39 (tl 36 (aP (f_getf [2] 2 39)))
  (tl 39 (aP (f_icmp (fun x y => decide (y ≤ x)) 68 42))))))))
  (tn 65 (tn 52 (tn 48 (tn 43 (tl 42 (aP (f_aload 2 43)))
  (tn 46 (tl 43 (aP (f_getf [2] 0 46)))
  (tl 46 (aP (f_iload 5 48)))))
  (tn 49 (tl 48 (aP (f_iald 1 49)))
  (tn 51 (tl 49 (aP (f_const (.int (nI 97)) 51)))
  (tl 51 (aP (f_bin (fun x y => x - y) 52))))))
  (tn 58 (tn 53 (tl 52 (aP (f_aload 3 53)))
  (tn 56 (tl 53 (aP (f_getf [5, 6] 3 56)))
  (tl 56 (aP (f_iload 5 58)))))
  (tn 59 (tl 58 (aP (f_iald 0 59)))
  (tn 62 (tl 59 (aP (f_icmp (fun x y => decide (¬ x = y)) 68 62)))
  (tl 62 (aP (f_iinc 5 (nI 1) 65)))))))
  (tn 78 (tn 72 (tn 68 (tl 65 (aP (f_goto 26)))
  (tn 70 (tl 68 (aP (f_iload 5 70)))
  (tl 70 (aP (f_iload 4 72)))))
  (tn 75 (tl 72 (aP (f_icmp (fun x y => decide (¬ x = y)) 88 75)))
  (tn 77 (tl 75 (aP (f_iload 5 77)))
  (tl 77 (aP (f_aload 2 78))))))
  (tn 85 (tn 81 (tl 78 (aP (f_getf [2] 2 81)))
  (tn 84 (tl 81 (aP (f_icmp (fun x y => decide (¬ x = y)) 88 84)))
  (tl 84 (aP (f_const (.int (-1)) 85)))))
  (tn 88 (tl 85 (aP (f_goto 90)))
  (tn 90 (tl 88 (aP (f_iload 5 90)))
  (tl 90 (o_iret (fun _ => true))))))))
theorem kok_X1_fits {γ : AG} (hm : γ.2.2.2.2.1 = mTab) (hk : γ.2.2.2.2.2 = kTab) : KOK γ m_X1_fits k_X1_fits :=
 kn_ok
 (kn_ok
 (kn_ok
 (kn_ok
 (kn_ok
 (kl_ok (ok_aP (ok_aload_n dX1_fits_0 rfl rfl)))
 (kl_ok (ok_aP (ok_getf fo_47 fs_rf (Or.inl q355) dX1_fits_1 rfl))))
 (kn_ok
 (kl_ok (ok_aP (ok_astore_n dX1_fits_4 rfl rfl)))
 (kn_ok
 (kl_ok (ok_aP (ok_aload_n dX1_fits_5 rfl rfl)))
 (kl_ok (ok_callV (List.forall_mem_cons.mpr ⟨run_V (C0 := "FavourTown$Reader") rfl rfl (by rw [hm]; rfl) q775 q776 q777 q89 q778 ⟨nh_20, dl_0⟩ (by decide) dX1_fits_6, (fun _ h => absurd h List.not_mem_nil)⟩) rfl)))))
 (kn_ok
 (kn_ok
 (kl_ok (ok_aP (ok_aload_n dX1_fits_9 rfl rfl)))
 (kn_ok
 (kl_ok (ok_aP (ok_iload_n dX1_fits_10 rfl rfl)))
 (kl_ok (ok_callV (List.forall_mem_cons.mpr ⟨run_V (C0 := "FavourTown") rfl rfl (by rw [hm]; rfl) q1591 q1593 qs26 q83 q1594 ⟨nh_0, dl_45⟩ (by decide) dX1_fits_11, (fun _ h => absurd h List.not_mem_nil)⟩) rfl))))
 (kn_ok
 (kl_ok (ok_aP (ok_astore_n dX1_fits_14 rfl rfl)))
 (kn_ok
 (kl_ok (ok_aP (ok_aload_n dX1_fits_15 rfl rfl)))
 (kl_ok (ok_aP (ok_getf fo_6 fs_rf (Or.inr ⟨_, q623⟩) dX1_fits_16 rfl)))))))
 (kn_ok
 (kn_ok
 (kn_ok
 (kl_ok (ok_aP (ok_iconst dX1_fits_19 rfl rfl)))
 (kn_ok
 (kl_ok (ok_aP (ok_iadd dX1_fits_20 rfl)))
 (kl_ok (ok_aP (ok_istore dX1_fits_21 rfl)))))
 (kn_ok
 (kl_ok (ok_aP (ok_iconst dX1_fits_23 rfl rfl)))
 (kn_ok
 (kl_ok (ok_aP (ok_istore dX1_fits_24 rfl)))
 (kl_ok (ok_aP (ok_iload dX1_fits_26 rfl))))))
 (kn_ok
 (kn_ok
 (kl_ok (ok_aP (ok_iload dX1_fits_28 rfl)))
 (kn_ok
 (kl_ok (ok_aP (ok_icmp_ge dX1_fits_30 rfl rfl)))
 (kl_ok (ok_aP (ok_iload dX1_fits_33 rfl)))))
 (kn_ok
 (kl_ok (ok_aP (ok_aload_n dX1_fits_35 rfl rfl)))
 (kn_ok
 (kl_ok (ok_aP (ok_getf fo_48 fs_rf (Or.inr ⟨_, q283⟩) dX1_fits_36 rfl)))
 (kl_ok (ok_aP (ok_icmp_ge dX1_fits_39 rfl rfl))))))))
 (kn_ok
 (kn_ok
 (kn_ok
 (kn_ok
 (kl_ok (ok_aP (ok_aload_n dX1_fits_42 rfl rfl)))
 (kn_ok
 (kl_ok (ok_aP (ok_getf fo_49 fs_rf (Or.inr ⟨_, q280⟩) dX1_fits_43 rfl)))
 (kl_ok (ok_aP (ok_iload dX1_fits_46 rfl)))))
 (kn_ok
 (kl_ok (ok_aP (ok_bald dX1_fits_48 rfl)))
 (kn_ok
 (kl_ok (ok_aP (ok_bipush dX1_fits_49 (by decide +kernel) rfl)))
 (kl_ok (ok_aP (ok_isub dX1_fits_51 rfl))))))
 (kn_ok
 (kn_ok
 (kl_ok (ok_aP (ok_aload_n dX1_fits_52 rfl rfl)))
 (kn_ok
 (kl_ok (ok_aP (ok_getf fo_37 fs_rf (Or.inr ⟨_, q617⟩) dX1_fits_53 rfl)))
 (kl_ok (ok_aP (ok_iload dX1_fits_56 rfl)))))
 (kn_ok
 (kl_ok (ok_aP (ok_iald dX1_fits_58 rfl)))
 (kn_ok
 (kl_ok (ok_aP (ok_icmp_ne dX1_fits_59 rfl rfl)))
 (kl_ok (ok_aP (ok_iinc dX1_fits_62 (by decide +kernel) rfl)))))))
 (kn_ok
 (kn_ok
 (kn_ok
 (kl_ok (ok_aP (ok_goto dX1_fits_65 rfl)))
 (kn_ok
 (kl_ok (ok_aP (ok_iload dX1_fits_68 rfl)))
 (kl_ok (ok_aP (ok_iload dX1_fits_70 rfl)))))
 (kn_ok
 (kl_ok (ok_aP (ok_icmp_ne dX1_fits_72 rfl rfl)))
 (kn_ok
 (kl_ok (ok_aP (ok_iload dX1_fits_75 rfl)))
 (kl_ok (ok_aP (ok_aload_n dX1_fits_77 rfl rfl))))))
 (kn_ok
 (kn_ok
 (kl_ok (ok_aP (ok_getf fo_48 fs_rf (Or.inr ⟨_, q283⟩) dX1_fits_78 rfl)))
 (kn_ok
 (kl_ok (ok_aP (ok_icmp_ne dX1_fits_81 rfl rfl)))
 (kl_ok (ok_aP (ok_iconst dX1_fits_84 rfl rfl)))))
 (kn_ok
 (kl_ok (ok_aP (ok_goto dX1_fits_85 rfl)))
 (kn_ok
 (kl_ok (ok_aP (ok_iload dX1_fits_88 rfl)))
 (kl_ok (ok_iret rfl dX1_fits_90)))))))
/-- 88: FavourTown.play(III)I -/
noncomputable def k_X1_play : Nat → Option AOp :=
 tn 146 (tn 71 (tn 33 (tn 16 (tn 7 (tn 2 (tn 1 (tl 0 (aP (f_iload 2 1)))
  (tl 1 (aP (f_const (.int (nI 0)) 2))))
  (tn 4 (tl 2 (aP (f_const (.int (nI 60)) 4)))
  (tl 4 (o_callS 40 3 7))))
  (tn 11 (tn 10 (tl 7 (o_callS 62 1 10))
  (tl 10 (aP (f_iload 3 11))))
  (tn 12 (tl 11 (aP (f_const (.int (nI 5)) 12)))
  (tn 15 (tl 12 (o_callS 68 2 15))
  (tl 15 (aP (f_aload 0 16)))))))
  (tn 25 (tn 22 (tn 19 (tl 16 (aP (f_getf [0] 0 19)))
  (tl 19 (o_callV (lkN [(1, 101)]) 0 22)))
  (tn 24 (tl 22 (aP (f_astore 4 24)))
  (tl 24 (aP (f_const (.int (nI 3)) 25)))))
  (tn 29 (tn 27 (tl 25 (o_newa 0 (.inl (fun _ => 0)) 27))
  (tl 27 (aP (f_astore 5 29))))
  (tn 30 (tl 29 (aP (f_iload 1 30)))
  (tn 32 (tl 30 (aP (f_istore 6 32)))
  (tl 32 (aP (f_const (.int (nI 0)) 33))))))))
  (tn 51 (tn 41 (tn 37 (tn 35 (tl 33 (aP (f_istore 7 35)))
  (tl 35 (aP (f_iload 7 37))))
  (tn 38 (tl 37 (aP (f_iload 2 38)))
  (tl 38 (aP (f_icmp (fun x y => decide (y ≤ x)) 192 41)))))
  (tn 44 (tn 42 (tl 41 (aP (f_const (.int (nI 0)) 42)))
  (tl 42 (aP (f_istore 8 44))))
  (tn 46 (tl 44 (aP (f_iload 8 46)))
  (tn 48 (tl 46 (aP (f_aload 4 48)))
  (tl 48 (aP (f_getf [1] 3 51)))))))
  (tn 63 (tn 56 (tn 54 (tl 51 (aP (f_icmp (fun x y => decide (y ≤ x)) 179 54)))
  (tl 54 (aP (f_iload 6 56))))
  (tn 59 (tl 56 (aP (f_const (.int (1103515245 : Int32)) 59)))
  (tn 60 (tl 59 (aP (f_bin (fun x y => x * y) 60)))
  (tl 60 (aP (f_const (.int (nI 12345)) 63))))))
  (tn 66 (tn 64 (tl 63 (aP (f_bin (fun x y => x + y) 64)))
  (tl 64 (aP (f_istore 6 66))))
  (tn 68 (tl 66 (aP (f_iload 6 68)))
  (tn 70 (tl 68 (aP (f_const (.int (nI 16)) 70)))
  (tl 70 (aP (f_bin (fun x y => x >>> (y &&& 31)) 71)))))))))
  (tn 109 (tn 90 (tn 80 (tn 75 (tn 74 (tl 71 (aP (f_const (.int (nI 32767)) 74)))
  (tl 74 (aP (f_bin (fun x y => x &&& y) 75))))
  (tn 77 (tl 75 (aP (f_aload 4 77)))
  (tl 77 (aP (f_getf [1] 3 80)))))
  (tn 83 (tn 81 (tl 80 (aP (f_div (fun x y => x - x / y * y) 81)))
  (tl 81 (aP (f_istore 9 83))))
  (tn 85 (tl 83 (aP (f_iload 9 85)))
  (tn 87 (tl 85 (aP (f_iload 8 87)))
  (tl 87 (aP (f_icmp (fun x y => decide (¬ x = y)) 93 90)))))))
  (tn 99 (tn 95 (tn 93 (tl 90 (aP (f_goto 173)))
  (tl 93 (aP (f_iload 6 95))))
  (tn 98 (tl 95 (aP (f_const (.int (1103515245 : Int32)) 98)))
  (tl 98 (aP (f_bin (fun x y => x * y) 99)))))
  (tn 103 (tn 102 (tl 99 (aP (f_const (.int (nI 12345)) 102)))
  (tl 102 (aP (f_bin (fun x y => x + y) 103))))
  (tn 105 (tl 103 (aP (f_istore 6 105)))
  (tn 107 (tl 105 (aP (f_iload 6 107)))
  (tl 107 (aP (f_const (.int (nI 16)) 109))))))))
  (tn 123 (tn 116 (tn 113 (tn 110 (tl 109 (aP (f_bin (fun x y => x >>> (y &&& 31)) 110)))
  (tl 110 (aP (f_const (.int (nI 32767)) 113))))
  (tn 114 (tl 113 (aP (f_bin (fun x y => x &&& y) 114)))
  (tl 114 (aP (f_const (.int (nI 9)) 116)))))
  (tn 118 (tn 117 (tl 116 (aP (f_div (fun x y => x - x / y * y) 117)))
  (tl 117 (aP (f_const (.int (nI 1)) 118))))
  (tn 119 (tl 118 (aP (f_bin (fun x y => x + y) 119)))
  (tn 121 (tl 119 (aP (f_istore 10 121)))
  (tl 121 (aP (f_aload 4 123)))))))
  (tn 135 (tn 129 (tn 126 (tl 123 (aP (f_getf [1] 9 126)))
  (tl 126 (o_callV (lkN [(19, 113)]) 0 129)))
  (tn 131 (tl 129 (aP (f_istore 11 131)))
  (tn 133 (tl 131 (aP (f_aload 4 133)))
  (tl 133 (aP (f_iload 8 135))))))
  (tn 139 (tn 137 (tl 135 (aP (f_iload 9 137)))
  (tl 137 (aP (f_iload 10 139))))
  (tn 142 (tl 139 (o_callV (lkN [(1, 108)]) 3 142))
  (tn 144 (tl 142 (aP (f_istore 12 144)))
  (tl 144 (aP (f_aload 5 146))))))))))
  (tn 213 (tn 179 (tn 164 (tn 153 (tn 149 (tn 148 (tl 146 (aP (f_iload 12 148)))
  (tl 148 (aP (f_const (.int (-1)) 149))))
  (tn 152 (tl 149 (aP (f_icmp (fun x y => decide (¬ x = y)) 156 152)))
  (tl 152 (aP (f_const (.int (nI 2)) 153)))))
  (tn 158 (tn 156 (tl 153 (aP (f_goto 168)))
  (tl 156 (aP (f_iload 12 158))))
  (tn 160 (tl 158 (aP (f_iload 11 160)))
  (tn 163 (tl 160 (aP (f_icmp (fun x y => decide (¬ x = y)) 167 163)))
  (tl 163 (aP (f_const (.int (nI 1)) 164)))))))
  (tn 170 (tn 168 (tn 167 (tl 164 (aP (f_goto 168)))
  (tl 167 (aP (f_const (.int (nI 0)) 168))))
  (tn 169 (tl 168 (aP (f_dup2 169)))
  (tl 169 (aP (f_iald 0 170)))))
  (tn 172 (tn 171 (tl 170 (aP (f_const (.int (nI 1)) 171)))
  (tl 171 (aP (f_bin (fun x y => x + y) 172))))
  (tn 173 (tl 172 (o_iast 0 (fun y => y) 173))
  (tn 176 (tl 173 (aP (f_iinc 8 (nI 1) 176)))
  (tl 176 (aP (f_goto 44))))))))
  (tn 197 (tn 186 (tn 182 (tn 181 (tl 179 (aP (f_aload 4 181)))
  (tl 181 (aP (f_const (.int (nI 1)) 182))))
  (tn 185 (tl 182 (o_callV (lkN [(1, 106)]) 1 185))
  (tl 185 (aP (f_pop 186)))))
  (tn 192 (tn 189 (tl 186 (aP (f_iinc 7 (nI 1) 189)))
  (tl 189 (aP (f_goto 35))))
  (tn 193 (tl 192 (aP (f_iload 3 193)))
  (tn 194 (tl 193 (aP (f_const (.int (nI 3)) 194)))
  (tl 194 (aP (f_icmp (fun x y => decide (y ≤ x)) 202 197)))))))
  (tn 203 (tn 200 (tn 199 (tl 197 (aP (f_aload 5 199)))
  (tl 199 (aP (f_iload 3 200))))
  (tn 201 (tl 200 (aP (f_iald 0 201)))
  (tn 202 (tl 201 (o_iret (fun _ => true)))
  (tl 202 (aP (f_iload 3 203))))))
  (tn 207 (tn 204 (tl 203 (aP (f_const (.int (nI 3)) 204)))
  (tl 204 (aP (f_icmp (fun x y => decide (¬ x = y)) 213 207))))
  (tn 209 (tl 207 (aP (f_aload 4 209)))
  (tn 212 (tl 209 (o_callV (lkN [(1, 102)]) 0 212))
  (tl 212 (o_iret (fun _ => true)))))))))
  (tn 247 (tn 229 (tn 219 (tn 216 (tn 214 (tl 213 (aP (f_const (.int (nI 0)) 214)))
  (tl 214 (aP (f_istore 7 216))))
  (tn 217 (tl 216 (aP (f_const (.int (-1)) 217)))
  (tl 217 (aP (f_istore 8 219)))))
  (tn 222 (tn 220 (tl 219 (aP (f_const (.int (nI 0)) 220)))
  (tl 220 (aP (f_istore 9 222))))
  (tn 224 (tl 222 (aP (f_iload 9 224)))
  (tn 226 (tl 224 (aP (f_aload 4 226)))
  (tl 226 (aP (f_getf [1] 3 229)))))))
  (tn 238 (tn 234 (tn 232 (tl 229 (aP (f_icmp (fun x y => decide (y ≤ x)) 277 232)))
  (tl 232 (aP (f_iload 7 234))))
  (tn 236 (tl 234 (aP (f_aload 4 236)))
  (tl 236 (aP (f_iload 9 238)))))
  (tn 242 (tn 241 (tl 238 (o_callV (lkN [(1, 97)]) 1 241))
  (tl 241 (aP (f_bin (fun x y => x + y) 242))))
  (tn 244 (tl 242 (aP (f_istore 7 244)))
  (tn 246 (tl 244 (aP (f_iload 8 246)))
  (tl 246 (aP (f_const (.int (-1)) 247))))))))
  (tn 269 (tn 257 (tn 252 (tn 250 (tl 247 (aP (f_icmp (fun x y => decide (x = y)) 267 250)))
  (tl 250 (aP (f_aload 4 252))))
  (tn 254 (tl 252 (aP (f_iload 9 254)))
  (tl 254 (o_callV (lkN [(1, 97)]) 1 257))))
  (tn 261 (tn 259 (tl 257 (aP (f_aload 4 259)))
  (tl 259 (aP (f_iload 8 261))))
  (tn 264 (tl 261 (o_callV (lkN [(1, 97)]) 1 264))
  (tn 267 (tl 264 (aP (f_icmp (fun x y => decide (x ≤ y)) 271 267)))
  (tl 267 (aP (f_iload 9 269)))))))
  (tn 279 (tn 274 (tn 271 (tl 269 (aP (f_istore 8 271)))
  (tl 271 (aP (f_iinc 9 (nI 1) 274))))
  (tn 277 (tl 274 (aP (f_goto 222)))
  (tn 278 (tl 277 (aP (f_iload 3 278)))
  (tl 278 (aP (f_const (.int (nI 4)) 279))))))
  (tn 284 (tn 282 (tl 279 (aP (f_icmp (fun x y => decide (¬ x = y)) 287 282)))
  (tl 282 (aP (f_iload 7 284))))
  (tn 287 (tl 284 (aP (f_goto 289)))
  (tn 289 (tl 287 (aP (f_iload 8 289)))
  (tl 289 (o_iret (fun _ => true))))))))))
theorem kok_X1_play {γ : AG} (hm : γ.2.2.2.2.1 = mTab) (hk : γ.2.2.2.2.2 = kTab) : KOK γ m_X1_play k_X1_play :=
 kn_ok
 (kn_ok
 (kn_ok
 (kn_ok
 (kn_ok
 (kn_ok
 (kn_ok
 (kl_ok (ok_aP (ok_iload_n dX1_play_0 rfl rfl)))
 (kl_ok (ok_aP (ok_iconst dX1_play_1 rfl rfl))))
 (kn_ok
 (kl_ok (ok_aP (ok_bipush dX1_play_2 (by decide +kernel) rfl)))
 (kl_ok (ok_callS (run_S (by rw [hm]; rfl) q1554 q804 q83 q805 ⟨nh_0, dl_17⟩ (by decide) dX1_play_4) rfl))))
 (kn_ok
 (kn_ok
 (kl_ok (ok_callS (run_S (by rw [hm]; rfl) q1581 q1582 q83 q1583 ⟨nh_0, dl_18⟩ (by decide) dX1_play_7) rfl))
 (kl_ok (ok_aP (ok_iload_n dX1_play_10 rfl rfl))))
 (kn_ok
 (kl_ok (ok_aP (ok_iconst dX1_play_11 rfl rfl)))
 (kn_ok
 (kl_ok (ok_callS (run_S (by rw [hm]; rfl) q1618 q1619 q83 q1620 ⟨nh_0, dl_19⟩ (by decide) dX1_play_12) rfl))
 (kl_ok (ok_aP (ok_aload_n dX1_play_15 rfl rfl)))))))
 (kn_ok
 (kn_ok
 (kn_ok
 (kl_ok (ok_aP (ok_getf fo_0 fs_rf (Or.inl q351) dX1_play_16 rfl)))
 (kl_ok (ok_callV (List.forall_mem_cons.mpr ⟨run_V (C0 := "FavourTown$World") rfl rfl (by rw [hm]; rfl) q577 q578 q579 q84 q580 ⟨nh_3, dl_20⟩ (by decide) dX1_play_19, (fun _ h => absurd h List.not_mem_nil)⟩) rfl)))
 (kn_ok
 (kl_ok (ok_aP (ok_astore dX1_play_22 rfl)))
 (kl_ok (ok_aP (ok_iconst dX1_play_24 rfl rfl)))))
 (kn_ok
 (kn_ok
 (kl_ok (ok_hp (na_int dX1_play_25 rfl) le_newa))
 (kl_ok (ok_aP (ok_astore dX1_play_27 rfl))))
 (kn_ok
 (kl_ok (ok_aP (ok_iload_n dX1_play_29 rfl rfl)))
 (kn_ok
 (kl_ok (ok_aP (ok_istore dX1_play_30 rfl)))
 (kl_ok (ok_aP (ok_iconst dX1_play_32 rfl rfl))))))))
 (kn_ok
 (kn_ok
 (kn_ok
 (kn_ok
 (kl_ok (ok_aP (ok_istore dX1_play_33 rfl)))
 (kl_ok (ok_aP (ok_iload dX1_play_35 rfl))))
 (kn_ok
 (kl_ok (ok_aP (ok_iload_n dX1_play_37 rfl rfl)))
 (kl_ok (ok_aP (ok_icmp_ge dX1_play_38 rfl rfl)))))
 (kn_ok
 (kn_ok
 (kl_ok (ok_aP (ok_iconst dX1_play_41 rfl rfl)))
 (kl_ok (ok_aP (ok_istore dX1_play_42 rfl))))
 (kn_ok
 (kl_ok (ok_aP (ok_iload dX1_play_44 rfl)))
 (kn_ok
 (kl_ok (ok_aP (ok_aload dX1_play_46 rfl)))
 (kl_ok (ok_aP (ok_getf fo_1 fs_rf (Or.inr ⟨_, q224⟩) dX1_play_48 rfl)))))))
 (kn_ok
 (kn_ok
 (kn_ok
 (kl_ok (ok_aP (ok_icmp_ge dX1_play_51 rfl rfl)))
 (kl_ok (ok_aP (ok_iload dX1_play_54 rfl))))
 (kn_ok
 (kl_ok (ok_aP (ok_ldcw q1832 dX1_play_56 rfl)))
 (kn_ok
 (kl_ok (ok_aP (ok_imul dX1_play_59 rfl)))
 (kl_ok (ok_aP (ok_sipush dX1_play_60 (by decide +kernel) rfl))))))
 (kn_ok
 (kn_ok
 (kl_ok (ok_aP (ok_iadd dX1_play_63 rfl)))
 (kl_ok (ok_aP (ok_istore dX1_play_64 rfl))))
 (kn_ok
 (kl_ok (ok_aP (ok_iload dX1_play_66 rfl)))
 (kn_ok
 (kl_ok (ok_aP (ok_bipush dX1_play_68 (by decide +kernel) rfl)))
 (kl_ok (ok_aP (ok_ishr dX1_play_70 rfl)))))))))
 (kn_ok
 (kn_ok
 (kn_ok
 (kn_ok
 (kn_ok
 (kl_ok (ok_aP (ok_sipush dX1_play_71 (by decide +kernel) rfl)))
 (kl_ok (ok_aP (ok_iand dX1_play_74 rfl))))
 (kn_ok
 (kl_ok (ok_aP (ok_aload dX1_play_75 rfl)))
 (kl_ok (ok_aP (ok_getf fo_1 fs_rf (Or.inr ⟨_, q224⟩) dX1_play_77 rfl)))))
 (kn_ok
 (kn_ok
 (kl_ok (ok_aP (ok_irem dX1_play_80 rfl)))
 (kl_ok (ok_aP (ok_istore dX1_play_81 rfl))))
 (kn_ok
 (kl_ok (ok_aP (ok_iload dX1_play_83 rfl)))
 (kn_ok
 (kl_ok (ok_aP (ok_iload dX1_play_85 rfl)))
 (kl_ok (ok_aP (ok_icmp_ne dX1_play_87 rfl rfl)))))))
 (kn_ok
 (kn_ok
 (kn_ok
 (kl_ok (ok_aP (ok_goto dX1_play_90 rfl)))
 (kl_ok (ok_aP (ok_iload dX1_play_93 rfl))))
 (kn_ok
 (kl_ok (ok_aP (ok_ldcw q1832 dX1_play_95 rfl)))
 (kl_ok (ok_aP (ok_imul dX1_play_98 rfl)))))
 (kn_ok
 (kn_ok
 (kl_ok (ok_aP (ok_sipush dX1_play_99 (by decide +kernel) rfl)))
 (kl_ok (ok_aP (ok_iadd dX1_play_102 rfl))))
 (kn_ok
 (kl_ok (ok_aP (ok_istore dX1_play_103 rfl)))
 (kn_ok
 (kl_ok (ok_aP (ok_iload dX1_play_105 rfl)))
 (kl_ok (ok_aP (ok_bipush dX1_play_107 (by decide +kernel) rfl))))))))
 (kn_ok
 (kn_ok
 (kn_ok
 (kn_ok
 (kl_ok (ok_aP (ok_ishr dX1_play_109 rfl)))
 (kl_ok (ok_aP (ok_sipush dX1_play_110 (by decide +kernel) rfl))))
 (kn_ok
 (kl_ok (ok_aP (ok_iand dX1_play_113 rfl)))
 (kl_ok (ok_aP (ok_bipush dX1_play_114 (by decide +kernel) rfl)))))
 (kn_ok
 (kn_ok
 (kl_ok (ok_aP (ok_irem dX1_play_116 rfl)))
 (kl_ok (ok_aP (ok_iconst dX1_play_117 rfl rfl))))
 (kn_ok
 (kl_ok (ok_aP (ok_iadd dX1_play_118 rfl)))
 (kn_ok
 (kl_ok (ok_aP (ok_istore dX1_play_119 rfl)))
 (kl_ok (ok_aP (ok_aload dX1_play_121 rfl)))))))
 (kn_ok
 (kn_ok
 (kn_ok
 (kl_ok (ok_aP (ok_getf fo_2 fs_rf (Or.inr ⟨_, q235⟩) dX1_play_123 rfl)))
 (kl_ok (ok_callV (List.forall_mem_cons.mpr ⟨run_V (C0 := "java/util/ArrayList") rfl rfl (by rw [hm]; rfl) q570 q401 q402 q87 q403 ⟨nh_4, dl_4⟩ (by decide) dX1_play_126, (fun _ h => absurd h List.not_mem_nil)⟩) rfl)))
 (kn_ok
 (kl_ok (ok_aP (ok_istore dX1_play_129 rfl)))
 (kn_ok
 (kl_ok (ok_aP (ok_aload dX1_play_131 rfl)))
 (kl_ok (ok_aP (ok_iload dX1_play_133 rfl))))))
 (kn_ok
 (kn_ok
 (kl_ok (ok_aP (ok_iload dX1_play_135 rfl)))
 (kl_ok (ok_aP (ok_iload dX1_play_137 rfl))))
 (kn_ok
 (kl_ok (ok_callV (List.forall_mem_cons.mpr ⟨run_V (C0 := "FavourTown$World") rfl rfl (by rw [hm]; rfl) q1706 q1707 q1708 q84 q1709 ⟨nh_3, dl_13⟩ (by decide) dX1_play_139, (fun _ h => absurd h List.not_mem_nil)⟩) rfl))
 (kn_ok
 (kl_ok (ok_aP (ok_istore dX1_play_142 rfl)))
 (kl_ok (ok_aP (ok_aload dX1_play_144 rfl))))))))))
 (kn_ok
 (kn_ok
 (kn_ok
 (kn_ok
 (kn_ok
 (kn_ok
 (kl_ok (ok_aP (ok_iload dX1_play_146 rfl)))
 (kl_ok (ok_aP (ok_iconst dX1_play_148 rfl rfl))))
 (kn_ok
 (kl_ok (ok_aP (ok_icmp_ne dX1_play_149 rfl rfl)))
 (kl_ok (ok_aP (ok_iconst dX1_play_152 rfl rfl)))))
 (kn_ok
 (kn_ok
 (kl_ok (ok_aP (ok_goto dX1_play_153 rfl)))
 (kl_ok (ok_aP (ok_iload dX1_play_156 rfl))))
 (kn_ok
 (kl_ok (ok_aP (ok_iload dX1_play_158 rfl)))
 (kn_ok
 (kl_ok (ok_aP (ok_icmp_ne dX1_play_160 rfl rfl)))
 (kl_ok (ok_aP (ok_iconst dX1_play_163 rfl rfl)))))))
 (kn_ok
 (kn_ok
 (kn_ok
 (kl_ok (ok_aP (ok_goto dX1_play_164 rfl)))
 (kl_ok (ok_aP (ok_iconst dX1_play_167 rfl rfl))))
 (kn_ok
 (kl_ok (ok_aP (ok_dup2 dX1_play_168 rfl)))
 (kl_ok (ok_aP (ok_iald dX1_play_169 rfl)))))
 (kn_ok
 (kn_ok
 (kl_ok (ok_aP (ok_iconst dX1_play_170 rfl rfl)))
 (kl_ok (ok_aP (ok_iadd dX1_play_171 rfl))))
 (kn_ok
 (kl_ok (ok_hp (ok_iast dX1_play_172 rfl) le_iast))
 (kn_ok
 (kl_ok (ok_aP (ok_iinc dX1_play_173 (by decide +kernel) rfl)))
 (kl_ok (ok_aP (ok_goto dX1_play_176 rfl))))))))
 (kn_ok
 (kn_ok
 (kn_ok
 (kn_ok
 (kl_ok (ok_aP (ok_aload dX1_play_179 rfl)))
 (kl_ok (ok_aP (ok_iconst dX1_play_181 rfl rfl))))
 (kn_ok
 (kl_ok (ok_callV (List.forall_mem_cons.mpr ⟨run_V (C0 := "FavourTown$World") rfl rfl (by rw [hm]; rfl) q1278 q1279 q1280 q84 q1281 ⟨nh_3, dl_10⟩ (by decide) dX1_play_182, (fun _ h => absurd h List.not_mem_nil)⟩) rfl))
 (kl_ok (ok_aP (ok_pop dX1_play_185 rfl)))))
 (kn_ok
 (kn_ok
 (kl_ok (ok_aP (ok_iinc dX1_play_186 (by decide +kernel) rfl)))
 (kl_ok (ok_aP (ok_goto dX1_play_189 rfl))))
 (kn_ok
 (kl_ok (ok_aP (ok_iload_n dX1_play_192 rfl rfl)))
 (kn_ok
 (kl_ok (ok_aP (ok_iconst dX1_play_193 rfl rfl)))
 (kl_ok (ok_aP (ok_icmp_ge dX1_play_194 rfl rfl)))))))
 (kn_ok
 (kn_ok
 (kn_ok
 (kl_ok (ok_aP (ok_aload dX1_play_197 rfl)))
 (kl_ok (ok_aP (ok_iload_n dX1_play_199 rfl rfl))))
 (kn_ok
 (kl_ok (ok_aP (ok_iald dX1_play_200 rfl)))
 (kn_ok
 (kl_ok (ok_iret rfl dX1_play_201))
 (kl_ok (ok_aP (ok_iload_n dX1_play_202 rfl rfl))))))
 (kn_ok
 (kn_ok
 (kl_ok (ok_aP (ok_iconst dX1_play_203 rfl rfl)))
 (kl_ok (ok_aP (ok_icmp_ne dX1_play_204 rfl rfl))))
 (kn_ok
 (kl_ok (ok_aP (ok_aload dX1_play_207 rfl)))
 (kn_ok
 (kl_ok (ok_callV (List.forall_mem_cons.mpr ⟨run_V (C0 := "FavourTown$World") rfl rfl (by rw [hm]; rfl) q756 q757 q758 q84 q759 ⟨nh_3, dl_4⟩ (by decide) dX1_play_209, (fun _ h => absurd h List.not_mem_nil)⟩) rfl))
 (kl_ok (ok_iret rfl dX1_play_212))))))))
 (kn_ok
 (kn_ok
 (kn_ok
 (kn_ok
 (kn_ok
 (kl_ok (ok_aP (ok_iconst dX1_play_213 rfl rfl)))
 (kl_ok (ok_aP (ok_istore dX1_play_214 rfl))))
 (kn_ok
 (kl_ok (ok_aP (ok_iconst dX1_play_216 rfl rfl)))
 (kl_ok (ok_aP (ok_istore dX1_play_217 rfl)))))
 (kn_ok
 (kn_ok
 (kl_ok (ok_aP (ok_iconst dX1_play_219 rfl rfl)))
 (kl_ok (ok_aP (ok_istore dX1_play_220 rfl))))
 (kn_ok
 (kl_ok (ok_aP (ok_iload dX1_play_222 rfl)))
 (kn_ok
 (kl_ok (ok_aP (ok_aload dX1_play_224 rfl)))
 (kl_ok (ok_aP (ok_getf fo_1 fs_rf (Or.inr ⟨_, q224⟩) dX1_play_226 rfl)))))))
 (kn_ok
 (kn_ok
 (kn_ok
 (kl_ok (ok_aP (ok_icmp_ge dX1_play_229 rfl rfl)))
 (kl_ok (ok_aP (ok_iload dX1_play_232 rfl))))
 (kn_ok
 (kl_ok (ok_aP (ok_aload dX1_play_234 rfl)))
 (kl_ok (ok_aP (ok_iload dX1_play_236 rfl)))))
 (kn_ok
 (kn_ok
 (kl_ok (ok_callV (List.forall_mem_cons.mpr ⟨run_V (C0 := "FavourTown$World") rfl rfl (by rw [hm]; rfl) q1659 q453 q454 q84 q455 ⟨nh_3, dl_10⟩ (by decide) dX1_play_238, (fun _ h => absurd h List.not_mem_nil)⟩) rfl))
 (kl_ok (ok_aP (ok_iadd dX1_play_241 rfl))))
 (kn_ok
 (kl_ok (ok_aP (ok_istore dX1_play_242 rfl)))
 (kn_ok
 (kl_ok (ok_aP (ok_iload dX1_play_244 rfl)))
 (kl_ok (ok_aP (ok_iconst dX1_play_246 rfl rfl))))))))
 (kn_ok
 (kn_ok
 (kn_ok
 (kn_ok
 (kl_ok (ok_aP (ok_icmp_eq dX1_play_247 rfl rfl)))
 (kl_ok (ok_aP (ok_aload dX1_play_250 rfl))))
 (kn_ok
 (kl_ok (ok_aP (ok_iload dX1_play_252 rfl)))
 (kl_ok (ok_callV (List.forall_mem_cons.mpr ⟨run_V (C0 := "FavourTown$World") rfl rfl (by rw [hm]; rfl) q1659 q453 q454 q84 q455 ⟨nh_3, dl_10⟩ (by decide) dX1_play_254, (fun _ h => absurd h List.not_mem_nil)⟩) rfl))))
 (kn_ok
 (kn_ok
 (kl_ok (ok_aP (ok_aload dX1_play_257 rfl)))
 (kl_ok (ok_aP (ok_iload dX1_play_259 rfl))))
 (kn_ok
 (kl_ok (ok_callV (List.forall_mem_cons.mpr ⟨run_V (C0 := "FavourTown$World") rfl rfl (by rw [hm]; rfl) q1659 q453 q454 q84 q455 ⟨nh_3, dl_10⟩ (by decide) dX1_play_261, (fun _ h => absurd h List.not_mem_nil)⟩) rfl))
 (kn_ok
 (kl_ok (ok_aP (ok_icmp_le dX1_play_264 rfl rfl)))
 (kl_ok (ok_aP (ok_iload dX1_play_267 rfl)))))))
 (kn_ok
 (kn_ok
 (kn_ok
 (kl_ok (ok_aP (ok_istore dX1_play_269 rfl)))
 (kl_ok (ok_aP (ok_iinc dX1_play_271 (by decide +kernel) rfl))))
 (kn_ok
 (kl_ok (ok_aP (ok_goto dX1_play_274 rfl)))
 (kn_ok
 (kl_ok (ok_aP (ok_iload_n dX1_play_277 rfl rfl)))
 (kl_ok (ok_aP (ok_iconst dX1_play_278 rfl rfl))))))
 (kn_ok
 (kn_ok
 (kl_ok (ok_aP (ok_icmp_ne dX1_play_279 rfl rfl)))
 (kl_ok (ok_aP (ok_iload dX1_play_282 rfl))))
 (kn_ok
 (kl_ok (ok_aP (ok_goto dX1_play_284 rfl)))
 (kn_ok
 (kl_ok (ok_aP (ok_iload dX1_play_287 rfl)))
 (kl_ok (ok_iret rfl dX1_play_289)))))))))
