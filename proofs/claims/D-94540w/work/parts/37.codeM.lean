set_option maxRecDepth 100000
/-- 149: FavourTownModel.<init>()V -/
noncomputable def k_X7_init : Nat → Option AOp :=
 tn 65 (tn 32 (tn 14 (tn 5 (tn 1 (tl 0 (aP (f_aload 0 1)))
  (tn 4 (tl 1 (aP (f_objI 4)))
  (tl 4 (aP (f_aload 0 5)))))
  (tn 10 (tn 8 (tl 5 (aP (f_const (.int (nI 3346)) 8)))
  (tl 8 (o_newa 0 (.inl (fun _ => 0)) 10)))
  (tn 13 (tl 10 (o_putf [18] 1 vA 13))
  (tl 13 (aP (f_aload 0 14))))))
  (tn 23 (tn 19 (tn 17 (tl 14 (aP (f_const (.int (nI 3346)) 17)))
  (tl 17 (o_newa 0 (.inl (fun _ => 0)) 19)))
  (tn 22 (tl 19 (o_putf [18] 2 vA 22))
  (tl 22 (aP (f_aload 0 23)))))
  (tn 28 (tn 26 (tl 23 (aP (f_const (.int (nI 940)) 26)))
  (tl 26 (o_newa 0 (.inl (fun _ => 0)) 28)))
  (tn 31 (tl 28 (o_putf [18] 4 vA 31))
  (tl 31 (aP (f_aload 0 32)))))))
  (tn 48 (tn 41 (tn 37 (tn 35 (tl 32 (aP (f_const (.int (nI 400)) 35)))
  (tl 35 (o_newa 0 (.inl (fun _ => 0)) 37)))
  (tn 40 (tl 37 (o_putf [18] 5 vA 40))
  (tl 40 (aP (f_aload 0 41)))))
  (tn 45 (tn 42 (tl 41 (aP (f_const (.int (-1)) 42)))
  (tl 42 (o_putf [18] 10 vI 45)))
  (tn 46 (tl 45 (aP (f_aload 0 46)))
  (tl 46 (aP (f_const (.int (nI 6)) 48))))))
  (tn 57 (tn 53 (tn 50 (tl 48 (o_newa 0 (.inl (fun _ => 0)) 50))
  (tl 50 (o_putf [18] 13 vA 53)))
  (tn 54 (tl 53 (aP (f_aload 0 54)))
  (tl 54 (aP (f_const (.int (nI 144)) 57)))))
  (tn 62 (tn 59 (tl 57 (o_newa 0 (.inl (fun _ => 0)) 59))
  (tl 59 (o_putf [18] 18 vA 62)))
  (tn 63 (tl 62 (aP (f_aload 0 63)))
  (tl 63 (aP (f_const (.int (nI 12)) 65))))))))
  (tn 98 (tn 81 (tn 73 (tn 70 (tn 67 (tl 65 (o_newa 0 (.inl (fun _ => 0)) 67))
  (tl 67 (o_putf [18] 19 vA 70)))
  (tn 71 (tl 70 (aP (f_aload 0 71)))
  (tl 71 (aP (f_const (.int (nI 12)) 73)))))
  (tn 78 (tn 75 (tl 73 (o_newa 0 (.inl (fun _ => 0)) 75))
  (tl 75 (o_putf [18] 20 vA 78)))
  (tn 79 (tl 78 (aP (f_aload 0 79)))
  (tl 79 (aP (f_const (.int (nI 12)) 81))))))
  (tn 90 (tn 86 (tn 83 (tl 81 (o_newa 0 (.inl (fun _ => 0)) 83))
  (tl 83 (o_putf [18] 21 vA 86)))
  (tn 87 (tl 86 (aP (f_aload 0 87)))
  (tl 87 (aP (f_const (.int (nI 144)) 90)))))
  (tn 95 (tn 92 (tl 90 (o_newa 0 (.inl (fun _ => 0)) 92))
  (tl 92 (o_putf [18] 22 vA 95)))
  (tn 96 (tl 95 (aP (f_aload 0 96)))
  (tl 96 (aP (f_const (.int (nI 8)) 98)))))))
  (tn 114 (tn 106 (tn 103 (tn 100 (tl 98 (o_newa 0 (.inl (fun _ => 0)) 100))
  (tl 100 (o_putf [18] 23 vA 103)))
  (tn 104 (tl 103 (aP (f_aload 0 104)))
  (tl 104 (aP (f_const (.int (nI 8)) 106)))))
  (tn 111 (tn 108 (tl 106 (o_newa 0 (.inl (fun _ => 0)) 108))
  (tl 108 (o_putf [18] 24 vA 111)))
  (tn 112 (tl 111 (aP (f_aload 0 112)))
  (tl 112 (aP (f_const (.int (nI 40)) 114))))))
  (tn 123 (tn 119 (tn 116 (tl 114 (o_newa 0 (.inl (fun _ => 0)) 116))
  (tl 116 (o_putf [18] 27 vA 119)))
  (tn 120 (tl 119 (aP (f_aload 0 120)))
  (tl 120 (aP (f_getf [18] 1 123)))))
  (tn 127 (tn 125 (tl 123 (aP (f_const (.int (nI 7)) 125)))
  (tl 125 (aP (f_const (.int (nI 10)) 127))))
  (tn 128 (tl 127 (o_iast 0 (fun y => y) 128))
  (tl 128 (o_vret)))))))
theorem kok_X7_init {γ : AG} (hm : γ.2.2.2.2.1 = mTab) (hk : γ.2.2.2.2.2 = kTab) : KOK γ m_X7_init k_X7_init :=
 kn_ok
 (kn_ok
 (kn_ok
 (kn_ok
 (kn_ok
 (kl_ok (ok_aP (ok_aload_n dX7_init_0 rfl rfl)))
 (kn_ok
 (kl_ok (ok_aP (ok_objI q1838 q135 q136 dX7_init_1 rfl)))
 (kl_ok (ok_aP (ok_aload_n dX7_init_4 rfl rfl)))))
 (kn_ok
 (kn_ok
 (kl_ok (ok_aP (ok_sipush dX7_init_5 (by decide +kernel) rfl)))
 (kl_ok (ok_hp (na_int dX7_init_8 rfl) le_newa)))
 (kn_ok
 (kl_ok (ok_hp (ok_putF fo_54 fn_70 q1840 rfl pd_2 vA_okA dX7_init_10 rfl) le_putf))
 (kl_ok (ok_aP (ok_aload_n dX7_init_13 rfl rfl))))))
 (kn_ok
 (kn_ok
 (kn_ok
 (kl_ok (ok_aP (ok_sipush dX7_init_14 (by decide +kernel) rfl)))
 (kl_ok (ok_hp (na_int dX7_init_17 rfl) le_newa)))
 (kn_ok
 (kl_ok (ok_hp (ok_putF fo_56 fn_71 q1841 rfl pd_2 vA_okA dX7_init_19 rfl) le_putf))
 (kl_ok (ok_aP (ok_aload_n dX7_init_22 rfl rfl)))))
 (kn_ok
 (kn_ok
 (kl_ok (ok_aP (ok_sipush dX7_init_23 (by decide +kernel) rfl)))
 (kl_ok (ok_hp (na_int dX7_init_26 rfl) le_newa)))
 (kn_ok
 (kl_ok (ok_hp (ok_putF fo_57 fn_72 q1843 rfl pd_2 vA_okA dX7_init_28 rfl) le_putf))
 (kl_ok (ok_aP (ok_aload_n dX7_init_31 rfl rfl)))))))
 (kn_ok
 (kn_ok
 (kn_ok
 (kn_ok
 (kl_ok (ok_aP (ok_sipush dX7_init_32 (by decide +kernel) rfl)))
 (kl_ok (ok_hp (na_int dX7_init_35 rfl) le_newa)))
 (kn_ok
 (kl_ok (ok_hp (ok_putF fo_71 fn_73 q1844 rfl pd_2 vA_okA dX7_init_37 rfl) le_putf))
 (kl_ok (ok_aP (ok_aload_n dX7_init_40 rfl rfl)))))
 (kn_ok
 (kn_ok
 (kl_ok (ok_aP (ok_iconst dX7_init_41 rfl rfl)))
 (kl_ok (ok_hp (ok_putf fo_64 fs_rf fn_43 (Or.inl q1849) pd_0 vI_ok dX7_init_42 rfl) le_putf)))
 (kn_ok
 (kl_ok (ok_aP (ok_aload_n dX7_init_45 rfl rfl)))
 (kl_ok (ok_aP (ok_bipush dX7_init_46 (by decide +kernel) rfl))))))
 (kn_ok
 (kn_ok
 (kn_ok
 (kl_ok (ok_hp (na_int dX7_init_48 rfl) le_newa))
 (kl_ok (ok_hp (ok_putF fo_60 fn_74 q1852 rfl pd_2 vA_okA dX7_init_50 rfl) le_putf)))
 (kn_ok
 (kl_ok (ok_aP (ok_aload_n dX7_init_53 rfl rfl)))
 (kl_ok (ok_aP (ok_sipush dX7_init_54 (by decide +kernel) rfl)))))
 (kn_ok
 (kn_ok
 (kl_ok (ok_hp (na_int dX7_init_57 rfl) le_newa))
 (kl_ok (ok_hp (ok_putF fo_80 fn_75 q1857 rfl pd_2 vA_okA dX7_init_59 rfl) le_putf)))
 (kn_ok
 (kl_ok (ok_aP (ok_aload_n dX7_init_62 rfl rfl)))
 (kl_ok (ok_aP (ok_bipush dX7_init_63 (by decide +kernel) rfl))))))))
 (kn_ok
 (kn_ok
 (kn_ok
 (kn_ok
 (kn_ok
 (kl_ok (ok_hp (na_int dX7_init_65 rfl) le_newa))
 (kl_ok (ok_hp (ok_putF fo_82 fn_76 q1858 rfl pd_2 vA_okA dX7_init_67 rfl) le_putf)))
 (kn_ok
 (kl_ok (ok_aP (ok_aload_n dX7_init_70 rfl rfl)))
 (kl_ok (ok_aP (ok_bipush dX7_init_71 (by decide +kernel) rfl)))))
 (kn_ok
 (kn_ok
 (kl_ok (ok_hp (na_int dX7_init_73 rfl) le_newa))
 (kl_ok (ok_hp (ok_putF fo_81 fn_77 q1859 rfl pd_2 vA_okA dX7_init_75 rfl) le_putf)))
 (kn_ok
 (kl_ok (ok_aP (ok_aload_n dX7_init_78 rfl rfl)))
 (kl_ok (ok_aP (ok_bipush dX7_init_79 (by decide +kernel) rfl))))))
 (kn_ok
 (kn_ok
 (kn_ok
 (kl_ok (ok_hp (na_int dX7_init_81 rfl) le_newa))
 (kl_ok (ok_hp (ok_putF fo_79 fn_78 q1860 rfl pd_2 vA_okA dX7_init_83 rfl) le_putf)))
 (kn_ok
 (kl_ok (ok_aP (ok_aload_n dX7_init_86 rfl rfl)))
 (kl_ok (ok_aP (ok_sipush dX7_init_87 (by decide +kernel) rfl)))))
 (kn_ok
 (kn_ok
 (kl_ok (ok_hp (na_int dX7_init_90 rfl) le_newa))
 (kl_ok (ok_hp (ok_putF fo_75 fn_79 q1861 rfl pd_2 vA_okA dX7_init_92 rfl) le_putf)))
 (kn_ok
 (kl_ok (ok_aP (ok_aload_n dX7_init_95 rfl rfl)))
 (kl_ok (ok_aP (ok_bipush dX7_init_96 (by decide +kernel) rfl)))))))
 (kn_ok
 (kn_ok
 (kn_ok
 (kn_ok
 (kl_ok (ok_hp (na_int dX7_init_98 rfl) le_newa))
 (kl_ok (ok_hp (ok_putF fo_78 fn_80 q1862 rfl pd_2 vA_okA dX7_init_100 rfl) le_putf)))
 (kn_ok
 (kl_ok (ok_aP (ok_aload_n dX7_init_103 rfl rfl)))
 (kl_ok (ok_aP (ok_bipush dX7_init_104 (by decide +kernel) rfl)))))
 (kn_ok
 (kn_ok
 (kl_ok (ok_hp (na_int dX7_init_106 rfl) le_newa))
 (kl_ok (ok_hp (ok_putF fo_77 fn_81 q1863 rfl pd_2 vA_okA dX7_init_108 rfl) le_putf)))
 (kn_ok
 (kl_ok (ok_aP (ok_aload_n dX7_init_111 rfl rfl)))
 (kl_ok (ok_aP (ok_bipush dX7_init_112 (by decide +kernel) rfl))))))
 (kn_ok
 (kn_ok
 (kn_ok
 (kl_ok (ok_hp (na_int dX7_init_114 rfl) le_newa))
 (kl_ok (ok_hp (ok_putF fo_83 fn_82 q1866 rfl pd_2 vA_okA dX7_init_116 rfl) le_putf)))
 (kn_ok
 (kl_ok (ok_aP (ok_aload_n dX7_init_119 rfl rfl)))
 (kl_ok (ok_aP (ok_getf fo_54 fs_rf (Or.inl q1840) dX7_init_120 rfl)))))
 (kn_ok
 (kn_ok
 (kl_ok (ok_aP (ok_bipush dX7_init_123 (by decide +kernel) rfl)))
 (kl_ok (ok_aP (ok_bipush dX7_init_125 (by decide +kernel) rfl))))
 (kn_ok
 (kl_ok (ok_hp (ok_iast dX7_init_127 rfl) le_iast))
 (kl_ok (ok_vret rfl dX7_init_128)))))))
/-- 150: FavourTownModel.thrown()I -/
noncomputable def k_X7_thrown : Nat → Option AOp :=
 tn 1 (tl 0 (aP (f_aload 0 1)))
  (tn 4 (tl 1 (aP (f_getf [18] 0 4)))
  (tl 4 (o_iret (fun _ => true))))
theorem kok_X7_thrown {γ : AG} (hm : γ.2.2.2.2.1 = mTab) (hk : γ.2.2.2.2.2 = kTab) : KOK γ m_X7_thrown k_X7_thrown :=
 kn_ok
 (kl_ok (ok_aP (ok_aload_n dX7_thrown_0 rfl rfl)))
 (kn_ok
 (kl_ok (ok_aP (ok_getf fo_53 fs_rf (Or.inl q1839) dX7_thrown_1 rfl)))
 (kl_ok (ok_iret rfl dX7_thrown_4)))
/-- 151: FavourTownModel.feed(IIIII)I -/
noncomputable def k_X7_feed : Nat → Option AOp :=
 tn 64 (tn 30 (tn 15 (tn 6 (tn 2 (tn 1 (tl 0 (aP (f_aload 0 1)))
  (tl 1 (aP (f_const (.int (nI 0)) 2))))
  (tn 5 (tl 2 (o_putf [18] 0 vI 5))
  (tl 5 (aP (f_aload 0 6)))))
  (tn 11 (tn 9 (tl 6 (aP (f_getf [18] 6 9)))
  (tl 9 (aP (f_const (.int (nI 20)) 11))))
  (tn 12 (tl 11 (aP (f_bin (fun x y => x + y) 12)))
  (tl 12 (aP (f_const (.int (nI 400)) 15))))))
  (tn 21 (tn 19 (tn 18 (tl 15 (aP (f_icmp (fun x y => decide (x ≤ y)) 20 18)))
  (tl 18 (aP (f_const (.int (-1)) 19))))
  (tn 20 (tl 19 (o_iret (fun _ => true)))
  (tl 20 (aP (f_const (.int (nI 0)) 21)))))
  (tn 25 (tn 23 (tl 21 (aP (f_istore 6 23)))
  (tl 23 (aP (f_iload 6 25))))
  (tn 27 (tl 25 (aP (f_const (.int (nI 20)) 27)))
  (tl 27 (aP (f_icmp (fun x y => decide (y ≤ x)) 120 30)))))))
  (tn 47 (tn 37 (tn 33 (tn 32 (tl 30 (aP (f_iload 6 32)))
  (tl 32 (aP (f_const (.int (nI 4)) 33))))
  (tn 36 (tl 33 (aP (f_icmp (fun x y => decide (y ≤ x)) 40 36)))
  (tl 36 (aP (f_iload 1 37)))))
  (tn 42 (tn 40 (tl 37 (aP (f_goto 76)))
  (tl 40 (aP (f_iload 6 42))))
  (tn 44 (tl 42 (aP (f_const (.int (nI 8)) 44)))
  (tl 44 (aP (f_icmp (fun x y => decide (y ≤ x)) 51 47))))))
  (tn 55 (tn 51 (tn 48 (tl 47 (aP (f_iload 2 48)))
  (tl 48 (aP (f_goto 76))))
  (tn 53 (tl 51 (aP (f_iload 6 53)))
  (tl 53 (aP (f_const (.int (nI 12)) 55)))))
  (tn 59 (tn 58 (tl 55 (aP (f_icmp (fun x y => decide (y ≤ x)) 62 58)))
  (tl 58 (aP (f_iload 3 59))))
  (tn 62 (tl 59 (aP (f_goto 76)))
  (tl 62 (aP (f_iload 6 64))))))))
  (tn 96 (tn 82 (tn 74 (tn 69 (tn 66 (tl 64 (aP (f_const (.int (nI 16)) 66)))
  (tl 66 (aP (f_icmp (fun x y => decide (y ≤ x)) 74 69))))
  (tn 71 (tl 69 (aP (f_iload 4 71)))
  (tl 71 (aP (f_goto 76)))))
  (tn 78 (tn 76 (tl 74 (aP (f_iload 5 76)))
  (tl 76 (aP (f_istore 7 78))))
  (tn 79 (tl 78 (aP (f_aload 0 79)))
  (tl 79 (aP (f_getf [18] 5 82))))))
  (tn 90 (tn 86 (tn 83 (tl 82 (aP (f_aload 0 83)))
  (tl 83 (aP (f_getf [18] 6 86))))
  (tn 88 (tl 86 (aP (f_iload 7 88)))
  (tl 88 (aP (f_const (.int (nI 24)) 90)))))
  (tn 94 (tn 92 (tl 90 (aP (f_const (.int (nI 8)) 92)))
  (tl 92 (aP (f_iload 6 94))))
  (tn 95 (tl 94 (aP (f_const (.int (nI 4)) 95)))
  (tl 95 (aP (f_div (fun x y => x - x / y * y) 96)))))))
  (tn 106 (tn 102 (tn 98 (tn 97 (tl 96 (aP (f_bin (fun x y => x * y) 97)))
  (tl 97 (aP (f_bin (fun x y => x - y) 98))))
  (tn 99 (tl 98 (aP (f_bin (fun x y => (x.toUInt32 >>> (y.toUInt32 &&& Int32.toUInt32 31)).toInt32) 99)))
  (tl 99 (aP (f_const (.int (nI 255)) 102)))))
  (tn 104 (tn 103 (tl 102 (aP (f_bin (fun x y => x &&& y) 103)))
  (tl 103 (o_iast 0 (fun y => y) 104)))
  (tn 105 (tl 104 (aP (f_aload 0 105)))
  (tl 105 (aP (f_dup 106))))))
  (tn 114 (tn 110 (tn 109 (tl 106 (aP (f_getf [18] 6 109)))
  (tl 109 (aP (f_const (.int (nI 1)) 110))))
  (tn 111 (tl 110 (aP (f_bin (fun x y => x + y) 111)))
  (tl 111 (o_putf [18] 6 vI 114))))
  (tn 120 (tn 117 (tl 114 (aP (f_iinc 6 (nI 1) 117)))
  (tl 117 (aP (f_goto 23))))
  (tn 121 (tl 120 (aP (f_aload 0 121)))
  (tn 124 (tl 121 (aP (f_getf [18] 6 124)))
  (tl 124 (o_iret (fun _ => true)))))))))
theorem kok_X7_feed {γ : AG} (hm : γ.2.2.2.2.1 = mTab) (hk : γ.2.2.2.2.2 = kTab) : KOK γ m_X7_feed k_X7_feed :=
 kn_ok
 (kn_ok
 (kn_ok
 (kn_ok
 (kn_ok
 (kn_ok
 (kl_ok (ok_aP (ok_aload_n dX7_feed_0 rfl rfl)))
 (kl_ok (ok_aP (ok_iconst dX7_feed_1 rfl rfl))))
 (kn_ok
 (kl_ok (ok_hp (ok_putf fo_53 fs_rf fn_36 (Or.inl q1839) pd_0 vI_ok dX7_feed_2 rfl) le_putf))
 (kl_ok (ok_aP (ok_aload_n dX7_feed_5 rfl rfl)))))
 (kn_ok
 (kn_ok
 (kl_ok (ok_aP (ok_getf fo_74 fs_rf (Or.inl q1845) dX7_feed_6 rfl)))
 (kl_ok (ok_aP (ok_bipush dX7_feed_9 (by decide +kernel) rfl))))
 (kn_ok
 (kl_ok (ok_aP (ok_iadd dX7_feed_11 rfl)))
 (kl_ok (ok_aP (ok_sipush dX7_feed_12 (by decide +kernel) rfl))))))
 (kn_ok
 (kn_ok
 (kn_ok
 (kl_ok (ok_aP (ok_icmp_le dX7_feed_15 rfl rfl)))
 (kl_ok (ok_aP (ok_iconst dX7_feed_18 rfl rfl))))
 (kn_ok
 (kl_ok (ok_iret rfl dX7_feed_19))
 (kl_ok (ok_aP (ok_iconst dX7_feed_20 rfl rfl)))))
 (kn_ok
 (kn_ok
 (kl_ok (ok_aP (ok_istore dX7_feed_21 rfl)))
 (kl_ok (ok_aP (ok_iload dX7_feed_23 rfl))))
 (kn_ok
 (kl_ok (ok_aP (ok_bipush dX7_feed_25 (by decide +kernel) rfl)))
 (kl_ok (ok_aP (ok_icmp_ge dX7_feed_27 rfl rfl)))))))
 (kn_ok
 (kn_ok
 (kn_ok
 (kn_ok
 (kl_ok (ok_aP (ok_iload dX7_feed_30 rfl)))
 (kl_ok (ok_aP (ok_iconst dX7_feed_32 rfl rfl))))
 (kn_ok
 (kl_ok (ok_aP (ok_icmp_ge dX7_feed_33 rfl rfl)))
 (kl_ok (ok_aP (ok_iload_n dX7_feed_36 rfl rfl)))))
 (kn_ok
 (kn_ok
 (kl_ok (ok_aP (ok_goto dX7_feed_37 rfl)))
 (kl_ok (ok_aP (ok_iload dX7_feed_40 rfl))))
 (kn_ok
 (kl_ok (ok_aP (ok_bipush dX7_feed_42 (by decide +kernel) rfl)))
 (kl_ok (ok_aP (ok_icmp_ge dX7_feed_44 rfl rfl))))))
 (kn_ok
 (kn_ok
 (kn_ok
 (kl_ok (ok_aP (ok_iload_n dX7_feed_47 rfl rfl)))
 (kl_ok (ok_aP (ok_goto dX7_feed_48 rfl))))
 (kn_ok
 (kl_ok (ok_aP (ok_iload dX7_feed_51 rfl)))
 (kl_ok (ok_aP (ok_bipush dX7_feed_53 (by decide +kernel) rfl)))))
 (kn_ok
 (kn_ok
 (kl_ok (ok_aP (ok_icmp_ge dX7_feed_55 rfl rfl)))
 (kl_ok (ok_aP (ok_iload_n dX7_feed_58 rfl rfl))))
 (kn_ok
 (kl_ok (ok_aP (ok_goto dX7_feed_59 rfl)))
 (kl_ok (ok_aP (ok_iload dX7_feed_62 rfl))))))))
 (kn_ok
 (kn_ok
 (kn_ok
 (kn_ok
 (kn_ok
 (kl_ok (ok_aP (ok_bipush dX7_feed_64 (by decide +kernel) rfl)))
 (kl_ok (ok_aP (ok_icmp_ge dX7_feed_66 rfl rfl))))
 (kn_ok
 (kl_ok (ok_aP (ok_iload dX7_feed_69 rfl)))
 (kl_ok (ok_aP (ok_goto dX7_feed_71 rfl)))))
 (kn_ok
 (kn_ok
 (kl_ok (ok_aP (ok_iload dX7_feed_74 rfl)))
 (kl_ok (ok_aP (ok_istore dX7_feed_76 rfl))))
 (kn_ok
 (kl_ok (ok_aP (ok_aload_n dX7_feed_78 rfl rfl)))
 (kl_ok (ok_aP (ok_getf fo_71 fs_rf (Or.inl q1844) dX7_feed_79 rfl))))))
 (kn_ok
 (kn_ok
 (kn_ok
 (kl_ok (ok_aP (ok_aload_n dX7_feed_82 rfl rfl)))
 (kl_ok (ok_aP (ok_getf fo_74 fs_rf (Or.inl q1845) dX7_feed_83 rfl))))
 (kn_ok
 (kl_ok (ok_aP (ok_iload dX7_feed_86 rfl)))
 (kl_ok (ok_aP (ok_bipush dX7_feed_88 (by decide +kernel) rfl)))))
 (kn_ok
 (kn_ok
 (kl_ok (ok_aP (ok_bipush dX7_feed_90 (by decide +kernel) rfl)))
 (kl_ok (ok_aP (ok_iload dX7_feed_92 rfl))))
 (kn_ok
 (kl_ok (ok_aP (ok_iconst dX7_feed_94 rfl rfl)))
 (kl_ok (ok_aP (ok_irem dX7_feed_95 rfl)))))))
 (kn_ok
 (kn_ok
 (kn_ok
 (kn_ok
 (kl_ok (ok_aP (ok_imul dX7_feed_96 rfl)))
 (kl_ok (ok_aP (ok_isub dX7_feed_97 rfl))))
 (kn_ok
 (kl_ok (ok_aP (ok_iushr dX7_feed_98 rfl)))
 (kl_ok (ok_aP (ok_sipush dX7_feed_99 (by decide +kernel) rfl)))))
 (kn_ok
 (kn_ok
 (kl_ok (ok_aP (ok_iand dX7_feed_102 rfl)))
 (kl_ok (ok_hp (ok_iast dX7_feed_103 rfl) le_iast)))
 (kn_ok
 (kl_ok (ok_aP (ok_aload_n dX7_feed_104 rfl rfl)))
 (kl_ok (ok_aP (ok_dup dX7_feed_105 rfl))))))
 (kn_ok
 (kn_ok
 (kn_ok
 (kl_ok (ok_aP (ok_getf fo_74 fs_rf (Or.inl q1845) dX7_feed_106 rfl)))
 (kl_ok (ok_aP (ok_iconst dX7_feed_109 rfl rfl))))
 (kn_ok
 (kl_ok (ok_aP (ok_iadd dX7_feed_110 rfl)))
 (kl_ok (ok_hp (ok_putf fo_74 fs_rf fn_50 (Or.inl q1845) pd_0 vI_ok dX7_feed_111 rfl) le_putf))))
 (kn_ok
 (kn_ok
 (kl_ok (ok_aP (ok_iinc dX7_feed_114 (by decide +kernel) rfl)))
 (kl_ok (ok_aP (ok_goto dX7_feed_117 rfl))))
 (kn_ok
 (kl_ok (ok_aP (ok_aload_n dX7_feed_120 rfl rfl)))
 (kn_ok
 (kl_ok (ok_aP (ok_getf fo_74 fs_rf (Or.inl q1845) dX7_feed_121 rfl)))
 (kl_ok (ok_iret rfl dX7_feed_124))))))))
/-- 152: FavourTownModel.end(I)Z -/
noncomputable def k_X7_end : Nat → Option AOp :=
 tn 14 (tn 6 (tn 2 (tn 1 (tl 0 (aP (f_aload 0 1)))
  (tl 1 (aP (f_const (.int (nI 0)) 2))))
  (tn 5 (tl 2 (o_putf [18] 0 vI 5))
  (tl 5 (aP (f_iload 1 6)))))
  (tn 8 (tn 7 (tl 6 (aP (f_const (.int (nI 0)) 7)))
  (tl 7 (aP (f_aload 0 8))))
  (tn 11 (tl 8 (aP (f_getf [18] 6 11)))
  (tl 11 (o_callS 153 3 14)))))
  (tn 20 (tn 18 (tn 17 (tl 14 (aP (f_if (fun x => decide (¬ x = 0)) 19 17)))
  (tl 17 (aP (f_const (.int (nI 0)) 18))))
  (tn 19 (tl 18 (o_iret (fun x => x == 0 || x == 1)))
  (tl 19 (aP (f_aload 0 20)))))
  (tn 24 (tn 21 (tl 20 (aP (f_iload 1 21)))
  (tl 21 (o_putf [18] 6 vI 24)))
  (tn 25 (tl 24 (aP (f_const (.int (nI 1)) 25)))
  (tl 25 (o_iret (fun x => x == 0 || x == 1))))))
theorem kok_X7_end {γ : AG} (hm : γ.2.2.2.2.1 = mTab) (hk : γ.2.2.2.2.2 = kTab) : KOK γ m_X7_end k_X7_end :=
 kn_ok
 (kn_ok
 (kn_ok
 (kn_ok
 (kl_ok (ok_aP (ok_aload_n dX7_end_0 rfl rfl)))
 (kl_ok (ok_aP (ok_iconst dX7_end_1 rfl rfl))))
 (kn_ok
 (kl_ok (ok_hp (ok_putf fo_53 fs_rf fn_36 (Or.inl q1839) pd_0 vI_ok dX7_end_2 rfl) le_putf))
 (kl_ok (ok_aP (ok_iload_n dX7_end_5 rfl rfl)))))
 (kn_ok
 (kn_ok
 (kl_ok (ok_aP (ok_iconst dX7_end_6 rfl rfl)))
 (kl_ok (ok_aP (ok_aload_n dX7_end_7 rfl rfl))))
 (kn_ok
 (kl_ok (ok_aP (ok_getf fo_74 fs_rf (Or.inl q1845) dX7_end_8 rfl)))
 (kl_ok (ok_callS (run_S (by rw [hm]; rfl) q1939 q1940 q92 q1941 ⟨nh_1, dl_17⟩ (by decide) dX7_end_11) rfl)))))
 (kn_ok
 (kn_ok
 (kn_ok
 (kl_ok (ok_aP (ok_if_ne dX7_end_14 rfl rfl)))
 (kl_ok (ok_aP (ok_iconst dX7_end_17 rfl rfl))))
 (kn_ok
 (kl_ok (ok_zret rfl z_boolean dX7_end_18))
 (kl_ok (ok_aP (ok_aload_n dX7_end_19 rfl rfl)))))
 (kn_ok
 (kn_ok
 (kl_ok (ok_aP (ok_iload_n dX7_end_20 rfl rfl)))
 (kl_ok (ok_hp (ok_putf fo_74 fs_rf fn_50 (Or.inl q1845) pd_0 vI_ok dX7_end_21 rfl) le_putf)))
 (kn_ok
 (kl_ok (ok_aP (ok_iconst dX7_end_24 rfl rfl)))
 (kl_ok (ok_zret rfl z_boolean dX7_end_25)))))
/-- 153: FavourTownModel.isIn(III)Z -/
noncomputable def k_X7_isIn : Nat → Option AOp :=
 tn 7 (tn 2 (tn 1 (tl 0 (aP (f_iload 0 1)))
  (tl 1 (aP (f_iload 1 2))))
  (tn 5 (tl 2 (aP (f_icmp (fun x y => decide (x < y)) 14 5)))
  (tn 6 (tl 5 (aP (f_iload 0 6)))
  (tl 6 (aP (f_iload 2 7))))))
  (tn 11 (tn 10 (tl 7 (aP (f_icmp (fun x y => decide (y < x)) 14 10)))
  (tl 10 (aP (f_const (.int (nI 1)) 11))))
  (tn 14 (tl 11 (aP (f_goto 15)))
  (tn 15 (tl 14 (aP (f_const (.int (nI 0)) 15)))
  (tl 15 (o_iret (fun x => x == 0 || x == 1))))))
theorem kok_X7_isIn {γ : AG} (hm : γ.2.2.2.2.1 = mTab) (hk : γ.2.2.2.2.2 = kTab) : KOK γ m_X7_isIn k_X7_isIn :=
 kn_ok
 (kn_ok
 (kn_ok
 (kl_ok (ok_aP (ok_iload_n dX7_isIn_0 rfl rfl)))
 (kl_ok (ok_aP (ok_iload_n dX7_isIn_1 rfl rfl))))
 (kn_ok
 (kl_ok (ok_aP (ok_icmp_lt dX7_isIn_2 rfl rfl)))
 (kn_ok
 (kl_ok (ok_aP (ok_iload_n dX7_isIn_5 rfl rfl)))
 (kl_ok (ok_aP (ok_iload_n dX7_isIn_6 rfl rfl))))))
 (kn_ok
 (kn_ok
 (kl_ok (ok_aP (ok_icmp_gt dX7_isIn_7 rfl rfl)))
 (kl_ok (ok_aP (ok_iconst dX7_isIn_10 rfl rfl))))
 (kn_ok
 (kl_ok (ok_aP (ok_goto dX7_isIn_11 rfl)))
 (kn_ok
 (kl_ok (ok_aP (ok_iconst dX7_isIn_14 rfl rfl)))
 (kl_ok (ok_zret rfl z_boolean dX7_isIn_15)))))
/-- 154: FavourTownModel.town()I -/
noncomputable def k_X7_town : Nat → Option AOp :=
 tn 72 (tn 34 (tn 18 (tn 9 (tn 2 (tn 1 (tl 0 (aP (f_const (.int (nI 0)) 1)))
  (tl 1 (aP (f_istore 1 2))))
  (tn 3 (tl 2 (aP (f_iload 1 3)))
  (tn 6 (tl 3 (aP (f_const (.int (nI 940)) 6)))
  (tl 6 (aP (f_icmp (fun x y => decide (y ≤ x)) 27 9))))))
  (tn 13 (tn 10 (tl 9 (aP (f_aload 0 10)))
  (tl 10 (aP (f_getf [18] 4 13))))
  (tn 14 (tl 13 (aP (f_iload 1 14)))
  (tn 15 (tl 14 (aP (f_aload 0 15)))
  (tl 15 (aP (f_getf [18] 1 18)))))))
  (tn 27 (tn 20 (tn 19 (tl 18 (aP (f_iload 1 19)))
  (tl 19 (aP (f_iald 0 20))))
  (tn 21 (tl 20 (o_iast 0 (fun y => y) 21))
  (tn 24 (tl 21 (aP (f_iinc 1 (nI 1) 24)))
  (tl 24 (aP (f_goto 2))))))
  (tn 29 (tn 28 (tl 27 (aP (f_aload 0 28)))
  (tl 28 (aP (f_const (.int (-1)) 29))))
  (tn 32 (tl 29 (o_putf [18] 10 vI 32))
  (tn 33 (tl 32 (aP (f_aload 0 33)))
  (tl 33 (aP (f_const (.int (-1)) 34))))))))
  (tn 52 (tn 45 (tn 38 (tn 37 (tl 34 (o_putf [18] 7 vI 37))
  (tl 37 (aP (f_aload 0 38))))
  (tn 39 (tl 38 (aP (f_aload 0 39)))
  (tn 42 (tl 39 (aP (f_getf [18] 6 42)))
  (tl 42 (o_putf [18] 8 vI 45)))))
  (tn 47 (tn 46 (tl 45 (aP (f_aload 0 46)))
  (tl 46 (aP (f_const (.int (nI 0)) 47))))
  (tn 50 (tl 47 (o_putf [18] 6 vI 50))
  (tn 51 (tl 50 (aP (f_aload 0 51)))
  (tl 51 (aP (f_const (.int (nI 0)) 52)))))))
  (tn 61 (tn 56 (tn 55 (tl 52 (o_callV (lkN [(18, 155)]) 1 55))
  (tl 55 (aP (f_aload 0 56))))
  (tn 57 (tl 56 (aP (f_aload 0 57)))
  (tn 60 (tl 57 (aP (f_getf [18] 10 60)))
  (tl 60 (aP (f_const (.int (-1)) 61))))))
  (tn 65 (tn 64 (tl 61 (aP (f_icmp (fun x y => decide (x = y)) 68 64)))
  (tl 64 (aP (f_const (.int (nI 1)) 65))))
  (tn 68 (tl 65 (aP (f_goto 84)))
  (tn 69 (tl 68 (aP (f_aload 0 69)))
  (tl 69 (aP (f_getf [18] 1 72)))))))))
  (tn 109 (tn 91 (tn 80 (tn 74 (tn 73 (tl 72 (aP (f_const (.int (nI 0)) 73)))
  (tl 73 (aP (f_iald 0 74))))
  (tn 76 (tl 74 (aP (f_const (.int (nI 10)) 76)))
  (tn 79 (tl 76 (aP (f_icmp (fun x y => decide (¬ x = y)) 83 79)))
  (tl 79 (aP (f_const (.int (nI 2)) 80))))))
  (tn 84 (tn 83 (tl 80 (aP (f_goto 84)))
  (tl 83 (aP (f_const (.int (nI 0)) 84))))
  (tn 87 (tl 84 (o_putf [18] 0 vI 87))
  (tn 88 (tl 87 (aP (f_aload 0 88)))
  (tl 88 (aP (f_getf [18] 0 91)))))))
  (tn 100 (tn 95 (tn 94 (tl 91 (aP (f_if (fun x => decide (x ≤ 0)) 123 94)))
  (tl 94 (aP (f_const (.int (nI 0)) 95))))
  (tn 96 (tl 95 (aP (f_istore 1 96)))
  (tn 97 (tl 96 (aP (f_iload 1 97)))
  (tl 97 (aP (f_const (.int (nI 940)) 100))))))
  (tn 104 (tn 103 (tl 100 (aP (f_icmp (fun x y => decide (y ≤ x)) 121 103)))
  (tl 103 (aP (f_aload 0 104))))
  (tn 107 (tl 104 (aP (f_getf [18] 1 107)))
  (tn 108 (tl 107 (aP (f_iload 1 108)))
  (tl 108 (aP (f_aload 0 109))))))))
  (tn 127 (tn 118 (tn 113 (tn 112 (tl 109 (aP (f_getf [18] 4 112)))
  (tl 112 (aP (f_iload 1 113))))
  (tn 114 (tl 113 (aP (f_iald 0 114)))
  (tn 115 (tl 114 (o_iast 0 (fun y => y) 115))
  (tl 115 (aP (f_iinc 1 (nI 1) 118))))))
  (tn 122 (tn 121 (tl 118 (aP (f_goto 96)))
  (tl 121 (aP (f_const (.int (nI 0)) 122))))
  (tn 123 (tl 122 (o_iret (fun _ => true)))
  (tn 124 (tl 123 (aP (f_aload 0 124)))
  (tl 124 (aP (f_getf [18] 1 127)))))))
  (tn 132 (tn 129 (tn 128 (tl 127 (aP (f_const (.int (nI 0)) 128)))
  (tl 128 (aP (f_dup2 129))))
  (tn 130 (tl 129 (aP (f_iald 0 130)))
  (tn 131 (tl 130 (aP (f_const (.int (nI 1)) 131)))
  (tl 131 (aP (f_bin (fun x y => x + y) 132))))))
  (tn 137 (tn 133 (tl 132 (o_iast 0 (fun y => y) 133))
  (tn 134 (tl 133 (aP (f_aload 0 134)))
  (tl 134 (aP (f_getf [18] 1 137)))))
  (tn 138 (tl 137 (aP (f_const (.int (nI 0)) 138)))
  (tn 139 (tl 138 (aP (f_iald 0 139)))
  (tl 139 (o_iret (fun _ => true)))))))))
theorem kok_X7_town {γ : AG} (hm : γ.2.2.2.2.1 = mTab) (hk : γ.2.2.2.2.2 = kTab) : KOK γ m_X7_town k_X7_town :=
 kn_ok
 (kn_ok
 (kn_ok
 (kn_ok
 (kn_ok
 (kn_ok
 (kl_ok (ok_aP (ok_iconst dX7_town_0 rfl rfl)))
 (kl_ok (ok_aP (ok_istore_n dX7_town_1 rfl rfl))))
 (kn_ok
 (kl_ok (ok_aP (ok_iload_n dX7_town_2 rfl rfl)))
 (kn_ok
 (kl_ok (ok_aP (ok_sipush dX7_town_3 (by decide +kernel) rfl)))
 (kl_ok (ok_aP (ok_icmp_ge dX7_town_6 rfl rfl))))))
 (kn_ok
 (kn_ok
 (kl_ok (ok_aP (ok_aload_n dX7_town_9 rfl rfl)))
 (kl_ok (ok_aP (ok_getf fo_57 fs_rf (Or.inl q1843) dX7_town_10 rfl))))
 (kn_ok
 (kl_ok (ok_aP (ok_iload_n dX7_town_13 rfl rfl)))
 (kn_ok
 (kl_ok (ok_aP (ok_aload_n dX7_town_14 rfl rfl)))
 (kl_ok (ok_aP (ok_getf fo_54 fs_rf (Or.inl q1840) dX7_town_15 rfl)))))))
 (kn_ok
 (kn_ok
 (kn_ok
 (kl_ok (ok_aP (ok_iload_n dX7_town_18 rfl rfl)))
 (kl_ok (ok_aP (ok_iald dX7_town_19 rfl))))
 (kn_ok
 (kl_ok (ok_hp (ok_iast dX7_town_20 rfl) le_iast))
 (kn_ok
 (kl_ok (ok_aP (ok_iinc dX7_town_21 (by decide +kernel) rfl)))
 (kl_ok (ok_aP (ok_goto dX7_town_24 rfl))))))
 (kn_ok
 (kn_ok
 (kl_ok (ok_aP (ok_aload_n dX7_town_27 rfl rfl)))
 (kl_ok (ok_aP (ok_iconst dX7_town_28 rfl rfl))))
 (kn_ok
 (kl_ok (ok_hp (ok_putf fo_64 fs_rf fn_43 (Or.inl q1849) pd_0 vI_ok dX7_town_29 rfl) le_putf))
 (kn_ok
 (kl_ok (ok_aP (ok_aload_n dX7_town_32 rfl rfl)))
 (kl_ok (ok_aP (ok_iconst dX7_town_33 rfl rfl))))))))
 (kn_ok
 (kn_ok
 (kn_ok
 (kn_ok
 (kl_ok (ok_hp (ok_putf fo_65 fs_rf fn_44 (Or.inl q1846) pd_0 vI_ok dX7_town_34 rfl) le_putf))
 (kl_ok (ok_aP (ok_aload_n dX7_town_37 rfl rfl))))
 (kn_ok
 (kl_ok (ok_aP (ok_aload_n dX7_town_38 rfl rfl)))
 (kn_ok
 (kl_ok (ok_aP (ok_getf fo_74 fs_rf (Or.inl q1845) dX7_town_39 rfl)))
 (kl_ok (ok_hp (ok_putf fo_66 fs_rf fn_45 (Or.inl q1847) pd_0 vI_ok dX7_town_42 rfl) le_putf)))))
 (kn_ok
 (kn_ok
 (kl_ok (ok_aP (ok_aload_n dX7_town_45 rfl rfl)))
 (kl_ok (ok_aP (ok_iconst dX7_town_46 rfl rfl))))
 (kn_ok
 (kl_ok (ok_hp (ok_putf fo_74 fs_rf fn_50 (Or.inl q1845) pd_0 vI_ok dX7_town_47 rfl) le_putf))
 (kn_ok
 (kl_ok (ok_aP (ok_aload_n dX7_town_50 rfl rfl)))
 (kl_ok (ok_aP (ok_iconst dX7_town_51 rfl rfl)))))))
 (kn_ok
 (kn_ok
 (kn_ok
 (kl_ok (ok_callV (List.forall_mem_cons.mpr ⟨run_V (C0 := "FavourTownModel") rfl rfl (by rw [hm]; rfl) q1946 q1948 qs32 q92 q1949 ⟨nh_1, dl_18⟩ (by decide) dX7_town_52, (fun _ h => absurd h List.not_mem_nil)⟩) rfl))
 (kl_ok (ok_aP (ok_aload_n dX7_town_55 rfl rfl))))
 (kn_ok
 (kl_ok (ok_aP (ok_aload_n dX7_town_56 rfl rfl)))
 (kn_ok
 (kl_ok (ok_aP (ok_getf fo_64 fs_rf (Or.inl q1849) dX7_town_57 rfl)))
 (kl_ok (ok_aP (ok_iconst dX7_town_60 rfl rfl))))))
 (kn_ok
 (kn_ok
 (kl_ok (ok_aP (ok_icmp_eq dX7_town_61 rfl rfl)))
 (kl_ok (ok_aP (ok_iconst dX7_town_64 rfl rfl))))
 (kn_ok
 (kl_ok (ok_aP (ok_goto dX7_town_65 rfl)))
 (kn_ok
 (kl_ok (ok_aP (ok_aload_n dX7_town_68 rfl rfl)))
 (kl_ok (ok_aP (ok_getf fo_54 fs_rf (Or.inl q1840) dX7_town_69 rfl)))))))))
 (kn_ok
 (kn_ok
 (kn_ok
 (kn_ok
 (kn_ok
 (kl_ok (ok_aP (ok_iconst dX7_town_72 rfl rfl)))
 (kl_ok (ok_aP (ok_iald dX7_town_73 rfl))))
 (kn_ok
 (kl_ok (ok_aP (ok_bipush dX7_town_74 (by decide +kernel) rfl)))
 (kn_ok
 (kl_ok (ok_aP (ok_icmp_ne dX7_town_76 rfl rfl)))
 (kl_ok (ok_aP (ok_iconst dX7_town_79 rfl rfl))))))
 (kn_ok
 (kn_ok
 (kl_ok (ok_aP (ok_goto dX7_town_80 rfl)))
 (kl_ok (ok_aP (ok_iconst dX7_town_83 rfl rfl))))
 (kn_ok
 (kl_ok (ok_hp (ok_putf fo_53 fs_rf fn_36 (Or.inl q1839) pd_0 vI_ok dX7_town_84 rfl) le_putf))
 (kn_ok
 (kl_ok (ok_aP (ok_aload_n dX7_town_87 rfl rfl)))
 (kl_ok (ok_aP (ok_getf fo_53 fs_rf (Or.inl q1839) dX7_town_88 rfl)))))))
 (kn_ok
 (kn_ok
 (kn_ok
 (kl_ok (ok_aP (ok_if_le dX7_town_91 rfl rfl)))
 (kl_ok (ok_aP (ok_iconst dX7_town_94 rfl rfl))))
 (kn_ok
 (kl_ok (ok_aP (ok_istore_n dX7_town_95 rfl rfl)))
 (kn_ok
 (kl_ok (ok_aP (ok_iload_n dX7_town_96 rfl rfl)))
 (kl_ok (ok_aP (ok_sipush dX7_town_97 (by decide +kernel) rfl))))))
 (kn_ok
 (kn_ok
 (kl_ok (ok_aP (ok_icmp_ge dX7_town_100 rfl rfl)))
 (kl_ok (ok_aP (ok_aload_n dX7_town_103 rfl rfl))))
 (kn_ok
 (kl_ok (ok_aP (ok_getf fo_54 fs_rf (Or.inl q1840) dX7_town_104 rfl)))
 (kn_ok
 (kl_ok (ok_aP (ok_iload_n dX7_town_107 rfl rfl)))
 (kl_ok (ok_aP (ok_aload_n dX7_town_108 rfl rfl))))))))
 (kn_ok
 (kn_ok
 (kn_ok
 (kn_ok
 (kl_ok (ok_aP (ok_getf fo_57 fs_rf (Or.inl q1843) dX7_town_109 rfl)))
 (kl_ok (ok_aP (ok_iload_n dX7_town_112 rfl rfl))))
 (kn_ok
 (kl_ok (ok_aP (ok_iald dX7_town_113 rfl)))
 (kn_ok
 (kl_ok (ok_hp (ok_iast dX7_town_114 rfl) le_iast))
 (kl_ok (ok_aP (ok_iinc dX7_town_115 (by decide +kernel) rfl))))))
 (kn_ok
 (kn_ok
 (kl_ok (ok_aP (ok_goto dX7_town_118 rfl)))
 (kl_ok (ok_aP (ok_iconst dX7_town_121 rfl rfl))))
 (kn_ok
 (kl_ok (ok_iret rfl dX7_town_122))
 (kn_ok
 (kl_ok (ok_aP (ok_aload_n dX7_town_123 rfl rfl)))
 (kl_ok (ok_aP (ok_getf fo_54 fs_rf (Or.inl q1840) dX7_town_124 rfl)))))))
 (kn_ok
 (kn_ok
 (kn_ok
 (kl_ok (ok_aP (ok_iconst dX7_town_127 rfl rfl)))
 (kl_ok (ok_aP (ok_dup2 dX7_town_128 rfl))))
 (kn_ok
 (kl_ok (ok_aP (ok_iald dX7_town_129 rfl)))
 (kn_ok
 (kl_ok (ok_aP (ok_iconst dX7_town_130 rfl rfl)))
 (kl_ok (ok_aP (ok_iadd dX7_town_131 rfl))))))
 (kn_ok
 (kn_ok
 (kl_ok (ok_hp (ok_iast dX7_town_132 rfl) le_iast))
 (kn_ok
 (kl_ok (ok_aP (ok_aload_n dX7_town_133 rfl rfl)))
 (kl_ok (ok_aP (ok_getf fo_54 fs_rf (Or.inl q1840) dX7_town_134 rfl)))))
 (kn_ok
 (kl_ok (ok_aP (ok_iconst dX7_town_137 rfl rfl)))
 (kn_ok
 (kl_ok (ok_aP (ok_iald dX7_town_138 rfl)))
 (kl_ok (ok_iret rfl dX7_town_139))))))))
/-- 155: FavourTownModel.read(Z)V -/
noncomputable def k_X7_read : Nat → Option AOp :=
 tn 82 (tn 37 (tn 16 (tn 7 (tn 2 (tn 1 (tl 0 (aP (f_aload 0 1)))
  (tl 1 (aP (f_const (.int (nI 0)) 2))))
  (tn 5 (tl 2 (o_putf [18] 9 vI 5))
  (tn 6 (tl 5 (aP (f_aload 0 6)))
  (tl 6 (aP (f_const (.int (nI 0)) 7))))))
  (tn 11 (tn 10 (tl 7 (o_putf [18] 11 vI 10))
  (tl 10 (aP (f_aload 0 11))))
  (tn 12 (tl 11 (aP (f_const (.int (nI 0)) 12)))
  (tn 15 (tl 12 (o_putf [18] 12 vI 15))
  (tl 15 (aP (f_aload 0 16)))))))
  (tn 27 (tn 20 (tn 19 (tl 16 (o_callV (lkN [(18, 156)]) 0 19))
  (tl 19 (aP (f_aload 0 20))))
  (tn 23 (tl 20 (aP (f_getf [18] 9 23)))
  (tn 24 (tl 23 (aP (f_aload 0 24)))
  (tl 24 (aP (f_getf [18] 8 27))))))
  (tn 34 (tn 30 (tl 27 (aP (f_icmp (fun x y => decide (y ≤ x)) 34 30)))
  (tn 31 (tl 30 (aP (f_const (.int (nI 1)) 31)))
  (tl 31 (aP (f_goto 35)))))
  (tn 35 (tl 34 (aP (f_const (.int (nI 0)) 35)))
  (tn 36 (tl 35 (aP (f_istore 2 36)))
  (tl 36 (aP (f_iload 2 37))))))))
  (tn 57 (tn 48 (tn 41 (tn 40 (tl 37 (aP (f_if (fun x => decide (x = 0)) 167 40)))
  (tl 40 (aP (f_aload 0 41))))
  (tn 44 (tl 41 (aP (f_getf [18] 10 44)))
  (tn 45 (tl 44 (aP (f_const (.int (-1)) 45)))
  (tl 45 (aP (f_icmp (fun x y => decide (¬ x = y)) 167 48))))))
  (tn 52 (tn 49 (tl 48 (aP (f_aload 0 49)))
  (tl 49 (o_callV (lkN [(18, 156)]) 0 52)))
  (tn 53 (tl 52 (aP (f_aload 0 53)))
  (tn 56 (tl 53 (aP (f_getf [18] 12 56)))
  (tl 56 (aP (f_iload 1 57)))))))
  (tn 70 (tn 62 (tn 60 (tl 57 (aP (f_if (fun x => decide (x = 0)) 65 60)))
  (tl 60 (aP (f_const (.int (nI 12)) 62))))
  (tn 65 (tl 62 (aP (f_goto 67)))
  (tn 67 (tl 65 (aP (f_const (.int (nI 14)) 67)))
  (tl 67 (aP (f_icmp (fun x y => decide (¬ x = y)) 81 70))))))
  (tn 75 (tn 71 (tl 70 (aP (f_aload 0 71)))
  (tn 72 (tl 71 (aP (f_aload 0 72)))
  (tl 72 (aP (f_getf [18] 9 75)))))
  (tn 78 (tl 75 (o_callV (lkN [(18, 158)]) 1 78))
  (tn 81 (tl 78 (aP (f_goto 96)))
  (tl 81 (aP (f_iload 1 82)))))))))
  (tn 123 (tn 102 (tn 93 (tn 86 (tn 85 (tl 82 (aP (f_if (fun x => decide (x = 0)) 92 85)))
  (tl 85 (aP (f_aload 0 86))))
  (tn 89 (tl 86 (o_callV (lkN [(18, 159)]) 0 89))
  (tn 92 (tl 89 (aP (f_goto 96)))
  (tl 92 (aP (f_aload 0 93))))))
  (tn 97 (tn 96 (tl 93 (o_callV (lkN [(18, 169)]) 0 96))
  (tl 96 (aP (f_aload 0 97))))
  (tn 98 (tl 97 (aP (f_dup 98)))
  (tn 101 (tl 98 (aP (f_getf [18] 12 101)))
  (tl 101 (aP (f_const (.int (nI 1)) 102)))))))
  (tn 111 (tn 106 (tn 103 (tl 102 (aP (f_bin (fun x y => x + y) 103)))
  (tl 103 (o_putf [18] 12 vI 106)))
  (tn 107 (tl 106 (aP (f_aload 0 107)))
  (tn 110 (tl 107 (o_callV (lkN [(18, 156)]) 0 110))
  (tl 110 (aP (f_aload 0 111))))))
  (tn 118 (tn 114 (tl 111 (aP (f_getf [18] 10 114)))
  (tn 115 (tl 114 (aP (f_const (.int (-1)) 115)))
  (tl 115 (aP (f_icmp (fun x y => decide (¬ x = y)) 129 118)))))
  (tn 119 (tl 118 (aP (f_aload 0 119)))
  (tn 122 (tl 119 (aP (f_getf [18] 9 122)))
  (tl 122 (aP (f_aload 0 123))))))))
  (tn 145 (tn 134 (tn 129 (tn 126 (tl 123 (aP (f_getf [18] 8 126)))
  (tl 126 (aP (f_icmp (fun x y => decide (¬ x = y)) 134 129))))
  (tn 130 (tl 129 (aP (f_const (.int (nI 0)) 130)))
  (tn 131 (tl 130 (aP (f_istore 2 131)))
  (tl 131 (aP (f_goto 36))))))
  (tn 140 (tn 135 (tl 134 (aP (f_aload 0 135)))
  (tn 137 (tl 135 (aP (f_const (.int (nI 59)) 137)))
  (tl 137 (o_callV (lkN [(18, 164)]) 1 140))))
  (tn 143 (tl 140 (aP (f_if (fun x => decide (x = 0)) 156 143)))
  (tn 144 (tl 143 (aP (f_aload 0 144)))
  (tl 144 (aP (f_dup 145)))))))
  (tn 156 (tn 149 (tn 148 (tl 145 (aP (f_getf [18] 9 148)))
  (tl 148 (aP (f_const (.int (nI 1)) 149))))
  (tn 150 (tl 149 (aP (f_bin (fun x y => x + y) 150)))
  (tn 153 (tl 150 (o_putf [18] 9 vI 153))
  (tl 153 (aP (f_goto 36))))))
  (tn 161 (tn 157 (tl 156 (aP (f_aload 0 157)))
  (tn 158 (tl 157 (aP (f_aload 0 158)))
  (tl 158 (aP (f_getf [18] 9 161)))))
  (tn 164 (tl 161 (o_callV (lkN [(18, 158)]) 1 164))
  (tn 167 (tl 164 (aP (f_goto 36)))
  (tl 167 (o_vret))))))))
theorem kok_X7_read {γ : AG} (hm : γ.2.2.2.2.1 = mTab) (hk : γ.2.2.2.2.2 = kTab) : KOK γ m_X7_read k_X7_read :=
 kn_ok
 (kn_ok
 (kn_ok
 (kn_ok
 (kn_ok
 (kn_ok
 (kl_ok (ok_aP (ok_aload_n dX7_read_0 rfl rfl)))
 (kl_ok (ok_aP (ok_iconst dX7_read_1 rfl rfl))))
 (kn_ok
 (kl_ok (ok_hp (ok_putf fo_67 fs_rf fn_47 (Or.inl q1848) pd_0 vI_ok dX7_read_2 rfl) le_putf))
 (kn_ok
 (kl_ok (ok_aP (ok_aload_n dX7_read_5 rfl rfl)))
 (kl_ok (ok_aP (ok_iconst dX7_read_6 rfl rfl))))))
 (kn_ok
 (kn_ok
 (kl_ok (ok_hp (ok_putf fo_70 fs_rf fn_49 (Or.inl q1850) pd_0 vI_ok dX7_read_7 rfl) le_putf))
 (kl_ok (ok_aP (ok_aload_n dX7_read_10 rfl rfl))))
 (kn_ok
 (kl_ok (ok_aP (ok_iconst dX7_read_11 rfl rfl)))
 (kn_ok
 (kl_ok (ok_hp (ok_putf fo_68 fs_rf fn_48 (Or.inl q1851) pd_0 vI_ok dX7_read_12 rfl) le_putf))
 (kl_ok (ok_aP (ok_aload_n dX7_read_15 rfl rfl)))))))
 (kn_ok
 (kn_ok
 (kn_ok
 (kl_ok (ok_callV (List.forall_mem_cons.mpr ⟨run_V (C0 := "FavourTownModel") rfl rfl (by rw [hm]; rfl) q1950 q1952 qs33 q92 q1953 ⟨nh_1, dl_0⟩ (by decide) dX7_read_16, (fun _ h => absurd h List.not_mem_nil)⟩) rfl))
 (kl_ok (ok_aP (ok_aload_n dX7_read_19 rfl rfl))))
 (kn_ok
 (kl_ok (ok_aP (ok_getf fo_67 fs_rf (Or.inl q1848) dX7_read_20 rfl)))
 (kn_ok
 (kl_ok (ok_aP (ok_aload_n dX7_read_23 rfl rfl)))
 (kl_ok (ok_aP (ok_getf fo_66 fs_rf (Or.inl q1847) dX7_read_24 rfl))))))
 (kn_ok
 (kn_ok
 (kl_ok (ok_aP (ok_icmp_ge dX7_read_27 rfl rfl)))
 (kn_ok
 (kl_ok (ok_aP (ok_iconst dX7_read_30 rfl rfl)))
 (kl_ok (ok_aP (ok_goto dX7_read_31 rfl)))))
 (kn_ok
 (kl_ok (ok_aP (ok_iconst dX7_read_34 rfl rfl)))
 (kn_ok
 (kl_ok (ok_aP (ok_istore_n dX7_read_35 rfl rfl)))
 (kl_ok (ok_aP (ok_iload_n dX7_read_36 rfl rfl))))))))
 (kn_ok
 (kn_ok
 (kn_ok
 (kn_ok
 (kl_ok (ok_aP (ok_if_eq dX7_read_37 rfl rfl)))
 (kl_ok (ok_aP (ok_aload_n dX7_read_40 rfl rfl))))
 (kn_ok
 (kl_ok (ok_aP (ok_getf fo_64 fs_rf (Or.inl q1849) dX7_read_41 rfl)))
 (kn_ok
 (kl_ok (ok_aP (ok_iconst dX7_read_44 rfl rfl)))
 (kl_ok (ok_aP (ok_icmp_ne dX7_read_45 rfl rfl))))))
 (kn_ok
 (kn_ok
 (kl_ok (ok_aP (ok_aload_n dX7_read_48 rfl rfl)))
 (kl_ok (ok_callV (List.forall_mem_cons.mpr ⟨run_V (C0 := "FavourTownModel") rfl rfl (by rw [hm]; rfl) q1950 q1952 qs33 q92 q1953 ⟨nh_1, dl_0⟩ (by decide) dX7_read_49, (fun _ h => absurd h List.not_mem_nil)⟩) rfl)))
 (kn_ok
 (kl_ok (ok_aP (ok_aload_n dX7_read_52 rfl rfl)))
 (kn_ok
 (kl_ok (ok_aP (ok_getf fo_68 fs_rf (Or.inl q1851) dX7_read_53 rfl)))
 (kl_ok (ok_aP (ok_iload_n dX7_read_56 rfl rfl)))))))
 (kn_ok
 (kn_ok
 (kn_ok
 (kl_ok (ok_aP (ok_if_eq dX7_read_57 rfl rfl)))
 (kl_ok (ok_aP (ok_bipush dX7_read_60 (by decide +kernel) rfl))))
 (kn_ok
 (kl_ok (ok_aP (ok_goto dX7_read_62 rfl)))
 (kn_ok
 (kl_ok (ok_aP (ok_bipush dX7_read_65 (by decide +kernel) rfl)))
 (kl_ok (ok_aP (ok_icmp_ne dX7_read_67 rfl rfl))))))
 (kn_ok
 (kn_ok
 (kl_ok (ok_aP (ok_aload_n dX7_read_70 rfl rfl)))
 (kn_ok
 (kl_ok (ok_aP (ok_aload_n dX7_read_71 rfl rfl)))
 (kl_ok (ok_aP (ok_getf fo_67 fs_rf (Or.inl q1848) dX7_read_72 rfl)))))
 (kn_ok
 (kl_ok (ok_callV (List.forall_mem_cons.mpr ⟨run_V (C0 := "FavourTownModel") rfl rfl (by rw [hm]; rfl) q1958 q1960 qs35 q92 q1961 ⟨nh_1, dl_32⟩ (by decide) dX7_read_75, (fun _ h => absurd h List.not_mem_nil)⟩) rfl))
 (kn_ok
 (kl_ok (ok_aP (ok_goto dX7_read_78 rfl)))
 (kl_ok (ok_aP (ok_iload_n dX7_read_81 rfl rfl)))))))))
 (kn_ok
 (kn_ok
 (kn_ok
 (kn_ok
 (kn_ok
 (kl_ok (ok_aP (ok_if_eq dX7_read_82 rfl rfl)))
 (kl_ok (ok_aP (ok_aload_n dX7_read_85 rfl rfl))))
 (kn_ok
 (kl_ok (ok_callV (List.forall_mem_cons.mpr ⟨run_V (C0 := "FavourTownModel") rfl rfl (by rw [hm]; rfl) q1962 q1964 qs36 q92 q1965 ⟨nh_1, dl_0⟩ (by decide) dX7_read_86, (fun _ h => absurd h List.not_mem_nil)⟩) rfl))
 (kn_ok
 (kl_ok (ok_aP (ok_goto dX7_read_89 rfl)))
 (kl_ok (ok_aP (ok_aload_n dX7_read_92 rfl rfl))))))
 (kn_ok
 (kn_ok
 (kl_ok (ok_callV (List.forall_mem_cons.mpr ⟨run_V (C0 := "FavourTownModel") rfl rfl (by rw [hm]; rfl) q2029 q2031 qs46 q92 q2032 ⟨nh_1, dl_0⟩ (by decide) dX7_read_93, (fun _ h => absurd h List.not_mem_nil)⟩) rfl))
 (kl_ok (ok_aP (ok_aload_n dX7_read_96 rfl rfl))))
 (kn_ok
 (kl_ok (ok_aP (ok_dup dX7_read_97 rfl)))
 (kn_ok
 (kl_ok (ok_aP (ok_getf fo_68 fs_rf (Or.inl q1851) dX7_read_98 rfl)))
 (kl_ok (ok_aP (ok_iconst dX7_read_101 rfl rfl)))))))
 (kn_ok
 (kn_ok
 (kn_ok
 (kl_ok (ok_aP (ok_iadd dX7_read_102 rfl)))
 (kl_ok (ok_hp (ok_putf fo_68 fs_rf fn_48 (Or.inl q1851) pd_0 vI_ok dX7_read_103 rfl) le_putf)))
 (kn_ok
 (kl_ok (ok_aP (ok_aload_n dX7_read_106 rfl rfl)))
 (kn_ok
 (kl_ok (ok_callV (List.forall_mem_cons.mpr ⟨run_V (C0 := "FavourTownModel") rfl rfl (by rw [hm]; rfl) q1950 q1952 qs33 q92 q1953 ⟨nh_1, dl_0⟩ (by decide) dX7_read_107, (fun _ h => absurd h List.not_mem_nil)⟩) rfl))
 (kl_ok (ok_aP (ok_aload_n dX7_read_110 rfl rfl))))))
 (kn_ok
 (kn_ok
 (kl_ok (ok_aP (ok_getf fo_64 fs_rf (Or.inl q1849) dX7_read_111 rfl)))
 (kn_ok
 (kl_ok (ok_aP (ok_iconst dX7_read_114 rfl rfl)))
 (kl_ok (ok_aP (ok_icmp_ne dX7_read_115 rfl rfl)))))
 (kn_ok
 (kl_ok (ok_aP (ok_aload_n dX7_read_118 rfl rfl)))
 (kn_ok
 (kl_ok (ok_aP (ok_getf fo_67 fs_rf (Or.inl q1848) dX7_read_119 rfl)))
 (kl_ok (ok_aP (ok_aload_n dX7_read_122 rfl rfl))))))))
 (kn_ok
 (kn_ok
 (kn_ok
 (kn_ok
 (kl_ok (ok_aP (ok_getf fo_66 fs_rf (Or.inl q1847) dX7_read_123 rfl)))
 (kl_ok (ok_aP (ok_icmp_ne dX7_read_126 rfl rfl))))
 (kn_ok
 (kl_ok (ok_aP (ok_iconst dX7_read_129 rfl rfl)))
 (kn_ok
 (kl_ok (ok_aP (ok_istore_n dX7_read_130 rfl rfl)))
 (kl_ok (ok_aP (ok_goto dX7_read_131 rfl))))))
 (kn_ok
 (kn_ok
 (kl_ok (ok_aP (ok_aload_n dX7_read_134 rfl rfl)))
 (kn_ok
 (kl_ok (ok_aP (ok_bipush dX7_read_135 (by decide +kernel) rfl)))
 (kl_ok (ok_callV (List.forall_mem_cons.mpr ⟨run_V (C0 := "FavourTownModel") rfl rfl (by rw [hm]; rfl) q1998 q2000 qs41 q92 q2001 ⟨nh_1, dl_2⟩ (by decide) dX7_read_137, (fun _ h => absurd h List.not_mem_nil)⟩) rfl))))
 (kn_ok
 (kl_ok (ok_aP (ok_if_eq dX7_read_140 rfl rfl)))
 (kn_ok
 (kl_ok (ok_aP (ok_aload_n dX7_read_143 rfl rfl)))
 (kl_ok (ok_aP (ok_dup dX7_read_144 rfl)))))))
 (kn_ok
 (kn_ok
 (kn_ok
 (kl_ok (ok_aP (ok_getf fo_67 fs_rf (Or.inl q1848) dX7_read_145 rfl)))
 (kl_ok (ok_aP (ok_iconst dX7_read_148 rfl rfl))))
 (kn_ok
 (kl_ok (ok_aP (ok_iadd dX7_read_149 rfl)))
 (kn_ok
 (kl_ok (ok_hp (ok_putf fo_67 fs_rf fn_47 (Or.inl q1848) pd_0 vI_ok dX7_read_150 rfl) le_putf))
 (kl_ok (ok_aP (ok_goto dX7_read_153 rfl))))))
 (kn_ok
 (kn_ok
 (kl_ok (ok_aP (ok_aload_n dX7_read_156 rfl rfl)))
 (kn_ok
 (kl_ok (ok_aP (ok_aload_n dX7_read_157 rfl rfl)))
 (kl_ok (ok_aP (ok_getf fo_67 fs_rf (Or.inl q1848) dX7_read_158 rfl)))))
 (kn_ok
 (kl_ok (ok_callV (List.forall_mem_cons.mpr ⟨run_V (C0 := "FavourTownModel") rfl rfl (by rw [hm]; rfl) q1958 q1960 qs35 q92 q1961 ⟨nh_1, dl_32⟩ (by decide) dX7_read_161, (fun _ h => absurd h List.not_mem_nil)⟩) rfl))
 (kn_ok
 (kl_ok (ok_aP (ok_goto dX7_read_164 rfl)))
 (kl_ok (ok_vret rfl dX7_read_167))))))))
/-- 156: FavourTownModel.skip()V -/
noncomputable def k_X7_skip : Nat → Option AOp :=
 tn 19 (tn 8 (tn 4 (tn 1 (tl 0 (aP (f_aload 0 1)))
  (tl 1 (aP (f_getf [18] 9 4))))
  (tn 5 (tl 4 (aP (f_aload 0 5)))
  (tl 5 (aP (f_getf [18] 8 8)))))
  (tn 12 (tn 11 (tl 8 (aP (f_icmp (fun x y => decide (y ≤ x)) 37 11)))
  (tl 11 (aP (f_aload 0 12))))
  (tn 13 (tl 12 (aP (f_aload 0 13)))
  (tn 16 (tl 13 (aP (f_getf [18] 9 16)))
  (tl 16 (o_callV (lkN [(18, 157)]) 1 19))))))
  (tn 29 (tn 24 (tn 21 (tl 19 (aP (f_const (.int (nI 32)) 21)))
  (tl 21 (aP (f_icmp (fun x y => decide (¬ x = y)) 37 24))))
  (tn 25 (tl 24 (aP (f_aload 0 25)))
  (tn 26 (tl 25 (aP (f_dup 26)))
  (tl 26 (aP (f_getf [18] 9 29))))))
  (tn 31 (tn 30 (tl 29 (aP (f_const (.int (nI 1)) 30)))
  (tl 30 (aP (f_bin (fun x y => x + y) 31))))
  (tn 34 (tl 31 (o_putf [18] 9 vI 34))
  (tn 37 (tl 34 (aP (f_goto 0)))
  (tl 37 (o_vret))))))
theorem kok_X7_skip {γ : AG} (hm : γ.2.2.2.2.1 = mTab) (hk : γ.2.2.2.2.2 = kTab) : KOK γ m_X7_skip k_X7_skip :=
 kn_ok
 (kn_ok
 (kn_ok
 (kn_ok
 (kl_ok (ok_aP (ok_aload_n dX7_skip_0 rfl rfl)))
 (kl_ok (ok_aP (ok_getf fo_67 fs_rf (Or.inl q1848) dX7_skip_1 rfl))))
 (kn_ok
 (kl_ok (ok_aP (ok_aload_n dX7_skip_4 rfl rfl)))
 (kl_ok (ok_aP (ok_getf fo_66 fs_rf (Or.inl q1847) dX7_skip_5 rfl)))))
 (kn_ok
 (kn_ok
 (kl_ok (ok_aP (ok_icmp_ge dX7_skip_8 rfl rfl)))
 (kl_ok (ok_aP (ok_aload_n dX7_skip_11 rfl rfl))))
 (kn_ok
 (kl_ok (ok_aP (ok_aload_n dX7_skip_12 rfl rfl)))
 (kn_ok
 (kl_ok (ok_aP (ok_getf fo_67 fs_rf (Or.inl q1848) dX7_skip_13 rfl)))
 (kl_ok (ok_callV (List.forall_mem_cons.mpr ⟨run_V (C0 := "FavourTownModel") rfl rfl (by rw [hm]; rfl) q1954 q1956 qs34 q92 q1957 ⟨nh_1, dl_10⟩ (by decide) dX7_skip_16, (fun _ h => absurd h List.not_mem_nil)⟩) rfl))))))
 (kn_ok
 (kn_ok
 (kn_ok
 (kl_ok (ok_aP (ok_bipush dX7_skip_19 (by decide +kernel) rfl)))
 (kl_ok (ok_aP (ok_icmp_ne dX7_skip_21 rfl rfl))))
 (kn_ok
 (kl_ok (ok_aP (ok_aload_n dX7_skip_24 rfl rfl)))
 (kn_ok
 (kl_ok (ok_aP (ok_dup dX7_skip_25 rfl)))
 (kl_ok (ok_aP (ok_getf fo_67 fs_rf (Or.inl q1848) dX7_skip_26 rfl))))))
 (kn_ok
 (kn_ok
 (kl_ok (ok_aP (ok_iconst dX7_skip_29 rfl rfl)))
 (kl_ok (ok_aP (ok_iadd dX7_skip_30 rfl))))
 (kn_ok
 (kl_ok (ok_hp (ok_putf fo_67 fs_rf fn_47 (Or.inl q1848) pd_0 vI_ok dX7_skip_31 rfl) le_putf))
 (kn_ok
 (kl_ok (ok_aP (ok_goto dX7_skip_34 rfl)))
 (kl_ok (ok_vret rfl dX7_skip_37))))))
/-- 157: FavourTownModel.letter(I)I -/
noncomputable def k_X7_letter : Nat → Option AOp :=
 tn 14 (tn 8 (tn 4 (tn 1 (tl 0 (aP (f_aload 0 1)))
  (tl 1 (aP (f_getf [18] 7 4))))
  (tn 5 (tl 4 (aP (f_const (.int (-1)) 5)))
  (tl 5 (aP (f_icmp (fun x y => decide (¬ x = y)) 17 8)))))
  (tn 12 (tn 9 (tl 8 (aP (f_aload 0 9)))
  (tl 9 (aP (f_getf [18] 5 12))))
  (tn 13 (tl 12 (aP (f_iload 1 13)))
  (tl 13 (aP (f_iald 0 14))))))
  (tn 22 (tn 18 (tn 17 (tl 14 (aP (f_goto 28)))
  (tl 17 (aP (f_aload 0 18))))
  (tn 21 (tl 18 (aP (f_getf [18] 1 21)))
  (tl 21 (aP (f_aload 0 22)))))
  (tn 26 (tn 25 (tl 22 (aP (f_getf [18] 7 25)))
  (tl 25 (aP (f_iload 1 26))))
  (tn 27 (tl 26 (aP (f_bin (fun x y => x + y) 27)))
  (tn 28 (tl 27 (aP (f_iald 0 28)))
  (tl 28 (o_iret (fun _ => true)))))))
theorem kok_X7_letter {γ : AG} (hm : γ.2.2.2.2.1 = mTab) (hk : γ.2.2.2.2.2 = kTab) : KOK γ m_X7_letter k_X7_letter :=
 kn_ok
 (kn_ok
 (kn_ok
 (kn_ok
 (kl_ok (ok_aP (ok_aload_n dX7_letter_0 rfl rfl)))
 (kl_ok (ok_aP (ok_getf fo_65 fs_rf (Or.inl q1846) dX7_letter_1 rfl))))
 (kn_ok
 (kl_ok (ok_aP (ok_iconst dX7_letter_4 rfl rfl)))
 (kl_ok (ok_aP (ok_icmp_ne dX7_letter_5 rfl rfl)))))
 (kn_ok
 (kn_ok
 (kl_ok (ok_aP (ok_aload_n dX7_letter_8 rfl rfl)))
 (kl_ok (ok_aP (ok_getf fo_71 fs_rf (Or.inl q1844) dX7_letter_9 rfl))))
 (kn_ok
 (kl_ok (ok_aP (ok_iload_n dX7_letter_12 rfl rfl)))
 (kl_ok (ok_aP (ok_iald dX7_letter_13 rfl))))))
 (kn_ok
 (kn_ok
 (kn_ok
 (kl_ok (ok_aP (ok_goto dX7_letter_14 rfl)))
 (kl_ok (ok_aP (ok_aload_n dX7_letter_17 rfl rfl))))
 (kn_ok
 (kl_ok (ok_aP (ok_getf fo_54 fs_rf (Or.inl q1840) dX7_letter_18 rfl)))
 (kl_ok (ok_aP (ok_aload_n dX7_letter_21 rfl rfl)))))
 (kn_ok
 (kn_ok
 (kl_ok (ok_aP (ok_getf fo_65 fs_rf (Or.inl q1846) dX7_letter_22 rfl)))
 (kl_ok (ok_aP (ok_iload_n dX7_letter_25 rfl rfl))))
 (kn_ok
 (kl_ok (ok_aP (ok_iadd dX7_letter_26 rfl)))
 (kn_ok
 (kl_ok (ok_aP (ok_iald dX7_letter_27 rfl)))
 (kl_ok (ok_iret rfl dX7_letter_28))))))
/-- 158: FavourTownModel.wrong(I)V -/
noncomputable def k_X7_wrong : Nat → Option AOp :=
 tn 8 (tn 4 (tn 1 (tl 0 (aP (f_aload 0 1)))
  (tl 1 (aP (f_getf [18] 10 4))))
  (tn 5 (tl 4 (aP (f_const (.int (-1)) 5)))
  (tl 5 (aP (f_icmp (fun x y => decide (¬ x = y)) 13 8)))))
  (tn 10 (tn 9 (tl 8 (aP (f_aload 0 9)))
  (tl 9 (aP (f_iload 1 10))))
  (tn 13 (tl 10 (o_putf [18] 10 vI 13))
  (tl 13 (o_vret))))
theorem kok_X7_wrong {γ : AG} (hm : γ.2.2.2.2.1 = mTab) (hk : γ.2.2.2.2.2 = kTab) : KOK γ m_X7_wrong k_X7_wrong :=
 kn_ok
 (kn_ok
 (kn_ok
 (kl_ok (ok_aP (ok_aload_n dX7_wrong_0 rfl rfl)))
 (kl_ok (ok_aP (ok_getf fo_64 fs_rf (Or.inl q1849) dX7_wrong_1 rfl))))
 (kn_ok
 (kl_ok (ok_aP (ok_iconst dX7_wrong_4 rfl rfl)))
 (kl_ok (ok_aP (ok_icmp_ne dX7_wrong_5 rfl rfl)))))
 (kn_ok
 (kn_ok
 (kl_ok (ok_aP (ok_aload_n dX7_wrong_8 rfl rfl)))
 (kl_ok (ok_aP (ok_iload_n dX7_wrong_9 rfl rfl))))
 (kn_ok
 (kl_ok (ok_hp (ok_putf fo_64 fs_rf fn_43 (Or.inl q1849) pd_0 vI_ok dX7_wrong_10 rfl) le_putf))
 (kl_ok (ok_vret rfl dX7_wrong_13))))
/-- 159: FavourTownModel.temperLine()V -/
noncomputable def k_X7_temperLine : Nat → Option AOp :=
 tn 45 (tn 21 (tn 8 (tn 3 (tn 1 (tl 0 (aP (f_aload 0 1)))
  (tl 1 (aP (f_stat 59 3))))
  (tn 6 (tl 3 (o_callV (lkN [(18, 160)]) 1 6))
  (tn 7 (tl 6 (aP (f_istore 1 7)))
  (tl 7 (aP (f_iload 1 8))))))
  (tn 14 (tn 11 (tl 8 (aP (f_if (fun x => decide (¬ x = 0)) 29 11)))
  (tn 12 (tl 11 (aP (f_aload 0 12)))
  (tl 12 (aP (f_stat 60 14)))))
  (tn 17 (tl 14 (o_callV (lkN [(18, 160)]) 1 17))
  (tn 20 (tl 17 (aP (f_if (fun x => decide (¬ x = 0)) 29 20)))
  (tl 20 (aP (f_aload 0 21)))))))
  (tn 30 (tn 25 (tn 22 (tl 21 (aP (f_aload 0 22)))
  (tl 22 (aP (f_getf [18] 9 25))))
  (tn 28 (tl 25 (o_callV (lkN [(18, 158)]) 1 28))
  (tn 29 (tl 28 (o_vret))
  (tl 29 (aP (f_aload 0 30))))))
  (tn 38 (tn 32 (tl 30 (aP (f_stat 61 32)))
  (tn 35 (tl 32 (o_callV (lkN [(18, 160)]) 1 35))
  (tl 35 (aP (f_if (fun x => decide (x = 0)) 45 38)))))
  (tn 39 (tl 38 (aP (f_aload 0 39)))
  (tn 42 (tl 39 (o_callV (lkN [(18, 161)]) 0 42))
  (tl 42 (aP (f_if (fun x => decide (x = 0)) 49 45))))))))
  (tn 64 (tn 52 (tn 49 (tn 46 (tl 45 (aP (f_const (.int (nI 1)) 46)))
  (tl 46 (aP (f_goto 50))))
  (tn 50 (tl 49 (aP (f_const (.int (nI 0)) 50)))
  (tn 51 (tl 50 (aP (f_istore 2 51)))
  (tl 51 (aP (f_aload 0 52))))))
  (tn 59 (tn 55 (tl 52 (aP (f_getf [18] 10 55)))
  (tn 56 (tl 55 (aP (f_const (.int (-1)) 56)))
  (tl 56 (aP (f_icmp (fun x y => decide (¬ x = y)) 84 59)))))
  (tn 60 (tl 59 (aP (f_iload 2 60)))
  (tn 63 (tl 60 (aP (f_if (fun x => decide (x = 0)) 84 63)))
  (tl 63 (aP (f_aload 0 64)))))))
  (tn 73 (tn 68 (tn 67 (tl 64 (aP (f_getf [18] 17 67)))
  (tl 67 (aP (f_const (.int (-1)) 68))))
  (tn 71 (tl 68 (aP (f_icmp (fun x y => decide (¬ x = y)) 84 71)))
  (tn 72 (tl 71 (aP (f_aload 0 72)))
  (tl 72 (aP (f_iload 1 73))))))
  (tn 80 (tn 76 (tl 73 (aP (f_if (fun x => decide (x = 0)) 80 76)))
  (tn 77 (tl 76 (aP (f_const (.int (nI 1)) 77)))
  (tl 77 (aP (f_goto 81)))))
  (tn 81 (tl 80 (aP (f_const (.int (nI 0)) 81)))
  (tn 84 (tl 81 (o_putf [18] 17 vI 84))
  (tl 84 (o_vret)))))))
theorem kok_X7_temperLine {γ : AG} (hm : γ.2.2.2.2.1 = mTab) (hk : γ.2.2.2.2.2 = kTab) : KOK γ m_X7_temperLine k_X7_temperLine :=
 kn_ok
 (kn_ok
 (kn_ok
 (kn_ok
 (kn_ok
 (kl_ok (ok_aP (ok_aload_n dX7_temperLine_0 rfl rfl)))
 (kl_ok (ok_aP (ok_ldcS (tx := "take") (dd := "") (by rw [hk]; rfl) dX7_temperLine_1 rfl))))
 (kn_ok
 (kl_ok (ok_callV (List.forall_mem_cons.mpr ⟨run_V (C0 := "FavourTownModel") rfl rfl (by rw [hm]; rfl) q1967 q1969 qs37 q92 q1970 ⟨nh_1, dl_48⟩ (by decide) dX7_temperLine_3, (fun _ h => absurd h List.not_mem_nil)⟩) rfl))
 (kn_ok
 (kl_ok (ok_aP (ok_istore_n dX7_temperLine_6 rfl rfl)))
 (kl_ok (ok_aP (ok_iload_n dX7_temperLine_7 rfl rfl))))))
 (kn_ok
 (kn_ok
 (kl_ok (ok_aP (ok_if_ne dX7_temperLine_8 rfl rfl)))
 (kn_ok
 (kl_ok (ok_aP (ok_aload_n dX7_temperLine_11 rfl rfl)))
 (kl_ok (ok_aP (ok_ldcS (tx := "refuse") (dd := "") (by rw [hk]; rfl) dX7_temperLine_12 rfl)))))
 (kn_ok
 (kl_ok (ok_callV (List.forall_mem_cons.mpr ⟨run_V (C0 := "FavourTownModel") rfl rfl (by rw [hm]; rfl) q1967 q1969 qs37 q92 q1970 ⟨nh_1, dl_48⟩ (by decide) dX7_temperLine_14, (fun _ h => absurd h List.not_mem_nil)⟩) rfl))
 (kn_ok
 (kl_ok (ok_aP (ok_if_ne dX7_temperLine_17 rfl rfl)))
 (kl_ok (ok_aP (ok_aload_n dX7_temperLine_20 rfl rfl)))))))
 (kn_ok
 (kn_ok
 (kn_ok
 (kl_ok (ok_aP (ok_aload_n dX7_temperLine_21 rfl rfl)))
 (kl_ok (ok_aP (ok_getf fo_67 fs_rf (Or.inl q1848) dX7_temperLine_22 rfl))))
 (kn_ok
 (kl_ok (ok_callV (List.forall_mem_cons.mpr ⟨run_V (C0 := "FavourTownModel") rfl rfl (by rw [hm]; rfl) q1958 q1960 qs35 q92 q1961 ⟨nh_1, dl_32⟩ (by decide) dX7_temperLine_25, (fun _ h => absurd h List.not_mem_nil)⟩) rfl))
 (kn_ok
 (kl_ok (ok_vret rfl dX7_temperLine_28))
 (kl_ok (ok_aP (ok_aload_n dX7_temperLine_29 rfl rfl))))))
 (kn_ok
 (kn_ok
 (kl_ok (ok_aP (ok_ldcS (tx := "if") (dd := "") (by rw [hk]; rfl) dX7_temperLine_30 rfl)))
 (kn_ok
 (kl_ok (ok_callV (List.forall_mem_cons.mpr ⟨run_V (C0 := "FavourTownModel") rfl rfl (by rw [hm]; rfl) q1967 q1969 qs37 q92 q1970 ⟨nh_1, dl_48⟩ (by decide) dX7_temperLine_32, (fun _ h => absurd h List.not_mem_nil)⟩) rfl))
 (kl_ok (ok_aP (ok_if_eq dX7_temperLine_35 rfl rfl)))))
 (kn_ok
 (kl_ok (ok_aP (ok_aload_n dX7_temperLine_38 rfl rfl)))
 (kn_ok
 (kl_ok (ok_callV (List.forall_mem_cons.mpr ⟨run_V (C0 := "FavourTownModel") rfl rfl (by rw [hm]; rfl) q1985 q1987 qs38 q92 q1988 ⟨nh_1, dl_16⟩ (by decide) dX7_temperLine_39, (fun _ h => absurd h List.not_mem_nil)⟩) rfl))
 (kl_ok (ok_aP (ok_if_eq dX7_temperLine_42 rfl rfl))))))))
 (kn_ok
 (kn_ok
 (kn_ok
 (kn_ok
 (kl_ok (ok_aP (ok_iconst dX7_temperLine_45 rfl rfl)))
 (kl_ok (ok_aP (ok_goto dX7_temperLine_46 rfl))))
 (kn_ok
 (kl_ok (ok_aP (ok_iconst dX7_temperLine_49 rfl rfl)))
 (kn_ok
 (kl_ok (ok_aP (ok_istore_n dX7_temperLine_50 rfl rfl)))
 (kl_ok (ok_aP (ok_aload_n dX7_temperLine_51 rfl rfl))))))
 (kn_ok
 (kn_ok
 (kl_ok (ok_aP (ok_getf fo_64 fs_rf (Or.inl q1849) dX7_temperLine_52 rfl)))
 (kn_ok
 (kl_ok (ok_aP (ok_iconst dX7_temperLine_55 rfl rfl)))
 (kl_ok (ok_aP (ok_icmp_ne dX7_temperLine_56 rfl rfl)))))
 (kn_ok
 (kl_ok (ok_aP (ok_iload_n dX7_temperLine_59 rfl rfl)))
 (kn_ok
 (kl_ok (ok_aP (ok_if_eq dX7_temperLine_60 rfl rfl)))
 (kl_ok (ok_aP (ok_aload_n dX7_temperLine_63 rfl rfl)))))))
 (kn_ok
 (kn_ok
 (kn_ok
 (kl_ok (ok_aP (ok_getf fo_69 fs_rf (Or.inl q1856) dX7_temperLine_64 rfl)))
 (kl_ok (ok_aP (ok_iconst dX7_temperLine_67 rfl rfl))))
 (kn_ok
 (kl_ok (ok_aP (ok_icmp_ne dX7_temperLine_68 rfl rfl)))
 (kn_ok
 (kl_ok (ok_aP (ok_aload_n dX7_temperLine_71 rfl rfl)))
 (kl_ok (ok_aP (ok_iload_n dX7_temperLine_72 rfl rfl))))))
 (kn_ok
 (kn_ok
 (kl_ok (ok_aP (ok_if_eq dX7_temperLine_73 rfl rfl)))
 (kn_ok
 (kl_ok (ok_aP (ok_iconst dX7_temperLine_76 rfl rfl)))
 (kl_ok (ok_aP (ok_goto dX7_temperLine_77 rfl)))))
 (kn_ok
 (kl_ok (ok_aP (ok_iconst dX7_temperLine_80 rfl rfl)))
 (kn_ok
 (kl_ok (ok_hp (ok_putf fo_69 fs_rf fn_46 (Or.inl q1856) pd_0 vI_ok dX7_temperLine_81 rfl) le_putf))
 (kl_ok (ok_vret rfl dX7_temperLine_84)))))))
/-- 160: FavourTownModel.has0(Ljava/lang/String;)Z -/
noncomputable def k_X7_has0 : Nat → Option AOp :=
 tn 52 (tn 24 (tn 10 (tn 5 (tn 1 (tl 0 (aP (f_aload 0 1)))
  (tn 4 (tl 1 (o_callV (lkN [(18, 156)]) 0 4))
  (tl 4 (aP (f_aload 0 5)))))
  (tn 8 (tl 5 (aP (f_getf [18] 9 8)))
  (tn 9 (tl 8 (aP (f_istore 2 9)))
  (tl 9 (aP (f_iload 2 10))))))
  (tn 17 (tn 11 (tl 10 (aP (f_aload 0 11)))
  (tn 14 (tl 11 (aP (f_getf [18] 8 14)))
  (tl 14 (aP (f_icmp (fun x y => decide (y ≤ x)) 38 17)))))
  (tn 19 (tn 18 (tl 17 (aP (f_aload 0 18)))
  (tl 18 (aP (f_iload 2 19))))
  (tn 22 (tl 19 (o_callV (lkN [(18, 157)]) 1 22))
  (tl 22 (aP (f_const (.int (nI 97)) 24)))))))
  (tn 39 (tn 32 (tn 26 (tl 24 (aP (f_const (.int (nI 122)) 26)))
  (tn 29 (tl 26 (o_callS 153 3 29))
  (tl 29 (aP (f_if (fun x => decide (x = 0)) 38 32)))))
  (tn 35 (tl 32 (aP (f_iinc 2 (nI 1) 35)))
  (tn 38 (tl 35 (aP (f_goto 9)))
  (tl 38 (aP (f_iload 2 39))))))
  (tn 44 (tn 40 (tl 39 (aP (f_aload 0 40)))
  (tn 43 (tl 40 (aP (f_getf [18] 9 43)))
  (tl 43 (aP (f_bin (fun x y => x - y) 44)))))
  (tn 48 (tn 45 (tl 44 (aP (f_aload 1 45)))
  (tl 45 (o_callV (lkN [(21, 280)]) 0 48)))
  (tn 51 (tl 48 (aP (f_icmp (fun x y => decide (x = y)) 53 51)))
  (tl 51 (aP (f_const (.int (nI 0)) 52))))))))
  (tn 73 (tn 60 (tn 55 (tn 53 (tl 52 (o_iret (fun x => x == 0 || x == 1)))
  (tn 54 (tl 53 (aP (f_const (.int (nI 0)) 54)))
  (tl 54 (aP (f_istore 3 55)))))
  (tn 56 (tl 55 (aP (f_iload 3 56)))
  (tn 57 (tl 56 (aP (f_aload 1 57)))
  (tl 57 (o_callV (lkN [(21, 280)]) 0 60)))))
  (tn 65 (tn 63 (tl 60 (aP (f_icmp (fun x y => decide (y ≤ x)) 89 63)))
  (tn 64 (tl 63 (aP (f_aload 0 64)))
  (tl 64 (aP (f_aload 0 65)))))
  (tn 69 (tn 68 (tl 65 (aP (f_getf [18] 9 68)))
  (tl 68 (aP (f_iload 3 69))))
  (tn 70 (tl 69 (aP (f_bin (fun x y => x + y) 70)))
  (tl 70 (o_callV (lkN [(18, 157)]) 1 73))))))
  (tn 83 (tn 78 (tn 74 (tl 73 (aP (f_aload 1 74)))
  (tn 75 (tl 74 (aP (f_iload 3 75)))
  (tl 75 (o_callV (lkN [(21, 286)]) 1 78))))
  (tn 81 (tl 78 (aP (f_icmp (fun x y => decide (x = y)) 83 81)))
  (tn 82 (tl 81 (aP (f_const (.int (nI 0)) 82)))
  (tl 82 (o_iret (fun x => x == 0 || x == 1))))))
  (tn 90 (tn 86 (tl 83 (aP (f_iinc 3 (nI 1) 86)))
  (tn 89 (tl 86 (aP (f_goto 55)))
  (tl 89 (aP (f_aload 0 90)))))
  (tn 94 (tn 91 (tl 90 (aP (f_iload 2 91)))
  (tl 91 (o_putf [18] 9 vI 94)))
  (tn 95 (tl 94 (aP (f_const (.int (nI 1)) 95)))
  (tl 95 (o_iret (fun x => x == 0 || x == 1))))))))
theorem kok_X7_has0 {γ : AG} (hm : γ.2.2.2.2.1 = mTab) (hk : γ.2.2.2.2.2 = kTab) : KOK γ m_X7_has0 k_X7_has0 :=
 kn_ok
 (kn_ok
 (kn_ok
 (kn_ok
 (kn_ok
 (kl_ok (ok_aP (ok_aload_n dX7_has0_0 rfl rfl)))
 (kn_ok
 (kl_ok (ok_callV (List.forall_mem_cons.mpr ⟨run_V (C0 := "FavourTownModel") rfl rfl (by rw [hm]; rfl) q1950 q1952 qs33 q92 q1953 ⟨nh_1, dl_0⟩ (by decide) dX7_has0_1, (fun _ h => absurd h List.not_mem_nil)⟩) rfl))
 (kl_ok (ok_aP (ok_aload_n dX7_has0_4 rfl rfl)))))
 (kn_ok
 (kl_ok (ok_aP (ok_getf fo_67 fs_rf (Or.inl q1848) dX7_has0_5 rfl)))
 (kn_ok
 (kl_ok (ok_aP (ok_istore_n dX7_has0_8 rfl rfl)))
 (kl_ok (ok_aP (ok_iload_n dX7_has0_9 rfl rfl))))))
 (kn_ok
 (kn_ok
 (kl_ok (ok_aP (ok_aload_n dX7_has0_10 rfl rfl)))
 (kn_ok
 (kl_ok (ok_aP (ok_getf fo_66 fs_rf (Or.inl q1847) dX7_has0_11 rfl)))
 (kl_ok (ok_aP (ok_icmp_ge dX7_has0_14 rfl rfl)))))
 (kn_ok
 (kn_ok
 (kl_ok (ok_aP (ok_aload_n dX7_has0_17 rfl rfl)))
 (kl_ok (ok_aP (ok_iload_n dX7_has0_18 rfl rfl))))
 (kn_ok
 (kl_ok (ok_callV (List.forall_mem_cons.mpr ⟨run_V (C0 := "FavourTownModel") rfl rfl (by rw [hm]; rfl) q1954 q1956 qs34 q92 q1957 ⟨nh_1, dl_10⟩ (by decide) dX7_has0_19, (fun _ h => absurd h List.not_mem_nil)⟩) rfl))
 (kl_ok (ok_aP (ok_bipush dX7_has0_22 (by decide +kernel) rfl)))))))
 (kn_ok
 (kn_ok
 (kn_ok
 (kl_ok (ok_aP (ok_bipush dX7_has0_24 (by decide +kernel) rfl)))
 (kn_ok
 (kl_ok (ok_callS (run_S (by rw [hm]; rfl) q1939 q1940 q92 q1941 ⟨nh_1, dl_17⟩ (by decide) dX7_has0_26) rfl))
 (kl_ok (ok_aP (ok_if_eq dX7_has0_29 rfl rfl)))))
 (kn_ok
 (kl_ok (ok_aP (ok_iinc dX7_has0_32 (by decide +kernel) rfl)))
 (kn_ok
 (kl_ok (ok_aP (ok_goto dX7_has0_35 rfl)))
 (kl_ok (ok_aP (ok_iload_n dX7_has0_38 rfl rfl))))))
 (kn_ok
 (kn_ok
 (kl_ok (ok_aP (ok_aload_n dX7_has0_39 rfl rfl)))
 (kn_ok
 (kl_ok (ok_aP (ok_getf fo_67 fs_rf (Or.inl q1848) dX7_has0_40 rfl)))
 (kl_ok (ok_aP (ok_isub dX7_has0_43 rfl)))))
 (kn_ok
 (kn_ok
 (kl_ok (ok_aP (ok_aload_n dX7_has0_44 rfl rfl)))
 (kl_ok (ok_callV (List.forall_mem_cons.mpr ⟨run_V (C0 := "java/lang/String") rfl rfl (by rw [hm]; rfl) q1971 q1047 q1048 q103 q1049 ⟨nh_21, dl_4⟩ (by decide) dX7_has0_45, (fun _ h => absurd h List.not_mem_nil)⟩) rfl)))
 (kn_ok
 (kl_ok (ok_aP (ok_icmp_eq dX7_has0_48 rfl rfl)))
 (kl_ok (ok_aP (ok_iconst dX7_has0_51 rfl rfl))))))))
 (kn_ok
 (kn_ok
 (kn_ok
 (kn_ok
 (kl_ok (ok_zret rfl z_boolean dX7_has0_52))
 (kn_ok
 (kl_ok (ok_aP (ok_iconst dX7_has0_53 rfl rfl)))
 (kl_ok (ok_aP (ok_istore_n dX7_has0_54 rfl rfl)))))
 (kn_ok
 (kl_ok (ok_aP (ok_iload_n dX7_has0_55 rfl rfl)))
 (kn_ok
 (kl_ok (ok_aP (ok_aload_n dX7_has0_56 rfl rfl)))
 (kl_ok (ok_callV (List.forall_mem_cons.mpr ⟨run_V (C0 := "java/lang/String") rfl rfl (by rw [hm]; rfl) q1971 q1047 q1048 q103 q1049 ⟨nh_21, dl_4⟩ (by decide) dX7_has0_57, (fun _ h => absurd h List.not_mem_nil)⟩) rfl)))))
 (kn_ok
 (kn_ok
 (kl_ok (ok_aP (ok_icmp_ge dX7_has0_60 rfl rfl)))
 (kn_ok
 (kl_ok (ok_aP (ok_aload_n dX7_has0_63 rfl rfl)))
 (kl_ok (ok_aP (ok_aload_n dX7_has0_64 rfl rfl)))))
 (kn_ok
 (kn_ok
 (kl_ok (ok_aP (ok_getf fo_67 fs_rf (Or.inl q1848) dX7_has0_65 rfl)))
 (kl_ok (ok_aP (ok_iload_n dX7_has0_68 rfl rfl))))
 (kn_ok
 (kl_ok (ok_aP (ok_iadd dX7_has0_69 rfl)))
 (kl_ok (ok_callV (List.forall_mem_cons.mpr ⟨run_V (C0 := "FavourTownModel") rfl rfl (by rw [hm]; rfl) q1954 q1956 qs34 q92 q1957 ⟨nh_1, dl_10⟩ (by decide) dX7_has0_70, (fun _ h => absurd h List.not_mem_nil)⟩) rfl))))))
 (kn_ok
 (kn_ok
 (kn_ok
 (kl_ok (ok_aP (ok_aload_n dX7_has0_73 rfl rfl)))
 (kn_ok
 (kl_ok (ok_aP (ok_iload_n dX7_has0_74 rfl rfl)))
 (kl_ok (ok_callV (List.forall_mem_cons.mpr ⟨run_V (C0 := "java/lang/String") rfl rfl (by rw [hm]; rfl) q1972 q1973 q1974 q103 q1975 ⟨nh_21, dl_49⟩ (by decide) dX7_has0_75, (fun _ h => absurd h List.not_mem_nil)⟩) rfl))))
 (kn_ok
 (kl_ok (ok_aP (ok_icmp_eq dX7_has0_78 rfl rfl)))
 (kn_ok
 (kl_ok (ok_aP (ok_iconst dX7_has0_81 rfl rfl)))
 (kl_ok (ok_zret rfl z_boolean dX7_has0_82)))))
 (kn_ok
 (kn_ok
 (kl_ok (ok_aP (ok_iinc dX7_has0_83 (by decide +kernel) rfl)))
 (kn_ok
 (kl_ok (ok_aP (ok_goto dX7_has0_86 rfl)))
 (kl_ok (ok_aP (ok_aload_n dX7_has0_89 rfl rfl)))))
 (kn_ok
 (kn_ok
 (kl_ok (ok_aP (ok_iload_n dX7_has0_90 rfl rfl)))
 (kl_ok (ok_hp (ok_putf fo_67 fs_rf fn_47 (Or.inl q1848) pd_0 vI_ok dX7_has0_91 rfl) le_putf)))
 (kn_ok
 (kl_ok (ok_aP (ok_iconst dX7_has0_94 rfl rfl)))
 (kl_ok (ok_zret rfl z_boolean dX7_has0_95)))))))
/-- 161: FavourTownModel.some()Z -/
noncomputable def k_X7_some : Nat → Option AOp :=
 tn 23 (tn 10 (tn 5 (tn 1 (tl 0 (aP (f_aload 0 1)))
  (tn 4 (tl 1 (o_callV (lkN [(18, 162)]) 0 4))
  (tl 4 (aP (f_istore 1 5)))))
  (tn 6 (tl 5 (aP (f_aload 0 6)))
  (tn 9 (tl 6 (aP (f_getf [18] 10 9)))
  (tl 9 (aP (f_const (.int (-1)) 10))))))
  (tn 16 (tn 13 (tl 10 (aP (f_icmp (fun x y => decide (¬ x = y)) 44 13)))
  (tn 14 (tl 13 (aP (f_aload 0 14)))
  (tl 14 (aP (f_stat 58 16)))))
  (tn 19 (tl 16 (o_callV (lkN [(18, 160)]) 1 19))
  (tn 22 (tl 19 (aP (f_if (fun x => decide (x = 0)) 44 22)))
  (tl 22 (aP (f_aload 0 23)))))))
  (tn 35 (tn 28 (tn 26 (tl 23 (o_callV (lkN [(18, 162)]) 0 26))
  (tn 27 (tl 26 (aP (f_istore 2 27)))
  (tl 27 (aP (f_iload 1 28)))))
  (tn 31 (tl 28 (aP (f_if (fun x => decide (¬ x = 0)) 35 31)))
  (tn 32 (tl 31 (aP (f_iload 2 32)))
  (tl 32 (aP (f_if (fun x => decide (x = 0)) 39 35))))))
  (tn 40 (tn 36 (tl 35 (aP (f_const (.int (nI 1)) 36)))
  (tn 39 (tl 36 (aP (f_goto 40)))
  (tl 39 (aP (f_const (.int (nI 0)) 40)))))
  (tn 44 (tn 41 (tl 40 (aP (f_istore 1 41)))
  (tl 41 (aP (f_goto 5))))
  (tn 45 (tl 44 (aP (f_iload 1 45)))
  (tl 45 (o_iret (fun x => x == 0 || x == 1)))))))
theorem kok_X7_some {γ : AG} (hm : γ.2.2.2.2.1 = mTab) (hk : γ.2.2.2.2.2 = kTab) : KOK γ m_X7_some k_X7_some :=
 kn_ok
 (kn_ok
 (kn_ok
 (kn_ok
 (kl_ok (ok_aP (ok_aload_n dX7_some_0 rfl rfl)))
 (kn_ok
 (kl_ok (ok_callV (List.forall_mem_cons.mpr ⟨run_V (C0 := "FavourTownModel") rfl rfl (by rw [hm]; rfl) q1989 q1991 qs39 q92 q1992 ⟨nh_1, dl_16⟩ (by decide) dX7_some_1, (fun _ h => absurd h List.not_mem_nil)⟩) rfl))
 (kl_ok (ok_aP (ok_istore_n dX7_some_4 rfl rfl)))))
 (kn_ok
 (kl_ok (ok_aP (ok_aload_n dX7_some_5 rfl rfl)))
 (kn_ok
 (kl_ok (ok_aP (ok_getf fo_64 fs_rf (Or.inl q1849) dX7_some_6 rfl)))
 (kl_ok (ok_aP (ok_iconst dX7_some_9 rfl rfl))))))
 (kn_ok
 (kn_ok
 (kl_ok (ok_aP (ok_icmp_ne dX7_some_10 rfl rfl)))
 (kn_ok
 (kl_ok (ok_aP (ok_aload_n dX7_some_13 rfl rfl)))
 (kl_ok (ok_aP (ok_ldcS (tx := "or") (dd := "") (by rw [hk]; rfl) dX7_some_14 rfl)))))
 (kn_ok
 (kl_ok (ok_callV (List.forall_mem_cons.mpr ⟨run_V (C0 := "FavourTownModel") rfl rfl (by rw [hm]; rfl) q1967 q1969 qs37 q92 q1970 ⟨nh_1, dl_48⟩ (by decide) dX7_some_16, (fun _ h => absurd h List.not_mem_nil)⟩) rfl))
 (kn_ok
 (kl_ok (ok_aP (ok_if_eq dX7_some_19 rfl rfl)))
 (kl_ok (ok_aP (ok_aload_n dX7_some_22 rfl rfl)))))))
 (kn_ok
 (kn_ok
 (kn_ok
 (kl_ok (ok_callV (List.forall_mem_cons.mpr ⟨run_V (C0 := "FavourTownModel") rfl rfl (by rw [hm]; rfl) q1989 q1991 qs39 q92 q1992 ⟨nh_1, dl_16⟩ (by decide) dX7_some_23, (fun _ h => absurd h List.not_mem_nil)⟩) rfl))
 (kn_ok
 (kl_ok (ok_aP (ok_istore_n dX7_some_26 rfl rfl)))
 (kl_ok (ok_aP (ok_iload_n dX7_some_27 rfl rfl)))))
 (kn_ok
 (kl_ok (ok_aP (ok_if_ne dX7_some_28 rfl rfl)))
 (kn_ok
 (kl_ok (ok_aP (ok_iload_n dX7_some_31 rfl rfl)))
 (kl_ok (ok_aP (ok_if_eq dX7_some_32 rfl rfl))))))
 (kn_ok
 (kn_ok
 (kl_ok (ok_aP (ok_iconst dX7_some_35 rfl rfl)))
 (kn_ok
 (kl_ok (ok_aP (ok_goto dX7_some_36 rfl)))
 (kl_ok (ok_aP (ok_iconst dX7_some_39 rfl rfl)))))
 (kn_ok
 (kn_ok
 (kl_ok (ok_aP (ok_istore_n dX7_some_40 rfl rfl)))
 (kl_ok (ok_aP (ok_goto dX7_some_41 rfl))))
 (kn_ok
 (kl_ok (ok_aP (ok_iload_n dX7_some_44 rfl rfl)))
 (kl_ok (ok_zret rfl z_boolean dX7_some_45))))))
/-- 162: FavourTownModel.every()Z -/
noncomputable def k_X7_every : Nat → Option AOp :=
 tn 23 (tn 10 (tn 5 (tn 1 (tl 0 (aP (f_aload 0 1)))
  (tn 4 (tl 1 (o_callV (lkN [(18, 163)]) 0 4))
  (tl 4 (aP (f_istore 1 5)))))
  (tn 6 (tl 5 (aP (f_aload 0 6)))
  (tn 9 (tl 6 (aP (f_getf [18] 10 9)))
  (tl 9 (aP (f_const (.int (-1)) 10))))))
  (tn 16 (tn 13 (tl 10 (aP (f_icmp (fun x y => decide (¬ x = y)) 44 13)))
  (tn 14 (tl 13 (aP (f_aload 0 14)))
  (tl 14 (aP (f_stat 57 16)))))
  (tn 19 (tl 16 (o_callV (lkN [(18, 160)]) 1 19))
  (tn 22 (tl 19 (aP (f_if (fun x => decide (x = 0)) 44 22)))
  (tl 22 (aP (f_aload 0 23)))))))
  (tn 35 (tn 28 (tn 26 (tl 23 (o_callV (lkN [(18, 163)]) 0 26))
  (tn 27 (tl 26 (aP (f_istore 2 27)))
  (tl 27 (aP (f_iload 1 28)))))
  (tn 31 (tl 28 (aP (f_if (fun x => decide (x = 0)) 39 31)))
  (tn 32 (tl 31 (aP (f_iload 2 32)))
  (tl 32 (aP (f_if (fun x => decide (x = 0)) 39 35))))))
  (tn 40 (tn 36 (tl 35 (aP (f_const (.int (nI 1)) 36)))
  (tn 39 (tl 36 (aP (f_goto 40)))
  (tl 39 (aP (f_const (.int (nI 0)) 40)))))
  (tn 44 (tn 41 (tl 40 (aP (f_istore 1 41)))
  (tl 41 (aP (f_goto 5))))
  (tn 45 (tl 44 (aP (f_iload 1 45)))
  (tl 45 (o_iret (fun x => x == 0 || x == 1)))))))
theorem kok_X7_every {γ : AG} (hm : γ.2.2.2.2.1 = mTab) (hk : γ.2.2.2.2.2 = kTab) : KOK γ m_X7_every k_X7_every :=
 kn_ok
 (kn_ok
 (kn_ok
 (kn_ok
 (kl_ok (ok_aP (ok_aload_n dX7_every_0 rfl rfl)))
 (kn_ok
 (kl_ok (ok_callV (List.forall_mem_cons.mpr ⟨run_V (C0 := "FavourTownModel") rfl rfl (by rw [hm]; rfl) q1993 q1995 qs40 q92 q1996 ⟨nh_1, dl_16⟩ (by decide) dX7_every_1, (fun _ h => absurd h List.not_mem_nil)⟩) rfl))
 (kl_ok (ok_aP (ok_istore_n dX7_every_4 rfl rfl)))))
 (kn_ok
 (kl_ok (ok_aP (ok_aload_n dX7_every_5 rfl rfl)))
 (kn_ok
 (kl_ok (ok_aP (ok_getf fo_64 fs_rf (Or.inl q1849) dX7_every_6 rfl)))
 (kl_ok (ok_aP (ok_iconst dX7_every_9 rfl rfl))))))
 (kn_ok
 (kn_ok
 (kl_ok (ok_aP (ok_icmp_ne dX7_every_10 rfl rfl)))
 (kn_ok
 (kl_ok (ok_aP (ok_aload_n dX7_every_13 rfl rfl)))
 (kl_ok (ok_aP (ok_ldcS (tx := "and") (dd := "") (by rw [hk]; rfl) dX7_every_14 rfl)))))
 (kn_ok
 (kl_ok (ok_callV (List.forall_mem_cons.mpr ⟨run_V (C0 := "FavourTownModel") rfl rfl (by rw [hm]; rfl) q1967 q1969 qs37 q92 q1970 ⟨nh_1, dl_48⟩ (by decide) dX7_every_16, (fun _ h => absurd h List.not_mem_nil)⟩) rfl))
 (kn_ok
 (kl_ok (ok_aP (ok_if_eq dX7_every_19 rfl rfl)))
 (kl_ok (ok_aP (ok_aload_n dX7_every_22 rfl rfl)))))))
 (kn_ok
 (kn_ok
 (kn_ok
 (kl_ok (ok_callV (List.forall_mem_cons.mpr ⟨run_V (C0 := "FavourTownModel") rfl rfl (by rw [hm]; rfl) q1993 q1995 qs40 q92 q1996 ⟨nh_1, dl_16⟩ (by decide) dX7_every_23, (fun _ h => absurd h List.not_mem_nil)⟩) rfl))
 (kn_ok
 (kl_ok (ok_aP (ok_istore_n dX7_every_26 rfl rfl)))
 (kl_ok (ok_aP (ok_iload_n dX7_every_27 rfl rfl)))))
 (kn_ok
 (kl_ok (ok_aP (ok_if_eq dX7_every_28 rfl rfl)))
 (kn_ok
 (kl_ok (ok_aP (ok_iload_n dX7_every_31 rfl rfl)))
 (kl_ok (ok_aP (ok_if_eq dX7_every_32 rfl rfl))))))
 (kn_ok
 (kn_ok
 (kl_ok (ok_aP (ok_iconst dX7_every_35 rfl rfl)))
 (kn_ok
 (kl_ok (ok_aP (ok_goto dX7_every_36 rfl)))
 (kl_ok (ok_aP (ok_iconst dX7_every_39 rfl rfl)))))
 (kn_ok
 (kn_ok
 (kl_ok (ok_aP (ok_istore_n dX7_every_40 rfl rfl)))
 (kl_ok (ok_aP (ok_goto dX7_every_41 rfl))))
 (kn_ok
 (kl_ok (ok_aP (ok_iload_n dX7_every_44 rfl rfl)))
 (kl_ok (ok_zret rfl z_boolean dX7_every_45))))))
/-- 163: FavourTownModel.atom()Z -/
noncomputable def k_X7_atom : Nat → Option AOp :=
 tn 76 (tn 39 (tn 18 (tn 9 (tn 4 (tn 1 (tl 0 (aP (f_aload 0 1)))
  (tl 1 (aP (f_getf [18] 10 4))))
  (tn 5 (tl 4 (aP (f_const (.int (-1)) 5)))
  (tn 8 (tl 5 (aP (f_icmp (fun x y => decide (x = y)) 10 8)))
  (tl 8 (aP (f_const (.int (nI 0)) 9))))))
  (tn 11 (tn 10 (tl 9 (o_iret (fun x => x == 0 || x == 1)))
  (tl 10 (aP (f_aload 0 11))))
  (tn 14 (tl 11 (o_callV (lkN [(18, 156)]) 0 14))
  (tn 15 (tl 14 (aP (f_aload 0 15)))
  (tl 15 (aP (f_getf [18] 9 18)))))))
  (tn 26 (tn 20 (tn 19 (tl 18 (aP (f_istore 1 19)))
  (tl 19 (aP (f_aload 0 20))))
  (tn 22 (tl 20 (aP (f_stat 56 22)))
  (tn 25 (tl 22 (o_callV (lkN [(18, 160)]) 1 25))
  (tl 25 (aP (f_istore 2 26))))))
  (tn 31 (tn 27 (tl 26 (aP (f_iload 2 27)))
  (tn 30 (tl 27 (aP (f_if (fun x => decide (¬ x = 0)) 44 30)))
  (tl 30 (aP (f_aload 0 31)))))
  (tn 33 (tl 31 (aP (f_const (.int (nI 40)) 33)))
  (tn 36 (tl 33 (o_callV (lkN [(18, 164)]) 1 36))
  (tl 36 (aP (f_if (fun x => decide (¬ x = 0)) 44 39))))))))
  (tn 59 (tn 48 (tn 43 (tn 40 (tl 39 (aP (f_aload 0 40)))
  (tl 40 (o_callV (lkN [(18, 165)]) 0 43)))
  (tn 44 (tl 43 (o_iret (fun x => x == 0 || x == 1)))
  (tn 45 (tl 44 (aP (f_aload 0 45)))
  (tl 45 (aP (f_getf [18] 11 48))))))
  (tn 54 (tn 50 (tl 48 (aP (f_const (.int (nI 6)) 50)))
  (tn 53 (tl 50 (aP (f_icmp (fun x y => decide (¬ x = y)) 60 53)))
  (tl 53 (aP (f_aload 0 54)))))
  (tn 55 (tl 54 (aP (f_iload 1 55)))
  (tn 58 (tl 55 (o_callV (lkN [(18, 158)]) 1 58))
  (tl 58 (aP (f_const (.int (nI 0)) 59)))))))
  (tn 66 (tn 61 (tn 60 (tl 59 (o_iret (fun x => x == 0 || x == 1)))
  (tl 60 (aP (f_aload 0 61))))
  (tn 62 (tl 61 (aP (f_dup 62)))
  (tn 65 (tl 62 (aP (f_getf [18] 11 65)))
  (tl 65 (aP (f_const (.int (nI 1)) 66))))))
  (tn 71 (tn 67 (tl 66 (aP (f_bin (fun x y => x + y) 67)))
  (tn 70 (tl 67 (o_putf [18] 11 vI 70))
  (tl 70 (aP (f_const (.int (nI 0)) 71)))))
  (tn 72 (tl 71 (aP (f_istore 3 72)))
  (tn 73 (tl 72 (aP (f_iload 2 73)))
  (tl 73 (aP (f_if (fun x => decide (x = 0)) 92 76)))))))))
  (tn 115 (tn 94 (tn 87 (tn 80 (tn 77 (tl 76 (aP (f_aload 0 77)))
  (tl 77 (o_callV (lkN [(18, 163)]) 0 80)))
  (tn 83 (tl 80 (aP (f_if (fun x => decide (¬ x = 0)) 87 83)))
  (tn 84 (tl 83 (aP (f_const (.int (nI 1)) 84)))
  (tl 84 (aP (f_goto 88))))))
  (tn 89 (tn 88 (tl 87 (aP (f_const (.int (nI 0)) 88)))
  (tl 88 (aP (f_istore 3 89))))
  (tn 92 (tl 89 (aP (f_goto 142)))
  (tn 93 (tl 92 (aP (f_aload 0 93)))
  (tl 93 (aP (f_dup 94)))))))
  (tn 103 (tn 98 (tn 97 (tl 94 (aP (f_getf [18] 9 97)))
  (tl 97 (aP (f_const (.int (nI 1)) 98))))
  (tn 99 (tl 98 (aP (f_bin (fun x y => x + y) 99)))
  (tn 102 (tl 99 (o_putf [18] 9 vI 102))
  (tl 102 (aP (f_aload 0 103))))))
  (tn 108 (tn 106 (tl 103 (o_callV (lkN [(18, 161)]) 0 106))
  (tn 107 (tl 106 (aP (f_istore 3 107)))
  (tl 107 (aP (f_aload 0 108)))))
  (tn 111 (tl 108 (aP (f_getf [18] 10 111)))
  (tn 112 (tl 111 (aP (f_const (.int (-1)) 112)))
  (tl 112 (aP (f_icmp (fun x y => decide (¬ x = y)) 132 115))))))))
  (tn 137 (tn 125 (tn 118 (tn 116 (tl 115 (aP (f_aload 0 116)))
  (tl 116 (aP (f_const (.int (nI 41)) 118))))
  (tn 121 (tl 118 (o_callV (lkN [(18, 164)]) 1 121))
  (tn 124 (tl 121 (aP (f_if (fun x => decide (¬ x = 0)) 132 124)))
  (tl 124 (aP (f_aload 0 125))))))
  (tn 132 (tn 126 (tl 125 (aP (f_aload 0 126)))
  (tn 129 (tl 126 (aP (f_getf [18] 9 129)))
  (tl 129 (o_callV (lkN [(18, 158)]) 1 132))))
  (tn 133 (tl 132 (aP (f_aload 0 133)))
  (tn 134 (tl 133 (aP (f_dup 134)))
  (tl 134 (aP (f_getf [18] 9 137)))))))
  (tn 144 (tn 139 (tn 138 (tl 137 (aP (f_const (.int (nI 1)) 138)))
  (tl 138 (aP (f_bin (fun x y => x + y) 139))))
  (tn 142 (tl 139 (o_putf [18] 9 vI 142))
  (tn 143 (tl 142 (aP (f_aload 0 143)))
  (tl 143 (aP (f_dup 144))))))
  (tn 149 (tn 147 (tl 144 (aP (f_getf [18] 11 147)))
  (tn 148 (tl 147 (aP (f_const (.int (nI 1)) 148)))
  (tl 148 (aP (f_bin (fun x y => x - y) 149)))))
  (tn 152 (tl 149 (o_putf [18] 11 vI 152))
  (tn 153 (tl 152 (aP (f_iload 3 153)))
  (tl 153 (o_iret (fun x => x == 0 || x == 1)))))))))
theorem kok_X7_atom {γ : AG} (hm : γ.2.2.2.2.1 = mTab) (hk : γ.2.2.2.2.2 = kTab) : KOK γ m_X7_atom k_X7_atom :=
 kn_ok
 (kn_ok
 (kn_ok
 (kn_ok
 (kn_ok
 (kn_ok
 (kl_ok (ok_aP (ok_aload_n dX7_atom_0 rfl rfl)))
 (kl_ok (ok_aP (ok_getf fo_64 fs_rf (Or.inl q1849) dX7_atom_1 rfl))))
 (kn_ok
 (kl_ok (ok_aP (ok_iconst dX7_atom_4 rfl rfl)))
 (kn_ok
 (kl_ok (ok_aP (ok_icmp_eq dX7_atom_5 rfl rfl)))
 (kl_ok (ok_aP (ok_iconst dX7_atom_8 rfl rfl))))))
 (kn_ok
 (kn_ok
 (kl_ok (ok_zret rfl z_boolean dX7_atom_9))
 (kl_ok (ok_aP (ok_aload_n dX7_atom_10 rfl rfl))))
 (kn_ok
 (kl_ok (ok_callV (List.forall_mem_cons.mpr ⟨run_V (C0 := "FavourTownModel") rfl rfl (by rw [hm]; rfl) q1950 q1952 qs33 q92 q1953 ⟨nh_1, dl_0⟩ (by decide) dX7_atom_11, (fun _ h => absurd h List.not_mem_nil)⟩) rfl))
 (kn_ok
 (kl_ok (ok_aP (ok_aload_n dX7_atom_14 rfl rfl)))
 (kl_ok (ok_aP (ok_getf fo_67 fs_rf (Or.inl q1848) dX7_atom_15 rfl)))))))
 (kn_ok
 (kn_ok
 (kn_ok
 (kl_ok (ok_aP (ok_istore_n dX7_atom_18 rfl rfl)))
 (kl_ok (ok_aP (ok_aload_n dX7_atom_19 rfl rfl))))
 (kn_ok
 (kl_ok (ok_aP (ok_ldcS (tx := "not") (dd := "") (by rw [hk]; rfl) dX7_atom_20 rfl)))
 (kn_ok
 (kl_ok (ok_callV (List.forall_mem_cons.mpr ⟨run_V (C0 := "FavourTownModel") rfl rfl (by rw [hm]; rfl) q1967 q1969 qs37 q92 q1970 ⟨nh_1, dl_48⟩ (by decide) dX7_atom_22, (fun _ h => absurd h List.not_mem_nil)⟩) rfl))
 (kl_ok (ok_aP (ok_istore_n dX7_atom_25 rfl rfl))))))
 (kn_ok
 (kn_ok
 (kl_ok (ok_aP (ok_iload_n dX7_atom_26 rfl rfl)))
 (kn_ok
 (kl_ok (ok_aP (ok_if_ne dX7_atom_27 rfl rfl)))
 (kl_ok (ok_aP (ok_aload_n dX7_atom_30 rfl rfl)))))
 (kn_ok
 (kl_ok (ok_aP (ok_bipush dX7_atom_31 (by decide +kernel) rfl)))
 (kn_ok
 (kl_ok (ok_callV (List.forall_mem_cons.mpr ⟨run_V (C0 := "FavourTownModel") rfl rfl (by rw [hm]; rfl) q1998 q2000 qs41 q92 q2001 ⟨nh_1, dl_2⟩ (by decide) dX7_atom_33, (fun _ h => absurd h List.not_mem_nil)⟩) rfl))
 (kl_ok (ok_aP (ok_if_ne dX7_atom_36 rfl rfl))))))))
 (kn_ok
 (kn_ok
 (kn_ok
 (kn_ok
 (kl_ok (ok_aP (ok_aload_n dX7_atom_39 rfl rfl)))
 (kl_ok (ok_callV (List.forall_mem_cons.mpr ⟨run_V (C0 := "FavourTownModel") rfl rfl (by rw [hm]; rfl) q2002 q2004 qs42 q92 q2005 ⟨nh_1, dl_16⟩ (by decide) dX7_atom_40, (fun _ h => absurd h List.not_mem_nil)⟩) rfl)))
 (kn_ok
 (kl_ok (ok_zret rfl z_boolean dX7_atom_43))
 (kn_ok
 (kl_ok (ok_aP (ok_aload_n dX7_atom_44 rfl rfl)))
 (kl_ok (ok_aP (ok_getf fo_70 fs_rf (Or.inl q1850) dX7_atom_45 rfl))))))
 (kn_ok
 (kn_ok
 (kl_ok (ok_aP (ok_bipush dX7_atom_48 (by decide +kernel) rfl)))
 (kn_ok
 (kl_ok (ok_aP (ok_icmp_ne dX7_atom_50 rfl rfl)))
 (kl_ok (ok_aP (ok_aload_n dX7_atom_53 rfl rfl)))))
 (kn_ok
 (kl_ok (ok_aP (ok_iload_n dX7_atom_54 rfl rfl)))
 (kn_ok
 (kl_ok (ok_callV (List.forall_mem_cons.mpr ⟨run_V (C0 := "FavourTownModel") rfl rfl (by rw [hm]; rfl) q1958 q1960 qs35 q92 q1961 ⟨nh_1, dl_32⟩ (by decide) dX7_atom_55, (fun _ h => absurd h List.not_mem_nil)⟩) rfl))
 (kl_ok (ok_aP (ok_iconst dX7_atom_58 rfl rfl)))))))
 (kn_ok
 (kn_ok
 (kn_ok
 (kl_ok (ok_zret rfl z_boolean dX7_atom_59))
 (kl_ok (ok_aP (ok_aload_n dX7_atom_60 rfl rfl))))
 (kn_ok
 (kl_ok (ok_aP (ok_dup dX7_atom_61 rfl)))
 (kn_ok
 (kl_ok (ok_aP (ok_getf fo_70 fs_rf (Or.inl q1850) dX7_atom_62 rfl)))
 (kl_ok (ok_aP (ok_iconst dX7_atom_65 rfl rfl))))))
 (kn_ok
 (kn_ok
 (kl_ok (ok_aP (ok_iadd dX7_atom_66 rfl)))
 (kn_ok
 (kl_ok (ok_hp (ok_putf fo_70 fs_rf fn_49 (Or.inl q1850) pd_0 vI_ok dX7_atom_67 rfl) le_putf))
 (kl_ok (ok_aP (ok_iconst dX7_atom_70 rfl rfl)))))
 (kn_ok
 (kl_ok (ok_aP (ok_istore_n dX7_atom_71 rfl rfl)))
 (kn_ok
 (kl_ok (ok_aP (ok_iload_n dX7_atom_72 rfl rfl)))
 (kl_ok (ok_aP (ok_if_eq dX7_atom_73 rfl rfl)))))))))
 (kn_ok
 (kn_ok
 (kn_ok
 (kn_ok
 (kn_ok
 (kl_ok (ok_aP (ok_aload_n dX7_atom_76 rfl rfl)))
 (kl_ok (ok_callV (List.forall_mem_cons.mpr ⟨run_V (C0 := "FavourTownModel") rfl rfl (by rw [hm]; rfl) q1993 q1995 qs40 q92 q1996 ⟨nh_1, dl_16⟩ (by decide) dX7_atom_77, (fun _ h => absurd h List.not_mem_nil)⟩) rfl)))
 (kn_ok
 (kl_ok (ok_aP (ok_if_ne dX7_atom_80 rfl rfl)))
 (kn_ok
 (kl_ok (ok_aP (ok_iconst dX7_atom_83 rfl rfl)))
 (kl_ok (ok_aP (ok_goto dX7_atom_84 rfl))))))
 (kn_ok
 (kn_ok
 (kl_ok (ok_aP (ok_iconst dX7_atom_87 rfl rfl)))
 (kl_ok (ok_aP (ok_istore_n dX7_atom_88 rfl rfl))))
 (kn_ok
 (kl_ok (ok_aP (ok_goto dX7_atom_89 rfl)))
 (kn_ok
 (kl_ok (ok_aP (ok_aload_n dX7_atom_92 rfl rfl)))
 (kl_ok (ok_aP (ok_dup dX7_atom_93 rfl)))))))
 (kn_ok
 (kn_ok
 (kn_ok
 (kl_ok (ok_aP (ok_getf fo_67 fs_rf (Or.inl q1848) dX7_atom_94 rfl)))
 (kl_ok (ok_aP (ok_iconst dX7_atom_97 rfl rfl))))
 (kn_ok
 (kl_ok (ok_aP (ok_iadd dX7_atom_98 rfl)))
 (kn_ok
 (kl_ok (ok_hp (ok_putf fo_67 fs_rf fn_47 (Or.inl q1848) pd_0 vI_ok dX7_atom_99 rfl) le_putf))
 (kl_ok (ok_aP (ok_aload_n dX7_atom_102 rfl rfl))))))
 (kn_ok
 (kn_ok
 (kl_ok (ok_callV (List.forall_mem_cons.mpr ⟨run_V (C0 := "FavourTownModel") rfl rfl (by rw [hm]; rfl) q1985 q1987 qs38 q92 q1988 ⟨nh_1, dl_16⟩ (by decide) dX7_atom_103, (fun _ h => absurd h List.not_mem_nil)⟩) rfl))
 (kn_ok
 (kl_ok (ok_aP (ok_istore_n dX7_atom_106 rfl rfl)))
 (kl_ok (ok_aP (ok_aload_n dX7_atom_107 rfl rfl)))))
 (kn_ok
 (kl_ok (ok_aP (ok_getf fo_64 fs_rf (Or.inl q1849) dX7_atom_108 rfl)))
 (kn_ok
 (kl_ok (ok_aP (ok_iconst dX7_atom_111 rfl rfl)))
 (kl_ok (ok_aP (ok_icmp_ne dX7_atom_112 rfl rfl))))))))
 (kn_ok
 (kn_ok
 (kn_ok
 (kn_ok
 (kl_ok (ok_aP (ok_aload_n dX7_atom_115 rfl rfl)))
 (kl_ok (ok_aP (ok_bipush dX7_atom_116 (by decide +kernel) rfl))))
 (kn_ok
 (kl_ok (ok_callV (List.forall_mem_cons.mpr ⟨run_V (C0 := "FavourTownModel") rfl rfl (by rw [hm]; rfl) q1998 q2000 qs41 q92 q2001 ⟨nh_1, dl_2⟩ (by decide) dX7_atom_118, (fun _ h => absurd h List.not_mem_nil)⟩) rfl))
 (kn_ok
 (kl_ok (ok_aP (ok_if_ne dX7_atom_121 rfl rfl)))
 (kl_ok (ok_aP (ok_aload_n dX7_atom_124 rfl rfl))))))
 (kn_ok
 (kn_ok
 (kl_ok (ok_aP (ok_aload_n dX7_atom_125 rfl rfl)))
 (kn_ok
 (kl_ok (ok_aP (ok_getf fo_67 fs_rf (Or.inl q1848) dX7_atom_126 rfl)))
 (kl_ok (ok_callV (List.forall_mem_cons.mpr ⟨run_V (C0 := "FavourTownModel") rfl rfl (by rw [hm]; rfl) q1958 q1960 qs35 q92 q1961 ⟨nh_1, dl_32⟩ (by decide) dX7_atom_129, (fun _ h => absurd h List.not_mem_nil)⟩) rfl))))
 (kn_ok
 (kl_ok (ok_aP (ok_aload_n dX7_atom_132 rfl rfl)))
 (kn_ok
 (kl_ok (ok_aP (ok_dup dX7_atom_133 rfl)))
 (kl_ok (ok_aP (ok_getf fo_67 fs_rf (Or.inl q1848) dX7_atom_134 rfl)))))))
 (kn_ok
 (kn_ok
 (kn_ok
 (kl_ok (ok_aP (ok_iconst dX7_atom_137 rfl rfl)))
 (kl_ok (ok_aP (ok_iadd dX7_atom_138 rfl))))
 (kn_ok
 (kl_ok (ok_hp (ok_putf fo_67 fs_rf fn_47 (Or.inl q1848) pd_0 vI_ok dX7_atom_139 rfl) le_putf))
 (kn_ok
 (kl_ok (ok_aP (ok_aload_n dX7_atom_142 rfl rfl)))
 (kl_ok (ok_aP (ok_dup dX7_atom_143 rfl))))))
 (kn_ok
 (kn_ok
 (kl_ok (ok_aP (ok_getf fo_70 fs_rf (Or.inl q1850) dX7_atom_144 rfl)))
 (kn_ok
 (kl_ok (ok_aP (ok_iconst dX7_atom_147 rfl rfl)))
 (kl_ok (ok_aP (ok_isub dX7_atom_148 rfl)))))
 (kn_ok
 (kl_ok (ok_hp (ok_putf fo_70 fs_rf fn_49 (Or.inl q1850) pd_0 vI_ok dX7_atom_149 rfl) le_putf))
 (kn_ok
 (kl_ok (ok_aP (ok_iload_n dX7_atom_152 rfl rfl)))
 (kl_ok (ok_zret rfl z_boolean dX7_atom_153))))))))
/-- 164: FavourTownModel.isSign(I)Z -/
noncomputable def k_X7_isSign : Nat → Option AOp :=
 tn 16 (tn 8 (tn 4 (tn 1 (tl 0 (aP (f_aload 0 1)))
  (tl 1 (o_callV (lkN [(18, 156)]) 0 4)))
  (tn 5 (tl 4 (aP (f_aload 0 5)))
  (tl 5 (aP (f_getf [18] 9 8)))))
  (tn 12 (tn 9 (tl 8 (aP (f_aload 0 9)))
  (tl 9 (aP (f_getf [18] 8 12))))
  (tn 15 (tl 12 (aP (f_icmp (fun x y => decide (y ≤ x)) 31 15)))
  (tl 15 (aP (f_aload 0 16))))))
  (tn 24 (tn 20 (tn 17 (tl 16 (aP (f_aload 0 17)))
  (tl 17 (aP (f_getf [18] 9 20))))
  (tn 23 (tl 20 (o_callV (lkN [(18, 157)]) 1 23))
  (tl 23 (aP (f_iload 1 24)))))
  (tn 28 (tn 27 (tl 24 (aP (f_icmp (fun x y => decide (¬ x = y)) 31 27)))
  (tl 27 (aP (f_const (.int (nI 1)) 28))))
  (tn 31 (tl 28 (aP (f_goto 32)))
  (tn 32 (tl 31 (aP (f_const (.int (nI 0)) 32)))
  (tl 32 (o_iret (fun x => x == 0 || x == 1)))))))
theorem kok_X7_isSign {γ : AG} (hm : γ.2.2.2.2.1 = mTab) (hk : γ.2.2.2.2.2 = kTab) : KOK γ m_X7_isSign k_X7_isSign :=
 kn_ok
 (kn_ok
 (kn_ok
 (kn_ok
 (kl_ok (ok_aP (ok_aload_n dX7_isSign_0 rfl rfl)))
 (kl_ok (ok_callV (List.forall_mem_cons.mpr ⟨run_V (C0 := "FavourTownModel") rfl rfl (by rw [hm]; rfl) q1950 q1952 qs33 q92 q1953 ⟨nh_1, dl_0⟩ (by decide) dX7_isSign_1, (fun _ h => absurd h List.not_mem_nil)⟩) rfl)))
 (kn_ok
 (kl_ok (ok_aP (ok_aload_n dX7_isSign_4 rfl rfl)))
 (kl_ok (ok_aP (ok_getf fo_67 fs_rf (Or.inl q1848) dX7_isSign_5 rfl)))))
 (kn_ok
 (kn_ok
 (kl_ok (ok_aP (ok_aload_n dX7_isSign_8 rfl rfl)))
 (kl_ok (ok_aP (ok_getf fo_66 fs_rf (Or.inl q1847) dX7_isSign_9 rfl))))
 (kn_ok
 (kl_ok (ok_aP (ok_icmp_ge dX7_isSign_12 rfl rfl)))
 (kl_ok (ok_aP (ok_aload_n dX7_isSign_15 rfl rfl))))))
 (kn_ok
 (kn_ok
 (kn_ok
 (kl_ok (ok_aP (ok_aload_n dX7_isSign_16 rfl rfl)))
 (kl_ok (ok_aP (ok_getf fo_67 fs_rf (Or.inl q1848) dX7_isSign_17 rfl))))
 (kn_ok
 (kl_ok (ok_callV (List.forall_mem_cons.mpr ⟨run_V (C0 := "FavourTownModel") rfl rfl (by rw [hm]; rfl) q1954 q1956 qs34 q92 q1957 ⟨nh_1, dl_10⟩ (by decide) dX7_isSign_20, (fun _ h => absurd h List.not_mem_nil)⟩) rfl))
 (kl_ok (ok_aP (ok_iload_n dX7_isSign_23 rfl rfl)))))
 (kn_ok
 (kn_ok
 (kl_ok (ok_aP (ok_icmp_ne dX7_isSign_24 rfl rfl)))
 (kl_ok (ok_aP (ok_iconst dX7_isSign_27 rfl rfl))))
 (kn_ok
 (kl_ok (ok_aP (ok_goto dX7_isSign_28 rfl)))
 (kn_ok
 (kl_ok (ok_aP (ok_iconst dX7_isSign_31 rfl rfl)))
 (kl_ok (ok_zret rfl z_boolean dX7_isSign_32))))))
/-- 165: FavourTownModel.plain()Z -/
noncomputable def k_X7_plain : Nat → Option AOp :=
 tn 65 (tn 34 (tn 15 (tn 9 (tn 3 (tn 1 (tl 0 (aP (f_aload 0 1)))
  (tl 1 (aP (f_stat 37 3))))
  (tn 6 (tl 3 (o_callV (lkN [(18, 160)]) 1 6))
  (tl 6 (aP (f_if (fun x => decide (x = 0)) 14 9)))))
  (tn 13 (tn 10 (tl 9 (aP (f_aload 0 10)))
  (tl 10 (aP (f_getf [18] 14 13))))
  (tn 14 (tl 13 (o_iret (fun x => x == 0 || x == 1)))
  (tl 14 (aP (f_aload 0 15))))))
  (tn 24 (tn 20 (tn 17 (tl 15 (aP (f_stat 54 17)))
  (tl 17 (o_callV (lkN [(18, 160)]) 1 20)))
  (tn 23 (tl 20 (aP (f_if (fun x => decide (x = 0)) 28 23)))
  (tl 23 (aP (f_aload 0 24)))))
  (tn 28 (tn 27 (tl 24 (aP (f_getf [18] 15 27)))
  (tl 27 (o_iret (fun x => x == 0 || x == 1))))
  (tn 29 (tl 28 (aP (f_aload 0 29)))
  (tn 31 (tl 29 (aP (f_stat 55 31)))
  (tl 31 (o_callV (lkN [(18, 160)]) 1 34)))))))
  (tn 51 (tn 42 (tn 38 (tn 37 (tl 34 (aP (f_if (fun x => decide (x = 0)) 42 37)))
  (tl 37 (aP (f_aload 0 38))))
  (tn 41 (tl 38 (aP (f_getf [18] 16 41)))
  (tl 41 (o_iret (fun x => x == 0 || x == 1)))))
  (tn 46 (tn 43 (tl 42 (aP (f_aload 0 43)))
  (tl 43 (o_callV (lkN [(18, 166)]) 0 46)))
  (tn 47 (tl 46 (aP (f_istore 1 47)))
  (tn 48 (tl 47 (aP (f_aload 0 48)))
  (tl 48 (aP (f_getf [18] 10 51)))))))
  (tn 57 (tn 55 (tn 52 (tl 51 (aP (f_const (.int (-1)) 52)))
  (tl 52 (aP (f_icmp (fun x y => decide (x = y)) 57 55))))
  (tn 56 (tl 55 (aP (f_const (.int (nI 0)) 56)))
  (tl 56 (o_iret (fun x => x == 0 || x == 1)))))
  (tn 60 (tn 58 (tl 57 (aP (f_aload 0 58)))
  (tl 58 (aP (f_const (.int (nI 60)) 60))))
  (tn 63 (tl 60 (o_callV (lkN [(18, 164)]) 1 63))
  (tn 64 (tl 63 (aP (f_istore 2 64)))
  (tl 64 (aP (f_iload 2 65)))))))))
  (tn 98 (tn 85 (tn 74 (tn 69 (tn 68 (tl 65 (aP (f_if (fun x => decide (¬ x = 0)) 87 68)))
  (tl 68 (aP (f_aload 0 69))))
  (tn 71 (tl 69 (aP (f_const (.int (nI 62)) 71)))
  (tl 71 (o_callV (lkN [(18, 164)]) 1 74))))
  (tn 78 (tn 77 (tl 74 (aP (f_if (fun x => decide (¬ x = 0)) 87 77)))
  (tl 77 (aP (f_aload 0 78))))
  (tn 79 (tl 78 (aP (f_aload 0 79)))
  (tn 82 (tl 79 (aP (f_getf [18] 9 82)))
  (tl 82 (o_callV (lkN [(18, 158)]) 1 85))))))
  (tn 89 (tn 87 (tn 86 (tl 85 (aP (f_const (.int (nI 0)) 86)))
  (tl 86 (o_iret (fun x => x == 0 || x == 1))))
  (tn 88 (tl 87 (aP (f_aload 0 88)))
  (tl 88 (aP (f_dup 89)))))
  (tn 93 (tn 92 (tl 89 (aP (f_getf [18] 9 92)))
  (tl 92 (aP (f_const (.int (nI 1)) 93))))
  (tn 94 (tl 93 (aP (f_bin (fun x y => x + y) 94)))
  (tn 97 (tl 94 (o_putf [18] 9 vI 97))
  (tl 97 (aP (f_aload 0 98))))))))
  (tn 115 (tn 106 (tn 102 (tn 101 (tl 98 (o_callV (lkN [(18, 166)]) 0 101))
  (tl 101 (aP (f_istore 3 102))))
  (tn 103 (tl 102 (aP (f_iload 2 103)))
  (tl 103 (aP (f_if (fun x => decide (x = 0)) 119 106)))))
  (tn 108 (tn 107 (tl 106 (aP (f_iload 1 107)))
  (tl 107 (aP (f_iload 3 108))))
  (tn 111 (tl 108 (aP (f_icmp (fun x y => decide (y ≤ x)) 115 111)))
  (tn 112 (tl 111 (aP (f_const (.int (nI 1)) 112)))
  (tl 112 (aP (f_goto 129)))))))
  (tn 121 (tn 119 (tn 116 (tl 115 (aP (f_const (.int (nI 0)) 116)))
  (tl 116 (aP (f_goto 129))))
  (tn 120 (tl 119 (aP (f_iload 1 120)))
  (tl 120 (aP (f_iload 3 121)))))
  (tn 125 (tn 124 (tl 121 (aP (f_icmp (fun x y => decide (x ≤ y)) 128 124)))
  (tl 124 (aP (f_const (.int (nI 1)) 125))))
  (tn 128 (tl 125 (aP (f_goto 129)))
  (tn 129 (tl 128 (aP (f_const (.int (nI 0)) 129)))
  (tl 129 (o_iret (fun x => x == 0 || x == 1)))))))))
theorem kok_X7_plain {γ : AG} (hm : γ.2.2.2.2.1 = mTab) (hk : γ.2.2.2.2.2 = kTab) : KOK γ m_X7_plain k_X7_plain :=
 kn_ok
 (kn_ok
 (kn_ok
 (kn_ok
 (kn_ok
 (kn_ok
 (kl_ok (ok_aP (ok_aload_n dX7_plain_0 rfl rfl)))
 (kl_ok (ok_aP (ok_ldcS (tx := "near") (dd := "") (by rw [hk]; rfl) dX7_plain_1 rfl))))
 (kn_ok
 (kl_ok (ok_callV (List.forall_mem_cons.mpr ⟨run_V (C0 := "FavourTownModel") rfl rfl (by rw [hm]; rfl) q1967 q1969 qs37 q92 q1970 ⟨nh_1, dl_48⟩ (by decide) dX7_plain_3, (fun _ h => absurd h List.not_mem_nil)⟩) rfl))
 (kl_ok (ok_aP (ok_if_eq dX7_plain_6 rfl rfl)))))
 (kn_ok
 (kn_ok
 (kl_ok (ok_aP (ok_aload_n dX7_plain_9 rfl rfl)))
 (kl_ok (ok_aP (ok_getf fo_61 fs_rf (Or.inl q1853) dX7_plain_10 rfl))))
 (kn_ok
 (kl_ok (ok_zret rfl z_boolean dX7_plain_13))
 (kl_ok (ok_aP (ok_aload_n dX7_plain_14 rfl rfl))))))
 (kn_ok
 (kn_ok
 (kn_ok
 (kl_ok (ok_aP (ok_ldcS (tx := "timed") (dd := "") (by rw [hk]; rfl) dX7_plain_15 rfl)))
 (kl_ok (ok_callV (List.forall_mem_cons.mpr ⟨run_V (C0 := "FavourTownModel") rfl rfl (by rw [hm]; rfl) q1967 q1969 qs37 q92 q1970 ⟨nh_1, dl_48⟩ (by decide) dX7_plain_17, (fun _ h => absurd h List.not_mem_nil)⟩) rfl)))
 (kn_ok
 (kl_ok (ok_aP (ok_if_eq dX7_plain_20 rfl rfl)))
 (kl_ok (ok_aP (ok_aload_n dX7_plain_23 rfl rfl)))))
 (kn_ok
 (kn_ok
 (kl_ok (ok_aP (ok_getf fo_62 fs_rf (Or.inl q1854) dX7_plain_24 rfl)))
 (kl_ok (ok_zret rfl z_boolean dX7_plain_27)))
 (kn_ok
 (kl_ok (ok_aP (ok_aload_n dX7_plain_28 rfl rfl)))
 (kn_ok
 (kl_ok (ok_aP (ok_ldcS (tx := "again") (dd := "") (by rw [hk]; rfl) dX7_plain_29 rfl)))
 (kl_ok (ok_callV (List.forall_mem_cons.mpr ⟨run_V (C0 := "FavourTownModel") rfl rfl (by rw [hm]; rfl) q1967 q1969 qs37 q92 q1970 ⟨nh_1, dl_48⟩ (by decide) dX7_plain_31, (fun _ h => absurd h List.not_mem_nil)⟩) rfl)))))))
 (kn_ok
 (kn_ok
 (kn_ok
 (kn_ok
 (kl_ok (ok_aP (ok_if_eq dX7_plain_34 rfl rfl)))
 (kl_ok (ok_aP (ok_aload_n dX7_plain_37 rfl rfl))))
 (kn_ok
 (kl_ok (ok_aP (ok_getf fo_63 fs_rf (Or.inl q1855) dX7_plain_38 rfl)))
 (kl_ok (ok_zret rfl z_boolean dX7_plain_41))))
 (kn_ok
 (kn_ok
 (kl_ok (ok_aP (ok_aload_n dX7_plain_42 rfl rfl)))
 (kl_ok (ok_callV (List.forall_mem_cons.mpr ⟨run_V (C0 := "FavourTownModel") rfl rfl (by rw [hm]; rfl) q2009 q2011 qs43 q92 q2012 ⟨nh_1, dl_4⟩ (by decide) dX7_plain_43, (fun _ h => absurd h List.not_mem_nil)⟩) rfl)))
 (kn_ok
 (kl_ok (ok_aP (ok_istore_n dX7_plain_46 rfl rfl)))
 (kn_ok
 (kl_ok (ok_aP (ok_aload_n dX7_plain_47 rfl rfl)))
 (kl_ok (ok_aP (ok_getf fo_64 fs_rf (Or.inl q1849) dX7_plain_48 rfl)))))))
 (kn_ok
 (kn_ok
 (kn_ok
 (kl_ok (ok_aP (ok_iconst dX7_plain_51 rfl rfl)))
 (kl_ok (ok_aP (ok_icmp_eq dX7_plain_52 rfl rfl))))
 (kn_ok
 (kl_ok (ok_aP (ok_iconst dX7_plain_55 rfl rfl)))
 (kl_ok (ok_zret rfl z_boolean dX7_plain_56))))
 (kn_ok
 (kn_ok
 (kl_ok (ok_aP (ok_aload_n dX7_plain_57 rfl rfl)))
 (kl_ok (ok_aP (ok_bipush dX7_plain_58 (by decide +kernel) rfl))))
 (kn_ok
 (kl_ok (ok_callV (List.forall_mem_cons.mpr ⟨run_V (C0 := "FavourTownModel") rfl rfl (by rw [hm]; rfl) q1998 q2000 qs41 q92 q2001 ⟨nh_1, dl_2⟩ (by decide) dX7_plain_60, (fun _ h => absurd h List.not_mem_nil)⟩) rfl))
 (kn_ok
 (kl_ok (ok_aP (ok_istore_n dX7_plain_63 rfl rfl)))
 (kl_ok (ok_aP (ok_iload_n dX7_plain_64 rfl rfl)))))))))
 (kn_ok
 (kn_ok
 (kn_ok
 (kn_ok
 (kn_ok
 (kl_ok (ok_aP (ok_if_ne dX7_plain_65 rfl rfl)))
 (kl_ok (ok_aP (ok_aload_n dX7_plain_68 rfl rfl))))
 (kn_ok
 (kl_ok (ok_aP (ok_bipush dX7_plain_69 (by decide +kernel) rfl)))
 (kl_ok (ok_callV (List.forall_mem_cons.mpr ⟨run_V (C0 := "FavourTownModel") rfl rfl (by rw [hm]; rfl) q1998 q2000 qs41 q92 q2001 ⟨nh_1, dl_2⟩ (by decide) dX7_plain_71, (fun _ h => absurd h List.not_mem_nil)⟩) rfl))))
 (kn_ok
 (kn_ok
 (kl_ok (ok_aP (ok_if_ne dX7_plain_74 rfl rfl)))
 (kl_ok (ok_aP (ok_aload_n dX7_plain_77 rfl rfl))))
 (kn_ok
 (kl_ok (ok_aP (ok_aload_n dX7_plain_78 rfl rfl)))
 (kn_ok
 (kl_ok (ok_aP (ok_getf fo_67 fs_rf (Or.inl q1848) dX7_plain_79 rfl)))
 (kl_ok (ok_callV (List.forall_mem_cons.mpr ⟨run_V (C0 := "FavourTownModel") rfl rfl (by rw [hm]; rfl) q1958 q1960 qs35 q92 q1961 ⟨nh_1, dl_32⟩ (by decide) dX7_plain_82, (fun _ h => absurd h List.not_mem_nil)⟩) rfl))))))
 (kn_ok
 (kn_ok
 (kn_ok
 (kl_ok (ok_aP (ok_iconst dX7_plain_85 rfl rfl)))
 (kl_ok (ok_zret rfl z_boolean dX7_plain_86)))
 (kn_ok
 (kl_ok (ok_aP (ok_aload_n dX7_plain_87 rfl rfl)))
 (kl_ok (ok_aP (ok_dup dX7_plain_88 rfl)))))
 (kn_ok
 (kn_ok
 (kl_ok (ok_aP (ok_getf fo_67 fs_rf (Or.inl q1848) dX7_plain_89 rfl)))
 (kl_ok (ok_aP (ok_iconst dX7_plain_92 rfl rfl))))
 (kn_ok
 (kl_ok (ok_aP (ok_iadd dX7_plain_93 rfl)))
 (kn_ok
 (kl_ok (ok_hp (ok_putf fo_67 fs_rf fn_47 (Or.inl q1848) pd_0 vI_ok dX7_plain_94 rfl) le_putf))
 (kl_ok (ok_aP (ok_aload_n dX7_plain_97 rfl rfl))))))))
 (kn_ok
 (kn_ok
 (kn_ok
 (kn_ok
 (kl_ok (ok_callV (List.forall_mem_cons.mpr ⟨run_V (C0 := "FavourTownModel") rfl rfl (by rw [hm]; rfl) q2009 q2011 qs43 q92 q2012 ⟨nh_1, dl_4⟩ (by decide) dX7_plain_98, (fun _ h => absurd h List.not_mem_nil)⟩) rfl))
 (kl_ok (ok_aP (ok_istore_n dX7_plain_101 rfl rfl))))
 (kn_ok
 (kl_ok (ok_aP (ok_iload_n dX7_plain_102 rfl rfl)))
 (kl_ok (ok_aP (ok_if_eq dX7_plain_103 rfl rfl)))))
 (kn_ok
 (kn_ok
 (kl_ok (ok_aP (ok_iload_n dX7_plain_106 rfl rfl)))
 (kl_ok (ok_aP (ok_iload_n dX7_plain_107 rfl rfl))))
 (kn_ok
 (kl_ok (ok_aP (ok_icmp_ge dX7_plain_108 rfl rfl)))
 (kn_ok
 (kl_ok (ok_aP (ok_iconst dX7_plain_111 rfl rfl)))
 (kl_ok (ok_aP (ok_goto dX7_plain_112 rfl)))))))
 (kn_ok
 (kn_ok
 (kn_ok
 (kl_ok (ok_aP (ok_iconst dX7_plain_115 rfl rfl)))
 (kl_ok (ok_aP (ok_goto dX7_plain_116 rfl))))
 (kn_ok
 (kl_ok (ok_aP (ok_iload_n dX7_plain_119 rfl rfl)))
 (kl_ok (ok_aP (ok_iload_n dX7_plain_120 rfl rfl)))))
 (kn_ok
 (kn_ok
 (kl_ok (ok_aP (ok_icmp_le dX7_plain_121 rfl rfl)))
 (kl_ok (ok_aP (ok_iconst dX7_plain_124 rfl rfl))))
 (kn_ok
 (kl_ok (ok_aP (ok_goto dX7_plain_125 rfl)))
 (kn_ok
 (kl_ok (ok_aP (ok_iconst dX7_plain_128 rfl rfl)))
 (kl_ok (ok_zret rfl z_boolean dX7_plain_129))))))))
/-- 166: FavourTownModel.sum()I -/
noncomputable def k_X7_sum : Nat → Option AOp :=
 tn 23 (tn 10 (tn 5 (tn 1 (tl 0 (aP (f_aload 0 1)))
  (tn 4 (tl 1 (o_callV (lkN [(18, 167)]) 0 4))
  (tl 4 (aP (f_istore 1 5)))))
  (tn 6 (tl 5 (aP (f_aload 0 6)))
  (tn 9 (tl 6 (aP (f_getf [18] 10 9)))
  (tl 9 (aP (f_const (.int (-1)) 10))))))
  (tn 16 (tn 13 (tl 10 (aP (f_icmp (fun x y => decide (¬ x = y)) 42 13)))
  (tn 14 (tl 13 (aP (f_aload 0 14)))
  (tl 14 (aP (f_const (.int (nI 43)) 16)))))
  (tn 19 (tl 16 (o_callV (lkN [(18, 164)]) 1 19))
  (tn 22 (tl 19 (aP (f_if (fun x => decide (x = 0)) 42 22)))
  (tl 22 (aP (f_aload 0 23)))))))
  (tn 33 (tn 28 (tn 24 (tl 23 (aP (f_dup 24)))
  (tn 27 (tl 24 (aP (f_getf [18] 9 27)))
  (tl 27 (aP (f_const (.int (nI 1)) 28)))))
  (tn 29 (tl 28 (aP (f_bin (fun x y => x + y) 29)))
  (tn 32 (tl 29 (o_putf [18] 9 vI 32))
  (tl 32 (aP (f_iload 1 33))))))
  (tn 38 (tn 34 (tl 33 (aP (f_aload 0 34)))
  (tn 37 (tl 34 (o_callV (lkN [(18, 167)]) 0 37))
  (tl 37 (aP (f_bin (fun x y => x + y) 38)))))
  (tn 42 (tn 39 (tl 38 (aP (f_istore 1 39)))
  (tl 39 (aP (f_goto 5))))
  (tn 43 (tl 42 (aP (f_iload 1 43)))
  (tl 43 (o_iret (fun _ => true)))))))
theorem kok_X7_sum {γ : AG} (hm : γ.2.2.2.2.1 = mTab) (hk : γ.2.2.2.2.2 = kTab) : KOK γ m_X7_sum k_X7_sum :=
 kn_ok
 (kn_ok
 (kn_ok
 (kn_ok
 (kl_ok (ok_aP (ok_aload_n dX7_sum_0 rfl rfl)))
 (kn_ok
 (kl_ok (ok_callV (List.forall_mem_cons.mpr ⟨run_V (C0 := "FavourTownModel") rfl rfl (by rw [hm]; rfl) q2013 q2015 qs44 q92 q2016 ⟨nh_1, dl_4⟩ (by decide) dX7_sum_1, (fun _ h => absurd h List.not_mem_nil)⟩) rfl))
 (kl_ok (ok_aP (ok_istore_n dX7_sum_4 rfl rfl)))))
 (kn_ok
 (kl_ok (ok_aP (ok_aload_n dX7_sum_5 rfl rfl)))
 (kn_ok
 (kl_ok (ok_aP (ok_getf fo_64 fs_rf (Or.inl q1849) dX7_sum_6 rfl)))
 (kl_ok (ok_aP (ok_iconst dX7_sum_9 rfl rfl))))))
 (kn_ok
 (kn_ok
 (kl_ok (ok_aP (ok_icmp_ne dX7_sum_10 rfl rfl)))
 (kn_ok
 (kl_ok (ok_aP (ok_aload_n dX7_sum_13 rfl rfl)))
 (kl_ok (ok_aP (ok_bipush dX7_sum_14 (by decide +kernel) rfl)))))
 (kn_ok
 (kl_ok (ok_callV (List.forall_mem_cons.mpr ⟨run_V (C0 := "FavourTownModel") rfl rfl (by rw [hm]; rfl) q1998 q2000 qs41 q92 q2001 ⟨nh_1, dl_2⟩ (by decide) dX7_sum_16, (fun _ h => absurd h List.not_mem_nil)⟩) rfl))
 (kn_ok
 (kl_ok (ok_aP (ok_if_eq dX7_sum_19 rfl rfl)))
 (kl_ok (ok_aP (ok_aload_n dX7_sum_22 rfl rfl)))))))
 (kn_ok
 (kn_ok
 (kn_ok
 (kl_ok (ok_aP (ok_dup dX7_sum_23 rfl)))
 (kn_ok
 (kl_ok (ok_aP (ok_getf fo_67 fs_rf (Or.inl q1848) dX7_sum_24 rfl)))
 (kl_ok (ok_aP (ok_iconst dX7_sum_27 rfl rfl)))))
 (kn_ok
 (kl_ok (ok_aP (ok_iadd dX7_sum_28 rfl)))
 (kn_ok
 (kl_ok (ok_hp (ok_putf fo_67 fs_rf fn_47 (Or.inl q1848) pd_0 vI_ok dX7_sum_29 rfl) le_putf))
 (kl_ok (ok_aP (ok_iload_n dX7_sum_32 rfl rfl))))))
 (kn_ok
 (kn_ok
 (kl_ok (ok_aP (ok_aload_n dX7_sum_33 rfl rfl)))
 (kn_ok
 (kl_ok (ok_callV (List.forall_mem_cons.mpr ⟨run_V (C0 := "FavourTownModel") rfl rfl (by rw [hm]; rfl) q2013 q2015 qs44 q92 q2016 ⟨nh_1, dl_4⟩ (by decide) dX7_sum_34, (fun _ h => absurd h List.not_mem_nil)⟩) rfl))
 (kl_ok (ok_aP (ok_iadd dX7_sum_37 rfl)))))
 (kn_ok
 (kn_ok
 (kl_ok (ok_aP (ok_istore_n dX7_sum_38 rfl rfl)))
 (kl_ok (ok_aP (ok_goto dX7_sum_39 rfl))))
 (kn_ok
 (kl_ok (ok_aP (ok_iload_n dX7_sum_42 rfl rfl)))
 (kl_ok (ok_iret rfl dX7_sum_43))))))
/-- 167: FavourTownModel.part()I -/
noncomputable def k_X7_part : Nat → Option AOp :=
 tn 79 (tn 37 (tn 15 (tn 8 (tn 4 (tn 1 (tl 0 (aP (f_aload 0 1)))
  (tl 1 (aP (f_getf [18] 10 4))))
  (tn 5 (tl 4 (aP (f_const (.int (-1)) 5)))
  (tl 5 (aP (f_icmp (fun x y => decide (x = y)) 10 8)))))
  (tn 10 (tn 9 (tl 8 (aP (f_const (.int (nI 0)) 9)))
  (tl 9 (o_iret (fun _ => true))))
  (tn 11 (tl 10 (aP (f_aload 0 11)))
  (tn 14 (tl 11 (o_callV (lkN [(18, 156)]) 0 14))
  (tl 14 (aP (f_aload 0 15)))))))
  (tn 26 (tn 19 (tn 18 (tl 15 (aP (f_getf [18] 9 18)))
  (tl 18 (aP (f_aload 0 19))))
  (tn 22 (tl 19 (aP (f_getf [18] 8 22)))
  (tn 25 (tl 22 (aP (f_icmp (fun x y => decide (y ≤ x)) 52 25)))
  (tl 25 (aP (f_aload 0 26))))))
  (tn 30 (tn 27 (tl 26 (aP (f_aload 0 27)))
  (tl 27 (aP (f_getf [18] 9 30))))
  (tn 33 (tl 30 (o_callV (lkN [(18, 157)]) 1 33))
  (tn 35 (tl 33 (aP (f_const (.int (nI 48)) 35)))
  (tl 35 (aP (f_const (.int (nI 57)) 37))))))))
  (tn 58 (tn 48 (tn 43 (tn 40 (tl 37 (o_callS 153 3 40))
  (tl 40 (aP (f_if (fun x => decide (x = 0)) 52 43))))
  (tn 44 (tl 43 (aP (f_aload 0 44)))
  (tn 45 (tl 44 (aP (f_const (.int (nI 0)) 45)))
  (tl 45 (aP (f_const (.int (nI 999)) 48))))))
  (tn 52 (tn 51 (tl 48 (o_callV (lkN [(18, 168)]) 2 51))
  (tl 51 (o_iret (fun _ => true))))
  (tn 53 (tl 52 (aP (f_aload 0 53)))
  (tn 55 (tl 53 (aP (f_stat 48 55)))
  (tl 55 (o_callV (lkN [(18, 160)]) 1 58))))))
  (tn 68 (tn 62 (tn 61 (tl 58 (aP (f_if (fun x => decide (x = 0)) 65 61)))
  (tl 61 (aP (f_const (.int (nI 0)) 62))))
  (tn 65 (tl 62 (aP (f_goto 131)))
  (tn 66 (tl 65 (aP (f_aload 0 66)))
  (tl 66 (aP (f_stat 49 68))))))
  (tn 74 (tn 71 (tl 68 (o_callV (lkN [(18, 160)]) 1 71))
  (tl 71 (aP (f_if (fun x => decide (x = 0)) 78 74))))
  (tn 75 (tl 74 (aP (f_const (.int (nI 1)) 75)))
  (tn 78 (tl 75 (aP (f_goto 131)))
  (tl 78 (aP (f_aload 0 79)))))))))
  (tn 120 (tn 100 (tn 88 (tn 84 (tn 81 (tl 79 (aP (f_stat 50 81)))
  (tl 81 (o_callV (lkN [(18, 160)]) 1 84)))
  (tn 87 (tl 84 (aP (f_if (fun x => decide (x = 0)) 91 87)))
  (tl 87 (aP (f_const (.int (nI 2)) 88)))))
  (tn 92 (tn 91 (tl 88 (aP (f_goto 131)))
  (tl 91 (aP (f_aload 0 92))))
  (tn 94 (tl 92 (aP (f_stat 51 94)))
  (tn 97 (tl 94 (o_callV (lkN [(18, 160)]) 1 97))
  (tl 97 (aP (f_if (fun x => decide (x = 0)) 104 100)))))))
  (tn 110 (tn 104 (tn 101 (tl 100 (aP (f_const (.int (nI 3)) 101)))
  (tl 101 (aP (f_goto 131))))
  (tn 105 (tl 104 (aP (f_aload 0 105)))
  (tn 107 (tl 105 (aP (f_stat 52 107)))
  (tl 107 (o_callV (lkN [(18, 160)]) 1 110)))))
  (tn 114 (tn 113 (tl 110 (aP (f_if (fun x => decide (x = 0)) 117 113)))
  (tl 113 (aP (f_const (.int (nI 4)) 114))))
  (tn 117 (tl 114 (aP (f_goto 131)))
  (tn 118 (tl 117 (aP (f_aload 0 118)))
  (tl 118 (aP (f_stat 53 120))))))))
  (tn 138 (tn 131 (tn 126 (tn 123 (tl 120 (o_callV (lkN [(18, 160)]) 1 123))
  (tl 123 (aP (f_if (fun x => decide (x = 0)) 130 126))))
  (tn 127 (tl 126 (aP (f_const (.int (nI 5)) 127)))
  (tn 130 (tl 127 (aP (f_goto 131)))
  (tl 130 (aP (f_const (.int (-1)) 131))))))
  (tn 133 (tn 132 (tl 131 (aP (f_istore 1 132)))
  (tl 132 (aP (f_iload 1 133))))
  (tn 134 (tl 133 (aP (f_const (.int (-1)) 134)))
  (tn 137 (tl 134 (aP (f_icmp (fun x y => decide (¬ x = y)) 147 137)))
  (tl 137 (aP (f_aload 0 138)))))))
  (tn 147 (tn 142 (tn 139 (tl 138 (aP (f_aload 0 139)))
  (tl 139 (aP (f_getf [18] 9 142))))
  (tn 145 (tl 142 (o_callV (lkN [(18, 158)]) 1 145))
  (tn 146 (tl 145 (aP (f_const (.int (nI 0)) 146)))
  (tl 146 (o_iret (fun _ => true))))))
  (tn 151 (tn 148 (tl 147 (aP (f_aload 0 148)))
  (tl 148 (aP (f_getf [18] 13 151))))
  (tn 152 (tl 151 (aP (f_iload 1 152)))
  (tn 153 (tl 152 (aP (f_iald 0 153)))
  (tl 153 (o_iret (fun _ => true)))))))))
theorem kok_X7_part {γ : AG} (hm : γ.2.2.2.2.1 = mTab) (hk : γ.2.2.2.2.2 = kTab) : KOK γ m_X7_part k_X7_part :=
 kn_ok
 (kn_ok
 (kn_ok
 (kn_ok
 (kn_ok
 (kn_ok
 (kl_ok (ok_aP (ok_aload_n dX7_part_0 rfl rfl)))
 (kl_ok (ok_aP (ok_getf fo_64 fs_rf (Or.inl q1849) dX7_part_1 rfl))))
 (kn_ok
 (kl_ok (ok_aP (ok_iconst dX7_part_4 rfl rfl)))
 (kl_ok (ok_aP (ok_icmp_eq dX7_part_5 rfl rfl)))))
 (kn_ok
 (kn_ok
 (kl_ok (ok_aP (ok_iconst dX7_part_8 rfl rfl)))
 (kl_ok (ok_iret rfl dX7_part_9)))
 (kn_ok
 (kl_ok (ok_aP (ok_aload_n dX7_part_10 rfl rfl)))
 (kn_ok
 (kl_ok (ok_callV (List.forall_mem_cons.mpr ⟨run_V (C0 := "FavourTownModel") rfl rfl (by rw [hm]; rfl) q1950 q1952 qs33 q92 q1953 ⟨nh_1, dl_0⟩ (by decide) dX7_part_11, (fun _ h => absurd h List.not_mem_nil)⟩) rfl))
 (kl_ok (ok_aP (ok_aload_n dX7_part_14 rfl rfl)))))))
 (kn_ok
 (kn_ok
 (kn_ok
 (kl_ok (ok_aP (ok_getf fo_67 fs_rf (Or.inl q1848) dX7_part_15 rfl)))
 (kl_ok (ok_aP (ok_aload_n dX7_part_18 rfl rfl))))
 (kn_ok
 (kl_ok (ok_aP (ok_getf fo_66 fs_rf (Or.inl q1847) dX7_part_19 rfl)))
 (kn_ok
 (kl_ok (ok_aP (ok_icmp_ge dX7_part_22 rfl rfl)))
 (kl_ok (ok_aP (ok_aload_n dX7_part_25 rfl rfl))))))
 (kn_ok
 (kn_ok
 (kl_ok (ok_aP (ok_aload_n dX7_part_26 rfl rfl)))
 (kl_ok (ok_aP (ok_getf fo_67 fs_rf (Or.inl q1848) dX7_part_27 rfl))))
 (kn_ok
 (kl_ok (ok_callV (List.forall_mem_cons.mpr ⟨run_V (C0 := "FavourTownModel") rfl rfl (by rw [hm]; rfl) q1954 q1956 qs34 q92 q1957 ⟨nh_1, dl_10⟩ (by decide) dX7_part_30, (fun _ h => absurd h List.not_mem_nil)⟩) rfl))
 (kn_ok
 (kl_ok (ok_aP (ok_bipush dX7_part_33 (by decide +kernel) rfl)))
 (kl_ok (ok_aP (ok_bipush dX7_part_35 (by decide +kernel) rfl))))))))
 (kn_ok
 (kn_ok
 (kn_ok
 (kn_ok
 (kl_ok (ok_callS (run_S (by rw [hm]; rfl) q1939 q1940 q92 q1941 ⟨nh_1, dl_17⟩ (by decide) dX7_part_37) rfl))
 (kl_ok (ok_aP (ok_if_eq dX7_part_40 rfl rfl))))
 (kn_ok
 (kl_ok (ok_aP (ok_aload_n dX7_part_43 rfl rfl)))
 (kn_ok
 (kl_ok (ok_aP (ok_iconst dX7_part_44 rfl rfl)))
 (kl_ok (ok_aP (ok_sipush dX7_part_45 (by decide +kernel) rfl))))))
 (kn_ok
 (kn_ok
 (kl_ok (ok_callV (List.forall_mem_cons.mpr ⟨run_V (C0 := "FavourTownModel") rfl rfl (by rw [hm]; rfl) q2017 q2019 qs45 q92 q2020 ⟨nh_1, dl_6⟩ (by decide) dX7_part_48, (fun _ h => absurd h List.not_mem_nil)⟩) rfl))
 (kl_ok (ok_iret rfl dX7_part_51)))
 (kn_ok
 (kl_ok (ok_aP (ok_aload_n dX7_part_52 rfl rfl)))
 (kn_ok
 (kl_ok (ok_aP (ok_ldcS (tx := "worth") (dd := "") (by rw [hk]; rfl) dX7_part_53 rfl)))
 (kl_ok (ok_callV (List.forall_mem_cons.mpr ⟨run_V (C0 := "FavourTownModel") rfl rfl (by rw [hm]; rfl) q1967 q1969 qs37 q92 q1970 ⟨nh_1, dl_48⟩ (by decide) dX7_part_55, (fun _ h => absurd h List.not_mem_nil)⟩) rfl))))))
 (kn_ok
 (kn_ok
 (kn_ok
 (kl_ok (ok_aP (ok_if_eq dX7_part_58 rfl rfl)))
 (kl_ok (ok_aP (ok_iconst dX7_part_61 rfl rfl))))
 (kn_ok
 (kl_ok (ok_aP (ok_goto dX7_part_62 rfl)))
 (kn_ok
 (kl_ok (ok_aP (ok_aload_n dX7_part_65 rfl rfl)))
 (kl_ok (ok_aP (ok_ldcS (tx := "amount") (dd := "") (by rw [hk]; rfl) dX7_part_66 rfl))))))
 (kn_ok
 (kn_ok
 (kl_ok (ok_callV (List.forall_mem_cons.mpr ⟨run_V (C0 := "FavourTownModel") rfl rfl (by rw [hm]; rfl) q1967 q1969 qs37 q92 q1970 ⟨nh_1, dl_48⟩ (by decide) dX7_part_68, (fun _ h => absurd h List.not_mem_nil)⟩) rfl))
 (kl_ok (ok_aP (ok_if_eq dX7_part_71 rfl rfl))))
 (kn_ok
 (kl_ok (ok_aP (ok_iconst dX7_part_74 rfl rfl)))
 (kn_ok
 (kl_ok (ok_aP (ok_goto dX7_part_75 rfl)))
 (kl_ok (ok_aP (ok_aload_n dX7_part_78 rfl rfl)))))))))
 (kn_ok
 (kn_ok
 (kn_ok
 (kn_ok
 (kn_ok
 (kl_ok (ok_aP (ok_ldcS (tx := "hands") (dd := "") (by rw [hk]; rfl) dX7_part_79 rfl)))
 (kl_ok (ok_callV (List.forall_mem_cons.mpr ⟨run_V (C0 := "FavourTownModel") rfl rfl (by rw [hm]; rfl) q1967 q1969 qs37 q92 q1970 ⟨nh_1, dl_48⟩ (by decide) dX7_part_81, (fun _ h => absurd h List.not_mem_nil)⟩) rfl)))
 (kn_ok
 (kl_ok (ok_aP (ok_if_eq dX7_part_84 rfl rfl)))
 (kl_ok (ok_aP (ok_iconst dX7_part_87 rfl rfl)))))
 (kn_ok
 (kn_ok
 (kl_ok (ok_aP (ok_goto dX7_part_88 rfl)))
 (kl_ok (ok_aP (ok_aload_n dX7_part_91 rfl rfl))))
 (kn_ok
 (kl_ok (ok_aP (ok_ldcS (tx := "left") (dd := "") (by rw [hk]; rfl) dX7_part_92 rfl)))
 (kn_ok
 (kl_ok (ok_callV (List.forall_mem_cons.mpr ⟨run_V (C0 := "FavourTownModel") rfl rfl (by rw [hm]; rfl) q1967 q1969 qs37 q92 q1970 ⟨nh_1, dl_48⟩ (by decide) dX7_part_94, (fun _ h => absurd h List.not_mem_nil)⟩) rfl))
 (kl_ok (ok_aP (ok_if_eq dX7_part_97 rfl rfl)))))))
 (kn_ok
 (kn_ok
 (kn_ok
 (kl_ok (ok_aP (ok_iconst dX7_part_100 rfl rfl)))
 (kl_ok (ok_aP (ok_goto dX7_part_101 rfl))))
 (kn_ok
 (kl_ok (ok_aP (ok_aload_n dX7_part_104 rfl rfl)))
 (kn_ok
 (kl_ok (ok_aP (ok_ldcS (tx := "owed") (dd := "") (by rw [hk]; rfl) dX7_part_105 rfl)))
 (kl_ok (ok_callV (List.forall_mem_cons.mpr ⟨run_V (C0 := "FavourTownModel") rfl rfl (by rw [hm]; rfl) q1967 q1969 qs37 q92 q1970 ⟨nh_1, dl_48⟩ (by decide) dX7_part_107, (fun _ h => absurd h List.not_mem_nil)⟩) rfl)))))
 (kn_ok
 (kn_ok
 (kl_ok (ok_aP (ok_if_eq dX7_part_110 rfl rfl)))
 (kl_ok (ok_aP (ok_iconst dX7_part_113 rfl rfl))))
 (kn_ok
 (kl_ok (ok_aP (ok_goto dX7_part_114 rfl)))
 (kn_ok
 (kl_ok (ok_aP (ok_aload_n dX7_part_117 rfl rfl)))
 (kl_ok (ok_aP (ok_ldcS (tx := "debt") (dd := "") (by rw [hk]; rfl) dX7_part_118 rfl))))))))
 (kn_ok
 (kn_ok
 (kn_ok
 (kn_ok
 (kl_ok (ok_callV (List.forall_mem_cons.mpr ⟨run_V (C0 := "FavourTownModel") rfl rfl (by rw [hm]; rfl) q1967 q1969 qs37 q92 q1970 ⟨nh_1, dl_48⟩ (by decide) dX7_part_120, (fun _ h => absurd h List.not_mem_nil)⟩) rfl))
 (kl_ok (ok_aP (ok_if_eq dX7_part_123 rfl rfl))))
 (kn_ok
 (kl_ok (ok_aP (ok_iconst dX7_part_126 rfl rfl)))
 (kn_ok
 (kl_ok (ok_aP (ok_goto dX7_part_127 rfl)))
 (kl_ok (ok_aP (ok_iconst dX7_part_130 rfl rfl))))))
 (kn_ok
 (kn_ok
 (kl_ok (ok_aP (ok_istore_n dX7_part_131 rfl rfl)))
 (kl_ok (ok_aP (ok_iload_n dX7_part_132 rfl rfl))))
 (kn_ok
 (kl_ok (ok_aP (ok_iconst dX7_part_133 rfl rfl)))
 (kn_ok
 (kl_ok (ok_aP (ok_icmp_ne dX7_part_134 rfl rfl)))
 (kl_ok (ok_aP (ok_aload_n dX7_part_137 rfl rfl)))))))
 (kn_ok
 (kn_ok
 (kn_ok
 (kl_ok (ok_aP (ok_aload_n dX7_part_138 rfl rfl)))
 (kl_ok (ok_aP (ok_getf fo_67 fs_rf (Or.inl q1848) dX7_part_139 rfl))))
 (kn_ok
 (kl_ok (ok_callV (List.forall_mem_cons.mpr ⟨run_V (C0 := "FavourTownModel") rfl rfl (by rw [hm]; rfl) q1958 q1960 qs35 q92 q1961 ⟨nh_1, dl_32⟩ (by decide) dX7_part_142, (fun _ h => absurd h List.not_mem_nil)⟩) rfl))
 (kn_ok
 (kl_ok (ok_aP (ok_iconst dX7_part_145 rfl rfl)))
 (kl_ok (ok_iret rfl dX7_part_146)))))
 (kn_ok
 (kn_ok
 (kl_ok (ok_aP (ok_aload_n dX7_part_147 rfl rfl)))
 (kl_ok (ok_aP (ok_getf fo_60 fs_rf (Or.inl q1852) dX7_part_148 rfl))))
 (kn_ok
 (kl_ok (ok_aP (ok_iload_n dX7_part_151 rfl rfl)))
 (kn_ok
 (kl_ok (ok_aP (ok_iald dX7_part_152 rfl)))
 (kl_ok (ok_iret rfl dX7_part_153))))))))
/-- 168: FavourTownModel.figures(II)I -/
noncomputable def k_X7_figures : Nat → Option AOp :=
 tn 66 (tn 30 (tn 14 (tn 8 (tn 4 (tn 1 (tl 0 (aP (f_aload 0 1)))
  (tl 1 (aP (f_getf [18] 10 4))))
  (tn 5 (tl 4 (aP (f_const (.int (-1)) 5)))
  (tl 5 (aP (f_icmp (fun x y => decide (x = y)) 10 8)))))
  (tn 10 (tn 9 (tl 8 (aP (f_const (.int (nI 0)) 9)))
  (tl 9 (o_iret (fun _ => true))))
  (tn 11 (tl 10 (aP (f_aload 0 11)))
  (tl 11 (o_callV (lkN [(18, 156)]) 0 14)))))
  (tn 20 (tn 18 (tn 15 (tl 14 (aP (f_aload 0 15)))
  (tl 15 (aP (f_getf [18] 9 18))))
  (tn 19 (tl 18 (aP (f_istore 3 19)))
  (tl 19 (aP (f_const (.int (nI 0)) 20)))))
  (tn 23 (tn 22 (tl 20 (aP (f_istore 4 22)))
  (tl 22 (aP (f_aload 0 23))))
  (tn 26 (tl 23 (aP (f_getf [18] 9 26)))
  (tn 27 (tl 26 (aP (f_aload 0 27)))
  (tl 27 (aP (f_getf [18] 8 30))))))))
  (tn 51 (tn 38 (tn 34 (tn 33 (tl 30 (aP (f_icmp (fun x y => decide (y ≤ x)) 93 33)))
  (tl 33 (aP (f_aload 0 34))))
  (tn 35 (tl 34 (aP (f_aload 0 35)))
  (tl 35 (aP (f_getf [18] 9 38)))))
  (tn 43 (tn 41 (tl 38 (o_callV (lkN [(18, 157)]) 1 41))
  (tl 41 (aP (f_const (.int (nI 48)) 43))))
  (tn 45 (tl 43 (aP (f_const (.int (nI 57)) 45)))
  (tn 48 (tl 45 (o_callS 153 3 48))
  (tl 48 (aP (f_if (fun x => decide (x = 0)) 93 51)))))))
  (tn 57 (tn 55 (tn 52 (tl 51 (aP (f_aload 0 52)))
  (tl 52 (aP (f_getf [18] 9 55))))
  (tn 56 (tl 55 (aP (f_iload 3 56)))
  (tl 56 (aP (f_bin (fun x y => x - y) 57)))))
  (tn 61 (tn 58 (tl 57 (aP (f_const (.int (nI 4)) 58)))
  (tl 58 (aP (f_icmp (fun x y => decide (y ≤ x)) 93 61))))
  (tn 63 (tl 61 (aP (f_const (.int (nI 10)) 63)))
  (tn 65 (tl 63 (aP (f_iload 4 65)))
  (tl 65 (aP (f_bin (fun x y => x * y) 66)))))))))
  (tn 98 (tn 81 (tn 74 (tn 68 (tn 67 (tl 66 (aP (f_aload 0 67)))
  (tl 67 (aP (f_aload 0 68))))
  (tn 71 (tl 68 (aP (f_getf [18] 9 71)))
  (tl 71 (o_callV (lkN [(18, 157)]) 1 74))))
  (tn 77 (tn 75 (tl 74 (aP (f_bin (fun x y => x + y) 75)))
  (tl 75 (aP (f_const (.int (nI 48)) 77))))
  (tn 78 (tl 77 (aP (f_bin (fun x y => x - y) 78)))
  (tn 80 (tl 78 (aP (f_istore 4 80)))
  (tl 80 (aP (f_aload 0 81)))))))
  (tn 87 (tn 85 (tn 82 (tl 81 (aP (f_dup 82)))
  (tl 82 (aP (f_getf [18] 9 85))))
  (tn 86 (tl 85 (aP (f_const (.int (nI 1)) 86)))
  (tl 86 (aP (f_bin (fun x y => x + y) 87)))))
  (tn 93 (tn 90 (tl 87 (o_putf [18] 9 vI 90))
  (tl 90 (aP (f_goto 22))))
  (tn 94 (tl 93 (aP (f_aload 0 94)))
  (tn 97 (tl 94 (aP (f_getf [18] 9 97)))
  (tl 97 (aP (f_iload 3 98))))))))
  (tn 114 (tn 106 (tn 102 (tn 101 (tl 98 (aP (f_icmp (fun x y => decide (x = y)) 123 101)))
  (tl 101 (aP (f_aload 0 102))))
  (tn 105 (tl 102 (aP (f_getf [18] 9 105)))
  (tl 105 (aP (f_iload 3 106)))))
  (tn 108 (tn 107 (tl 106 (aP (f_bin (fun x y => x - y) 107)))
  (tl 107 (aP (f_const (.int (nI 3)) 108))))
  (tn 111 (tl 108 (aP (f_icmp (fun x y => decide (y < x)) 123 111)))
  (tn 113 (tl 111 (aP (f_iload 4 113)))
  (tl 113 (aP (f_iload 1 114)))))))
  (tn 123 (tn 119 (tn 117 (tl 114 (aP (f_icmp (fun x y => decide (x < y)) 123 117)))
  (tl 117 (aP (f_iload 4 119))))
  (tn 120 (tl 119 (aP (f_iload 2 120)))
  (tl 120 (aP (f_icmp (fun x y => decide (x ≤ y)) 128 123)))))
  (tn 125 (tn 124 (tl 123 (aP (f_aload 0 124)))
  (tl 124 (aP (f_iload 3 125))))
  (tn 128 (tl 125 (o_callV (lkN [(18, 158)]) 1 128))
  (tn 130 (tl 128 (aP (f_iload 4 130)))
  (tl 130 (o_iret (fun _ => true)))))))))
theorem kok_X7_figures {γ : AG} (hm : γ.2.2.2.2.1 = mTab) (hk : γ.2.2.2.2.2 = kTab) : KOK γ m_X7_figures k_X7_figures :=
 kn_ok
 (kn_ok
 (kn_ok
 (kn_ok
 (kn_ok
 (kn_ok
 (kl_ok (ok_aP (ok_aload_n dX7_figures_0 rfl rfl)))
 (kl_ok (ok_aP (ok_getf fo_64 fs_rf (Or.inl q1849) dX7_figures_1 rfl))))
 (kn_ok
 (kl_ok (ok_aP (ok_iconst dX7_figures_4 rfl rfl)))
 (kl_ok (ok_aP (ok_icmp_eq dX7_figures_5 rfl rfl)))))
 (kn_ok
 (kn_ok
 (kl_ok (ok_aP (ok_iconst dX7_figures_8 rfl rfl)))
 (kl_ok (ok_iret rfl dX7_figures_9)))
 (kn_ok
 (kl_ok (ok_aP (ok_aload_n dX7_figures_10 rfl rfl)))
 (kl_ok (ok_callV (List.forall_mem_cons.mpr ⟨run_V (C0 := "FavourTownModel") rfl rfl (by rw [hm]; rfl) q1950 q1952 qs33 q92 q1953 ⟨nh_1, dl_0⟩ (by decide) dX7_figures_11, (fun _ h => absurd h List.not_mem_nil)⟩) rfl)))))
 (kn_ok
 (kn_ok
 (kn_ok
 (kl_ok (ok_aP (ok_aload_n dX7_figures_14 rfl rfl)))
 (kl_ok (ok_aP (ok_getf fo_67 fs_rf (Or.inl q1848) dX7_figures_15 rfl))))
 (kn_ok
 (kl_ok (ok_aP (ok_istore_n dX7_figures_18 rfl rfl)))
 (kl_ok (ok_aP (ok_iconst dX7_figures_19 rfl rfl)))))
 (kn_ok
 (kn_ok
 (kl_ok (ok_aP (ok_istore dX7_figures_20 rfl)))
 (kl_ok (ok_aP (ok_aload_n dX7_figures_22 rfl rfl))))
 (kn_ok
 (kl_ok (ok_aP (ok_getf fo_67 fs_rf (Or.inl q1848) dX7_figures_23 rfl)))
 (kn_ok
 (kl_ok (ok_aP (ok_aload_n dX7_figures_26 rfl rfl)))
 (kl_ok (ok_aP (ok_getf fo_66 fs_rf (Or.inl q1847) dX7_figures_27 rfl))))))))
 (kn_ok
 (kn_ok
 (kn_ok
 (kn_ok
 (kl_ok (ok_aP (ok_icmp_ge dX7_figures_30 rfl rfl)))
 (kl_ok (ok_aP (ok_aload_n dX7_figures_33 rfl rfl))))
 (kn_ok
 (kl_ok (ok_aP (ok_aload_n dX7_figures_34 rfl rfl)))
 (kl_ok (ok_aP (ok_getf fo_67 fs_rf (Or.inl q1848) dX7_figures_35 rfl)))))
 (kn_ok
 (kn_ok
 (kl_ok (ok_callV (List.forall_mem_cons.mpr ⟨run_V (C0 := "FavourTownModel") rfl rfl (by rw [hm]; rfl) q1954 q1956 qs34 q92 q1957 ⟨nh_1, dl_10⟩ (by decide) dX7_figures_38, (fun _ h => absurd h List.not_mem_nil)⟩) rfl))
 (kl_ok (ok_aP (ok_bipush dX7_figures_41 (by decide +kernel) rfl))))
 (kn_ok
 (kl_ok (ok_aP (ok_bipush dX7_figures_43 (by decide +kernel) rfl)))
 (kn_ok
 (kl_ok (ok_callS (run_S (by rw [hm]; rfl) q1939 q1940 q92 q1941 ⟨nh_1, dl_17⟩ (by decide) dX7_figures_45) rfl))
 (kl_ok (ok_aP (ok_if_eq dX7_figures_48 rfl rfl)))))))
 (kn_ok
 (kn_ok
 (kn_ok
 (kl_ok (ok_aP (ok_aload_n dX7_figures_51 rfl rfl)))
 (kl_ok (ok_aP (ok_getf fo_67 fs_rf (Or.inl q1848) dX7_figures_52 rfl))))
 (kn_ok
 (kl_ok (ok_aP (ok_iload_n dX7_figures_55 rfl rfl)))
 (kl_ok (ok_aP (ok_isub dX7_figures_56 rfl)))))
 (kn_ok
 (kn_ok
 (kl_ok (ok_aP (ok_iconst dX7_figures_57 rfl rfl)))
 (kl_ok (ok_aP (ok_icmp_ge dX7_figures_58 rfl rfl))))
 (kn_ok
 (kl_ok (ok_aP (ok_bipush dX7_figures_61 (by decide +kernel) rfl)))
 (kn_ok
 (kl_ok (ok_aP (ok_iload dX7_figures_63 rfl)))
 (kl_ok (ok_aP (ok_imul dX7_figures_65 rfl)))))))))
 (kn_ok
 (kn_ok
 (kn_ok
 (kn_ok
 (kn_ok
 (kl_ok (ok_aP (ok_aload_n dX7_figures_66 rfl rfl)))
 (kl_ok (ok_aP (ok_aload_n dX7_figures_67 rfl rfl))))
 (kn_ok
 (kl_ok (ok_aP (ok_getf fo_67 fs_rf (Or.inl q1848) dX7_figures_68 rfl)))
 (kl_ok (ok_callV (List.forall_mem_cons.mpr ⟨run_V (C0 := "FavourTownModel") rfl rfl (by rw [hm]; rfl) q1954 q1956 qs34 q92 q1957 ⟨nh_1, dl_10⟩ (by decide) dX7_figures_71, (fun _ h => absurd h List.not_mem_nil)⟩) rfl))))
 (kn_ok
 (kn_ok
 (kl_ok (ok_aP (ok_iadd dX7_figures_74 rfl)))
 (kl_ok (ok_aP (ok_bipush dX7_figures_75 (by decide +kernel) rfl))))
 (kn_ok
 (kl_ok (ok_aP (ok_isub dX7_figures_77 rfl)))
 (kn_ok
 (kl_ok (ok_aP (ok_istore dX7_figures_78 rfl)))
 (kl_ok (ok_aP (ok_aload_n dX7_figures_80 rfl rfl)))))))
 (kn_ok
 (kn_ok
 (kn_ok
 (kl_ok (ok_aP (ok_dup dX7_figures_81 rfl)))
 (kl_ok (ok_aP (ok_getf fo_67 fs_rf (Or.inl q1848) dX7_figures_82 rfl))))
 (kn_ok
 (kl_ok (ok_aP (ok_iconst dX7_figures_85 rfl rfl)))
 (kl_ok (ok_aP (ok_iadd dX7_figures_86 rfl)))))
 (kn_ok
 (kn_ok
 (kl_ok (ok_hp (ok_putf fo_67 fs_rf fn_47 (Or.inl q1848) pd_0 vI_ok dX7_figures_87 rfl) le_putf))
 (kl_ok (ok_aP (ok_goto dX7_figures_90 rfl))))
 (kn_ok
 (kl_ok (ok_aP (ok_aload_n dX7_figures_93 rfl rfl)))
 (kn_ok
 (kl_ok (ok_aP (ok_getf fo_67 fs_rf (Or.inl q1848) dX7_figures_94 rfl)))
 (kl_ok (ok_aP (ok_iload_n dX7_figures_97 rfl rfl))))))))
 (kn_ok
 (kn_ok
 (kn_ok
 (kn_ok
 (kl_ok (ok_aP (ok_icmp_eq dX7_figures_98 rfl rfl)))
 (kl_ok (ok_aP (ok_aload_n dX7_figures_101 rfl rfl))))
 (kn_ok
 (kl_ok (ok_aP (ok_getf fo_67 fs_rf (Or.inl q1848) dX7_figures_102 rfl)))
 (kl_ok (ok_aP (ok_iload_n dX7_figures_105 rfl rfl)))))
 (kn_ok
 (kn_ok
 (kl_ok (ok_aP (ok_isub dX7_figures_106 rfl)))
 (kl_ok (ok_aP (ok_iconst dX7_figures_107 rfl rfl))))
 (kn_ok
 (kl_ok (ok_aP (ok_icmp_gt dX7_figures_108 rfl rfl)))
 (kn_ok
 (kl_ok (ok_aP (ok_iload dX7_figures_111 rfl)))
 (kl_ok (ok_aP (ok_iload_n dX7_figures_113 rfl rfl)))))))
 (kn_ok
 (kn_ok
 (kn_ok
 (kl_ok (ok_aP (ok_icmp_lt dX7_figures_114 rfl rfl)))
 (kl_ok (ok_aP (ok_iload dX7_figures_117 rfl))))
 (kn_ok
 (kl_ok (ok_aP (ok_iload_n dX7_figures_119 rfl rfl)))
 (kl_ok (ok_aP (ok_icmp_le dX7_figures_120 rfl rfl)))))
 (kn_ok
 (kn_ok
 (kl_ok (ok_aP (ok_aload_n dX7_figures_123 rfl rfl)))
 (kl_ok (ok_aP (ok_iload_n dX7_figures_124 rfl rfl))))
 (kn_ok
 (kl_ok (ok_callV (List.forall_mem_cons.mpr ⟨run_V (C0 := "FavourTownModel") rfl rfl (by rw [hm]; rfl) q1958 q1960 qs35 q92 q1961 ⟨nh_1, dl_32⟩ (by decide) dX7_figures_125, (fun _ h => absurd h List.not_mem_nil)⟩) rfl))
 (kn_ok
 (kl_ok (ok_aP (ok_iload dX7_figures_128 rfl)))
 (kl_ok (ok_iret rfl dX7_figures_130))))))))
/-- 169: FavourTownModel.townLine()V -/
noncomputable def k_X7_townLine : Nat → Option AOp :=
 tn 286 (tn 142 (tn 75 (tn 42 (tn 22 (tn 9 (tn 4 (tn 1 (tl 0 (aP (f_aload 0 1)))
  (tl 1 (o_callV (lkN [(18, 156)]) 0 4)))
  (tn 5 (tl 4 (aP (f_aload 0 5)))
  (tn 8 (tl 5 (aP (f_getf [18] 9 8)))
  (tl 8 (aP (f_istore 1 9))))))
  (tn 15 (tn 10 (tl 9 (aP (f_aload 0 10)))
  (tn 12 (tl 10 (aP (f_stat 36 12)))
  (tl 12 (o_callV (lkN [(18, 160)]) 1 15))))
  (tn 18 (tl 15 (aP (f_if (fun x => decide (x = 0)) 102 18)))
  (tn 19 (tl 18 (aP (f_aload 0 19)))
  (tl 19 (aP (f_getf [18] 1 22)))))))
  (tn 30 (tn 24 (tn 23 (tl 22 (aP (f_const (.int (nI 1)) 23)))
  (tl 23 (aP (f_iald 0 24))))
  (tn 26 (tl 24 (aP (f_const (.int (nI 12)) 26)))
  (tn 29 (tl 26 (aP (f_icmp (fun x y => decide (¬ x = y)) 34 29)))
  (tl 29 (aP (f_aload 0 30))))))
  (tn 35 (tn 31 (tl 30 (aP (f_iload 1 31)))
  (tn 34 (tl 31 (o_callV (lkN [(18, 158)]) 1 34))
  (tl 34 (aP (f_aload 0 35)))))
  (tn 36 (tl 35 (aP (f_const (.int (nI 0)) 36)))
  (tn 39 (tl 36 (aP (f_const (.int (nI 999)) 39)))
  (tl 39 (o_callV (lkN [(18, 168)]) 2 42)))))))
  (tn 60 (tn 51 (tn 44 (tn 43 (tl 42 (aP (f_istore 2 43)))
  (tl 43 (aP (f_aload 0 44))))
  (tn 47 (tl 44 (aP (f_getf [18] 10 47)))
  (tn 48 (tl 47 (aP (f_const (.int (-1)) 48)))
  (tl 48 (aP (f_icmp (fun x y => decide (x = y)) 52 51))))))
  (tn 55 (tn 52 (tl 51 (o_vret))
  (tn 54 (tl 52 (aP (f_const (.int (nI 10)) 54)))
  (tl 54 (aP (f_const (.int (nI 3)) 55)))))
  (tn 56 (tl 55 (aP (f_aload 0 56)))
  (tn 59 (tl 56 (aP (f_getf [18] 1 59)))
  (tl 59 (aP (f_const (.int (nI 1)) 60)))))))
  (tn 65 (tn 62 (tn 61 (tl 60 (aP (f_iald 0 61)))
  (tl 61 (aP (f_bin (fun x y => x * y) 62))))
  (tn 63 (tl 62 (aP (f_bin (fun x y => x + y) 63)))
  (tn 64 (tl 63 (aP (f_istore 3 64)))
  (tl 64 (aP (f_aload 0 65))))))
  (tn 70 (tn 68 (tl 65 (aP (f_getf [18] 1 68)))
  (tn 69 (tl 68 (aP (f_iload 3 69)))
  (tl 69 (aP (f_iload 2 70)))))
  (tn 71 (tl 70 (o_iast 0 (fun y => y) 71))
  (tn 72 (tl 71 (aP (f_aload 0 72)))
  (tl 72 (aP (f_getf [18] 1 75)))))))))
  (tn 103 (tn 88 (tn 80 (tn 77 (tn 76 (tl 75 (aP (f_iload 3 76)))
  (tl 76 (aP (f_const (.int (nI 1)) 77))))
  (tn 78 (tl 77 (aP (f_bin (fun x y => x + y) 78)))
  (tn 79 (tl 78 (aP (f_const (.int (-1)) 79)))
  (tl 79 (o_iast 0 (fun y => y) 80)))))
  (tn 85 (tn 81 (tl 80 (aP (f_aload 0 81)))
  (tn 84 (tl 81 (aP (f_getf [18] 1 84)))
  (tl 84 (aP (f_iload 3 85)))))
  (tn 86 (tl 85 (aP (f_const (.int (nI 2)) 86)))
  (tn 87 (tl 86 (aP (f_bin (fun x y => x + y) 87)))
  (tl 87 (aP (f_const (.int (nI 0)) 88)))))))
  (tn 95 (tn 90 (tn 89 (tl 88 (o_iast 0 (fun y => y) 89))
  (tl 89 (aP (f_aload 0 90))))
  (tn 93 (tl 90 (aP (f_getf [18] 1 93)))
  (tn 94 (tl 93 (aP (f_const (.int (nI 1)) 94)))
  (tl 94 (aP (f_dup2 95))))))
  (tn 98 (tn 96 (tl 95 (aP (f_iald 0 96)))
  (tn 97 (tl 96 (aP (f_const (.int (nI 1)) 97)))
  (tl 97 (aP (f_bin (fun x y => x + y) 98)))))
  (tn 99 (tl 98 (o_iast 0 (fun y => y) 99))
  (tn 102 (tl 99 (aP (f_goto 596)))
  (tl 102 (aP (f_aload 0 103))))))))
  (tn 123 (tn 113 (tn 108 (tn 105 (tl 103 (aP (f_stat 37 105)))
  (tl 105 (o_callV (lkN [(18, 160)]) 1 108)))
  (tn 111 (tl 108 (aP (f_if (fun x => decide (x = 0)) 195 111)))
  (tn 112 (tl 111 (aP (f_aload 0 112)))
  (tl 112 (aP (f_const (.int (-1)) 113))))))
  (tn 118 (tn 116 (tl 113 (o_callV (lkN [(18, 170)]) 1 116))
  (tn 117 (tl 116 (aP (f_istore 2 117)))
  (tl 117 (aP (f_aload 0 118)))))
  (tn 119 (tl 118 (aP (f_iload 2 119)))
  (tn 122 (tl 119 (o_callV (lkN [(18, 170)]) 1 122))
  (tl 122 (aP (f_istore 3 123)))))))
  (tn 133 (tn 128 (tn 124 (tl 123 (aP (f_aload 0 124)))
  (tn 127 (tl 124 (aP (f_getf [18] 10 127)))
  (tl 127 (aP (f_const (.int (-1)) 128)))))
  (tn 131 (tl 128 (aP (f_icmp (fun x y => decide (x = y)) 132 131)))
  (tn 132 (tl 131 (o_vret))
  (tl 132 (aP (f_aload 0 133))))))
  (tn 139 (tn 136 (tl 133 (aP (f_getf [18] 1 136)))
  (tn 138 (tl 136 (aP (f_const (.int (nI 10)) 138)))
  (tl 138 (aP (f_const (.int (nI 3)) 139)))))
  (tn 140 (tl 139 (aP (f_iload 2 140)))
  (tn 141 (tl 140 (aP (f_bin (fun x y => x * y) 141)))
  (tl 141 (aP (f_bin (fun x y => x + y) 142))))))))))
  (tn 201 (tn 170 (tn 156 (tn 150 (tn 144 (tn 143 (tl 142 (aP (f_const (.int (nI 2)) 143)))
  (tl 143 (aP (f_bin (fun x y => x + y) 144))))
  (tn 145 (tl 144 (aP (f_aload 0 145)))
  (tn 148 (tl 145 (aP (f_getf [18] 1 148)))
  (tl 148 (aP (f_const (.int (nI 10)) 150))))))
  (tn 153 (tn 151 (tl 150 (aP (f_const (.int (nI 3)) 151)))
  (tn 152 (tl 151 (aP (f_iload 2 152)))
  (tl 152 (aP (f_bin (fun x y => x * y) 153)))))
  (tn 154 (tl 153 (aP (f_bin (fun x y => x + y) 154)))
  (tn 155 (tl 154 (aP (f_const (.int (nI 2)) 155)))
  (tl 155 (aP (f_bin (fun x y => x + y) 156)))))))
  (tn 161 (tn 158 (tn 157 (tl 156 (aP (f_iald 0 157)))
  (tl 157 (aP (f_const (.int (nI 1)) 158))))
  (tn 159 (tl 158 (aP (f_iload 3 159)))
  (tn 160 (tl 159 (aP (f_bin (fun x y => x <<< (y &&& 31)) 160)))
  (tl 160 (aP (f_bin (fun x y => x ||| y) 161))))))
  (tn 166 (tn 162 (tl 161 (o_iast 0 (fun y => y) 162))
  (tn 163 (tl 162 (aP (f_aload 0 163)))
  (tl 163 (aP (f_getf [18] 1 166)))))
  (tn 168 (tl 166 (aP (f_const (.int (nI 10)) 168)))
  (tn 169 (tl 168 (aP (f_const (.int (nI 3)) 169)))
  (tl 169 (aP (f_iload 3 170))))))))
  (tn 184 (tn 175 (tn 172 (tn 171 (tl 170 (aP (f_bin (fun x y => x * y) 171)))
  (tl 171 (aP (f_bin (fun x y => x + y) 172))))
  (tn 173 (tl 172 (aP (f_const (.int (nI 2)) 173)))
  (tn 174 (tl 173 (aP (f_bin (fun x y => x + y) 174)))
  (tl 174 (aP (f_aload 0 175))))))
  (tn 181 (tn 178 (tl 175 (aP (f_getf [18] 1 178)))
  (tn 180 (tl 178 (aP (f_const (.int (nI 10)) 180)))
  (tl 180 (aP (f_const (.int (nI 3)) 181)))))
  (tn 182 (tl 181 (aP (f_iload 3 182)))
  (tn 183 (tl 182 (aP (f_bin (fun x y => x * y) 183)))
  (tl 183 (aP (f_bin (fun x y => x + y) 184)))))))
  (tn 190 (tn 187 (tn 185 (tl 184 (aP (f_const (.int (nI 2)) 185)))
  (tn 186 (tl 185 (aP (f_bin (fun x y => x + y) 186)))
  (tl 186 (aP (f_iald 0 187)))))
  (tn 188 (tl 187 (aP (f_const (.int (nI 1)) 188)))
  (tn 189 (tl 188 (aP (f_iload 2 189)))
  (tl 189 (aP (f_bin (fun x y => x <<< (y &&& 31)) 190))))))
  (tn 195 (tn 191 (tl 190 (aP (f_bin (fun x y => x ||| y) 191)))
  (tn 192 (tl 191 (o_iast 0 (fun y => y) 192))
  (tl 192 (aP (f_goto 596)))))
  (tn 196 (tl 195 (aP (f_aload 0 196)))
  (tn 198 (tl 196 (aP (f_stat 38 198)))
  (tl 198 (o_callV (lkN [(18, 160)]) 1 201))))))))
  (tn 243 (tn 222 (tn 211 (tn 205 (tn 204 (tl 201 (aP (f_if (fun x => decide (x = 0)) 221 204)))
  (tl 204 (aP (f_aload 0 205))))
  (tn 208 (tl 205 (aP (f_getf [18] 1 208)))
  (tn 210 (tl 208 (aP (f_const (.int (nI 7)) 210)))
  (tl 210 (aP (f_aload 0 211))))))
  (tn 217 (tn 212 (tl 211 (aP (f_const (.int (nI 0)) 212)))
  (tn 214 (tl 212 (aP (f_const (.int (nI 10)) 214)))
  (tl 214 (o_callV (lkN [(18, 168)]) 2 217))))
  (tn 218 (tl 217 (o_iast 0 (fun y => y) 218))
  (tn 221 (tl 218 (aP (f_goto 596)))
  (tl 221 (aP (f_aload 0 222)))))))
  (tn 232 (tn 227 (tn 224 (tl 222 (aP (f_stat 39 224)))
  (tl 224 (o_callV (lkN [(18, 160)]) 1 227)))
  (tn 230 (tl 227 (aP (f_if (fun x => decide (x = 0)) 334 230)))
  (tn 231 (tl 230 (aP (f_aload 0 231)))
  (tl 231 (aP (f_const (.int (-1)) 232))))))
  (tn 237 (tn 235 (tl 232 (o_callV (lkN [(18, 170)]) 1 235))
  (tn 236 (tl 235 (aP (f_istore 2 236)))
  (tl 236 (aP (f_aload 0 237)))))
  (tn 239 (tl 237 (aP (f_stat 40 239)))
  (tn 242 (tl 239 (o_callV (lkN [(18, 171)]) 1 242))
  (tl 242 (aP (f_aload 0 243))))))))
  (tn 261 (tn 250 (tn 247 (tn 244 (tl 243 (aP (f_iload 2 244)))
  (tl 244 (o_callV (lkN [(18, 170)]) 1 247)))
  (tn 248 (tl 247 (aP (f_istore 3 248)))
  (tn 249 (tl 248 (aP (f_aload 0 249)))
  (tl 249 (aP (f_const (.int (nI 1)) 250))))))
  (tn 257 (tn 252 (tl 250 (aP (f_const (.int (nI 99)) 252)))
  (tn 255 (tl 252 (o_callV (lkN [(18, 168)]) 2 255))
  (tl 255 (aP (f_istore 4 257)))))
  (tn 258 (tl 257 (aP (f_const (.int (nI 0)) 258)))
  (tn 260 (tl 258 (aP (f_istore 5 260)))
  (tl 260 (aP (f_aload 0 261)))))))
  (tn 274 (tn 268 (tn 264 (tl 261 (aP (f_getf [18] 10 264)))
  (tn 265 (tl 264 (aP (f_const (.int (-1)) 265)))
  (tl 265 (aP (f_icmp (fun x y => decide (¬ x = y)) 286 268)))))
  (tn 269 (tl 268 (aP (f_aload 0 269)))
  (tn 271 (tl 269 (aP (f_stat 41 271)))
  (tl 271 (o_callV (lkN [(18, 160)]) 1 274)))))
  (tn 279 (tn 277 (tl 274 (aP (f_if (fun x => decide (x = 0)) 286 277)))
  (tn 278 (tl 277 (aP (f_aload 0 278)))
  (tl 278 (aP (f_const (.int (nI 1)) 279)))))
  (tn 281 (tl 279 (aP (f_const (.int (nI 99)) 281)))
  (tn 284 (tl 281 (o_callV (lkN [(18, 168)]) 2 284))
  (tl 284 (aP (f_istore 5 286)))))))))))
  (tn 447 (tn 368 (tn 327 (tn 308 (tn 295 (tn 290 (tn 287 (tl 286 (aP (f_aload 0 287)))
  (tl 287 (aP (f_getf [18] 10 290))))
  (tn 291 (tl 290 (aP (f_const (.int (-1)) 291)))
  (tn 294 (tl 291 (aP (f_icmp (fun x y => decide (¬ x = y)) 307 294)))
  (tl 294 (aP (f_aload 0 295))))))
  (tn 303 (tn 297 (tl 295 (aP (f_stat 42 297)))
  (tn 300 (tl 297 (o_callV (lkN [(18, 160)]) 1 300))
  (tl 300 (aP (f_if (fun x => decide (x = 0)) 307 303)))))
  (tn 304 (tl 303 (aP (f_const (.int (nI 1)) 304)))
  (tn 307 (tl 304 (aP (f_goto 308)))
  (tl 307 (aP (f_const (.int (nI 0)) 308)))))))
  (tn 318 (tn 311 (tn 310 (tl 308 (aP (f_istore 6 310)))
  (tl 310 (aP (f_aload 0 311))))
  (tn 314 (tl 311 (aP (f_getf [18] 10 314)))
  (tn 315 (tl 314 (aP (f_const (.int (-1)) 315)))
  (tl 315 (aP (f_icmp (fun x y => decide (¬ x = y)) 331 318))))))
  (tn 321 (tn 319 (tl 318 (aP (f_aload 0 319)))
  (tn 320 (tl 319 (aP (f_iload 2 320)))
  (tl 320 (aP (f_iload 3 321)))))
  (tn 323 (tl 321 (aP (f_iload 4 323)))
  (tn 325 (tl 323 (aP (f_iload 5 325)))
  (tl 325 (aP (f_iload 6 327))))))))
  (tn 349 (tn 337 (tn 331 (tn 330 (tl 327 (o_callV (lkN [(18, 172)]) 5 330))
  (tl 330 (aP (f_pop 331))))
  (tn 334 (tl 331 (aP (f_goto 596)))
  (tn 335 (tl 334 (aP (f_aload 0 335)))
  (tl 335 (aP (f_stat 43 337))))))
  (tn 344 (tn 340 (tl 337 (o_callV (lkN [(18, 160)]) 1 340))
  (tn 343 (tl 340 (aP (f_if (fun x => decide (x = 0)) 397 343)))
  (tl 343 (aP (f_aload 0 344)))))
  (tn 345 (tl 344 (aP (f_const (.int (nI 0)) 345)))
  (tn 346 (tl 345 (aP (f_aload 0 346)))
  (tl 346 (aP (f_getf [18] 1 349)))))))
  (tn 357 (tn 352 (tn 350 (tl 349 (aP (f_const (.int (nI 3)) 350)))
  (tn 351 (tl 350 (aP (f_iald 0 351)))
  (tl 351 (aP (f_const (.int (nI 1)) 352)))))
  (tn 353 (tl 352 (aP (f_bin (fun x y => x - y) 353)))
  (tn 356 (tl 353 (o_callV (lkN [(18, 168)]) 2 356))
  (tl 356 (aP (f_istore 2 357))))))
  (tn 363 (tn 358 (tl 357 (aP (f_aload 0 358)))
  (tn 360 (tl 358 (aP (f_stat 40 360)))
  (tl 360 (o_callV (lkN [(18, 171)]) 1 363))))
  (tn 364 (tl 363 (aP (f_aload 0 364)))
  (tn 365 (tl 364 (aP (f_const (.int (-1)) 365)))
  (tl 365 (o_callV (lkN [(18, 170)]) 1 368))))))))
  (tn 407 (tn 387 (tn 377 (tn 370 (tn 369 (tl 368 (aP (f_istore 3 369)))
  (tl 369 (aP (f_aload 0 370))))
  (tn 373 (tl 370 (aP (f_getf [18] 10 373)))
  (tn 374 (tl 373 (aP (f_const (.int (-1)) 374)))
  (tl 374 (aP (f_icmp (fun x y => decide (¬ x = y)) 394 377))))))
  (tn 380 (tn 378 (tl 377 (aP (f_aload 0 378)))
  (tn 379 (tl 378 (aP (f_iload 2 379)))
  (tl 379 (aP (f_const (.int (nI 2)) 380)))))
  (tn 383 (tl 380 (o_callV (lkN [(18, 175)]) 2 383))
  (tn 384 (tl 383 (aP (f_iload 3 384)))
  (tl 384 (aP (f_icmp (fun x y => decide (x = y)) 394 387)))))))
  (tn 394 (tn 389 (tn 388 (tl 387 (aP (f_aload 0 388)))
  (tl 388 (aP (f_iload 2 389))))
  (tn 390 (tl 389 (aP (f_iload 3 390)))
  (tn 393 (tl 390 (o_callV (lkN [(18, 181)]) 2 393))
  (tl 393 (aP (f_pop 394))))))
  (tn 400 (tn 397 (tl 394 (aP (f_goto 596)))
  (tn 398 (tl 397 (aP (f_aload 0 398)))
  (tl 398 (aP (f_stat 44 400)))))
  (tn 403 (tl 400 (o_callV (lkN [(18, 160)]) 1 403))
  (tn 406 (tl 403 (aP (f_if (fun x => decide (x = 0)) 438 406)))
  (tl 406 (aP (f_aload 0 407))))))))
  (tn 424 (tn 414 (tn 409 (tn 408 (tl 407 (aP (f_const (.int (nI 0)) 408)))
  (tl 408 (aP (f_aload 0 409))))
  (tn 412 (tl 409 (aP (f_getf [18] 1 412)))
  (tn 413 (tl 412 (aP (f_const (.int (nI 3)) 413)))
  (tl 413 (aP (f_iald 0 414))))))
  (tn 419 (tn 415 (tl 414 (aP (f_const (.int (nI 1)) 415)))
  (tn 416 (tl 415 (aP (f_bin (fun x y => x - y) 416)))
  (tl 416 (o_callV (lkN [(18, 168)]) 2 419))))
  (tn 420 (tl 419 (aP (f_istore 2 420)))
  (tn 421 (tl 420 (aP (f_aload 0 421)))
  (tl 421 (aP (f_getf [18] 10 424)))))))
  (tn 432 (tn 429 (tn 425 (tl 424 (aP (f_const (.int (-1)) 425)))
  (tn 428 (tl 425 (aP (f_icmp (fun x y => decide (¬ x = y)) 435 428)))
  (tl 428 (aP (f_aload 0 429)))))
  (tn 430 (tl 429 (aP (f_iload 2 430)))
  (tn 431 (tl 430 (aP (f_const (.int (nI 2)) 431)))
  (tl 431 (aP (f_const (.int (-1)) 432))))))
  (tn 439 (tn 435 (tl 432 (o_callV (lkN [(18, 180)]) 3 435))
  (tn 438 (tl 435 (aP (f_goto 596)))
  (tl 438 (aP (f_aload 0 439)))))
  (tn 441 (tl 439 (aP (f_stat 45 441)))
  (tn 444 (tl 441 (o_callV (lkN [(18, 160)]) 1 444))
  (tl 444 (aP (f_if (fun x => decide (x = 0)) 472 447))))))))))
  (tn 528 (tn 487 (tn 465 (tn 455 (tn 449 (tn 448 (tl 447 (aP (f_aload 0 448)))
  (tl 448 (aP (f_const (.int (nI 1)) 449))))
  (tn 451 (tl 449 (aP (f_const (.int (nI 99)) 451)))
  (tn 454 (tl 451 (o_callV (lkN [(18, 168)]) 2 454))
  (tl 454 (aP (f_istore 2 455))))))
  (tn 460 (tn 456 (tl 455 (aP (f_aload 0 456)))
  (tn 459 (tl 456 (aP (f_getf [18] 10 459)))
  (tl 459 (aP (f_const (.int (-1)) 460)))))
  (tn 463 (tl 460 (aP (f_icmp (fun x y => decide (¬ x = y)) 469 463)))
  (tn 464 (tl 463 (aP (f_aload 0 464)))
  (tl 464 (aP (f_iload 2 465)))))))
  (tn 475 (tn 469 (tn 468 (tl 465 (o_callV (lkN [(18, 184)]) 1 468))
  (tl 468 (aP (f_pop 469))))
  (tn 472 (tl 469 (aP (f_goto 596)))
  (tn 473 (tl 472 (aP (f_aload 0 473)))
  (tl 473 (aP (f_stat 46 475))))))
  (tn 482 (tn 478 (tl 475 (o_callV (lkN [(18, 160)]) 1 478))
  (tn 481 (tl 478 (aP (f_if (fun x => decide (x = 0)) 588 481)))
  (tl 481 (aP (f_aload 0 482)))))
  (tn 485 (tl 482 (aP (f_getf [18] 1 485)))
  (tn 486 (tl 485 (aP (f_const (.int (nI 4)) 486)))
  (tl 486 (aP (f_iald 0 487))))))))
  (tn 506 (tn 497 (tn 492 (tn 489 (tl 487 (aP (f_const (.int (nI 12)) 489)))
  (tl 489 (aP (f_icmp (fun x y => decide (¬ x = y)) 497 492))))
  (tn 493 (tl 492 (aP (f_aload 0 493)))
  (tn 494 (tl 493 (aP (f_iload 1 494)))
  (tl 494 (o_callV (lkN [(18, 158)]) 1 497)))))
  (tn 502 (tn 498 (tl 497 (aP (f_aload 0 498)))
  (tn 499 (tl 498 (aP (f_const (.int (-1)) 499)))
  (tl 499 (o_callV (lkN [(18, 170)]) 1 502))))
  (tn 503 (tl 502 (aP (f_istore 2 503)))
  (tn 504 (tl 503 (aP (f_aload 0 504)))
  (tl 504 (aP (f_stat 47 506)))))))
  (tn 516 (tn 511 (tn 509 (tl 506 (o_callV (lkN [(18, 171)]) 1 509))
  (tn 510 (tl 509 (aP (f_aload 0 510)))
  (tl 510 (aP (f_iload 2 511)))))
  (tn 514 (tl 511 (o_callV (lkN [(18, 170)]) 1 514))
  (tn 515 (tl 514 (aP (f_istore 3 515)))
  (tl 515 (aP (f_aload 0 516))))))
  (tn 522 (tn 517 (tl 516 (aP (f_const (.int (nI 1)) 517)))
  (tn 519 (tl 517 (aP (f_const (.int (nI 99)) 519)))
  (tl 519 (o_callV (lkN [(18, 168)]) 2 522))))
  (tn 524 (tl 522 (aP (f_istore 4 524)))
  (tn 525 (tl 524 (aP (f_aload 0 525)))
  (tl 525 (aP (f_getf [18] 10 528)))))))))
  (tn 562 (tn 544 (tn 536 (tn 532 (tn 529 (tl 528 (aP (f_const (.int (-1)) 529)))
  (tl 529 (aP (f_icmp (fun x y => decide (x = y)) 533 532))))
  (tn 533 (tl 532 (o_vret))
  (tn 535 (tl 533 (aP (f_const (.int (nI 46)) 535)))
  (tl 535 (aP (f_const (.int (nI 3)) 536))))))
  (tn 541 (tn 537 (tl 536 (aP (f_aload 0 537)))
  (tn 540 (tl 537 (aP (f_getf [18] 1 540)))
  (tl 540 (aP (f_const (.int (nI 4)) 541)))))
  (tn 542 (tl 541 (aP (f_iald 0 542)))
  (tn 543 (tl 542 (aP (f_bin (fun x y => x * y) 543)))
  (tl 543 (aP (f_bin (fun x y => x + y) 544)))))))
  (tn 553 (tn 547 (tn 546 (tl 544 (aP (f_istore 5 546)))
  (tl 546 (aP (f_aload 0 547))))
  (tn 550 (tl 547 (aP (f_getf [18] 1 550)))
  (tn 552 (tl 550 (aP (f_iload 5 552)))
  (tl 552 (aP (f_iload 2 553))))))
  (tn 558 (tn 554 (tl 553 (o_iast 0 (fun y => y) 554))
  (tn 555 (tl 554 (aP (f_aload 0 555)))
  (tl 555 (aP (f_getf [18] 1 558)))))
  (tn 560 (tl 558 (aP (f_iload 5 560)))
  (tn 561 (tl 560 (aP (f_const (.int (nI 1)) 561)))
  (tl 561 (aP (f_bin (fun x y => x + y) 562))))))))
  (tn 579 (tn 570 (tn 564 (tn 563 (tl 562 (aP (f_iload 3 563)))
  (tl 563 (o_iast 0 (fun y => y) 564)))
  (tn 565 (tl 564 (aP (f_aload 0 565)))
  (tn 568 (tl 565 (aP (f_getf [18] 1 568)))
  (tl 568 (aP (f_iload 5 570))))))
  (tn 574 (tn 571 (tl 570 (aP (f_const (.int (nI 2)) 571)))
  (tn 572 (tl 571 (aP (f_bin (fun x y => x + y) 572)))
  (tl 572 (aP (f_iload 4 574)))))
  (tn 575 (tl 574 (o_iast 0 (fun y => y) 575))
  (tn 576 (tl 575 (aP (f_aload 0 576)))
  (tl 576 (aP (f_getf [18] 1 579)))))))
  (tn 585 (tn 582 (tn 580 (tl 579 (aP (f_const (.int (nI 4)) 580)))
  (tn 581 (tl 580 (aP (f_dup2 581)))
  (tl 581 (aP (f_iald 0 582)))))
  (tn 583 (tl 582 (aP (f_const (.int (nI 1)) 583)))
  (tn 584 (tl 583 (aP (f_bin (fun x y => x + y) 584)))
  (tl 584 (o_iast 0 (fun y => y) 585)))))
  (tn 590 (tn 588 (tl 585 (aP (f_goto 596)))
  (tn 589 (tl 588 (aP (f_aload 0 589)))
  (tl 589 (aP (f_aload 0 590)))))
  (tn 593 (tl 590 (aP (f_getf [18] 9 593)))
  (tn 596 (tl 593 (o_callV (lkN [(18, 158)]) 1 596))
  (tl 596 (o_vret))))))))))
theorem kok_X7_townLine {γ : AG} (hm : γ.2.2.2.2.1 = mTab) (hk : γ.2.2.2.2.2 = kTab) : KOK γ m_X7_townLine k_X7_townLine :=
 kn_ok
 (kn_ok
 (kn_ok
 (kn_ok
 (kn_ok
 (kn_ok
 (kn_ok
 (kn_ok
 (kl_ok (ok_aP (ok_aload_n dX7_townLine_0 rfl rfl)))
 (kl_ok (ok_callV (List.forall_mem_cons.mpr ⟨run_V (C0 := "FavourTownModel") rfl rfl (by rw [hm]; rfl) q1950 q1952 qs33 q92 q1953 ⟨nh_1, dl_0⟩ (by decide) dX7_townLine_1, (fun _ h => absurd h List.not_mem_nil)⟩) rfl)))
 (kn_ok
 (kl_ok (ok_aP (ok_aload_n dX7_townLine_4 rfl rfl)))
 (kn_ok
 (kl_ok (ok_aP (ok_getf fo_67 fs_rf (Or.inl q1848) dX7_townLine_5 rfl)))
 (kl_ok (ok_aP (ok_istore_n dX7_townLine_8 rfl rfl))))))
 (kn_ok
 (kn_ok
 (kl_ok (ok_aP (ok_aload_n dX7_townLine_9 rfl rfl)))
 (kn_ok
 (kl_ok (ok_aP (ok_ldcS (tx := "person") (dd := "") (by rw [hk]; rfl) dX7_townLine_10 rfl)))
 (kl_ok (ok_callV (List.forall_mem_cons.mpr ⟨run_V (C0 := "FavourTownModel") rfl rfl (by rw [hm]; rfl) q1967 q1969 qs37 q92 q1970 ⟨nh_1, dl_48⟩ (by decide) dX7_townLine_12, (fun _ h => absurd h List.not_mem_nil)⟩) rfl))))
 (kn_ok
 (kl_ok (ok_aP (ok_if_eq dX7_townLine_15 rfl rfl)))
 (kn_ok
 (kl_ok (ok_aP (ok_aload_n dX7_townLine_18 rfl rfl)))
 (kl_ok (ok_aP (ok_getf fo_54 fs_rf (Or.inl q1840) dX7_townLine_19 rfl)))))))
 (kn_ok
 (kn_ok
 (kn_ok
 (kl_ok (ok_aP (ok_iconst dX7_townLine_22 rfl rfl)))
 (kl_ok (ok_aP (ok_iald dX7_townLine_23 rfl))))
 (kn_ok
 (kl_ok (ok_aP (ok_bipush dX7_townLine_24 (by decide +kernel) rfl)))
 (kn_ok
 (kl_ok (ok_aP (ok_icmp_ne dX7_townLine_26 rfl rfl)))
 (kl_ok (ok_aP (ok_aload_n dX7_townLine_29 rfl rfl))))))
 (kn_ok
 (kn_ok
 (kl_ok (ok_aP (ok_iload_n dX7_townLine_30 rfl rfl)))
 (kn_ok
 (kl_ok (ok_callV (List.forall_mem_cons.mpr ⟨run_V (C0 := "FavourTownModel") rfl rfl (by rw [hm]; rfl) q1958 q1960 qs35 q92 q1961 ⟨nh_1, dl_32⟩ (by decide) dX7_townLine_31, (fun _ h => absurd h List.not_mem_nil)⟩) rfl))
 (kl_ok (ok_aP (ok_aload_n dX7_townLine_34 rfl rfl)))))
 (kn_ok
 (kl_ok (ok_aP (ok_iconst dX7_townLine_35 rfl rfl)))
 (kn_ok
 (kl_ok (ok_aP (ok_sipush dX7_townLine_36 (by decide +kernel) rfl)))
 (kl_ok (ok_callV (List.forall_mem_cons.mpr ⟨run_V (C0 := "FavourTownModel") rfl rfl (by rw [hm]; rfl) q2017 q2019 qs45 q92 q2020 ⟨nh_1, dl_6⟩ (by decide) dX7_townLine_39, (fun _ h => absurd h List.not_mem_nil)⟩) rfl)))))))
 (kn_ok
 (kn_ok
 (kn_ok
 (kn_ok
 (kl_ok (ok_aP (ok_istore_n dX7_townLine_42 rfl rfl)))
 (kl_ok (ok_aP (ok_aload_n dX7_townLine_43 rfl rfl))))
 (kn_ok
 (kl_ok (ok_aP (ok_getf fo_64 fs_rf (Or.inl q1849) dX7_townLine_44 rfl)))
 (kn_ok
 (kl_ok (ok_aP (ok_iconst dX7_townLine_47 rfl rfl)))
 (kl_ok (ok_aP (ok_icmp_eq dX7_townLine_48 rfl rfl))))))
 (kn_ok
 (kn_ok
 (kl_ok (ok_vret rfl dX7_townLine_51))
 (kn_ok
 (kl_ok (ok_aP (ok_bipush dX7_townLine_52 (by decide +kernel) rfl)))
 (kl_ok (ok_aP (ok_iconst dX7_townLine_54 rfl rfl)))))
 (kn_ok
 (kl_ok (ok_aP (ok_aload_n dX7_townLine_55 rfl rfl)))
 (kn_ok
 (kl_ok (ok_aP (ok_getf fo_54 fs_rf (Or.inl q1840) dX7_townLine_56 rfl)))
 (kl_ok (ok_aP (ok_iconst dX7_townLine_59 rfl rfl)))))))
 (kn_ok
 (kn_ok
 (kn_ok
 (kl_ok (ok_aP (ok_iald dX7_townLine_60 rfl)))
 (kl_ok (ok_aP (ok_imul dX7_townLine_61 rfl))))
 (kn_ok
 (kl_ok (ok_aP (ok_iadd dX7_townLine_62 rfl)))
 (kn_ok
 (kl_ok (ok_aP (ok_istore_n dX7_townLine_63 rfl rfl)))
 (kl_ok (ok_aP (ok_aload_n dX7_townLine_64 rfl rfl))))))
 (kn_ok
 (kn_ok
 (kl_ok (ok_aP (ok_getf fo_54 fs_rf (Or.inl q1840) dX7_townLine_65 rfl)))
 (kn_ok
 (kl_ok (ok_aP (ok_iload_n dX7_townLine_68 rfl rfl)))
 (kl_ok (ok_aP (ok_iload_n dX7_townLine_69 rfl rfl)))))
 (kn_ok
 (kl_ok (ok_hp (ok_iast dX7_townLine_70 rfl) le_iast))
 (kn_ok
 (kl_ok (ok_aP (ok_aload_n dX7_townLine_71 rfl rfl)))
 (kl_ok (ok_aP (ok_getf fo_54 fs_rf (Or.inl q1840) dX7_townLine_72 rfl)))))))))
 (kn_ok
 (kn_ok
 (kn_ok
 (kn_ok
 (kn_ok
 (kl_ok (ok_aP (ok_iload_n dX7_townLine_75 rfl rfl)))
 (kl_ok (ok_aP (ok_iconst dX7_townLine_76 rfl rfl))))
 (kn_ok
 (kl_ok (ok_aP (ok_iadd dX7_townLine_77 rfl)))
 (kn_ok
 (kl_ok (ok_aP (ok_iconst dX7_townLine_78 rfl rfl)))
 (kl_ok (ok_hp (ok_iast dX7_townLine_79 rfl) le_iast)))))
 (kn_ok
 (kn_ok
 (kl_ok (ok_aP (ok_aload_n dX7_townLine_80 rfl rfl)))
 (kn_ok
 (kl_ok (ok_aP (ok_getf fo_54 fs_rf (Or.inl q1840) dX7_townLine_81 rfl)))
 (kl_ok (ok_aP (ok_iload_n dX7_townLine_84 rfl rfl)))))
 (kn_ok
 (kl_ok (ok_aP (ok_iconst dX7_townLine_85 rfl rfl)))
 (kn_ok
 (kl_ok (ok_aP (ok_iadd dX7_townLine_86 rfl)))
 (kl_ok (ok_aP (ok_iconst dX7_townLine_87 rfl rfl)))))))
 (kn_ok
 (kn_ok
 (kn_ok
 (kl_ok (ok_hp (ok_iast dX7_townLine_88 rfl) le_iast))
 (kl_ok (ok_aP (ok_aload_n dX7_townLine_89 rfl rfl))))
 (kn_ok
 (kl_ok (ok_aP (ok_getf fo_54 fs_rf (Or.inl q1840) dX7_townLine_90 rfl)))
 (kn_ok
 (kl_ok (ok_aP (ok_iconst dX7_townLine_93 rfl rfl)))
 (kl_ok (ok_aP (ok_dup2 dX7_townLine_94 rfl))))))
 (kn_ok
 (kn_ok
 (kl_ok (ok_aP (ok_iald dX7_townLine_95 rfl)))
 (kn_ok
 (kl_ok (ok_aP (ok_iconst dX7_townLine_96 rfl rfl)))
 (kl_ok (ok_aP (ok_iadd dX7_townLine_97 rfl)))))
 (kn_ok
 (kl_ok (ok_hp (ok_iast dX7_townLine_98 rfl) le_iast))
 (kn_ok
 (kl_ok (ok_aP (ok_goto dX7_townLine_99 rfl)))
 (kl_ok (ok_aP (ok_aload_n dX7_townLine_102 rfl rfl))))))))
 (kn_ok
 (kn_ok
 (kn_ok
 (kn_ok
 (kl_ok (ok_aP (ok_ldcS (tx := "near") (dd := "") (by rw [hk]; rfl) dX7_townLine_103 rfl)))
 (kl_ok (ok_callV (List.forall_mem_cons.mpr ⟨run_V (C0 := "FavourTownModel") rfl rfl (by rw [hm]; rfl) q1967 q1969 qs37 q92 q1970 ⟨nh_1, dl_48⟩ (by decide) dX7_townLine_105, (fun _ h => absurd h List.not_mem_nil)⟩) rfl)))
 (kn_ok
 (kl_ok (ok_aP (ok_if_eq dX7_townLine_108 rfl rfl)))
 (kn_ok
 (kl_ok (ok_aP (ok_aload_n dX7_townLine_111 rfl rfl)))
 (kl_ok (ok_aP (ok_iconst dX7_townLine_112 rfl rfl))))))
 (kn_ok
 (kn_ok
 (kl_ok (ok_callV (List.forall_mem_cons.mpr ⟨run_V (C0 := "FavourTownModel") rfl rfl (by rw [hm]; rfl) q2034 q2036 qs47 q92 q2037 ⟨nh_1, dl_10⟩ (by decide) dX7_townLine_113, (fun _ h => absurd h List.not_mem_nil)⟩) rfl))
 (kn_ok
 (kl_ok (ok_aP (ok_istore_n dX7_townLine_116 rfl rfl)))
 (kl_ok (ok_aP (ok_aload_n dX7_townLine_117 rfl rfl)))))
 (kn_ok
 (kl_ok (ok_aP (ok_iload_n dX7_townLine_118 rfl rfl)))
 (kn_ok
 (kl_ok (ok_callV (List.forall_mem_cons.mpr ⟨run_V (C0 := "FavourTownModel") rfl rfl (by rw [hm]; rfl) q2034 q2036 qs47 q92 q2037 ⟨nh_1, dl_10⟩ (by decide) dX7_townLine_119, (fun _ h => absurd h List.not_mem_nil)⟩) rfl))
 (kl_ok (ok_aP (ok_istore_n dX7_townLine_122 rfl rfl)))))))
 (kn_ok
 (kn_ok
 (kn_ok
 (kl_ok (ok_aP (ok_aload_n dX7_townLine_123 rfl rfl)))
 (kn_ok
 (kl_ok (ok_aP (ok_getf fo_64 fs_rf (Or.inl q1849) dX7_townLine_124 rfl)))
 (kl_ok (ok_aP (ok_iconst dX7_townLine_127 rfl rfl)))))
 (kn_ok
 (kl_ok (ok_aP (ok_icmp_eq dX7_townLine_128 rfl rfl)))
 (kn_ok
 (kl_ok (ok_vret rfl dX7_townLine_131))
 (kl_ok (ok_aP (ok_aload_n dX7_townLine_132 rfl rfl))))))
 (kn_ok
 (kn_ok
 (kl_ok (ok_aP (ok_getf fo_54 fs_rf (Or.inl q1840) dX7_townLine_133 rfl)))
 (kn_ok
 (kl_ok (ok_aP (ok_bipush dX7_townLine_136 (by decide +kernel) rfl)))
 (kl_ok (ok_aP (ok_iconst dX7_townLine_138 rfl rfl)))))
 (kn_ok
 (kl_ok (ok_aP (ok_iload_n dX7_townLine_139 rfl rfl)))
 (kn_ok
 (kl_ok (ok_aP (ok_imul dX7_townLine_140 rfl)))
 (kl_ok (ok_aP (ok_iadd dX7_townLine_141 rfl))))))))))
 (kn_ok
 (kn_ok
 (kn_ok
 (kn_ok
 (kn_ok
 (kn_ok
 (kl_ok (ok_aP (ok_iconst dX7_townLine_142 rfl rfl)))
 (kl_ok (ok_aP (ok_iadd dX7_townLine_143 rfl))))
 (kn_ok
 (kl_ok (ok_aP (ok_aload_n dX7_townLine_144 rfl rfl)))
 (kn_ok
 (kl_ok (ok_aP (ok_getf fo_54 fs_rf (Or.inl q1840) dX7_townLine_145 rfl)))
 (kl_ok (ok_aP (ok_bipush dX7_townLine_148 (by decide +kernel) rfl))))))
 (kn_ok
 (kn_ok
 (kl_ok (ok_aP (ok_iconst dX7_townLine_150 rfl rfl)))
 (kn_ok
 (kl_ok (ok_aP (ok_iload_n dX7_townLine_151 rfl rfl)))
 (kl_ok (ok_aP (ok_imul dX7_townLine_152 rfl)))))
 (kn_ok
 (kl_ok (ok_aP (ok_iadd dX7_townLine_153 rfl)))
 (kn_ok
 (kl_ok (ok_aP (ok_iconst dX7_townLine_154 rfl rfl)))
 (kl_ok (ok_aP (ok_iadd dX7_townLine_155 rfl)))))))
 (kn_ok
 (kn_ok
 (kn_ok
 (kl_ok (ok_aP (ok_iald dX7_townLine_156 rfl)))
 (kl_ok (ok_aP (ok_iconst dX7_townLine_157 rfl rfl))))
 (kn_ok
 (kl_ok (ok_aP (ok_iload_n dX7_townLine_158 rfl rfl)))
 (kn_ok
 (kl_ok (ok_aP (ok_ishl dX7_townLine_159 rfl)))
 (kl_ok (ok_aP (ok_ior dX7_townLine_160 rfl))))))
 (kn_ok
 (kn_ok
 (kl_ok (ok_hp (ok_iast dX7_townLine_161 rfl) le_iast))
 (kn_ok
 (kl_ok (ok_aP (ok_aload_n dX7_townLine_162 rfl rfl)))
 (kl_ok (ok_aP (ok_getf fo_54 fs_rf (Or.inl q1840) dX7_townLine_163 rfl)))))
 (kn_ok
 (kl_ok (ok_aP (ok_bipush dX7_townLine_166 (by decide +kernel) rfl)))
 (kn_ok
 (kl_ok (ok_aP (ok_iconst dX7_townLine_168 rfl rfl)))
 (kl_ok (ok_aP (ok_iload_n dX7_townLine_169 rfl rfl))))))))
 (kn_ok
 (kn_ok
 (kn_ok
 (kn_ok
 (kl_ok (ok_aP (ok_imul dX7_townLine_170 rfl)))
 (kl_ok (ok_aP (ok_iadd dX7_townLine_171 rfl))))
 (kn_ok
 (kl_ok (ok_aP (ok_iconst dX7_townLine_172 rfl rfl)))
 (kn_ok
 (kl_ok (ok_aP (ok_iadd dX7_townLine_173 rfl)))
 (kl_ok (ok_aP (ok_aload_n dX7_townLine_174 rfl rfl))))))
 (kn_ok
 (kn_ok
 (kl_ok (ok_aP (ok_getf fo_54 fs_rf (Or.inl q1840) dX7_townLine_175 rfl)))
 (kn_ok
 (kl_ok (ok_aP (ok_bipush dX7_townLine_178 (by decide +kernel) rfl)))
 (kl_ok (ok_aP (ok_iconst dX7_townLine_180 rfl rfl)))))
 (kn_ok
 (kl_ok (ok_aP (ok_iload_n dX7_townLine_181 rfl rfl)))
 (kn_ok
 (kl_ok (ok_aP (ok_imul dX7_townLine_182 rfl)))
 (kl_ok (ok_aP (ok_iadd dX7_townLine_183 rfl)))))))
 (kn_ok
 (kn_ok
 (kn_ok
 (kl_ok (ok_aP (ok_iconst dX7_townLine_184 rfl rfl)))
 (kn_ok
 (kl_ok (ok_aP (ok_iadd dX7_townLine_185 rfl)))
 (kl_ok (ok_aP (ok_iald dX7_townLine_186 rfl)))))
 (kn_ok
 (kl_ok (ok_aP (ok_iconst dX7_townLine_187 rfl rfl)))
 (kn_ok
 (kl_ok (ok_aP (ok_iload_n dX7_townLine_188 rfl rfl)))
 (kl_ok (ok_aP (ok_ishl dX7_townLine_189 rfl))))))
 (kn_ok
 (kn_ok
 (kl_ok (ok_aP (ok_ior dX7_townLine_190 rfl)))
 (kn_ok
 (kl_ok (ok_hp (ok_iast dX7_townLine_191 rfl) le_iast))
 (kl_ok (ok_aP (ok_goto dX7_townLine_192 rfl)))))
 (kn_ok
 (kl_ok (ok_aP (ok_aload_n dX7_townLine_195 rfl rfl)))
 (kn_ok
 (kl_ok (ok_aP (ok_ldcS (tx := "law") (dd := "") (by rw [hk]; rfl) dX7_townLine_196 rfl)))
 (kl_ok (ok_callV (List.forall_mem_cons.mpr ⟨run_V (C0 := "FavourTownModel") rfl rfl (by rw [hm]; rfl) q1967 q1969 qs37 q92 q1970 ⟨nh_1, dl_48⟩ (by decide) dX7_townLine_198, (fun _ h => absurd h List.not_mem_nil)⟩) rfl))))))))
 (kn_ok
 (kn_ok
 (kn_ok
 (kn_ok
 (kn_ok
 (kl_ok (ok_aP (ok_if_eq dX7_townLine_201 rfl rfl)))
 (kl_ok (ok_aP (ok_aload_n dX7_townLine_204 rfl rfl))))
 (kn_ok
 (kl_ok (ok_aP (ok_getf fo_54 fs_rf (Or.inl q1840) dX7_townLine_205 rfl)))
 (kn_ok
 (kl_ok (ok_aP (ok_bipush dX7_townLine_208 (by decide +kernel) rfl)))
 (kl_ok (ok_aP (ok_aload_n dX7_townLine_210 rfl rfl))))))
 (kn_ok
 (kn_ok
 (kl_ok (ok_aP (ok_iconst dX7_townLine_211 rfl rfl)))
 (kn_ok
 (kl_ok (ok_aP (ok_bipush dX7_townLine_212 (by decide +kernel) rfl)))
 (kl_ok (ok_callV (List.forall_mem_cons.mpr ⟨run_V (C0 := "FavourTownModel") rfl rfl (by rw [hm]; rfl) q2017 q2019 qs45 q92 q2020 ⟨nh_1, dl_6⟩ (by decide) dX7_townLine_214, (fun _ h => absurd h List.not_mem_nil)⟩) rfl))))
 (kn_ok
 (kl_ok (ok_hp (ok_iast dX7_townLine_217 rfl) le_iast))
 (kn_ok
 (kl_ok (ok_aP (ok_goto dX7_townLine_218 rfl)))
 (kl_ok (ok_aP (ok_aload_n dX7_townLine_221 rfl rfl)))))))
 (kn_ok
 (kn_ok
 (kn_ok
 (kl_ok (ok_aP (ok_ldcS (tx := "give") (dd := "") (by rw [hk]; rfl) dX7_townLine_222 rfl)))
 (kl_ok (ok_callV (List.forall_mem_cons.mpr ⟨run_V (C0 := "FavourTownModel") rfl rfl (by rw [hm]; rfl) q1967 q1969 qs37 q92 q1970 ⟨nh_1, dl_48⟩ (by decide) dX7_townLine_224, (fun _ h => absurd h List.not_mem_nil)⟩) rfl)))
 (kn_ok
 (kl_ok (ok_aP (ok_if_eq dX7_townLine_227 rfl rfl)))
 (kn_ok
 (kl_ok (ok_aP (ok_aload_n dX7_townLine_230 rfl rfl)))
 (kl_ok (ok_aP (ok_iconst dX7_townLine_231 rfl rfl))))))
 (kn_ok
 (kn_ok
 (kl_ok (ok_callV (List.forall_mem_cons.mpr ⟨run_V (C0 := "FavourTownModel") rfl rfl (by rw [hm]; rfl) q2034 q2036 qs47 q92 q2037 ⟨nh_1, dl_10⟩ (by decide) dX7_townLine_232, (fun _ h => absurd h List.not_mem_nil)⟩) rfl))
 (kn_ok
 (kl_ok (ok_aP (ok_istore_n dX7_townLine_235 rfl rfl)))
 (kl_ok (ok_aP (ok_aload_n dX7_townLine_236 rfl rfl)))))
 (kn_ok
 (kl_ok (ok_aP (ok_ldcS (tx := "to") (dd := "") (by rw [hk]; rfl) dX7_townLine_237 rfl)))
 (kn_ok
 (kl_ok (ok_callV (List.forall_mem_cons.mpr ⟨run_V (C0 := "FavourTownModel") rfl rfl (by rw [hm]; rfl) q2041 q2043 qs48 q92 q2044 ⟨nh_1, dl_52⟩ (by decide) dX7_townLine_239, (fun _ h => absurd h List.not_mem_nil)⟩) rfl))
 (kl_ok (ok_aP (ok_aload_n dX7_townLine_242 rfl rfl))))))))
 (kn_ok
 (kn_ok
 (kn_ok
 (kn_ok
 (kl_ok (ok_aP (ok_iload_n dX7_townLine_243 rfl rfl)))
 (kl_ok (ok_callV (List.forall_mem_cons.mpr ⟨run_V (C0 := "FavourTownModel") rfl rfl (by rw [hm]; rfl) q2034 q2036 qs47 q92 q2037 ⟨nh_1, dl_10⟩ (by decide) dX7_townLine_244, (fun _ h => absurd h List.not_mem_nil)⟩) rfl)))
 (kn_ok
 (kl_ok (ok_aP (ok_istore_n dX7_townLine_247 rfl rfl)))
 (kn_ok
 (kl_ok (ok_aP (ok_aload_n dX7_townLine_248 rfl rfl)))
 (kl_ok (ok_aP (ok_iconst dX7_townLine_249 rfl rfl))))))
 (kn_ok
 (kn_ok
 (kl_ok (ok_aP (ok_bipush dX7_townLine_250 (by decide +kernel) rfl)))
 (kn_ok
 (kl_ok (ok_callV (List.forall_mem_cons.mpr ⟨run_V (C0 := "FavourTownModel") rfl rfl (by rw [hm]; rfl) q2017 q2019 qs45 q92 q2020 ⟨nh_1, dl_6⟩ (by decide) dX7_townLine_252, (fun _ h => absurd h List.not_mem_nil)⟩) rfl))
 (kl_ok (ok_aP (ok_istore dX7_townLine_255 rfl)))))
 (kn_ok
 (kl_ok (ok_aP (ok_iconst dX7_townLine_257 rfl rfl)))
 (kn_ok
 (kl_ok (ok_aP (ok_istore dX7_townLine_258 rfl)))
 (kl_ok (ok_aP (ok_aload_n dX7_townLine_260 rfl rfl)))))))
 (kn_ok
 (kn_ok
 (kn_ok
 (kl_ok (ok_aP (ok_getf fo_64 fs_rf (Or.inl q1849) dX7_townLine_261 rfl)))
 (kn_ok
 (kl_ok (ok_aP (ok_iconst dX7_townLine_264 rfl rfl)))
 (kl_ok (ok_aP (ok_icmp_ne dX7_townLine_265 rfl rfl)))))
 (kn_ok
 (kl_ok (ok_aP (ok_aload_n dX7_townLine_268 rfl rfl)))
 (kn_ok
 (kl_ok (ok_aP (ok_ldcS (tx := "for") (dd := "") (by rw [hk]; rfl) dX7_townLine_269 rfl)))
 (kl_ok (ok_callV (List.forall_mem_cons.mpr ⟨run_V (C0 := "FavourTownModel") rfl rfl (by rw [hm]; rfl) q1967 q1969 qs37 q92 q1970 ⟨nh_1, dl_48⟩ (by decide) dX7_townLine_271, (fun _ h => absurd h List.not_mem_nil)⟩) rfl)))))
 (kn_ok
 (kn_ok
 (kl_ok (ok_aP (ok_if_eq dX7_townLine_274 rfl rfl)))
 (kn_ok
 (kl_ok (ok_aP (ok_aload_n dX7_townLine_277 rfl rfl)))
 (kl_ok (ok_aP (ok_iconst dX7_townLine_278 rfl rfl)))))
 (kn_ok
 (kl_ok (ok_aP (ok_bipush dX7_townLine_279 (by decide +kernel) rfl)))
 (kn_ok
 (kl_ok (ok_callV (List.forall_mem_cons.mpr ⟨run_V (C0 := "FavourTownModel") rfl rfl (by rw [hm]; rfl) q2017 q2019 qs45 q92 q2020 ⟨nh_1, dl_6⟩ (by decide) dX7_townLine_281, (fun _ h => absurd h List.not_mem_nil)⟩) rfl))
 (kl_ok (ok_aP (ok_istore dX7_townLine_284 rfl)))))))))))
 (kn_ok
 (kn_ok
 (kn_ok
 (kn_ok
 (kn_ok
 (kn_ok
 (kn_ok
 (kl_ok (ok_aP (ok_aload_n dX7_townLine_286 rfl rfl)))
 (kl_ok (ok_aP (ok_getf fo_64 fs_rf (Or.inl q1849) dX7_townLine_287 rfl))))
 (kn_ok
 (kl_ok (ok_aP (ok_iconst dX7_townLine_290 rfl rfl)))
 (kn_ok
 (kl_ok (ok_aP (ok_icmp_ne dX7_townLine_291 rfl rfl)))
 (kl_ok (ok_aP (ok_aload_n dX7_townLine_294 rfl rfl))))))
 (kn_ok
 (kn_ok
 (kl_ok (ok_aP (ok_ldcS (tx := "forced") (dd := "") (by rw [hk]; rfl) dX7_townLine_295 rfl)))
 (kn_ok
 (kl_ok (ok_callV (List.forall_mem_cons.mpr ⟨run_V (C0 := "FavourTownModel") rfl rfl (by rw [hm]; rfl) q1967 q1969 qs37 q92 q1970 ⟨nh_1, dl_48⟩ (by decide) dX7_townLine_297, (fun _ h => absurd h List.not_mem_nil)⟩) rfl))
 (kl_ok (ok_aP (ok_if_eq dX7_townLine_300 rfl rfl)))))
 (kn_ok
 (kl_ok (ok_aP (ok_iconst dX7_townLine_303 rfl rfl)))
 (kn_ok
 (kl_ok (ok_aP (ok_goto dX7_townLine_304 rfl)))
 (kl_ok (ok_aP (ok_iconst dX7_townLine_307 rfl rfl)))))))
 (kn_ok
 (kn_ok
 (kn_ok
 (kl_ok (ok_aP (ok_istore dX7_townLine_308 rfl)))
 (kl_ok (ok_aP (ok_aload_n dX7_townLine_310 rfl rfl))))
 (kn_ok
 (kl_ok (ok_aP (ok_getf fo_64 fs_rf (Or.inl q1849) dX7_townLine_311 rfl)))
 (kn_ok
 (kl_ok (ok_aP (ok_iconst dX7_townLine_314 rfl rfl)))
 (kl_ok (ok_aP (ok_icmp_ne dX7_townLine_315 rfl rfl))))))
 (kn_ok
 (kn_ok
 (kl_ok (ok_aP (ok_aload_n dX7_townLine_318 rfl rfl)))
 (kn_ok
 (kl_ok (ok_aP (ok_iload_n dX7_townLine_319 rfl rfl)))
 (kl_ok (ok_aP (ok_iload_n dX7_townLine_320 rfl rfl)))))
 (kn_ok
 (kl_ok (ok_aP (ok_iload dX7_townLine_321 rfl)))
 (kn_ok
 (kl_ok (ok_aP (ok_iload dX7_townLine_323 rfl)))
 (kl_ok (ok_aP (ok_iload dX7_townLine_325 rfl))))))))
 (kn_ok
 (kn_ok
 (kn_ok
 (kn_ok
 (kl_ok (ok_callV (List.forall_mem_cons.mpr ⟨run_V (C0 := "FavourTownModel") rfl rfl (by rw [hm]; rfl) q2047 q2049 qs49 q92 q2050 ⟨nh_1, dl_8⟩ (by decide) dX7_townLine_327, (fun _ h => absurd h List.not_mem_nil)⟩) rfl))
 (kl_ok (ok_aP (ok_pop dX7_townLine_330 rfl))))
 (kn_ok
 (kl_ok (ok_aP (ok_goto dX7_townLine_331 rfl)))
 (kn_ok
 (kl_ok (ok_aP (ok_aload_n dX7_townLine_334 rfl rfl)))
 (kl_ok (ok_aP (ok_ldcS (tx := "pass") (dd := "") (by rw [hk]; rfl) dX7_townLine_335 rfl))))))
 (kn_ok
 (kn_ok
 (kl_ok (ok_callV (List.forall_mem_cons.mpr ⟨run_V (C0 := "FavourTownModel") rfl rfl (by rw [hm]; rfl) q1967 q1969 qs37 q92 q1970 ⟨nh_1, dl_48⟩ (by decide) dX7_townLine_337, (fun _ h => absurd h List.not_mem_nil)⟩) rfl))
 (kn_ok
 (kl_ok (ok_aP (ok_if_eq dX7_townLine_340 rfl rfl)))
 (kl_ok (ok_aP (ok_aload_n dX7_townLine_343 rfl rfl)))))
 (kn_ok
 (kl_ok (ok_aP (ok_iconst dX7_townLine_344 rfl rfl)))
 (kn_ok
 (kl_ok (ok_aP (ok_aload_n dX7_townLine_345 rfl rfl)))
 (kl_ok (ok_aP (ok_getf fo_54 fs_rf (Or.inl q1840) dX7_townLine_346 rfl)))))))
 (kn_ok
 (kn_ok
 (kn_ok
 (kl_ok (ok_aP (ok_iconst dX7_townLine_349 rfl rfl)))
 (kn_ok
 (kl_ok (ok_aP (ok_iald dX7_townLine_350 rfl)))
 (kl_ok (ok_aP (ok_iconst dX7_townLine_351 rfl rfl)))))
 (kn_ok
 (kl_ok (ok_aP (ok_isub dX7_townLine_352 rfl)))
 (kn_ok
 (kl_ok (ok_callV (List.forall_mem_cons.mpr ⟨run_V (C0 := "FavourTownModel") rfl rfl (by rw [hm]; rfl) q2017 q2019 qs45 q92 q2020 ⟨nh_1, dl_6⟩ (by decide) dX7_townLine_353, (fun _ h => absurd h List.not_mem_nil)⟩) rfl))
 (kl_ok (ok_aP (ok_istore_n dX7_townLine_356 rfl rfl))))))
 (kn_ok
 (kn_ok
 (kl_ok (ok_aP (ok_aload_n dX7_townLine_357 rfl rfl)))
 (kn_ok
 (kl_ok (ok_aP (ok_ldcS (tx := "to") (dd := "") (by rw [hk]; rfl) dX7_townLine_358 rfl)))
 (kl_ok (ok_callV (List.forall_mem_cons.mpr ⟨run_V (C0 := "FavourTownModel") rfl rfl (by rw [hm]; rfl) q2041 q2043 qs48 q92 q2044 ⟨nh_1, dl_52⟩ (by decide) dX7_townLine_360, (fun _ h => absurd h List.not_mem_nil)⟩) rfl))))
 (kn_ok
 (kl_ok (ok_aP (ok_aload_n dX7_townLine_363 rfl rfl)))
 (kn_ok
 (kl_ok (ok_aP (ok_iconst dX7_townLine_364 rfl rfl)))
 (kl_ok (ok_callV (List.forall_mem_cons.mpr ⟨run_V (C0 := "FavourTownModel") rfl rfl (by rw [hm]; rfl) q2034 q2036 qs47 q92 q2037 ⟨nh_1, dl_10⟩ (by decide) dX7_townLine_365, (fun _ h => absurd h List.not_mem_nil)⟩) rfl))))))))
 (kn_ok
 (kn_ok
 (kn_ok
 (kn_ok
 (kn_ok
 (kl_ok (ok_aP (ok_istore_n dX7_townLine_368 rfl rfl)))
 (kl_ok (ok_aP (ok_aload_n dX7_townLine_369 rfl rfl))))
 (kn_ok
 (kl_ok (ok_aP (ok_getf fo_64 fs_rf (Or.inl q1849) dX7_townLine_370 rfl)))
 (kn_ok
 (kl_ok (ok_aP (ok_iconst dX7_townLine_373 rfl rfl)))
 (kl_ok (ok_aP (ok_icmp_ne dX7_townLine_374 rfl rfl))))))
 (kn_ok
 (kn_ok
 (kl_ok (ok_aP (ok_aload_n dX7_townLine_377 rfl rfl)))
 (kn_ok
 (kl_ok (ok_aP (ok_iload_n dX7_townLine_378 rfl rfl)))
 (kl_ok (ok_aP (ok_iconst dX7_townLine_379 rfl rfl)))))
 (kn_ok
 (kl_ok (ok_callV (List.forall_mem_cons.mpr ⟨run_V (C0 := "FavourTownModel") rfl rfl (by rw [hm]; rfl) q2059 q2061 qs52 q92 q2062 ⟨nh_1, dl_6⟩ (by decide) dX7_townLine_380, (fun _ h => absurd h List.not_mem_nil)⟩) rfl))
 (kn_ok
 (kl_ok (ok_aP (ok_iload_n dX7_townLine_383 rfl rfl)))
 (kl_ok (ok_aP (ok_icmp_eq dX7_townLine_384 rfl rfl)))))))
 (kn_ok
 (kn_ok
 (kn_ok
 (kl_ok (ok_aP (ok_aload_n dX7_townLine_387 rfl rfl)))
 (kl_ok (ok_aP (ok_iload_n dX7_townLine_388 rfl rfl))))
 (kn_ok
 (kl_ok (ok_aP (ok_iload_n dX7_townLine_389 rfl rfl)))
 (kn_ok
 (kl_ok (ok_callV (List.forall_mem_cons.mpr ⟨run_V (C0 := "FavourTownModel") rfl rfl (by rw [hm]; rfl) q2083 q2085 qs57 q92 q2086 ⟨nh_1, dl_6⟩ (by decide) dX7_townLine_390, (fun _ h => absurd h List.not_mem_nil)⟩) rfl))
 (kl_ok (ok_aP (ok_pop dX7_townLine_393 rfl))))))
 (kn_ok
 (kn_ok
 (kl_ok (ok_aP (ok_goto dX7_townLine_394 rfl)))
 (kn_ok
 (kl_ok (ok_aP (ok_aload_n dX7_townLine_397 rfl rfl)))
 (kl_ok (ok_aP (ok_ldcS (tx := "call") (dd := "") (by rw [hk]; rfl) dX7_townLine_398 rfl)))))
 (kn_ok
 (kl_ok (ok_callV (List.forall_mem_cons.mpr ⟨run_V (C0 := "FavourTownModel") rfl rfl (by rw [hm]; rfl) q1967 q1969 qs37 q92 q1970 ⟨nh_1, dl_48⟩ (by decide) dX7_townLine_400, (fun _ h => absurd h List.not_mem_nil)⟩) rfl))
 (kn_ok
 (kl_ok (ok_aP (ok_if_eq dX7_townLine_403 rfl rfl)))
 (kl_ok (ok_aP (ok_aload_n dX7_townLine_406 rfl rfl))))))))
 (kn_ok
 (kn_ok
 (kn_ok
 (kn_ok
 (kl_ok (ok_aP (ok_iconst dX7_townLine_407 rfl rfl)))
 (kl_ok (ok_aP (ok_aload_n dX7_townLine_408 rfl rfl))))
 (kn_ok
 (kl_ok (ok_aP (ok_getf fo_54 fs_rf (Or.inl q1840) dX7_townLine_409 rfl)))
 (kn_ok
 (kl_ok (ok_aP (ok_iconst dX7_townLine_412 rfl rfl)))
 (kl_ok (ok_aP (ok_iald dX7_townLine_413 rfl))))))
 (kn_ok
 (kn_ok
 (kl_ok (ok_aP (ok_iconst dX7_townLine_414 rfl rfl)))
 (kn_ok
 (kl_ok (ok_aP (ok_isub dX7_townLine_415 rfl)))
 (kl_ok (ok_callV (List.forall_mem_cons.mpr ⟨run_V (C0 := "FavourTownModel") rfl rfl (by rw [hm]; rfl) q2017 q2019 qs45 q92 q2020 ⟨nh_1, dl_6⟩ (by decide) dX7_townLine_416, (fun _ h => absurd h List.not_mem_nil)⟩) rfl))))
 (kn_ok
 (kl_ok (ok_aP (ok_istore_n dX7_townLine_419 rfl rfl)))
 (kn_ok
 (kl_ok (ok_aP (ok_aload_n dX7_townLine_420 rfl rfl)))
 (kl_ok (ok_aP (ok_getf fo_64 fs_rf (Or.inl q1849) dX7_townLine_421 rfl)))))))
 (kn_ok
 (kn_ok
 (kn_ok
 (kl_ok (ok_aP (ok_iconst dX7_townLine_424 rfl rfl)))
 (kn_ok
 (kl_ok (ok_aP (ok_icmp_ne dX7_townLine_425 rfl rfl)))
 (kl_ok (ok_aP (ok_aload_n dX7_townLine_428 rfl rfl)))))
 (kn_ok
 (kl_ok (ok_aP (ok_iload_n dX7_townLine_429 rfl rfl)))
 (kn_ok
 (kl_ok (ok_aP (ok_iconst dX7_townLine_430 rfl rfl)))
 (kl_ok (ok_aP (ok_iconst dX7_townLine_431 rfl rfl))))))
 (kn_ok
 (kn_ok
 (kl_ok (ok_callV (List.forall_mem_cons.mpr ⟨run_V (C0 := "FavourTownModel") rfl rfl (by rw [hm]; rfl) q2078 q2080 qs56 q92 q2081 ⟨nh_1, dl_46⟩ (by decide) dX7_townLine_432, (fun _ h => absurd h List.not_mem_nil)⟩) rfl))
 (kn_ok
 (kl_ok (ok_aP (ok_goto dX7_townLine_435 rfl)))
 (kl_ok (ok_aP (ok_aload_n dX7_townLine_438 rfl rfl)))))
 (kn_ok
 (kl_ok (ok_aP (ok_ldcS (tx := "days") (dd := "") (by rw [hk]; rfl) dX7_townLine_439 rfl)))
 (kn_ok
 (kl_ok (ok_callV (List.forall_mem_cons.mpr ⟨run_V (C0 := "FavourTownModel") rfl rfl (by rw [hm]; rfl) q1967 q1969 qs37 q92 q1970 ⟨nh_1, dl_48⟩ (by decide) dX7_townLine_441, (fun _ h => absurd h List.not_mem_nil)⟩) rfl))
 (kl_ok (ok_aP (ok_if_eq dX7_townLine_444 rfl rfl))))))))))
 (kn_ok
 (kn_ok
 (kn_ok
 (kn_ok
 (kn_ok
 (kn_ok
 (kl_ok (ok_aP (ok_aload_n dX7_townLine_447 rfl rfl)))
 (kl_ok (ok_aP (ok_iconst dX7_townLine_448 rfl rfl))))
 (kn_ok
 (kl_ok (ok_aP (ok_bipush dX7_townLine_449 (by decide +kernel) rfl)))
 (kn_ok
 (kl_ok (ok_callV (List.forall_mem_cons.mpr ⟨run_V (C0 := "FavourTownModel") rfl rfl (by rw [hm]; rfl) q2017 q2019 qs45 q92 q2020 ⟨nh_1, dl_6⟩ (by decide) dX7_townLine_451, (fun _ h => absurd h List.not_mem_nil)⟩) rfl))
 (kl_ok (ok_aP (ok_istore_n dX7_townLine_454 rfl rfl))))))
 (kn_ok
 (kn_ok
 (kl_ok (ok_aP (ok_aload_n dX7_townLine_455 rfl rfl)))
 (kn_ok
 (kl_ok (ok_aP (ok_getf fo_64 fs_rf (Or.inl q1849) dX7_townLine_456 rfl)))
 (kl_ok (ok_aP (ok_iconst dX7_townLine_459 rfl rfl)))))
 (kn_ok
 (kl_ok (ok_aP (ok_icmp_ne dX7_townLine_460 rfl rfl)))
 (kn_ok
 (kl_ok (ok_aP (ok_aload_n dX7_townLine_463 rfl rfl)))
 (kl_ok (ok_aP (ok_iload_n dX7_townLine_464 rfl rfl)))))))
 (kn_ok
 (kn_ok
 (kn_ok
 (kl_ok (ok_callV (List.forall_mem_cons.mpr ⟨run_V (C0 := "FavourTownModel") rfl rfl (by rw [hm]; rfl) q2097 q2099 qs60 q92 q2100 ⟨nh_1, dl_10⟩ (by decide) dX7_townLine_465, (fun _ h => absurd h List.not_mem_nil)⟩) rfl))
 (kl_ok (ok_aP (ok_pop dX7_townLine_468 rfl))))
 (kn_ok
 (kl_ok (ok_aP (ok_goto dX7_townLine_469 rfl)))
 (kn_ok
 (kl_ok (ok_aP (ok_aload_n dX7_townLine_472 rfl rfl)))
 (kl_ok (ok_aP (ok_ldcS (tx := "need") (dd := "") (by rw [hk]; rfl) dX7_townLine_473 rfl))))))
 (kn_ok
 (kn_ok
 (kl_ok (ok_callV (List.forall_mem_cons.mpr ⟨run_V (C0 := "FavourTownModel") rfl rfl (by rw [hm]; rfl) q1967 q1969 qs37 q92 q1970 ⟨nh_1, dl_48⟩ (by decide) dX7_townLine_475, (fun _ h => absurd h List.not_mem_nil)⟩) rfl))
 (kn_ok
 (kl_ok (ok_aP (ok_if_eq dX7_townLine_478 rfl rfl)))
 (kl_ok (ok_aP (ok_aload_n dX7_townLine_481 rfl rfl)))))
 (kn_ok
 (kl_ok (ok_aP (ok_getf fo_54 fs_rf (Or.inl q1840) dX7_townLine_482 rfl)))
 (kn_ok
 (kl_ok (ok_aP (ok_iconst dX7_townLine_485 rfl rfl)))
 (kl_ok (ok_aP (ok_iald dX7_townLine_486 rfl))))))))
 (kn_ok
 (kn_ok
 (kn_ok
 (kn_ok
 (kl_ok (ok_aP (ok_bipush dX7_townLine_487 (by decide +kernel) rfl)))
 (kl_ok (ok_aP (ok_icmp_ne dX7_townLine_489 rfl rfl))))
 (kn_ok
 (kl_ok (ok_aP (ok_aload_n dX7_townLine_492 rfl rfl)))
 (kn_ok
 (kl_ok (ok_aP (ok_iload_n dX7_townLine_493 rfl rfl)))
 (kl_ok (ok_callV (List.forall_mem_cons.mpr ⟨run_V (C0 := "FavourTownModel") rfl rfl (by rw [hm]; rfl) q1958 q1960 qs35 q92 q1961 ⟨nh_1, dl_32⟩ (by decide) dX7_townLine_494, (fun _ h => absurd h List.not_mem_nil)⟩) rfl)))))
 (kn_ok
 (kn_ok
 (kl_ok (ok_aP (ok_aload_n dX7_townLine_497 rfl rfl)))
 (kn_ok
 (kl_ok (ok_aP (ok_iconst dX7_townLine_498 rfl rfl)))
 (kl_ok (ok_callV (List.forall_mem_cons.mpr ⟨run_V (C0 := "FavourTownModel") rfl rfl (by rw [hm]; rfl) q2034 q2036 qs47 q92 q2037 ⟨nh_1, dl_10⟩ (by decide) dX7_townLine_499, (fun _ h => absurd h List.not_mem_nil)⟩) rfl))))
 (kn_ok
 (kl_ok (ok_aP (ok_istore_n dX7_townLine_502 rfl rfl)))
 (kn_ok
 (kl_ok (ok_aP (ok_aload_n dX7_townLine_503 rfl rfl)))
 (kl_ok (ok_aP (ok_ldcS (tx := "of") (dd := "") (by rw [hk]; rfl) dX7_townLine_504 rfl)))))))
 (kn_ok
 (kn_ok
 (kn_ok
 (kl_ok (ok_callV (List.forall_mem_cons.mpr ⟨run_V (C0 := "FavourTownModel") rfl rfl (by rw [hm]; rfl) q2041 q2043 qs48 q92 q2044 ⟨nh_1, dl_52⟩ (by decide) dX7_townLine_506, (fun _ h => absurd h List.not_mem_nil)⟩) rfl))
 (kn_ok
 (kl_ok (ok_aP (ok_aload_n dX7_townLine_509 rfl rfl)))
 (kl_ok (ok_aP (ok_iload_n dX7_townLine_510 rfl rfl)))))
 (kn_ok
 (kl_ok (ok_callV (List.forall_mem_cons.mpr ⟨run_V (C0 := "FavourTownModel") rfl rfl (by rw [hm]; rfl) q2034 q2036 qs47 q92 q2037 ⟨nh_1, dl_10⟩ (by decide) dX7_townLine_511, (fun _ h => absurd h List.not_mem_nil)⟩) rfl))
 (kn_ok
 (kl_ok (ok_aP (ok_istore_n dX7_townLine_514 rfl rfl)))
 (kl_ok (ok_aP (ok_aload_n dX7_townLine_515 rfl rfl))))))
 (kn_ok
 (kn_ok
 (kl_ok (ok_aP (ok_iconst dX7_townLine_516 rfl rfl)))
 (kn_ok
 (kl_ok (ok_aP (ok_bipush dX7_townLine_517 (by decide +kernel) rfl)))
 (kl_ok (ok_callV (List.forall_mem_cons.mpr ⟨run_V (C0 := "FavourTownModel") rfl rfl (by rw [hm]; rfl) q2017 q2019 qs45 q92 q2020 ⟨nh_1, dl_6⟩ (by decide) dX7_townLine_519, (fun _ h => absurd h List.not_mem_nil)⟩) rfl))))
 (kn_ok
 (kl_ok (ok_aP (ok_istore dX7_townLine_522 rfl)))
 (kn_ok
 (kl_ok (ok_aP (ok_aload_n dX7_townLine_524 rfl rfl)))
 (kl_ok (ok_aP (ok_getf fo_64 fs_rf (Or.inl q1849) dX7_townLine_525 rfl)))))))))
 (kn_ok
 (kn_ok
 (kn_ok
 (kn_ok
 (kn_ok
 (kl_ok (ok_aP (ok_iconst dX7_townLine_528 rfl rfl)))
 (kl_ok (ok_aP (ok_icmp_eq dX7_townLine_529 rfl rfl))))
 (kn_ok
 (kl_ok (ok_vret rfl dX7_townLine_532))
 (kn_ok
 (kl_ok (ok_aP (ok_bipush dX7_townLine_533 (by decide +kernel) rfl)))
 (kl_ok (ok_aP (ok_iconst dX7_townLine_535 rfl rfl))))))
 (kn_ok
 (kn_ok
 (kl_ok (ok_aP (ok_aload_n dX7_townLine_536 rfl rfl)))
 (kn_ok
 (kl_ok (ok_aP (ok_getf fo_54 fs_rf (Or.inl q1840) dX7_townLine_537 rfl)))
 (kl_ok (ok_aP (ok_iconst dX7_townLine_540 rfl rfl)))))
 (kn_ok
 (kl_ok (ok_aP (ok_iald dX7_townLine_541 rfl)))
 (kn_ok
 (kl_ok (ok_aP (ok_imul dX7_townLine_542 rfl)))
 (kl_ok (ok_aP (ok_iadd dX7_townLine_543 rfl)))))))
 (kn_ok
 (kn_ok
 (kn_ok
 (kl_ok (ok_aP (ok_istore dX7_townLine_544 rfl)))
 (kl_ok (ok_aP (ok_aload_n dX7_townLine_546 rfl rfl))))
 (kn_ok
 (kl_ok (ok_aP (ok_getf fo_54 fs_rf (Or.inl q1840) dX7_townLine_547 rfl)))
 (kn_ok
 (kl_ok (ok_aP (ok_iload dX7_townLine_550 rfl)))
 (kl_ok (ok_aP (ok_iload_n dX7_townLine_552 rfl rfl))))))
 (kn_ok
 (kn_ok
 (kl_ok (ok_hp (ok_iast dX7_townLine_553 rfl) le_iast))
 (kn_ok
 (kl_ok (ok_aP (ok_aload_n dX7_townLine_554 rfl rfl)))
 (kl_ok (ok_aP (ok_getf fo_54 fs_rf (Or.inl q1840) dX7_townLine_555 rfl)))))
 (kn_ok
 (kl_ok (ok_aP (ok_iload dX7_townLine_558 rfl)))
 (kn_ok
 (kl_ok (ok_aP (ok_iconst dX7_townLine_560 rfl rfl)))
 (kl_ok (ok_aP (ok_iadd dX7_townLine_561 rfl))))))))
 (kn_ok
 (kn_ok
 (kn_ok
 (kn_ok
 (kl_ok (ok_aP (ok_iload_n dX7_townLine_562 rfl rfl)))
 (kl_ok (ok_hp (ok_iast dX7_townLine_563 rfl) le_iast)))
 (kn_ok
 (kl_ok (ok_aP (ok_aload_n dX7_townLine_564 rfl rfl)))
 (kn_ok
 (kl_ok (ok_aP (ok_getf fo_54 fs_rf (Or.inl q1840) dX7_townLine_565 rfl)))
 (kl_ok (ok_aP (ok_iload dX7_townLine_568 rfl))))))
 (kn_ok
 (kn_ok
 (kl_ok (ok_aP (ok_iconst dX7_townLine_570 rfl rfl)))
 (kn_ok
 (kl_ok (ok_aP (ok_iadd dX7_townLine_571 rfl)))
 (kl_ok (ok_aP (ok_iload dX7_townLine_572 rfl)))))
 (kn_ok
 (kl_ok (ok_hp (ok_iast dX7_townLine_574 rfl) le_iast))
 (kn_ok
 (kl_ok (ok_aP (ok_aload_n dX7_townLine_575 rfl rfl)))
 (kl_ok (ok_aP (ok_getf fo_54 fs_rf (Or.inl q1840) dX7_townLine_576 rfl)))))))
 (kn_ok
 (kn_ok
 (kn_ok
 (kl_ok (ok_aP (ok_iconst dX7_townLine_579 rfl rfl)))
 (kn_ok
 (kl_ok (ok_aP (ok_dup2 dX7_townLine_580 rfl)))
 (kl_ok (ok_aP (ok_iald dX7_townLine_581 rfl)))))
 (kn_ok
 (kl_ok (ok_aP (ok_iconst dX7_townLine_582 rfl rfl)))
 (kn_ok
 (kl_ok (ok_aP (ok_iadd dX7_townLine_583 rfl)))
 (kl_ok (ok_hp (ok_iast dX7_townLine_584 rfl) le_iast)))))
 (kn_ok
 (kn_ok
 (kl_ok (ok_aP (ok_goto dX7_townLine_585 rfl)))
 (kn_ok
 (kl_ok (ok_aP (ok_aload_n dX7_townLine_588 rfl rfl)))
 (kl_ok (ok_aP (ok_aload_n dX7_townLine_589 rfl rfl)))))
 (kn_ok
 (kl_ok (ok_aP (ok_getf fo_67 fs_rf (Or.inl q1848) dX7_townLine_590 rfl)))
 (kn_ok
 (kl_ok (ok_callV (List.forall_mem_cons.mpr ⟨run_V (C0 := "FavourTownModel") rfl rfl (by rw [hm]; rfl) q1958 q1960 qs35 q92 q1961 ⟨nh_1, dl_32⟩ (by decide) dX7_townLine_593, (fun _ h => absurd h List.not_mem_nil)⟩) rfl))
 (kl_ok (ok_vret rfl dX7_townLine_596))))))))))
/-- 170: FavourTownModel.person(I)I -/
noncomputable def k_X7_person : Nat → Option AOp :=
 tn 19 (tn 10 (tn 5 (tn 1 (tl 0 (aP (f_aload 0 1)))
  (tn 4 (tl 1 (o_callV (lkN [(18, 156)]) 0 4))
  (tl 4 (aP (f_aload 0 5)))))
  (tn 8 (tl 5 (aP (f_getf [18] 9 8)))
  (tn 9 (tl 8 (aP (f_istore 2 9)))
  (tl 9 (aP (f_aload 0 10))))))
  (tn 15 (tn 11 (tl 10 (aP (f_const (.int (nI 0)) 11)))
  (tn 12 (tl 11 (aP (f_aload 0 12)))
  (tl 12 (aP (f_getf [18] 1 15)))))
  (tn 17 (tn 16 (tl 15 (aP (f_const (.int (nI 1)) 16)))
  (tl 16 (aP (f_iald 0 17))))
  (tn 18 (tl 17 (aP (f_const (.int (nI 1)) 18)))
  (tl 18 (aP (f_bin (fun x y => x - y) 19)))))))
  (tn 32 (tn 24 (tn 22 (tl 19 (o_callV (lkN [(18, 168)]) 2 22))
  (tn 23 (tl 22 (aP (f_istore 3 23)))
  (tl 23 (aP (f_aload 0 24)))))
  (tn 28 (tn 27 (tl 24 (aP (f_getf [18] 10 27)))
  (tl 27 (aP (f_const (.int (-1)) 28))))
  (tn 31 (tl 28 (aP (f_icmp (fun x y => decide (¬ x = y)) 41 31)))
  (tl 31 (aP (f_iload 3 32))))))
  (tn 37 (tn 33 (tl 32 (aP (f_iload 1 33)))
  (tn 36 (tl 33 (aP (f_icmp (fun x y => decide (¬ x = y)) 41 36)))
  (tl 36 (aP (f_aload 0 37)))))
  (tn 41 (tn 38 (tl 37 (aP (f_iload 2 38)))
  (tl 38 (o_callV (lkN [(18, 158)]) 1 41)))
  (tn 42 (tl 41 (aP (f_iload 3 42)))
  (tl 42 (o_iret (fun _ => true)))))))
theorem kok_X7_person {γ : AG} (hm : γ.2.2.2.2.1 = mTab) (hk : γ.2.2.2.2.2 = kTab) : KOK γ m_X7_person k_X7_person :=
 kn_ok
 (kn_ok
 (kn_ok
 (kn_ok
 (kl_ok (ok_aP (ok_aload_n dX7_person_0 rfl rfl)))
 (kn_ok
 (kl_ok (ok_callV (List.forall_mem_cons.mpr ⟨run_V (C0 := "FavourTownModel") rfl rfl (by rw [hm]; rfl) q1950 q1952 qs33 q92 q1953 ⟨nh_1, dl_0⟩ (by decide) dX7_person_1, (fun _ h => absurd h List.not_mem_nil)⟩) rfl))
 (kl_ok (ok_aP (ok_aload_n dX7_person_4 rfl rfl)))))
 (kn_ok
 (kl_ok (ok_aP (ok_getf fo_67 fs_rf (Or.inl q1848) dX7_person_5 rfl)))
 (kn_ok
 (kl_ok (ok_aP (ok_istore_n dX7_person_8 rfl rfl)))
 (kl_ok (ok_aP (ok_aload_n dX7_person_9 rfl rfl))))))
 (kn_ok
 (kn_ok
 (kl_ok (ok_aP (ok_iconst dX7_person_10 rfl rfl)))
 (kn_ok
 (kl_ok (ok_aP (ok_aload_n dX7_person_11 rfl rfl)))
 (kl_ok (ok_aP (ok_getf fo_54 fs_rf (Or.inl q1840) dX7_person_12 rfl)))))
 (kn_ok
 (kn_ok
 (kl_ok (ok_aP (ok_iconst dX7_person_15 rfl rfl)))
 (kl_ok (ok_aP (ok_iald dX7_person_16 rfl))))
 (kn_ok
 (kl_ok (ok_aP (ok_iconst dX7_person_17 rfl rfl)))
 (kl_ok (ok_aP (ok_isub dX7_person_18 rfl)))))))
 (kn_ok
 (kn_ok
 (kn_ok
 (kl_ok (ok_callV (List.forall_mem_cons.mpr ⟨run_V (C0 := "FavourTownModel") rfl rfl (by rw [hm]; rfl) q2017 q2019 qs45 q92 q2020 ⟨nh_1, dl_6⟩ (by decide) dX7_person_19, (fun _ h => absurd h List.not_mem_nil)⟩) rfl))
 (kn_ok
 (kl_ok (ok_aP (ok_istore_n dX7_person_22 rfl rfl)))
 (kl_ok (ok_aP (ok_aload_n dX7_person_23 rfl rfl)))))
 (kn_ok
 (kn_ok
 (kl_ok (ok_aP (ok_getf fo_64 fs_rf (Or.inl q1849) dX7_person_24 rfl)))
 (kl_ok (ok_aP (ok_iconst dX7_person_27 rfl rfl))))
 (kn_ok
 (kl_ok (ok_aP (ok_icmp_ne dX7_person_28 rfl rfl)))
 (kl_ok (ok_aP (ok_iload_n dX7_person_31 rfl rfl))))))
 (kn_ok
 (kn_ok
 (kl_ok (ok_aP (ok_iload_n dX7_person_32 rfl rfl)))
 (kn_ok
 (kl_ok (ok_aP (ok_icmp_ne dX7_person_33 rfl rfl)))
 (kl_ok (ok_aP (ok_aload_n dX7_person_36 rfl rfl)))))
 (kn_ok
 (kn_ok
 (kl_ok (ok_aP (ok_iload_n dX7_person_37 rfl rfl)))
 (kl_ok (ok_callV (List.forall_mem_cons.mpr ⟨run_V (C0 := "FavourTownModel") rfl rfl (by rw [hm]; rfl) q1958 q1960 qs35 q92 q1961 ⟨nh_1, dl_32⟩ (by decide) dX7_person_38, (fun _ h => absurd h List.not_mem_nil)⟩) rfl)))
 (kn_ok
 (kl_ok (ok_aP (ok_iload_n dX7_person_41 rfl rfl)))
 (kl_ok (ok_iret rfl dX7_person_42))))))
/-- 171: FavourTownModel.must(Ljava/lang/String;)V -/
noncomputable def k_X7_must : Nat → Option AOp :=
 tn 10 (tn 5 (tn 1 (tl 0 (aP (f_aload 0 1)))
  (tn 4 (tl 1 (aP (f_getf [18] 10 4)))
  (tl 4 (aP (f_const (.int (-1)) 5)))))
  (tn 8 (tl 5 (aP (f_icmp (fun x y => decide (¬ x = y)) 24 8)))
  (tn 9 (tl 8 (aP (f_aload 0 9)))
  (tl 9 (aP (f_aload 1 10))))))
  (tn 17 (tn 13 (tl 10 (o_callV (lkN [(18, 160)]) 1 13))
  (tn 16 (tl 13 (aP (f_if (fun x => decide (¬ x = 0)) 24 16)))
  (tl 16 (aP (f_aload 0 17)))))
  (tn 21 (tn 18 (tl 17 (aP (f_aload 0 18)))
  (tl 18 (aP (f_getf [18] 9 21))))
  (tn 24 (tl 21 (o_callV (lkN [(18, 158)]) 1 24))
  (tl 24 (o_vret)))))
theorem kok_X7_must {γ : AG} (hm : γ.2.2.2.2.1 = mTab) (hk : γ.2.2.2.2.2 = kTab) : KOK γ m_X7_must k_X7_must :=
 kn_ok
 (kn_ok
 (kn_ok
 (kl_ok (ok_aP (ok_aload_n dX7_must_0 rfl rfl)))
 (kn_ok
 (kl_ok (ok_aP (ok_getf fo_64 fs_rf (Or.inl q1849) dX7_must_1 rfl)))
 (kl_ok (ok_aP (ok_iconst dX7_must_4 rfl rfl)))))
 (kn_ok
 (kl_ok (ok_aP (ok_icmp_ne dX7_must_5 rfl rfl)))
 (kn_ok
 (kl_ok (ok_aP (ok_aload_n dX7_must_8 rfl rfl)))
 (kl_ok (ok_aP (ok_aload_n dX7_must_9 rfl rfl))))))
 (kn_ok
 (kn_ok
 (kl_ok (ok_callV (List.forall_mem_cons.mpr ⟨run_V (C0 := "FavourTownModel") rfl rfl (by rw [hm]; rfl) q1967 q1969 qs37 q92 q1970 ⟨nh_1, dl_48⟩ (by decide) dX7_must_10, (fun _ h => absurd h List.not_mem_nil)⟩) rfl))
 (kn_ok
 (kl_ok (ok_aP (ok_if_ne dX7_must_13 rfl rfl)))
 (kl_ok (ok_aP (ok_aload_n dX7_must_16 rfl rfl)))))
 (kn_ok
 (kn_ok
 (kl_ok (ok_aP (ok_aload_n dX7_must_17 rfl rfl)))
 (kl_ok (ok_aP (ok_getf fo_67 fs_rf (Or.inl q1848) dX7_must_18 rfl))))
 (kn_ok
 (kl_ok (ok_callV (List.forall_mem_cons.mpr ⟨run_V (C0 := "FavourTownModel") rfl rfl (by rw [hm]; rfl) q1958 q1960 qs35 q92 q1961 ⟨nh_1, dl_32⟩ (by decide) dX7_must_21, (fun _ h => absurd h List.not_mem_nil)⟩) rfl))
 (kl_ok (ok_vret rfl dX7_must_24)))))
/-- 172: FavourTownModel.gives(IIIIZ)I -/
noncomputable def k_X7_gives : Nat → Option AOp :=
 tn 80 (tn 41 (tn 21 (tn 10 (tn 5 (tn 2 (tl 0 (aP (f_iload 4 2)))
  (tl 2 (aP (f_if (fun x => decide (¬ x = 0)) 9 5))))
  (tn 6 (tl 5 (aP (f_const (.int (-1)) 6)))
  (tn 9 (tl 6 (aP (f_goto 19)))
  (tl 9 (aP (f_aload 0 10))))))
  (tn 16 (tn 13 (tl 10 (aP (f_getf [18] 1 13)))
  (tn 15 (tl 13 (aP (f_const (.int (nI 6)) 15)))
  (tl 15 (aP (f_iald 0 16)))))
  (tn 18 (tl 16 (aP (f_iload 4 18)))
  (tn 19 (tl 18 (aP (f_bin (fun x y => x + y) 19)))
  (tl 19 (aP (f_istore 6 21)))))))
  (tn 29 (tn 24 (tn 22 (tl 21 (aP (f_aload 0 22)))
  (tn 23 (tl 22 (aP (f_iload 1 23)))
  (tl 23 (aP (f_iload 2 24)))))
  (tn 25 (tl 24 (aP (f_iload 3 25)))
  (tn 27 (tl 25 (aP (f_iload 6 27)))
  (tl 27 (aP (f_iload 5 29))))))
  (tn 36 (tn 32 (tl 29 (o_callV (lkN [(18, 173)]) 5 32))
  (tn 35 (tl 32 (aP (f_if (fun x => decide (¬ x = 0)) 37 35)))
  (tl 35 (aP (f_const (.int (-1)) 36)))))
  (tn 37 (tl 36 (o_iret (fun _ => true)))
  (tn 38 (tl 37 (aP (f_aload 0 38)))
  (tl 38 (aP (f_getf [18] 1 41))))))))
  (tn 55 (tn 49 (tn 43 (tn 42 (tl 41 (aP (f_const (.int (nI 3)) 42)))
  (tl 42 (aP (f_iald 0 43))))
  (tn 45 (tl 43 (aP (f_istore 7 45)))
  (tn 46 (tl 45 (aP (f_aload 0 46)))
  (tl 46 (aP (f_getf [18] 1 49))))))
  (tn 52 (tn 50 (tl 49 (aP (f_const (.int (nI 3)) 50)))
  (tn 51 (tl 50 (aP (f_dup2 51)))
  (tl 51 (aP (f_iald 0 52)))))
  (tn 53 (tl 52 (aP (f_const (.int (nI 1)) 53)))
  (tn 54 (tl 53 (aP (f_bin (fun x y => x + y) 54)))
  (tl 54 (o_iast 0 (fun y => y) 55))))))
  (tn 66 (tn 60 (tn 56 (tl 55 (aP (f_const (.int (nI 0)) 56)))
  (tn 58 (tl 56 (aP (f_istore 8 58)))
  (tl 58 (aP (f_iload 8 60)))))
  (tn 62 (tl 60 (aP (f_const (.int (nI 20)) 62)))
  (tn 65 (tl 62 (aP (f_icmp (fun x y => decide (y ≤ x)) 80 65)))
  (tl 65 (aP (f_aload 0 66))))))
  (tn 71 (tn 68 (tl 66 (aP (f_iload 7 68)))
  (tn 70 (tl 68 (aP (f_iload 8 70)))
  (tl 70 (aP (f_const (.int (nI 0)) 71)))))
  (tn 74 (tl 71 (o_callV (lkN [(18, 180)]) 3 74))
  (tn 77 (tl 74 (aP (f_iinc 8 (nI 1) 77)))
  (tl 77 (aP (f_goto 58)))))))))
  (tn 117 (tn 97 (tn 88 (tn 83 (tn 81 (tl 80 (aP (f_aload 0 81)))
  (tl 81 (aP (f_iload 7 83))))
  (tn 84 (tl 83 (aP (f_const (.int (nI 0)) 84)))
  (tn 85 (tl 84 (aP (f_iload 1 85)))
  (tl 85 (o_callV (lkN [(18, 180)]) 3 88)))))
  (tn 92 (tn 89 (tl 88 (aP (f_aload 0 89)))
  (tn 91 (tl 89 (aP (f_iload 7 91)))
  (tl 91 (aP (f_const (.int (nI 1)) 92)))))
  (tn 93 (tl 92 (aP (f_iload 3 93)))
  (tn 96 (tl 93 (o_callV (lkN [(18, 180)]) 3 96))
  (tl 96 (aP (f_aload 0 97)))))))
  (tn 107 (tn 101 (tn 99 (tl 97 (aP (f_iload 7 99)))
  (tn 100 (tl 99 (aP (f_const (.int (nI 2)) 100)))
  (tl 100 (aP (f_iload 2 101)))))
  (tn 104 (tl 101 (o_callV (lkN [(18, 180)]) 3 104))
  (tn 105 (tl 104 (aP (f_aload 0 105)))
  (tl 105 (aP (f_iload 7 107))))))
  (tn 113 (tn 108 (tl 107 (aP (f_const (.int (nI 4)) 108)))
  (tn 110 (tl 108 (aP (f_iload 6 110)))
  (tl 110 (o_callV (lkN [(18, 180)]) 3 113))))
  (tn 114 (tl 113 (aP (f_aload 0 114)))
  (tn 116 (tl 114 (aP (f_iload 7 116)))
  (tl 116 (aP (f_const (.int (nI 5)) 117))))))))
  (tn 139 (tn 127 (tn 122 (tn 119 (tl 117 (aP (f_iload 5 119)))
  (tl 119 (aP (f_if (fun x => decide (x = 0)) 126 122))))
  (tn 123 (tl 122 (aP (f_const (.int (nI 1)) 123)))
  (tn 126 (tl 123 (aP (f_goto 127)))
  (tl 126 (aP (f_const (.int (nI 0)) 127))))))
  (tn 133 (tn 130 (tl 127 (o_callV (lkN [(18, 180)]) 3 130))
  (tn 131 (tl 130 (aP (f_aload 0 131)))
  (tl 131 (aP (f_iload 7 133)))))
  (tn 135 (tl 133 (aP (f_const (.int (nI 6)) 135)))
  (tn 136 (tl 135 (aP (f_const (.int (nI 2)) 136)))
  (tl 136 (o_callV (lkN [(18, 180)]) 3 139))))))
  (tn 149 (tn 144 (tn 140 (tl 139 (aP (f_aload 0 140)))
  (tn 142 (tl 140 (aP (f_iload 7 142)))
  (tl 142 (aP (f_const (.int (nI 7)) 144)))))
  (tn 145 (tl 144 (aP (f_iload 1 145)))
  (tn 148 (tl 145 (o_callV (lkN [(18, 180)]) 3 148))
  (tl 148 (aP (f_aload 0 149))))))
  (tn 154 (tn 151 (tl 149 (aP (f_iload 7 151)))
  (tn 153 (tl 151 (aP (f_const (.int (nI 8)) 153)))
  (tl 153 (aP (f_iload 2 154)))))
  (tn 157 (tl 154 (o_callV (lkN [(18, 180)]) 3 157))
  (tn 159 (tl 157 (aP (f_iload 7 159)))
  (tl 159 (o_iret (fun _ => true)))))))))
theorem kok_X7_gives {γ : AG} (hm : γ.2.2.2.2.1 = mTab) (hk : γ.2.2.2.2.2 = kTab) : KOK γ m_X7_gives k_X7_gives :=
 kn_ok
 (kn_ok
 (kn_ok
 (kn_ok
 (kn_ok
 (kn_ok
 (kl_ok (ok_aP (ok_iload dX7_gives_0 rfl)))
 (kl_ok (ok_aP (ok_if_ne dX7_gives_2 rfl rfl))))
 (kn_ok
 (kl_ok (ok_aP (ok_iconst dX7_gives_5 rfl rfl)))
 (kn_ok
 (kl_ok (ok_aP (ok_goto dX7_gives_6 rfl)))
 (kl_ok (ok_aP (ok_aload_n dX7_gives_9 rfl rfl))))))
 (kn_ok
 (kn_ok
 (kl_ok (ok_aP (ok_getf fo_54 fs_rf (Or.inl q1840) dX7_gives_10 rfl)))
 (kn_ok
 (kl_ok (ok_aP (ok_bipush dX7_gives_13 (by decide +kernel) rfl)))
 (kl_ok (ok_aP (ok_iald dX7_gives_15 rfl)))))
 (kn_ok
 (kl_ok (ok_aP (ok_iload dX7_gives_16 rfl)))
 (kn_ok
 (kl_ok (ok_aP (ok_iadd dX7_gives_18 rfl)))
 (kl_ok (ok_aP (ok_istore dX7_gives_19 rfl)))))))
 (kn_ok
 (kn_ok
 (kn_ok
 (kl_ok (ok_aP (ok_aload_n dX7_gives_21 rfl rfl)))
 (kn_ok
 (kl_ok (ok_aP (ok_iload_n dX7_gives_22 rfl rfl)))
 (kl_ok (ok_aP (ok_iload_n dX7_gives_23 rfl rfl)))))
 (kn_ok
 (kl_ok (ok_aP (ok_iload_n dX7_gives_24 rfl rfl)))
 (kn_ok
 (kl_ok (ok_aP (ok_iload dX7_gives_25 rfl)))
 (kl_ok (ok_aP (ok_iload dX7_gives_27 rfl))))))
 (kn_ok
 (kn_ok
 (kl_ok (ok_callV (List.forall_mem_cons.mpr ⟨run_V (C0 := "FavourTownModel") rfl rfl (by rw [hm]; rfl) q2051 q2053 qs50 q92 q2054 ⟨nh_1, dl_33⟩ (by decide) dX7_gives_29, (fun _ h => absurd h List.not_mem_nil)⟩) rfl))
 (kn_ok
 (kl_ok (ok_aP (ok_if_ne dX7_gives_32 rfl rfl)))
 (kl_ok (ok_aP (ok_iconst dX7_gives_35 rfl rfl)))))
 (kn_ok
 (kl_ok (ok_iret rfl dX7_gives_36))
 (kn_ok
 (kl_ok (ok_aP (ok_aload_n dX7_gives_37 rfl rfl)))
 (kl_ok (ok_aP (ok_getf fo_54 fs_rf (Or.inl q1840) dX7_gives_38 rfl))))))))
 (kn_ok
 (kn_ok
 (kn_ok
 (kn_ok
 (kl_ok (ok_aP (ok_iconst dX7_gives_41 rfl rfl)))
 (kl_ok (ok_aP (ok_iald dX7_gives_42 rfl))))
 (kn_ok
 (kl_ok (ok_aP (ok_istore dX7_gives_43 rfl)))
 (kn_ok
 (kl_ok (ok_aP (ok_aload_n dX7_gives_45 rfl rfl)))
 (kl_ok (ok_aP (ok_getf fo_54 fs_rf (Or.inl q1840) dX7_gives_46 rfl))))))
 (kn_ok
 (kn_ok
 (kl_ok (ok_aP (ok_iconst dX7_gives_49 rfl rfl)))
 (kn_ok
 (kl_ok (ok_aP (ok_dup2 dX7_gives_50 rfl)))
 (kl_ok (ok_aP (ok_iald dX7_gives_51 rfl)))))
 (kn_ok
 (kl_ok (ok_aP (ok_iconst dX7_gives_52 rfl rfl)))
 (kn_ok
 (kl_ok (ok_aP (ok_iadd dX7_gives_53 rfl)))
 (kl_ok (ok_hp (ok_iast dX7_gives_54 rfl) le_iast))))))
 (kn_ok
 (kn_ok
 (kn_ok
 (kl_ok (ok_aP (ok_iconst dX7_gives_55 rfl rfl)))
 (kn_ok
 (kl_ok (ok_aP (ok_istore dX7_gives_56 rfl)))
 (kl_ok (ok_aP (ok_iload dX7_gives_58 rfl)))))
 (kn_ok
 (kl_ok (ok_aP (ok_bipush dX7_gives_60 (by decide +kernel) rfl)))
 (kn_ok
 (kl_ok (ok_aP (ok_icmp_ge dX7_gives_62 rfl rfl)))
 (kl_ok (ok_aP (ok_aload_n dX7_gives_65 rfl rfl))))))
 (kn_ok
 (kn_ok
 (kl_ok (ok_aP (ok_iload dX7_gives_66 rfl)))
 (kn_ok
 (kl_ok (ok_aP (ok_iload dX7_gives_68 rfl)))
 (kl_ok (ok_aP (ok_iconst dX7_gives_70 rfl rfl)))))
 (kn_ok
 (kl_ok (ok_callV (List.forall_mem_cons.mpr ⟨run_V (C0 := "FavourTownModel") rfl rfl (by rw [hm]; rfl) q2078 q2080 qs56 q92 q2081 ⟨nh_1, dl_46⟩ (by decide) dX7_gives_71, (fun _ h => absurd h List.not_mem_nil)⟩) rfl))
 (kn_ok
 (kl_ok (ok_aP (ok_iinc dX7_gives_74 (by decide +kernel) rfl)))
 (kl_ok (ok_aP (ok_goto dX7_gives_77 rfl)))))))))
 (kn_ok
 (kn_ok
 (kn_ok
 (kn_ok
 (kn_ok
 (kl_ok (ok_aP (ok_aload_n dX7_gives_80 rfl rfl)))
 (kl_ok (ok_aP (ok_iload dX7_gives_81 rfl))))
 (kn_ok
 (kl_ok (ok_aP (ok_iconst dX7_gives_83 rfl rfl)))
 (kn_ok
 (kl_ok (ok_aP (ok_iload_n dX7_gives_84 rfl rfl)))
 (kl_ok (ok_callV (List.forall_mem_cons.mpr ⟨run_V (C0 := "FavourTownModel") rfl rfl (by rw [hm]; rfl) q2078 q2080 qs56 q92 q2081 ⟨nh_1, dl_46⟩ (by decide) dX7_gives_85, (fun _ h => absurd h List.not_mem_nil)⟩) rfl)))))
 (kn_ok
 (kn_ok
 (kl_ok (ok_aP (ok_aload_n dX7_gives_88 rfl rfl)))
 (kn_ok
 (kl_ok (ok_aP (ok_iload dX7_gives_89 rfl)))
 (kl_ok (ok_aP (ok_iconst dX7_gives_91 rfl rfl)))))
 (kn_ok
 (kl_ok (ok_aP (ok_iload_n dX7_gives_92 rfl rfl)))
 (kn_ok
 (kl_ok (ok_callV (List.forall_mem_cons.mpr ⟨run_V (C0 := "FavourTownModel") rfl rfl (by rw [hm]; rfl) q2078 q2080 qs56 q92 q2081 ⟨nh_1, dl_46⟩ (by decide) dX7_gives_93, (fun _ h => absurd h List.not_mem_nil)⟩) rfl))
 (kl_ok (ok_aP (ok_aload_n dX7_gives_96 rfl rfl)))))))
 (kn_ok
 (kn_ok
 (kn_ok
 (kl_ok (ok_aP (ok_iload dX7_gives_97 rfl)))
 (kn_ok
 (kl_ok (ok_aP (ok_iconst dX7_gives_99 rfl rfl)))
 (kl_ok (ok_aP (ok_iload_n dX7_gives_100 rfl rfl)))))
 (kn_ok
 (kl_ok (ok_callV (List.forall_mem_cons.mpr ⟨run_V (C0 := "FavourTownModel") rfl rfl (by rw [hm]; rfl) q2078 q2080 qs56 q92 q2081 ⟨nh_1, dl_46⟩ (by decide) dX7_gives_101, (fun _ h => absurd h List.not_mem_nil)⟩) rfl))
 (kn_ok
 (kl_ok (ok_aP (ok_aload_n dX7_gives_104 rfl rfl)))
 (kl_ok (ok_aP (ok_iload dX7_gives_105 rfl))))))
 (kn_ok
 (kn_ok
 (kl_ok (ok_aP (ok_iconst dX7_gives_107 rfl rfl)))
 (kn_ok
 (kl_ok (ok_aP (ok_iload dX7_gives_108 rfl)))
 (kl_ok (ok_callV (List.forall_mem_cons.mpr ⟨run_V (C0 := "FavourTownModel") rfl rfl (by rw [hm]; rfl) q2078 q2080 qs56 q92 q2081 ⟨nh_1, dl_46⟩ (by decide) dX7_gives_110, (fun _ h => absurd h List.not_mem_nil)⟩) rfl))))
 (kn_ok
 (kl_ok (ok_aP (ok_aload_n dX7_gives_113 rfl rfl)))
 (kn_ok
 (kl_ok (ok_aP (ok_iload dX7_gives_114 rfl)))
 (kl_ok (ok_aP (ok_iconst dX7_gives_116 rfl rfl))))))))
 (kn_ok
 (kn_ok
 (kn_ok
 (kn_ok
 (kl_ok (ok_aP (ok_iload dX7_gives_117 rfl)))
 (kl_ok (ok_aP (ok_if_eq dX7_gives_119 rfl rfl))))
 (kn_ok
 (kl_ok (ok_aP (ok_iconst dX7_gives_122 rfl rfl)))
 (kn_ok
 (kl_ok (ok_aP (ok_goto dX7_gives_123 rfl)))
 (kl_ok (ok_aP (ok_iconst dX7_gives_126 rfl rfl))))))
 (kn_ok
 (kn_ok
 (kl_ok (ok_callV (List.forall_mem_cons.mpr ⟨run_V (C0 := "FavourTownModel") rfl rfl (by rw [hm]; rfl) q2078 q2080 qs56 q92 q2081 ⟨nh_1, dl_46⟩ (by decide) dX7_gives_127, (fun _ h => absurd h List.not_mem_nil)⟩) rfl))
 (kn_ok
 (kl_ok (ok_aP (ok_aload_n dX7_gives_130 rfl rfl)))
 (kl_ok (ok_aP (ok_iload dX7_gives_131 rfl)))))
 (kn_ok
 (kl_ok (ok_aP (ok_bipush dX7_gives_133 (by decide +kernel) rfl)))
 (kn_ok
 (kl_ok (ok_aP (ok_iconst dX7_gives_135 rfl rfl)))
 (kl_ok (ok_callV (List.forall_mem_cons.mpr ⟨run_V (C0 := "FavourTownModel") rfl rfl (by rw [hm]; rfl) q2078 q2080 qs56 q92 q2081 ⟨nh_1, dl_46⟩ (by decide) dX7_gives_136, (fun _ h => absurd h List.not_mem_nil)⟩) rfl))))))
 (kn_ok
 (kn_ok
 (kn_ok
 (kl_ok (ok_aP (ok_aload_n dX7_gives_139 rfl rfl)))
 (kn_ok
 (kl_ok (ok_aP (ok_iload dX7_gives_140 rfl)))
 (kl_ok (ok_aP (ok_bipush dX7_gives_142 (by decide +kernel) rfl)))))
 (kn_ok
 (kl_ok (ok_aP (ok_iload_n dX7_gives_144 rfl rfl)))
 (kn_ok
 (kl_ok (ok_callV (List.forall_mem_cons.mpr ⟨run_V (C0 := "FavourTownModel") rfl rfl (by rw [hm]; rfl) q2078 q2080 qs56 q92 q2081 ⟨nh_1, dl_46⟩ (by decide) dX7_gives_145, (fun _ h => absurd h List.not_mem_nil)⟩) rfl))
 (kl_ok (ok_aP (ok_aload_n dX7_gives_148 rfl rfl))))))
 (kn_ok
 (kn_ok
 (kl_ok (ok_aP (ok_iload dX7_gives_149 rfl)))
 (kn_ok
 (kl_ok (ok_aP (ok_bipush dX7_gives_151 (by decide +kernel) rfl)))
 (kl_ok (ok_aP (ok_iload_n dX7_gives_153 rfl rfl)))))
 (kn_ok
 (kl_ok (ok_callV (List.forall_mem_cons.mpr ⟨run_V (C0 := "FavourTownModel") rfl rfl (by rw [hm]; rfl) q2078 q2080 qs56 q92 q2081 ⟨nh_1, dl_46⟩ (by decide) dX7_gives_154, (fun _ h => absurd h List.not_mem_nil)⟩) rfl))
 (kn_ok
 (kl_ok (ok_aP (ok_iload dX7_gives_157 rfl)))
 (kl_ok (ok_iret rfl dX7_gives_159))))))))
/-- 173: FavourTownModel.canGive(IIIIZ)Z -/
noncomputable def k_X7_canGive : Nat → Option AOp :=
 tn 24 (tn 13 (tn 6 (tn 2 (tn 1 (tl 0 (aP (f_aload 0 1)))
  (tl 1 (aP (f_iload 1 2))))
  (tn 5 (tl 2 (o_callV (lkN [(18, 174)]) 1 5))
  (tl 5 (aP (f_iload 3 6)))))
  (tn 8 (tn 7 (tl 6 (aP (f_bin (fun x y => x + y) 7)))
  (tl 7 (aP (f_aload 0 8))))
  (tn 11 (tl 8 (aP (f_getf [18] 1 11)))
  (tl 11 (aP (f_const (.int (nI 10)) 13))))))
  (tn 17 (tn 15 (tn 14 (tl 13 (aP (f_const (.int (nI 3)) 14)))
  (tl 14 (aP (f_iload 1 15))))
  (tn 16 (tl 15 (aP (f_bin (fun x y => x * y) 16)))
  (tl 16 (aP (f_bin (fun x y => x + y) 17)))))
  (tn 21 (tn 18 (tl 17 (aP (f_iald 0 18)))
  (tl 18 (aP (f_icmp (fun x y => decide (y < x)) 52 21))))
  (tn 22 (tl 21 (aP (f_aload 0 22)))
  (tn 23 (tl 22 (aP (f_iload 2 23)))
  (tl 23 (aP (f_iload 1 24))))))))
  (tn 38 (tn 30 (tn 26 (tn 25 (tl 24 (aP (f_iload 3 25)))
  (tl 25 (aP (f_const (.int (nI 0)) 26))))
  (tn 28 (tl 26 (aP (f_iload 4 28)))
  (tl 28 (aP (f_iload 5 30)))))
  (tn 34 (tn 31 (tl 30 (aP (f_const (.int (nI 0)) 31)))
  (tl 31 (o_callV (lkN [(18, 176)]) 7 34)))
  (tn 37 (tl 34 (aP (f_if (fun x => decide (x = 0)) 52 37)))
  (tl 37 (aP (f_aload 0 38))))))
  (tn 45 (tn 42 (tn 41 (tl 38 (aP (f_getf [18] 1 41)))
  (tl 41 (aP (f_const (.int (nI 3)) 42))))
  (tn 43 (tl 42 (aP (f_iald 0 43)))
  (tl 43 (aP (f_const (.int (nI 40)) 45)))))
  (tn 49 (tn 48 (tl 45 (aP (f_icmp (fun x y => decide (y ≤ x)) 52 48)))
  (tl 48 (aP (f_const (.int (nI 1)) 49))))
  (tn 52 (tl 49 (aP (f_goto 53)))
  (tn 53 (tl 52 (aP (f_const (.int (nI 0)) 53)))
  (tl 53 (o_iret (fun x => x == 0 || x == 1))))))))
theorem kok_X7_canGive {γ : AG} (hm : γ.2.2.2.2.1 = mTab) (hk : γ.2.2.2.2.2 = kTab) : KOK γ m_X7_canGive k_X7_canGive :=
 kn_ok
 (kn_ok
 (kn_ok
 (kn_ok
 (kn_ok
 (kl_ok (ok_aP (ok_aload_n dX7_canGive_0 rfl rfl)))
 (kl_ok (ok_aP (ok_iload_n dX7_canGive_1 rfl rfl))))
 (kn_ok
 (kl_ok (ok_callV (List.forall_mem_cons.mpr ⟨run_V (C0 := "FavourTownModel") rfl rfl (by rw [hm]; rfl) q2055 q2057 qs51 q92 q2058 ⟨nh_1, dl_10⟩ (by decide) dX7_canGive_2, (fun _ h => absurd h List.not_mem_nil)⟩) rfl))
 (kl_ok (ok_aP (ok_iload_n dX7_canGive_5 rfl rfl)))))
 (kn_ok
 (kn_ok
 (kl_ok (ok_aP (ok_iadd dX7_canGive_6 rfl)))
 (kl_ok (ok_aP (ok_aload_n dX7_canGive_7 rfl rfl))))
 (kn_ok
 (kl_ok (ok_aP (ok_getf fo_54 fs_rf (Or.inl q1840) dX7_canGive_8 rfl)))
 (kl_ok (ok_aP (ok_bipush dX7_canGive_11 (by decide +kernel) rfl))))))
 (kn_ok
 (kn_ok
 (kn_ok
 (kl_ok (ok_aP (ok_iconst dX7_canGive_13 rfl rfl)))
 (kl_ok (ok_aP (ok_iload_n dX7_canGive_14 rfl rfl))))
 (kn_ok
 (kl_ok (ok_aP (ok_imul dX7_canGive_15 rfl)))
 (kl_ok (ok_aP (ok_iadd dX7_canGive_16 rfl)))))
 (kn_ok
 (kn_ok
 (kl_ok (ok_aP (ok_iald dX7_canGive_17 rfl)))
 (kl_ok (ok_aP (ok_icmp_gt dX7_canGive_18 rfl rfl))))
 (kn_ok
 (kl_ok (ok_aP (ok_aload_n dX7_canGive_21 rfl rfl)))
 (kn_ok
 (kl_ok (ok_aP (ok_iload_n dX7_canGive_22 rfl rfl)))
 (kl_ok (ok_aP (ok_iload_n dX7_canGive_23 rfl rfl))))))))
 (kn_ok
 (kn_ok
 (kn_ok
 (kn_ok
 (kl_ok (ok_aP (ok_iload_n dX7_canGive_24 rfl rfl)))
 (kl_ok (ok_aP (ok_iconst dX7_canGive_25 rfl rfl))))
 (kn_ok
 (kl_ok (ok_aP (ok_iload dX7_canGive_26 rfl)))
 (kl_ok (ok_aP (ok_iload dX7_canGive_28 rfl)))))
 (kn_ok
 (kn_ok
 (kl_ok (ok_aP (ok_iconst dX7_canGive_30 rfl rfl)))
 (kl_ok (ok_callV (List.forall_mem_cons.mpr ⟨run_V (C0 := "FavourTownModel") rfl rfl (by rw [hm]; rfl) q2063 q2065 qs53 q92 q2066 ⟨nh_1, dl_47⟩ (by decide) dX7_canGive_31, (fun _ h => absurd h List.not_mem_nil)⟩) rfl)))
 (kn_ok
 (kl_ok (ok_aP (ok_if_eq dX7_canGive_34 rfl rfl)))
 (kl_ok (ok_aP (ok_aload_n dX7_canGive_37 rfl rfl))))))
 (kn_ok
 (kn_ok
 (kn_ok
 (kl_ok (ok_aP (ok_getf fo_54 fs_rf (Or.inl q1840) dX7_canGive_38 rfl)))
 (kl_ok (ok_aP (ok_iconst dX7_canGive_41 rfl rfl))))
 (kn_ok
 (kl_ok (ok_aP (ok_iald dX7_canGive_42 rfl)))
 (kl_ok (ok_aP (ok_bipush dX7_canGive_43 (by decide +kernel) rfl)))))
 (kn_ok
 (kn_ok
 (kl_ok (ok_aP (ok_icmp_ge dX7_canGive_45 rfl rfl)))
 (kl_ok (ok_aP (ok_iconst dX7_canGive_48 rfl rfl))))
 (kn_ok
 (kl_ok (ok_aP (ok_goto dX7_canGive_49 rfl)))
 (kn_ok
 (kl_ok (ok_aP (ok_iconst dX7_canGive_52 rfl rfl)))
 (kl_ok (ok_zret rfl z_boolean dX7_canGive_53)))))))
/-- 174: FavourTownModel.debtOf(I)I -/
noncomputable def k_X7_debtOf : Nat → Option AOp :=
 tn 25 (tn 10 (tn 4 (tn 2 (tn 1 (tl 0 (aP (f_const (.int (nI 0)) 1)))
  (tl 1 (aP (f_istore 2 2))))
  (tn 3 (tl 2 (aP (f_const (.int (nI 0)) 3)))
  (tl 3 (aP (f_istore 3 4)))))
  (tn 6 (tn 5 (tl 4 (aP (f_iload 3 5)))
  (tl 5 (aP (f_aload 0 6))))
  (tn 9 (tl 6 (aP (f_getf [18] 1 9)))
  (tl 9 (aP (f_const (.int (nI 3)) 10))))))
  (tn 16 (tn 14 (tn 11 (tl 10 (aP (f_iald 0 11)))
  (tl 11 (aP (f_icmp (fun x y => decide (y ≤ x)) 53 14))))
  (tn 15 (tl 14 (aP (f_iload 2 15)))
  (tl 15 (aP (f_aload 0 16)))))
  (tn 18 (tn 17 (tl 16 (aP (f_iload 3 17)))
  (tl 17 (aP (f_const (.int (nI 0)) 18))))
  (tn 21 (tl 18 (o_callV (lkN [(18, 175)]) 2 21))
  (tn 22 (tl 21 (aP (f_iload 1 22)))
  (tl 22 (aP (f_icmp (fun x y => decide (¬ x = y)) 44 25))))))))
  (tn 38 (tn 31 (tn 27 (tn 26 (tl 25 (aP (f_aload 0 26)))
  (tl 26 (aP (f_iload 3 27))))
  (tn 28 (tl 27 (aP (f_const (.int (nI 2)) 28)))
  (tl 28 (o_callV (lkN [(18, 175)]) 2 31))))
  (tn 35 (tn 32 (tl 31 (aP (f_const (.int (-1)) 32)))
  (tl 32 (aP (f_icmp (fun x y => decide (x = y)) 44 35))))
  (tn 36 (tl 35 (aP (f_aload 0 36)))
  (tn 37 (tl 36 (aP (f_iload 3 37)))
  (tl 37 (aP (f_const (.int (nI 1)) 38)))))))
  (tn 46 (tn 44 (tn 41 (tl 38 (o_callV (lkN [(18, 175)]) 2 41))
  (tl 41 (aP (f_goto 45))))
  (tn 45 (tl 44 (aP (f_const (.int (nI 0)) 45)))
  (tl 45 (aP (f_bin (fun x y => x + y) 46)))))
  (tn 50 (tn 47 (tl 46 (aP (f_istore 2 47)))
  (tl 47 (aP (f_iinc 3 (nI 1) 50))))
  (tn 53 (tl 50 (aP (f_goto 4)))
  (tn 54 (tl 53 (aP (f_iload 2 54)))
  (tl 54 (o_iret (fun _ => true))))))))
theorem kok_X7_debtOf {γ : AG} (hm : γ.2.2.2.2.1 = mTab) (hk : γ.2.2.2.2.2 = kTab) : KOK γ m_X7_debtOf k_X7_debtOf :=
 kn_ok
 (kn_ok
 (kn_ok
 (kn_ok
 (kn_ok
 (kl_ok (ok_aP (ok_iconst dX7_debtOf_0 rfl rfl)))
 (kl_ok (ok_aP (ok_istore_n dX7_debtOf_1 rfl rfl))))
 (kn_ok
 (kl_ok (ok_aP (ok_iconst dX7_debtOf_2 rfl rfl)))
 (kl_ok (ok_aP (ok_istore_n dX7_debtOf_3 rfl rfl)))))
 (kn_ok
 (kn_ok
 (kl_ok (ok_aP (ok_iload_n dX7_debtOf_4 rfl rfl)))
 (kl_ok (ok_aP (ok_aload_n dX7_debtOf_5 rfl rfl))))
 (kn_ok
 (kl_ok (ok_aP (ok_getf fo_54 fs_rf (Or.inl q1840) dX7_debtOf_6 rfl)))
 (kl_ok (ok_aP (ok_iconst dX7_debtOf_9 rfl rfl))))))
 (kn_ok
 (kn_ok
 (kn_ok
 (kl_ok (ok_aP (ok_iald dX7_debtOf_10 rfl)))
 (kl_ok (ok_aP (ok_icmp_ge dX7_debtOf_11 rfl rfl))))
 (kn_ok
 (kl_ok (ok_aP (ok_iload_n dX7_debtOf_14 rfl rfl)))
 (kl_ok (ok_aP (ok_aload_n dX7_debtOf_15 rfl rfl)))))
 (kn_ok
 (kn_ok
 (kl_ok (ok_aP (ok_iload_n dX7_debtOf_16 rfl rfl)))
 (kl_ok (ok_aP (ok_iconst dX7_debtOf_17 rfl rfl))))
 (kn_ok
 (kl_ok (ok_callV (List.forall_mem_cons.mpr ⟨run_V (C0 := "FavourTownModel") rfl rfl (by rw [hm]; rfl) q2059 q2061 qs52 q92 q2062 ⟨nh_1, dl_6⟩ (by decide) dX7_debtOf_18, (fun _ h => absurd h List.not_mem_nil)⟩) rfl))
 (kn_ok
 (kl_ok (ok_aP (ok_iload_n dX7_debtOf_21 rfl rfl)))
 (kl_ok (ok_aP (ok_icmp_ne dX7_debtOf_22 rfl rfl))))))))
 (kn_ok
 (kn_ok
 (kn_ok
 (kn_ok
 (kl_ok (ok_aP (ok_aload_n dX7_debtOf_25 rfl rfl)))
 (kl_ok (ok_aP (ok_iload_n dX7_debtOf_26 rfl rfl))))
 (kn_ok
 (kl_ok (ok_aP (ok_iconst dX7_debtOf_27 rfl rfl)))
 (kl_ok (ok_callV (List.forall_mem_cons.mpr ⟨run_V (C0 := "FavourTownModel") rfl rfl (by rw [hm]; rfl) q2059 q2061 qs52 q92 q2062 ⟨nh_1, dl_6⟩ (by decide) dX7_debtOf_28, (fun _ h => absurd h List.not_mem_nil)⟩) rfl))))
 (kn_ok
 (kn_ok
 (kl_ok (ok_aP (ok_iconst dX7_debtOf_31 rfl rfl)))
 (kl_ok (ok_aP (ok_icmp_eq dX7_debtOf_32 rfl rfl))))
 (kn_ok
 (kl_ok (ok_aP (ok_aload_n dX7_debtOf_35 rfl rfl)))
 (kn_ok
 (kl_ok (ok_aP (ok_iload_n dX7_debtOf_36 rfl rfl)))
 (kl_ok (ok_aP (ok_iconst dX7_debtOf_37 rfl rfl)))))))
 (kn_ok
 (kn_ok
 (kn_ok
 (kl_ok (ok_callV (List.forall_mem_cons.mpr ⟨run_V (C0 := "FavourTownModel") rfl rfl (by rw [hm]; rfl) q2059 q2061 qs52 q92 q2062 ⟨nh_1, dl_6⟩ (by decide) dX7_debtOf_38, (fun _ h => absurd h List.not_mem_nil)⟩) rfl))
 (kl_ok (ok_aP (ok_goto dX7_debtOf_41 rfl))))
 (kn_ok
 (kl_ok (ok_aP (ok_iconst dX7_debtOf_44 rfl rfl)))
 (kl_ok (ok_aP (ok_iadd dX7_debtOf_45 rfl)))))
 (kn_ok
 (kn_ok
 (kl_ok (ok_aP (ok_istore_n dX7_debtOf_46 rfl rfl)))
 (kl_ok (ok_aP (ok_iinc dX7_debtOf_47 (by decide +kernel) rfl))))
 (kn_ok
 (kl_ok (ok_aP (ok_goto dX7_debtOf_50 rfl)))
 (kn_ok
 (kl_ok (ok_aP (ok_iload_n dX7_debtOf_53 rfl rfl)))
 (kl_ok (ok_iret rfl dX7_debtOf_54)))))))
/-- 175: FavourTownModel.of(II)I -/
noncomputable def k_X7_of : Nat → Option AOp :=
 tn 10 (tn 4 (tn 1 (tl 0 (aP (f_aload 0 1)))
  (tl 1 (aP (f_getf [18] 1 4))))
  (tn 7 (tl 4 (aP (f_const (.int (nI 140)) 7)))
  (tn 9 (tl 7 (aP (f_const (.int (nI 20)) 9)))
  (tl 9 (aP (f_iload 1 10))))))
  (tn 13 (tn 11 (tl 10 (aP (f_bin (fun x y => x * y) 11)))
  (tn 12 (tl 11 (aP (f_bin (fun x y => x + y) 12)))
  (tl 12 (aP (f_iload 2 13)))))
  (tn 14 (tl 13 (aP (f_bin (fun x y => x + y) 14)))
  (tn 15 (tl 14 (aP (f_iald 0 15)))
  (tl 15 (o_iret (fun _ => true))))))
theorem kok_X7_of {γ : AG} (hm : γ.2.2.2.2.1 = mTab) (hk : γ.2.2.2.2.2 = kTab) : KOK γ m_X7_of k_X7_of :=
 kn_ok
 (kn_ok
 (kn_ok
 (kl_ok (ok_aP (ok_aload_n dX7_of_0 rfl rfl)))
 (kl_ok (ok_aP (ok_getf fo_54 fs_rf (Or.inl q1840) dX7_of_1 rfl))))
 (kn_ok
 (kl_ok (ok_aP (ok_sipush dX7_of_4 (by decide +kernel) rfl)))
 (kn_ok
 (kl_ok (ok_aP (ok_bipush dX7_of_7 (by decide +kernel) rfl)))
 (kl_ok (ok_aP (ok_iload_n dX7_of_9 rfl rfl))))))
 (kn_ok
 (kn_ok
 (kl_ok (ok_aP (ok_imul dX7_of_10 rfl)))
 (kn_ok
 (kl_ok (ok_aP (ok_iadd dX7_of_11 rfl)))
 (kl_ok (ok_aP (ok_iload_n dX7_of_12 rfl rfl)))))
 (kn_ok
 (kl_ok (ok_aP (ok_iadd dX7_of_13 rfl)))
 (kn_ok
 (kl_ok (ok_aP (ok_iald dX7_of_14 rfl)))
 (kl_ok (ok_iret rfl dX7_of_15)))))
/-- 176: FavourTownModel.wouldTake(IIIIIZZ)Z -/
noncomputable def k_X7_wouldTake : Nat → Option AOp :=
 tn 124 (tn 59 (tn 28 (tn 12 (tn 7 (tn 4 (tn 1 (tl 0 (aP (f_aload 0 1)))
  (tl 1 (aP (f_getf [18] 1 4))))
  (tn 6 (tl 4 (aP (f_const (.int (nI 10)) 6)))
  (tl 6 (aP (f_const (.int (nI 3)) 7)))))
  (tn 9 (tn 8 (tl 7 (aP (f_iload 1 8)))
  (tl 8 (aP (f_bin (fun x y => x * y) 9))))
  (tn 10 (tl 9 (aP (f_bin (fun x y => x + y) 10)))
  (tn 11 (tl 10 (aP (f_const (.int (nI 1)) 11)))
  (tl 11 (aP (f_bin (fun x y => x + y) 12)))))))
  (tn 20 (tn 15 (tn 13 (tl 12 (aP (f_iald 0 13)))
  (tl 13 (aP (f_istore 8 15))))
  (tn 17 (tl 15 (aP (f_iload 6 17)))
  (tl 17 (aP (f_if (fun x => decide (¬ x = 0)) 26 20)))))
  (tn 23 (tn 22 (tl 20 (aP (f_iload 8 22)))
  (tl 22 (aP (f_const (.int (-1)) 23))))
  (tn 26 (tl 23 (aP (f_icmp (fun x y => decide (¬ x = y)) 28 26)))
  (tn 27 (tl 26 (aP (f_const (.int (nI 1)) 27)))
  (tl 27 (o_iret (fun x => x == 0 || x == 1))))))))
  (tn 44 (tn 34 (tn 32 (tn 29 (tl 28 (aP (f_aload 0 29)))
  (tl 29 (aP (f_getf [18] 13 32))))
  (tn 33 (tl 32 (aP (f_const (.int (nI 0)) 33)))
  (tl 33 (aP (f_iload 3 34)))))
  (tn 39 (tn 36 (tl 34 (aP (f_iload 4 36)))
  (tl 36 (o_callS 177 2 39)))
  (tn 42 (tl 39 (aP (f_const (.int (nI 1024)) 42)))
  (tn 43 (tl 42 (aP (f_div (fun x y => x / y) 43)))
  (tl 43 (o_iast 0 (fun y => y) 44))))))
  (tn 51 (tn 48 (tn 45 (tl 44 (aP (f_aload 0 45)))
  (tl 45 (aP (f_getf [18] 13 48))))
  (tn 49 (tl 48 (aP (f_const (.int (nI 1)) 49)))
  (tn 50 (tl 49 (aP (f_iload 3 50)))
  (tl 50 (o_iast 0 (fun y => y) 51)))))
  (tn 55 (tn 52 (tl 51 (aP (f_aload 0 52)))
  (tl 52 (aP (f_getf [18] 13 55))))
  (tn 56 (tl 55 (aP (f_const (.int (nI 2)) 56)))
  (tn 58 (tl 56 (aP (f_iload 4 58)))
  (tl 58 (o_iast 0 (fun y => y) 59))))))))
  (tn 93 (tn 78 (tn 66 (tn 63 (tn 60 (tl 59 (aP (f_aload 0 60)))
  (tl 60 (aP (f_getf [18] 13 63))))
  (tn 64 (tl 63 (aP (f_const (.int (nI 3)) 64)))
  (tl 64 (aP (f_iload 5 66)))))
  (tn 70 (tn 67 (tl 66 (aP (f_const (.int (-1)) 67)))
  (tl 67 (aP (f_icmp (fun x y => decide (¬ x = y)) 76 70))))
  (tn 73 (tl 70 (aP (f_const (.int (nI 999)) 73)))
  (tn 76 (tl 73 (aP (f_goto 86)))
  (tl 76 (aP (f_iload 5 78)))))))
  (tn 86 (tn 82 (tn 79 (tl 78 (aP (f_aload 0 79)))
  (tl 79 (aP (f_getf [18] 1 82))))
  (tn 84 (tl 82 (aP (f_const (.int (nI 6)) 84)))
  (tn 85 (tl 84 (aP (f_iald 0 85)))
  (tl 85 (aP (f_bin (fun x y => x - y) 86))))))
  (tn 88 (tn 87 (tl 86 (o_iast 0 (fun y => y) 87))
  (tl 87 (aP (f_aload 0 88))))
  (tn 91 (tl 88 (aP (f_getf [18] 13 91)))
  (tn 92 (tl 91 (aP (f_const (.int (nI 4)) 92)))
  (tl 92 (aP (f_aload 0 93))))))))
  (tn 108 (tn 101 (tn 97 (tn 94 (tl 93 (aP (f_iload 1 94)))
  (tl 94 (o_callV (lkN [(18, 178)]) 1 97)))
  (tn 100 (tl 97 (aP (f_const (.int (nI 1024)) 100)))
  (tl 100 (aP (f_div (fun x y => x / y) 101)))))
  (tn 103 (tn 102 (tl 101 (o_iast 0 (fun y => y) 102))
  (tl 102 (aP (f_aload 0 103))))
  (tn 106 (tl 103 (aP (f_getf [18] 13 106)))
  (tn 107 (tl 106 (aP (f_const (.int (nI 5)) 107)))
  (tl 107 (aP (f_aload 0 108)))))))
  (tn 115 (tn 112 (tn 109 (tl 108 (aP (f_iload 2 109)))
  (tl 109 (o_callV (lkN [(18, 174)]) 1 112)))
  (tn 113 (tl 112 (o_iast 0 (fun y => y) 113))
  (tn 114 (tl 113 (aP (f_aload 0 114)))
  (tl 114 (aP (f_aload 0 115))))))
  (tn 117 (tn 116 (tl 115 (aP (f_iload 2 116)))
  (tl 116 (aP (f_iload 1 117))))
  (tn 120 (tl 117 (o_callV (lkN [(18, 179)]) 2 120))
  (tn 123 (tl 120 (o_putf [18] 14 vZ 123))
  (tl 123 (aP (f_aload 0 124))))))))))
  (tn 195 (tn 160 (tn 141 (tn 131 (tn 127 (tn 126 (tl 124 (aP (f_iload 5 126)))
  (tl 126 (aP (f_const (.int (-1)) 127))))
  (tn 130 (tl 127 (aP (f_icmp (fun x y => decide (x = y)) 134 130)))
  (tl 130 (aP (f_const (.int (nI 1)) 131)))))
  (tn 135 (tn 134 (tl 131 (aP (f_goto 135)))
  (tl 134 (aP (f_const (.int (nI 0)) 135))))
  (tn 138 (tl 135 (o_putf [18] 15 vZ 138))
  (tn 139 (tl 138 (aP (f_aload 0 139)))
  (tl 139 (aP (f_iload 7 141)))))))
  (tn 150 (tn 145 (tn 144 (tl 141 (o_putf [18] 16 vZ 144))
  (tl 144 (aP (f_aload 0 145))))
  (tn 148 (tl 145 (aP (f_getf [18] 10 148)))
  (tl 148 (aP (f_istore 9 150)))))
  (tn 154 (tn 151 (tl 150 (aP (f_aload 0 151)))
  (tl 151 (aP (f_getf [18] 7 154))))
  (tn 156 (tl 154 (aP (f_istore 10 156)))
  (tn 157 (tl 156 (aP (f_aload 0 157)))
  (tl 157 (aP (f_getf [18] 8 160))))))))
  (tn 176 (tn 168 (tn 163 (tn 162 (tl 160 (aP (f_istore 11 162)))
  (tl 162 (aP (f_aload 0 163))))
  (tn 166 (tl 163 (aP (f_getf [18] 9 166)))
  (tl 166 (aP (f_istore 12 168)))))
  (tn 172 (tn 169 (tl 168 (aP (f_aload 0 169)))
  (tl 169 (aP (f_getf [18] 12 172))))
  (tn 174 (tl 172 (aP (f_istore 13 174)))
  (tn 175 (tl 174 (aP (f_aload 0 175)))
  (tl 175 (aP (f_const (.int (-1)) 176)))))))
  (tn 188 (tn 180 (tn 179 (tl 176 (o_putf [18] 10 vI 179))
  (tl 179 (aP (f_aload 0 180))))
  (tn 183 (tl 180 (aP (f_const (.int (nI 940)) 183)))
  (tn 186 (tl 183 (aP (f_const (.int (nI 401)) 186)))
  (tl 186 (aP (f_iload 8 188))))))
  (tn 190 (tn 189 (tl 188 (aP (f_bin (fun x y => x * y) 189)))
  (tl 189 (aP (f_bin (fun x y => x + y) 190))))
  (tn 191 (tl 190 (aP (f_const (.int (nI 1)) 191)))
  (tn 192 (tl 191 (aP (f_bin (fun x y => x + y) 192)))
  (tl 192 (o_putf [18] 7 vI 195))))))))
  (tn 227 (tn 210 (tn 201 (tn 197 (tn 196 (tl 195 (aP (f_aload 0 196)))
  (tl 196 (aP (f_aload 0 197))))
  (tn 200 (tl 197 (aP (f_getf [18] 1 200)))
  (tl 200 (aP (f_aload 0 201)))))
  (tn 205 (tn 204 (tl 201 (aP (f_getf [18] 7 204)))
  (tl 204 (aP (f_const (.int (nI 1)) 205))))
  (tn 206 (tl 205 (aP (f_bin (fun x y => x - y) 206)))
  (tn 207 (tl 206 (aP (f_iald 0 207)))
  (tl 207 (o_putf [18] 8 vI 210))))))
  (tn 217 (tn 212 (tn 211 (tl 210 (aP (f_aload 0 211)))
  (tl 211 (aP (f_const (.int (-1)) 212))))
  (tn 215 (tl 212 (o_putf [18] 17 vI 215))
  (tn 216 (tl 215 (aP (f_aload 0 216)))
  (tl 216 (aP (f_const (.int (nI 1)) 217))))))
  (tn 221 (tn 220 (tl 217 (o_callV (lkN [(18, 155)]) 1 220))
  (tl 220 (aP (f_aload 0 221))))
  (tn 223 (tl 221 (aP (f_iload 9 223)))
  (tn 226 (tl 223 (o_putf [18] 10 vI 226))
  (tl 226 (aP (f_aload 0 227))))))))
  (tn 245 (tn 235 (tn 232 (tn 229 (tl 227 (aP (f_iload 10 229)))
  (tl 229 (o_putf [18] 7 vI 232)))
  (tn 233 (tl 232 (aP (f_aload 0 233)))
  (tl 233 (aP (f_iload 11 235)))))
  (tn 239 (tn 238 (tl 235 (o_putf [18] 8 vI 238))
  (tl 238 (aP (f_aload 0 239))))
  (tn 241 (tl 239 (aP (f_iload 12 241)))
  (tn 244 (tl 241 (o_putf [18] 9 vI 244))
  (tl 244 (aP (f_aload 0 245)))))))
  (tn 255 (tn 250 (tn 247 (tl 245 (aP (f_iload 13 247)))
  (tl 247 (o_putf [18] 12 vI 250)))
  (tn 251 (tl 250 (aP (f_aload 0 251)))
  (tn 254 (tl 251 (aP (f_getf [18] 17 254)))
  (tl 254 (aP (f_const (.int (nI 1)) 255))))))
  (tn 259 (tn 258 (tl 255 (aP (f_icmp (fun x y => decide (¬ x = y)) 262 258)))
  (tl 258 (aP (f_const (.int (nI 1)) 259))))
  (tn 262 (tl 259 (aP (f_goto 263)))
  (tn 263 (tl 262 (aP (f_const (.int (nI 0)) 263)))
  (tl 263 (o_iret (fun x => x == 0 || x == 1))))))))))
theorem kok_X7_wouldTake {γ : AG} (hm : γ.2.2.2.2.1 = mTab) (hk : γ.2.2.2.2.2 = kTab) : KOK γ m_X7_wouldTake k_X7_wouldTake :=
 kn_ok
 (kn_ok
 (kn_ok
 (kn_ok
 (kn_ok
 (kn_ok
 (kn_ok
 (kl_ok (ok_aP (ok_aload_n dX7_wouldTake_0 rfl rfl)))
 (kl_ok (ok_aP (ok_getf fo_54 fs_rf (Or.inl q1840) dX7_wouldTake_1 rfl))))
 (kn_ok
 (kl_ok (ok_aP (ok_bipush dX7_wouldTake_4 (by decide +kernel) rfl)))
 (kl_ok (ok_aP (ok_iconst dX7_wouldTake_6 rfl rfl)))))
 (kn_ok
 (kn_ok
 (kl_ok (ok_aP (ok_iload_n dX7_wouldTake_7 rfl rfl)))
 (kl_ok (ok_aP (ok_imul dX7_wouldTake_8 rfl))))
 (kn_ok
 (kl_ok (ok_aP (ok_iadd dX7_wouldTake_9 rfl)))
 (kn_ok
 (kl_ok (ok_aP (ok_iconst dX7_wouldTake_10 rfl rfl)))
 (kl_ok (ok_aP (ok_iadd dX7_wouldTake_11 rfl)))))))
 (kn_ok
 (kn_ok
 (kn_ok
 (kl_ok (ok_aP (ok_iald dX7_wouldTake_12 rfl)))
 (kl_ok (ok_aP (ok_istore dX7_wouldTake_13 rfl))))
 (kn_ok
 (kl_ok (ok_aP (ok_iload dX7_wouldTake_15 rfl)))
 (kl_ok (ok_aP (ok_if_ne dX7_wouldTake_17 rfl rfl)))))
 (kn_ok
 (kn_ok
 (kl_ok (ok_aP (ok_iload dX7_wouldTake_20 rfl)))
 (kl_ok (ok_aP (ok_iconst dX7_wouldTake_22 rfl rfl))))
 (kn_ok
 (kl_ok (ok_aP (ok_icmp_ne dX7_wouldTake_23 rfl rfl)))
 (kn_ok
 (kl_ok (ok_aP (ok_iconst dX7_wouldTake_26 rfl rfl)))
 (kl_ok (ok_zret rfl z_boolean dX7_wouldTake_27)))))))
 (kn_ok
 (kn_ok
 (kn_ok
 (kn_ok
 (kl_ok (ok_aP (ok_aload_n dX7_wouldTake_28 rfl rfl)))
 (kl_ok (ok_aP (ok_getf fo_60 fs_rf (Or.inl q1852) dX7_wouldTake_29 rfl))))
 (kn_ok
 (kl_ok (ok_aP (ok_iconst dX7_wouldTake_32 rfl rfl)))
 (kl_ok (ok_aP (ok_iload_n dX7_wouldTake_33 rfl rfl)))))
 (kn_ok
 (kn_ok
 (kl_ok (ok_aP (ok_iload dX7_wouldTake_34 rfl)))
 (kl_ok (ok_callS (run_S (by rw [hm]; rfl) q2067 q2068 q92 q2069 ⟨nh_1, dl_6⟩ (by decide) dX7_wouldTake_36) rfl)))
 (kn_ok
 (kl_ok (ok_aP (ok_sipush dX7_wouldTake_39 (by decide +kernel) rfl)))
 (kn_ok
 (kl_ok (ok_aP (ok_idiv dX7_wouldTake_42 rfl)))
 (kl_ok (ok_hp (ok_iast dX7_wouldTake_43 rfl) le_iast))))))
 (kn_ok
 (kn_ok
 (kn_ok
 (kl_ok (ok_aP (ok_aload_n dX7_wouldTake_44 rfl rfl)))
 (kl_ok (ok_aP (ok_getf fo_60 fs_rf (Or.inl q1852) dX7_wouldTake_45 rfl))))
 (kn_ok
 (kl_ok (ok_aP (ok_iconst dX7_wouldTake_48 rfl rfl)))
 (kn_ok
 (kl_ok (ok_aP (ok_iload_n dX7_wouldTake_49 rfl rfl)))
 (kl_ok (ok_hp (ok_iast dX7_wouldTake_50 rfl) le_iast)))))
 (kn_ok
 (kn_ok
 (kl_ok (ok_aP (ok_aload_n dX7_wouldTake_51 rfl rfl)))
 (kl_ok (ok_aP (ok_getf fo_60 fs_rf (Or.inl q1852) dX7_wouldTake_52 rfl))))
 (kn_ok
 (kl_ok (ok_aP (ok_iconst dX7_wouldTake_55 rfl rfl)))
 (kn_ok
 (kl_ok (ok_aP (ok_iload dX7_wouldTake_56 rfl)))
 (kl_ok (ok_hp (ok_iast dX7_wouldTake_58 rfl) le_iast))))))))
 (kn_ok
 (kn_ok
 (kn_ok
 (kn_ok
 (kn_ok
 (kl_ok (ok_aP (ok_aload_n dX7_wouldTake_59 rfl rfl)))
 (kl_ok (ok_aP (ok_getf fo_60 fs_rf (Or.inl q1852) dX7_wouldTake_60 rfl))))
 (kn_ok
 (kl_ok (ok_aP (ok_iconst dX7_wouldTake_63 rfl rfl)))
 (kl_ok (ok_aP (ok_iload dX7_wouldTake_64 rfl)))))
 (kn_ok
 (kn_ok
 (kl_ok (ok_aP (ok_iconst dX7_wouldTake_66 rfl rfl)))
 (kl_ok (ok_aP (ok_icmp_ne dX7_wouldTake_67 rfl rfl))))
 (kn_ok
 (kl_ok (ok_aP (ok_sipush dX7_wouldTake_70 (by decide +kernel) rfl)))
 (kn_ok
 (kl_ok (ok_aP (ok_goto dX7_wouldTake_73 rfl)))
 (kl_ok (ok_aP (ok_iload dX7_wouldTake_76 rfl)))))))
 (kn_ok
 (kn_ok
 (kn_ok
 (kl_ok (ok_aP (ok_aload_n dX7_wouldTake_78 rfl rfl)))
 (kl_ok (ok_aP (ok_getf fo_54 fs_rf (Or.inl q1840) dX7_wouldTake_79 rfl))))
 (kn_ok
 (kl_ok (ok_aP (ok_bipush dX7_wouldTake_82 (by decide +kernel) rfl)))
 (kn_ok
 (kl_ok (ok_aP (ok_iald dX7_wouldTake_84 rfl)))
 (kl_ok (ok_aP (ok_isub dX7_wouldTake_85 rfl))))))
 (kn_ok
 (kn_ok
 (kl_ok (ok_hp (ok_iast dX7_wouldTake_86 rfl) le_iast))
 (kl_ok (ok_aP (ok_aload_n dX7_wouldTake_87 rfl rfl))))
 (kn_ok
 (kl_ok (ok_aP (ok_getf fo_60 fs_rf (Or.inl q1852) dX7_wouldTake_88 rfl)))
 (kn_ok
 (kl_ok (ok_aP (ok_iconst dX7_wouldTake_91 rfl rfl)))
 (kl_ok (ok_aP (ok_aload_n dX7_wouldTake_92 rfl rfl))))))))
 (kn_ok
 (kn_ok
 (kn_ok
 (kn_ok
 (kl_ok (ok_aP (ok_iload_n dX7_wouldTake_93 rfl rfl)))
 (kl_ok (ok_callV (List.forall_mem_cons.mpr ⟨run_V (C0 := "FavourTownModel") rfl rfl (by rw [hm]; rfl) q2070 q2072 qs54 q92 q2073 ⟨nh_1, dl_10⟩ (by decide) dX7_wouldTake_94, (fun _ h => absurd h List.not_mem_nil)⟩) rfl)))
 (kn_ok
 (kl_ok (ok_aP (ok_sipush dX7_wouldTake_97 (by decide +kernel) rfl)))
 (kl_ok (ok_aP (ok_idiv dX7_wouldTake_100 rfl)))))
 (kn_ok
 (kn_ok
 (kl_ok (ok_hp (ok_iast dX7_wouldTake_101 rfl) le_iast))
 (kl_ok (ok_aP (ok_aload_n dX7_wouldTake_102 rfl rfl))))
 (kn_ok
 (kl_ok (ok_aP (ok_getf fo_60 fs_rf (Or.inl q1852) dX7_wouldTake_103 rfl)))
 (kn_ok
 (kl_ok (ok_aP (ok_iconst dX7_wouldTake_106 rfl rfl)))
 (kl_ok (ok_aP (ok_aload_n dX7_wouldTake_107 rfl rfl)))))))
 (kn_ok
 (kn_ok
 (kn_ok
 (kl_ok (ok_aP (ok_iload_n dX7_wouldTake_108 rfl rfl)))
 (kl_ok (ok_callV (List.forall_mem_cons.mpr ⟨run_V (C0 := "FavourTownModel") rfl rfl (by rw [hm]; rfl) q2055 q2057 qs51 q92 q2058 ⟨nh_1, dl_10⟩ (by decide) dX7_wouldTake_109, (fun _ h => absurd h List.not_mem_nil)⟩) rfl)))
 (kn_ok
 (kl_ok (ok_hp (ok_iast dX7_wouldTake_112 rfl) le_iast))
 (kn_ok
 (kl_ok (ok_aP (ok_aload_n dX7_wouldTake_113 rfl rfl)))
 (kl_ok (ok_aP (ok_aload_n dX7_wouldTake_114 rfl rfl))))))
 (kn_ok
 (kn_ok
 (kl_ok (ok_aP (ok_iload_n dX7_wouldTake_115 rfl rfl)))
 (kl_ok (ok_aP (ok_iload_n dX7_wouldTake_116 rfl rfl))))
 (kn_ok
 (kl_ok (ok_callV (List.forall_mem_cons.mpr ⟨run_V (C0 := "FavourTownModel") rfl rfl (by rw [hm]; rfl) q2074 q2076 qs55 q92 q2077 ⟨nh_1, dl_11⟩ (by decide) dX7_wouldTake_117, (fun _ h => absurd h List.not_mem_nil)⟩) rfl))
 (kn_ok
 (kl_ok (ok_hp (ok_putf fo_61 fs_rf fn_40 (Or.inl q1853) pd_1 vZ_ok dX7_wouldTake_120 rfl) le_putf))
 (kl_ok (ok_aP (ok_aload_n dX7_wouldTake_123 rfl rfl))))))))))
 (kn_ok
 (kn_ok
 (kn_ok
 (kn_ok
 (kn_ok
 (kn_ok
 (kl_ok (ok_aP (ok_iload dX7_wouldTake_124 rfl)))
 (kl_ok (ok_aP (ok_iconst dX7_wouldTake_126 rfl rfl))))
 (kn_ok
 (kl_ok (ok_aP (ok_icmp_eq dX7_wouldTake_127 rfl rfl)))
 (kl_ok (ok_aP (ok_iconst dX7_wouldTake_130 rfl rfl)))))
 (kn_ok
 (kn_ok
 (kl_ok (ok_aP (ok_goto dX7_wouldTake_131 rfl)))
 (kl_ok (ok_aP (ok_iconst dX7_wouldTake_134 rfl rfl))))
 (kn_ok
 (kl_ok (ok_hp (ok_putf fo_62 fs_rf fn_41 (Or.inl q1854) pd_1 vZ_ok dX7_wouldTake_135 rfl) le_putf))
 (kn_ok
 (kl_ok (ok_aP (ok_aload_n dX7_wouldTake_138 rfl rfl)))
 (kl_ok (ok_aP (ok_iload dX7_wouldTake_139 rfl)))))))
 (kn_ok
 (kn_ok
 (kn_ok
 (kl_ok (ok_hp (ok_putf fo_63 fs_rf fn_42 (Or.inl q1855) pd_1 vZ_ok dX7_wouldTake_141 rfl) le_putf))
 (kl_ok (ok_aP (ok_aload_n dX7_wouldTake_144 rfl rfl))))
 (kn_ok
 (kl_ok (ok_aP (ok_getf fo_64 fs_rf (Or.inl q1849) dX7_wouldTake_145 rfl)))
 (kl_ok (ok_aP (ok_istore dX7_wouldTake_148 rfl)))))
 (kn_ok
 (kn_ok
 (kl_ok (ok_aP (ok_aload_n dX7_wouldTake_150 rfl rfl)))
 (kl_ok (ok_aP (ok_getf fo_65 fs_rf (Or.inl q1846) dX7_wouldTake_151 rfl))))
 (kn_ok
 (kl_ok (ok_aP (ok_istore dX7_wouldTake_154 rfl)))
 (kn_ok
 (kl_ok (ok_aP (ok_aload_n dX7_wouldTake_156 rfl rfl)))
 (kl_ok (ok_aP (ok_getf fo_66 fs_rf (Or.inl q1847) dX7_wouldTake_157 rfl))))))))
 (kn_ok
 (kn_ok
 (kn_ok
 (kn_ok
 (kl_ok (ok_aP (ok_istore dX7_wouldTake_160 rfl)))
 (kl_ok (ok_aP (ok_aload_n dX7_wouldTake_162 rfl rfl))))
 (kn_ok
 (kl_ok (ok_aP (ok_getf fo_67 fs_rf (Or.inl q1848) dX7_wouldTake_163 rfl)))
 (kl_ok (ok_aP (ok_istore dX7_wouldTake_166 rfl)))))
 (kn_ok
 (kn_ok
 (kl_ok (ok_aP (ok_aload_n dX7_wouldTake_168 rfl rfl)))
 (kl_ok (ok_aP (ok_getf fo_68 fs_rf (Or.inl q1851) dX7_wouldTake_169 rfl))))
 (kn_ok
 (kl_ok (ok_aP (ok_istore dX7_wouldTake_172 rfl)))
 (kn_ok
 (kl_ok (ok_aP (ok_aload_n dX7_wouldTake_174 rfl rfl)))
 (kl_ok (ok_aP (ok_iconst dX7_wouldTake_175 rfl rfl)))))))
 (kn_ok
 (kn_ok
 (kn_ok
 (kl_ok (ok_hp (ok_putf fo_64 fs_rf fn_43 (Or.inl q1849) pd_0 vI_ok dX7_wouldTake_176 rfl) le_putf))
 (kl_ok (ok_aP (ok_aload_n dX7_wouldTake_179 rfl rfl))))
 (kn_ok
 (kl_ok (ok_aP (ok_sipush dX7_wouldTake_180 (by decide +kernel) rfl)))
 (kn_ok
 (kl_ok (ok_aP (ok_sipush dX7_wouldTake_183 (by decide +kernel) rfl)))
 (kl_ok (ok_aP (ok_iload dX7_wouldTake_186 rfl))))))
 (kn_ok
 (kn_ok
 (kl_ok (ok_aP (ok_imul dX7_wouldTake_188 rfl)))
 (kl_ok (ok_aP (ok_iadd dX7_wouldTake_189 rfl))))
 (kn_ok
 (kl_ok (ok_aP (ok_iconst dX7_wouldTake_190 rfl rfl)))
 (kn_ok
 (kl_ok (ok_aP (ok_iadd dX7_wouldTake_191 rfl)))
 (kl_ok (ok_hp (ok_putf fo_65 fs_rf fn_44 (Or.inl q1846) pd_0 vI_ok dX7_wouldTake_192 rfl) le_putf))))))))
 (kn_ok
 (kn_ok
 (kn_ok
 (kn_ok
 (kn_ok
 (kl_ok (ok_aP (ok_aload_n dX7_wouldTake_195 rfl rfl)))
 (kl_ok (ok_aP (ok_aload_n dX7_wouldTake_196 rfl rfl))))
 (kn_ok
 (kl_ok (ok_aP (ok_getf fo_54 fs_rf (Or.inl q1840) dX7_wouldTake_197 rfl)))
 (kl_ok (ok_aP (ok_aload_n dX7_wouldTake_200 rfl rfl)))))
 (kn_ok
 (kn_ok
 (kl_ok (ok_aP (ok_getf fo_65 fs_rf (Or.inl q1846) dX7_wouldTake_201 rfl)))
 (kl_ok (ok_aP (ok_iconst dX7_wouldTake_204 rfl rfl))))
 (kn_ok
 (kl_ok (ok_aP (ok_isub dX7_wouldTake_205 rfl)))
 (kn_ok
 (kl_ok (ok_aP (ok_iald dX7_wouldTake_206 rfl)))
 (kl_ok (ok_hp (ok_putf fo_66 fs_rf fn_45 (Or.inl q1847) pd_0 vI_ok dX7_wouldTake_207 rfl) le_putf))))))
 (kn_ok
 (kn_ok
 (kn_ok
 (kl_ok (ok_aP (ok_aload_n dX7_wouldTake_210 rfl rfl)))
 (kl_ok (ok_aP (ok_iconst dX7_wouldTake_211 rfl rfl))))
 (kn_ok
 (kl_ok (ok_hp (ok_putf fo_69 fs_rf fn_46 (Or.inl q1856) pd_0 vI_ok dX7_wouldTake_212 rfl) le_putf))
 (kn_ok
 (kl_ok (ok_aP (ok_aload_n dX7_wouldTake_215 rfl rfl)))
 (kl_ok (ok_aP (ok_iconst dX7_wouldTake_216 rfl rfl))))))
 (kn_ok
 (kn_ok
 (kl_ok (ok_callV (List.forall_mem_cons.mpr ⟨run_V (C0 := "FavourTownModel") rfl rfl (by rw [hm]; rfl) q1946 q1948 qs32 q92 q1949 ⟨nh_1, dl_18⟩ (by decide) dX7_wouldTake_217, (fun _ h => absurd h List.not_mem_nil)⟩) rfl))
 (kl_ok (ok_aP (ok_aload_n dX7_wouldTake_220 rfl rfl))))
 (kn_ok
 (kl_ok (ok_aP (ok_iload dX7_wouldTake_221 rfl)))
 (kn_ok
 (kl_ok (ok_hp (ok_putf fo_64 fs_rf fn_43 (Or.inl q1849) pd_0 vI_ok dX7_wouldTake_223 rfl) le_putf))
 (kl_ok (ok_aP (ok_aload_n dX7_wouldTake_226 rfl rfl))))))))
 (kn_ok
 (kn_ok
 (kn_ok
 (kn_ok
 (kl_ok (ok_aP (ok_iload dX7_wouldTake_227 rfl)))
 (kl_ok (ok_hp (ok_putf fo_65 fs_rf fn_44 (Or.inl q1846) pd_0 vI_ok dX7_wouldTake_229 rfl) le_putf)))
 (kn_ok
 (kl_ok (ok_aP (ok_aload_n dX7_wouldTake_232 rfl rfl)))
 (kl_ok (ok_aP (ok_iload dX7_wouldTake_233 rfl)))))
 (kn_ok
 (kn_ok
 (kl_ok (ok_hp (ok_putf fo_66 fs_rf fn_45 (Or.inl q1847) pd_0 vI_ok dX7_wouldTake_235 rfl) le_putf))
 (kl_ok (ok_aP (ok_aload_n dX7_wouldTake_238 rfl rfl))))
 (kn_ok
 (kl_ok (ok_aP (ok_iload dX7_wouldTake_239 rfl)))
 (kn_ok
 (kl_ok (ok_hp (ok_putf fo_67 fs_rf fn_47 (Or.inl q1848) pd_0 vI_ok dX7_wouldTake_241 rfl) le_putf))
 (kl_ok (ok_aP (ok_aload_n dX7_wouldTake_244 rfl rfl)))))))
 (kn_ok
 (kn_ok
 (kn_ok
 (kl_ok (ok_aP (ok_iload dX7_wouldTake_245 rfl)))
 (kl_ok (ok_hp (ok_putf fo_68 fs_rf fn_48 (Or.inl q1851) pd_0 vI_ok dX7_wouldTake_247 rfl) le_putf)))
 (kn_ok
 (kl_ok (ok_aP (ok_aload_n dX7_wouldTake_250 rfl rfl)))
 (kn_ok
 (kl_ok (ok_aP (ok_getf fo_69 fs_rf (Or.inl q1856) dX7_wouldTake_251 rfl)))
 (kl_ok (ok_aP (ok_iconst dX7_wouldTake_254 rfl rfl))))))
 (kn_ok
 (kn_ok
 (kl_ok (ok_aP (ok_icmp_ne dX7_wouldTake_255 rfl rfl)))
 (kl_ok (ok_aP (ok_iconst dX7_wouldTake_258 rfl rfl))))
 (kn_ok
 (kl_ok (ok_aP (ok_goto dX7_wouldTake_259 rfl)))
 (kn_ok
 (kl_ok (ok_aP (ok_iconst dX7_wouldTake_262 rfl rfl)))
 (kl_ok (ok_zret rfl z_boolean dX7_wouldTake_263)))))))))
/-- 177: FavourTownModel.worthOf(II)I -/
noncomputable def k_X7_worthOf : Nat → Option AOp :=
 tn 5 (tn 1 (tl 0 (aP (f_iload 0 1)))
  (tn 4 (tl 1 (aP (f_const (.int (nI 1024)) 4)))
  (tl 4 (aP (f_bin (fun x y => x * y) 5)))))
  (tn 6 (tl 5 (aP (f_iload 1 6)))
  (tn 7 (tl 6 (aP (f_bin (fun x y => x >>> (y &&& 31)) 7)))
  (tl 7 (o_iret (fun _ => true)))))
theorem kok_X7_worthOf {γ : AG} (hm : γ.2.2.2.2.1 = mTab) (hk : γ.2.2.2.2.2 = kTab) : KOK γ m_X7_worthOf k_X7_worthOf :=
 kn_ok
 (kn_ok
 (kl_ok (ok_aP (ok_iload_n dX7_worthOf_0 rfl rfl)))
 (kn_ok
 (kl_ok (ok_aP (ok_sipush dX7_worthOf_1 (by decide +kernel) rfl)))
 (kl_ok (ok_aP (ok_imul dX7_worthOf_4 rfl)))))
 (kn_ok
 (kl_ok (ok_aP (ok_iload_n dX7_worthOf_5 rfl rfl)))
 (kn_ok
 (kl_ok (ok_aP (ok_ishr dX7_worthOf_6 rfl)))
 (kl_ok (ok_iret rfl dX7_worthOf_7))))
/-- 178: FavourTownModel.richOf(I)I -/
noncomputable def k_X7_richOf : Nat → Option AOp :=
 tn 25 (tn 10 (tn 4 (tn 2 (tn 1 (tl 0 (aP (f_const (.int (nI 0)) 1)))
  (tl 1 (aP (f_istore 2 2))))
  (tn 3 (tl 2 (aP (f_const (.int (nI 0)) 3)))
  (tl 3 (aP (f_istore 3 4)))))
  (tn 6 (tn 5 (tl 4 (aP (f_iload 3 5)))
  (tl 5 (aP (f_aload 0 6))))
  (tn 9 (tl 6 (aP (f_getf [18] 1 9)))
  (tl 9 (aP (f_const (.int (nI 3)) 10))))))
  (tn 16 (tn 14 (tn 11 (tl 10 (aP (f_iald 0 11)))
  (tl 11 (aP (f_icmp (fun x y => decide (y ≤ x)) 52 14))))
  (tn 15 (tl 14 (aP (f_iload 2 15)))
  (tl 15 (aP (f_aload 0 16)))))
  (tn 18 (tn 17 (tl 16 (aP (f_iload 3 17)))
  (tl 17 (aP (f_const (.int (nI 2)) 18))))
  (tn 21 (tl 18 (o_callV (lkN [(18, 175)]) 2 21))
  (tn 22 (tl 21 (aP (f_iload 1 22)))
  (tl 22 (aP (f_icmp (fun x y => decide (¬ x = y)) 43 25))))))))
  (tn 37 (tn 31 (tn 27 (tn 26 (tl 25 (aP (f_aload 0 26)))
  (tl 26 (aP (f_iload 3 27))))
  (tn 28 (tl 27 (aP (f_const (.int (nI 1)) 28)))
  (tl 28 (o_callV (lkN [(18, 175)]) 2 31))))
  (tn 33 (tn 32 (tl 31 (aP (f_aload 0 32)))
  (tl 32 (aP (f_iload 3 33))))
  (tn 34 (tl 33 (aP (f_const (.int (nI 3)) 34)))
  (tl 34 (o_callV (lkN [(18, 175)]) 2 37)))))
  (tn 45 (tn 43 (tn 40 (tl 37 (o_callS 177 2 40))
  (tl 40 (aP (f_goto 44))))
  (tn 44 (tl 43 (aP (f_const (.int (nI 0)) 44)))
  (tl 44 (aP (f_bin (fun x y => x + y) 45)))))
  (tn 49 (tn 46 (tl 45 (aP (f_istore 2 46)))
  (tl 46 (aP (f_iinc 3 (nI 1) 49))))
  (tn 52 (tl 49 (aP (f_goto 4)))
  (tn 53 (tl 52 (aP (f_iload 2 53)))
  (tl 53 (o_iret (fun _ => true))))))))
theorem kok_X7_richOf {γ : AG} (hm : γ.2.2.2.2.1 = mTab) (hk : γ.2.2.2.2.2 = kTab) : KOK γ m_X7_richOf k_X7_richOf :=
 kn_ok
 (kn_ok
 (kn_ok
 (kn_ok
 (kn_ok
 (kl_ok (ok_aP (ok_iconst dX7_richOf_0 rfl rfl)))
 (kl_ok (ok_aP (ok_istore_n dX7_richOf_1 rfl rfl))))
 (kn_ok
 (kl_ok (ok_aP (ok_iconst dX7_richOf_2 rfl rfl)))
 (kl_ok (ok_aP (ok_istore_n dX7_richOf_3 rfl rfl)))))
 (kn_ok
 (kn_ok
 (kl_ok (ok_aP (ok_iload_n dX7_richOf_4 rfl rfl)))
 (kl_ok (ok_aP (ok_aload_n dX7_richOf_5 rfl rfl))))
 (kn_ok
 (kl_ok (ok_aP (ok_getf fo_54 fs_rf (Or.inl q1840) dX7_richOf_6 rfl)))
 (kl_ok (ok_aP (ok_iconst dX7_richOf_9 rfl rfl))))))
 (kn_ok
 (kn_ok
 (kn_ok
 (kl_ok (ok_aP (ok_iald dX7_richOf_10 rfl)))
 (kl_ok (ok_aP (ok_icmp_ge dX7_richOf_11 rfl rfl))))
 (kn_ok
 (kl_ok (ok_aP (ok_iload_n dX7_richOf_14 rfl rfl)))
 (kl_ok (ok_aP (ok_aload_n dX7_richOf_15 rfl rfl)))))
 (kn_ok
 (kn_ok
 (kl_ok (ok_aP (ok_iload_n dX7_richOf_16 rfl rfl)))
 (kl_ok (ok_aP (ok_iconst dX7_richOf_17 rfl rfl))))
 (kn_ok
 (kl_ok (ok_callV (List.forall_mem_cons.mpr ⟨run_V (C0 := "FavourTownModel") rfl rfl (by rw [hm]; rfl) q2059 q2061 qs52 q92 q2062 ⟨nh_1, dl_6⟩ (by decide) dX7_richOf_18, (fun _ h => absurd h List.not_mem_nil)⟩) rfl))
 (kn_ok
 (kl_ok (ok_aP (ok_iload_n dX7_richOf_21 rfl rfl)))
 (kl_ok (ok_aP (ok_icmp_ne dX7_richOf_22 rfl rfl))))))))
 (kn_ok
 (kn_ok
 (kn_ok
 (kn_ok
 (kl_ok (ok_aP (ok_aload_n dX7_richOf_25 rfl rfl)))
 (kl_ok (ok_aP (ok_iload_n dX7_richOf_26 rfl rfl))))
 (kn_ok
 (kl_ok (ok_aP (ok_iconst dX7_richOf_27 rfl rfl)))
 (kl_ok (ok_callV (List.forall_mem_cons.mpr ⟨run_V (C0 := "FavourTownModel") rfl rfl (by rw [hm]; rfl) q2059 q2061 qs52 q92 q2062 ⟨nh_1, dl_6⟩ (by decide) dX7_richOf_28, (fun _ h => absurd h List.not_mem_nil)⟩) rfl))))
 (kn_ok
 (kn_ok
 (kl_ok (ok_aP (ok_aload_n dX7_richOf_31 rfl rfl)))
 (kl_ok (ok_aP (ok_iload_n dX7_richOf_32 rfl rfl))))
 (kn_ok
 (kl_ok (ok_aP (ok_iconst dX7_richOf_33 rfl rfl)))
 (kl_ok (ok_callV (List.forall_mem_cons.mpr ⟨run_V (C0 := "FavourTownModel") rfl rfl (by rw [hm]; rfl) q2059 q2061 qs52 q92 q2062 ⟨nh_1, dl_6⟩ (by decide) dX7_richOf_34, (fun _ h => absurd h List.not_mem_nil)⟩) rfl)))))
 (kn_ok
 (kn_ok
 (kn_ok
 (kl_ok (ok_callS (run_S (by rw [hm]; rfl) q2067 q2068 q92 q2069 ⟨nh_1, dl_6⟩ (by decide) dX7_richOf_37) rfl))
 (kl_ok (ok_aP (ok_goto dX7_richOf_40 rfl))))
 (kn_ok
 (kl_ok (ok_aP (ok_iconst dX7_richOf_43 rfl rfl)))
 (kl_ok (ok_aP (ok_iadd dX7_richOf_44 rfl)))))
 (kn_ok
 (kn_ok
 (kl_ok (ok_aP (ok_istore_n dX7_richOf_45 rfl rfl)))
 (kl_ok (ok_aP (ok_iinc dX7_richOf_46 (by decide +kernel) rfl))))
 (kn_ok
 (kl_ok (ok_aP (ok_goto dX7_richOf_49 rfl)))
 (kn_ok
 (kl_ok (ok_aP (ok_iload_n dX7_richOf_52 rfl rfl)))
 (kl_ok (ok_iret rfl dX7_richOf_53)))))))
/-- 179: FavourTownModel.isNearTo(II)Z -/
noncomputable def k_X7_isNearTo : Nat → Option AOp :=
 tn 13 (tn 8 (tn 4 (tn 1 (tl 0 (aP (f_aload 0 1)))
  (tl 1 (aP (f_getf [18] 1 4))))
  (tn 6 (tl 4 (aP (f_const (.int (nI 10)) 6)))
  (tn 7 (tl 6 (aP (f_const (.int (nI 3)) 7)))
  (tl 7 (aP (f_iload 1 8))))))
  (tn 10 (tn 9 (tl 8 (aP (f_bin (fun x y => x * y) 9)))
  (tl 9 (aP (f_bin (fun x y => x + y) 10))))
  (tn 11 (tl 10 (aP (f_const (.int (nI 2)) 11)))
  (tn 12 (tl 11 (aP (f_bin (fun x y => x + y) 12)))
  (tl 12 (aP (f_iald 0 13)))))))
  (tn 18 (tn 15 (tn 14 (tl 13 (aP (f_iload 2 14)))
  (tl 14 (aP (f_bin (fun x y => x >>> (y &&& 31)) 15))))
  (tn 16 (tl 15 (aP (f_const (.int (nI 1)) 16)))
  (tn 17 (tl 16 (aP (f_bin (fun x y => x &&& y) 17)))
  (tl 17 (aP (f_const (.int (nI 1)) 18))))))
  (tn 22 (tn 21 (tl 18 (aP (f_icmp (fun x y => decide (¬ x = y)) 25 21)))
  (tl 21 (aP (f_const (.int (nI 1)) 22))))
  (tn 25 (tl 22 (aP (f_goto 26)))
  (tn 26 (tl 25 (aP (f_const (.int (nI 0)) 26)))
  (tl 26 (o_iret (fun x => x == 0 || x == 1)))))))
theorem kok_X7_isNearTo {γ : AG} (hm : γ.2.2.2.2.1 = mTab) (hk : γ.2.2.2.2.2 = kTab) : KOK γ m_X7_isNearTo k_X7_isNearTo :=
 kn_ok
 (kn_ok
 (kn_ok
 (kn_ok
 (kl_ok (ok_aP (ok_aload_n dX7_isNearTo_0 rfl rfl)))
 (kl_ok (ok_aP (ok_getf fo_54 fs_rf (Or.inl q1840) dX7_isNearTo_1 rfl))))
 (kn_ok
 (kl_ok (ok_aP (ok_bipush dX7_isNearTo_4 (by decide +kernel) rfl)))
 (kn_ok
 (kl_ok (ok_aP (ok_iconst dX7_isNearTo_6 rfl rfl)))
 (kl_ok (ok_aP (ok_iload_n dX7_isNearTo_7 rfl rfl))))))
 (kn_ok
 (kn_ok
 (kl_ok (ok_aP (ok_imul dX7_isNearTo_8 rfl)))
 (kl_ok (ok_aP (ok_iadd dX7_isNearTo_9 rfl))))
 (kn_ok
 (kl_ok (ok_aP (ok_iconst dX7_isNearTo_10 rfl rfl)))
 (kn_ok
 (kl_ok (ok_aP (ok_iadd dX7_isNearTo_11 rfl)))
 (kl_ok (ok_aP (ok_iald dX7_isNearTo_12 rfl)))))))
 (kn_ok
 (kn_ok
 (kn_ok
 (kl_ok (ok_aP (ok_iload_n dX7_isNearTo_13 rfl rfl)))
 (kl_ok (ok_aP (ok_ishr dX7_isNearTo_14 rfl))))
 (kn_ok
 (kl_ok (ok_aP (ok_iconst dX7_isNearTo_15 rfl rfl)))
 (kn_ok
 (kl_ok (ok_aP (ok_iand dX7_isNearTo_16 rfl)))
 (kl_ok (ok_aP (ok_iconst dX7_isNearTo_17 rfl rfl))))))
 (kn_ok
 (kn_ok
 (kl_ok (ok_aP (ok_icmp_ne dX7_isNearTo_18 rfl rfl)))
 (kl_ok (ok_aP (ok_iconst dX7_isNearTo_21 rfl rfl))))
 (kn_ok
 (kl_ok (ok_aP (ok_goto dX7_isNearTo_22 rfl)))
 (kn_ok
 (kl_ok (ok_aP (ok_iconst dX7_isNearTo_25 rfl rfl)))
 (kl_ok (ok_zret rfl z_boolean dX7_isNearTo_26))))))
/-- 180: FavourTownModel.sets(III)V -/
noncomputable def k_X7_sets : Nat → Option AOp :=
 tn 11 (tn 7 (tn 1 (tl 0 (aP (f_aload 0 1)))
  (tn 4 (tl 1 (aP (f_getf [18] 1 4)))
  (tl 4 (aP (f_const (.int (nI 140)) 7)))))
  (tn 9 (tl 7 (aP (f_const (.int (nI 20)) 9)))
  (tn 10 (tl 9 (aP (f_iload 1 10)))
  (tl 10 (aP (f_bin (fun x y => x * y) 11))))))
  (tn 14 (tn 12 (tl 11 (aP (f_bin (fun x y => x + y) 12)))
  (tn 13 (tl 12 (aP (f_iload 2 13)))
  (tl 13 (aP (f_bin (fun x y => x + y) 14)))))
  (tn 15 (tl 14 (aP (f_iload 3 15)))
  (tn 16 (tl 15 (o_iast 0 (fun y => y) 16))
  (tl 16 (o_vret)))))
theorem kok_X7_sets {γ : AG} (hm : γ.2.2.2.2.1 = mTab) (hk : γ.2.2.2.2.2 = kTab) : KOK γ m_X7_sets k_X7_sets :=
 kn_ok
 (kn_ok
 (kn_ok
 (kl_ok (ok_aP (ok_aload_n dX7_sets_0 rfl rfl)))
 (kn_ok
 (kl_ok (ok_aP (ok_getf fo_54 fs_rf (Or.inl q1840) dX7_sets_1 rfl)))
 (kl_ok (ok_aP (ok_sipush dX7_sets_4 (by decide +kernel) rfl)))))
 (kn_ok
 (kl_ok (ok_aP (ok_bipush dX7_sets_7 (by decide +kernel) rfl)))
 (kn_ok
 (kl_ok (ok_aP (ok_iload_n dX7_sets_9 rfl rfl)))
 (kl_ok (ok_aP (ok_imul dX7_sets_10 rfl))))))
 (kn_ok
 (kn_ok
 (kl_ok (ok_aP (ok_iadd dX7_sets_11 rfl)))
 (kn_ok
 (kl_ok (ok_aP (ok_iload_n dX7_sets_12 rfl rfl)))
 (kl_ok (ok_aP (ok_iadd dX7_sets_13 rfl)))))
 (kn_ok
 (kl_ok (ok_aP (ok_iload_n dX7_sets_14 rfl rfl)))
 (kn_ok
 (kl_ok (ok_hp (ok_iast dX7_sets_15 rfl) le_iast))
 (kl_ok (ok_vret rfl dX7_sets_16)))))
/-- 181: FavourTownModel.passes(II)I -/
noncomputable def k_X7_passes : Nat → Option AOp :=
 tn 53 (tn 25 (tn 12 (tn 6 (tn 2 (tn 1 (tl 0 (aP (f_aload 0 1)))
  (tl 1 (aP (f_iload 1 2))))
  (tn 3 (tl 2 (aP (f_iload 2 3)))
  (tl 3 (o_callV (lkN [(18, 182)]) 2 6))))
  (tn 10 (tn 9 (tl 6 (aP (f_if (fun x => decide (¬ x = 0)) 11 9)))
  (tl 9 (aP (f_const (.int (-1)) 10))))
  (tn 11 (tl 10 (o_iret (fun _ => true)))
  (tl 11 (aP (f_aload 0 12))))))
  (tn 16 (tn 14 (tn 13 (tl 12 (aP (f_iload 1 13)))
  (tl 13 (aP (f_const (.int (nI 3)) 14))))
  (tn 15 (tl 14 (aP (f_aload 0 15)))
  (tl 15 (aP (f_iload 1 16)))))
  (tn 20 (tn 17 (tl 16 (aP (f_const (.int (nI 3)) 17)))
  (tl 17 (o_callV (lkN [(18, 175)]) 2 20)))
  (tn 21 (tl 20 (aP (f_const (.int (nI 1)) 21)))
  (tn 22 (tl 21 (aP (f_bin (fun x y => x + y) 22)))
  (tl 22 (o_callV (lkN [(18, 180)]) 3 25)))))))
  (tn 38 (tn 30 (tn 27 (tn 26 (tl 25 (aP (f_aload 0 26)))
  (tl 26 (aP (f_iload 1 27))))
  (tn 29 (tl 27 (aP (f_const (.int (nI 7)) 29)))
  (tl 29 (aP (f_aload 0 30)))))
  (tn 33 (tn 31 (tl 30 (aP (f_iload 1 31)))
  (tl 31 (aP (f_const (.int (nI 6)) 33))))
  (tn 36 (tl 33 (o_callV (lkN [(18, 175)]) 2 36))
  (tn 37 (tl 36 (aP (f_bin (fun x y => x + y) 37)))
  (tl 37 (aP (f_iload 2 38)))))))
  (tn 45 (tn 42 (tn 41 (tl 38 (o_callV (lkN [(18, 180)]) 3 41))
  (tl 41 (aP (f_aload 0 42))))
  (tn 43 (tl 42 (aP (f_iload 1 43)))
  (tl 43 (aP (f_const (.int (nI 6)) 45)))))
  (tn 47 (tn 46 (tl 45 (aP (f_aload 0 46)))
  (tl 46 (aP (f_iload 1 47))))
  (tn 49 (tl 47 (aP (f_const (.int (nI 6)) 49)))
  (tn 52 (tl 49 (o_callV (lkN [(18, 175)]) 2 52))
  (tl 52 (aP (f_const (.int (nI 1)) 53)))))))))
  (tn 80 (tn 67 (tn 59 (tn 57 (tn 54 (tl 53 (aP (f_bin (fun x y => x + y) 54)))
  (tl 54 (o_callV (lkN [(18, 180)]) 3 57)))
  (tn 58 (tl 57 (aP (f_aload 0 58)))
  (tl 58 (aP (f_iload 1 59)))))
  (tn 63 (tn 60 (tl 59 (aP (f_const (.int (nI 0)) 60)))
  (tl 60 (o_callV (lkN [(18, 175)]) 2 63)))
  (tn 64 (tl 63 (aP (f_iload 2 64)))
  (tl 64 (aP (f_icmp (fun x y => decide (¬ x = y)) 71 67))))))
  (tn 73 (tn 71 (tn 68 (tl 67 (aP (f_const (.int (nI 1)) 68)))
  (tl 68 (aP (f_goto 72))))
  (tn 72 (tl 71 (aP (f_const (.int (nI 0)) 72)))
  (tl 72 (aP (f_istore 3 73)))))
  (tn 75 (tn 74 (tl 73 (aP (f_aload 0 74)))
  (tl 74 (aP (f_iload 1 75))))
  (tn 76 (tl 75 (aP (f_const (.int (nI 2)) 76)))
  (tn 77 (tl 76 (aP (f_iload 3 77)))
  (tl 77 (aP (f_if (fun x => decide (x = 0)) 84 80))))))))
  (tn 97 (tn 88 (tn 84 (tn 81 (tl 80 (aP (f_const (.int (-1)) 81)))
  (tl 81 (aP (f_goto 85))))
  (tn 85 (tl 84 (aP (f_iload 2 85)))
  (tl 85 (o_callV (lkN [(18, 180)]) 3 88))))
  (tn 92 (tn 89 (tl 88 (aP (f_iload 3 89)))
  (tl 89 (aP (f_if (fun x => decide (x = 0)) 96 92))))
  (tn 93 (tl 92 (aP (f_const (.int (nI 0)) 93)))
  (tn 96 (tl 93 (aP (f_goto 111)))
  (tl 96 (aP (f_aload 0 97)))))))
  (tn 103 (tn 99 (tn 98 (tl 97 (aP (f_iload 1 98)))
  (tl 98 (aP (f_const (.int (nI 1)) 99))))
  (tn 102 (tl 99 (o_callV (lkN [(18, 175)]) 2 102))
  (tl 102 (aP (f_aload 0 103)))))
  (tn 105 (tn 104 (tl 103 (aP (f_iload 1 104)))
  (tl 104 (aP (f_const (.int (nI 3)) 105))))
  (tn 108 (tl 105 (o_callV (lkN [(18, 175)]) 2 108))
  (tn 111 (tl 108 (o_callS 177 2 111))
  (tl 111 (o_iret (fun _ => true)))))))))
theorem kok_X7_passes {γ : AG} (hm : γ.2.2.2.2.1 = mTab) (hk : γ.2.2.2.2.2 = kTab) : KOK γ m_X7_passes k_X7_passes :=
 kn_ok
 (kn_ok
 (kn_ok
 (kn_ok
 (kn_ok
 (kn_ok
 (kl_ok (ok_aP (ok_aload_n dX7_passes_0 rfl rfl)))
 (kl_ok (ok_aP (ok_iload_n dX7_passes_1 rfl rfl))))
 (kn_ok
 (kl_ok (ok_aP (ok_iload_n dX7_passes_2 rfl rfl)))
 (kl_ok (ok_callV (List.forall_mem_cons.mpr ⟨run_V (C0 := "FavourTownModel") rfl rfl (by rw [hm]; rfl) q2087 q2089 qs58 q92 q2090 ⟨nh_1, dl_11⟩ (by decide) dX7_passes_3, (fun _ h => absurd h List.not_mem_nil)⟩) rfl))))
 (kn_ok
 (kn_ok
 (kl_ok (ok_aP (ok_if_ne dX7_passes_6 rfl rfl)))
 (kl_ok (ok_aP (ok_iconst dX7_passes_9 rfl rfl))))
 (kn_ok
 (kl_ok (ok_iret rfl dX7_passes_10))
 (kl_ok (ok_aP (ok_aload_n dX7_passes_11 rfl rfl))))))
 (kn_ok
 (kn_ok
 (kn_ok
 (kl_ok (ok_aP (ok_iload_n dX7_passes_12 rfl rfl)))
 (kl_ok (ok_aP (ok_iconst dX7_passes_13 rfl rfl))))
 (kn_ok
 (kl_ok (ok_aP (ok_aload_n dX7_passes_14 rfl rfl)))
 (kl_ok (ok_aP (ok_iload_n dX7_passes_15 rfl rfl)))))
 (kn_ok
 (kn_ok
 (kl_ok (ok_aP (ok_iconst dX7_passes_16 rfl rfl)))
 (kl_ok (ok_callV (List.forall_mem_cons.mpr ⟨run_V (C0 := "FavourTownModel") rfl rfl (by rw [hm]; rfl) q2059 q2061 qs52 q92 q2062 ⟨nh_1, dl_6⟩ (by decide) dX7_passes_17, (fun _ h => absurd h List.not_mem_nil)⟩) rfl)))
 (kn_ok
 (kl_ok (ok_aP (ok_iconst dX7_passes_20 rfl rfl)))
 (kn_ok
 (kl_ok (ok_aP (ok_iadd dX7_passes_21 rfl)))
 (kl_ok (ok_callV (List.forall_mem_cons.mpr ⟨run_V (C0 := "FavourTownModel") rfl rfl (by rw [hm]; rfl) q2078 q2080 qs56 q92 q2081 ⟨nh_1, dl_46⟩ (by decide) dX7_passes_22, (fun _ h => absurd h List.not_mem_nil)⟩) rfl)))))))
 (kn_ok
 (kn_ok
 (kn_ok
 (kn_ok
 (kl_ok (ok_aP (ok_aload_n dX7_passes_25 rfl rfl)))
 (kl_ok (ok_aP (ok_iload_n dX7_passes_26 rfl rfl))))
 (kn_ok
 (kl_ok (ok_aP (ok_bipush dX7_passes_27 (by decide +kernel) rfl)))
 (kl_ok (ok_aP (ok_aload_n dX7_passes_29 rfl rfl)))))
 (kn_ok
 (kn_ok
 (kl_ok (ok_aP (ok_iload_n dX7_passes_30 rfl rfl)))
 (kl_ok (ok_aP (ok_bipush dX7_passes_31 (by decide +kernel) rfl))))
 (kn_ok
 (kl_ok (ok_callV (List.forall_mem_cons.mpr ⟨run_V (C0 := "FavourTownModel") rfl rfl (by rw [hm]; rfl) q2059 q2061 qs52 q92 q2062 ⟨nh_1, dl_6⟩ (by decide) dX7_passes_33, (fun _ h => absurd h List.not_mem_nil)⟩) rfl))
 (kn_ok
 (kl_ok (ok_aP (ok_iadd dX7_passes_36 rfl)))
 (kl_ok (ok_aP (ok_iload_n dX7_passes_37 rfl rfl)))))))
 (kn_ok
 (kn_ok
 (kn_ok
 (kl_ok (ok_callV (List.forall_mem_cons.mpr ⟨run_V (C0 := "FavourTownModel") rfl rfl (by rw [hm]; rfl) q2078 q2080 qs56 q92 q2081 ⟨nh_1, dl_46⟩ (by decide) dX7_passes_38, (fun _ h => absurd h List.not_mem_nil)⟩) rfl))
 (kl_ok (ok_aP (ok_aload_n dX7_passes_41 rfl rfl))))
 (kn_ok
 (kl_ok (ok_aP (ok_iload_n dX7_passes_42 rfl rfl)))
 (kl_ok (ok_aP (ok_bipush dX7_passes_43 (by decide +kernel) rfl)))))
 (kn_ok
 (kn_ok
 (kl_ok (ok_aP (ok_aload_n dX7_passes_45 rfl rfl)))
 (kl_ok (ok_aP (ok_iload_n dX7_passes_46 rfl rfl))))
 (kn_ok
 (kl_ok (ok_aP (ok_bipush dX7_passes_47 (by decide +kernel) rfl)))
 (kn_ok
 (kl_ok (ok_callV (List.forall_mem_cons.mpr ⟨run_V (C0 := "FavourTownModel") rfl rfl (by rw [hm]; rfl) q2059 q2061 qs52 q92 q2062 ⟨nh_1, dl_6⟩ (by decide) dX7_passes_49, (fun _ h => absurd h List.not_mem_nil)⟩) rfl))
 (kl_ok (ok_aP (ok_iconst dX7_passes_52 rfl rfl)))))))))
 (kn_ok
 (kn_ok
 (kn_ok
 (kn_ok
 (kn_ok
 (kl_ok (ok_aP (ok_iadd dX7_passes_53 rfl)))
 (kl_ok (ok_callV (List.forall_mem_cons.mpr ⟨run_V (C0 := "FavourTownModel") rfl rfl (by rw [hm]; rfl) q2078 q2080 qs56 q92 q2081 ⟨nh_1, dl_46⟩ (by decide) dX7_passes_54, (fun _ h => absurd h List.not_mem_nil)⟩) rfl)))
 (kn_ok
 (kl_ok (ok_aP (ok_aload_n dX7_passes_57 rfl rfl)))
 (kl_ok (ok_aP (ok_iload_n dX7_passes_58 rfl rfl)))))
 (kn_ok
 (kn_ok
 (kl_ok (ok_aP (ok_iconst dX7_passes_59 rfl rfl)))
 (kl_ok (ok_callV (List.forall_mem_cons.mpr ⟨run_V (C0 := "FavourTownModel") rfl rfl (by rw [hm]; rfl) q2059 q2061 qs52 q92 q2062 ⟨nh_1, dl_6⟩ (by decide) dX7_passes_60, (fun _ h => absurd h List.not_mem_nil)⟩) rfl)))
 (kn_ok
 (kl_ok (ok_aP (ok_iload_n dX7_passes_63 rfl rfl)))
 (kl_ok (ok_aP (ok_icmp_ne dX7_passes_64 rfl rfl))))))
 (kn_ok
 (kn_ok
 (kn_ok
 (kl_ok (ok_aP (ok_iconst dX7_passes_67 rfl rfl)))
 (kl_ok (ok_aP (ok_goto dX7_passes_68 rfl))))
 (kn_ok
 (kl_ok (ok_aP (ok_iconst dX7_passes_71 rfl rfl)))
 (kl_ok (ok_aP (ok_istore_n dX7_passes_72 rfl rfl)))))
 (kn_ok
 (kn_ok
 (kl_ok (ok_aP (ok_aload_n dX7_passes_73 rfl rfl)))
 (kl_ok (ok_aP (ok_iload_n dX7_passes_74 rfl rfl))))
 (kn_ok
 (kl_ok (ok_aP (ok_iconst dX7_passes_75 rfl rfl)))
 (kn_ok
 (kl_ok (ok_aP (ok_iload_n dX7_passes_76 rfl rfl)))
 (kl_ok (ok_aP (ok_if_eq dX7_passes_77 rfl rfl))))))))
 (kn_ok
 (kn_ok
 (kn_ok
 (kn_ok
 (kl_ok (ok_aP (ok_iconst dX7_passes_80 rfl rfl)))
 (kl_ok (ok_aP (ok_goto dX7_passes_81 rfl))))
 (kn_ok
 (kl_ok (ok_aP (ok_iload_n dX7_passes_84 rfl rfl)))
 (kl_ok (ok_callV (List.forall_mem_cons.mpr ⟨run_V (C0 := "FavourTownModel") rfl rfl (by rw [hm]; rfl) q2078 q2080 qs56 q92 q2081 ⟨nh_1, dl_46⟩ (by decide) dX7_passes_85, (fun _ h => absurd h List.not_mem_nil)⟩) rfl))))
 (kn_ok
 (kn_ok
 (kl_ok (ok_aP (ok_iload_n dX7_passes_88 rfl rfl)))
 (kl_ok (ok_aP (ok_if_eq dX7_passes_89 rfl rfl))))
 (kn_ok
 (kl_ok (ok_aP (ok_iconst dX7_passes_92 rfl rfl)))
 (kn_ok
 (kl_ok (ok_aP (ok_goto dX7_passes_93 rfl)))
 (kl_ok (ok_aP (ok_aload_n dX7_passes_96 rfl rfl)))))))
 (kn_ok
 (kn_ok
 (kn_ok
 (kl_ok (ok_aP (ok_iload_n dX7_passes_97 rfl rfl)))
 (kl_ok (ok_aP (ok_iconst dX7_passes_98 rfl rfl))))
 (kn_ok
 (kl_ok (ok_callV (List.forall_mem_cons.mpr ⟨run_V (C0 := "FavourTownModel") rfl rfl (by rw [hm]; rfl) q2059 q2061 qs52 q92 q2062 ⟨nh_1, dl_6⟩ (by decide) dX7_passes_99, (fun _ h => absurd h List.not_mem_nil)⟩) rfl))
 (kl_ok (ok_aP (ok_aload_n dX7_passes_102 rfl rfl)))))
 (kn_ok
 (kn_ok
 (kl_ok (ok_aP (ok_iload_n dX7_passes_103 rfl rfl)))
 (kl_ok (ok_aP (ok_iconst dX7_passes_104 rfl rfl))))
 (kn_ok
 (kl_ok (ok_callV (List.forall_mem_cons.mpr ⟨run_V (C0 := "FavourTownModel") rfl rfl (by rw [hm]; rfl) q2059 q2061 qs52 q92 q2062 ⟨nh_1, dl_6⟩ (by decide) dX7_passes_105, (fun _ h => absurd h List.not_mem_nil)⟩) rfl))
 (kn_ok
 (kl_ok (ok_callS (run_S (by rw [hm]; rfl) q2067 q2068 q92 q2069 ⟨nh_1, dl_6⟩ (by decide) dX7_passes_108) rfl))
 (kl_ok (ok_iret rfl dX7_passes_111))))))))
/-- 182: FavourTownModel.canPass(II)Z -/
noncomputable def k_X7_canPass : Nat → Option AOp :=
 tn 27 (tn 12 (tn 6 (tn 2 (tn 1 (tl 0 (aP (f_aload 0 1)))
  (tl 1 (aP (f_iload 1 2))))
  (tn 3 (tl 2 (aP (f_const (.int (nI 2)) 3)))
  (tl 3 (o_callV (lkN [(18, 175)]) 2 6))))
  (tn 10 (tn 7 (tl 6 (aP (f_const (.int (-1)) 7)))
  (tl 7 (aP (f_icmp (fun x y => decide (x = y)) 26 10))))
  (tn 11 (tl 10 (aP (f_aload 0 11)))
  (tl 11 (aP (f_iload 1 12))))))
  (tn 20 (tn 16 (tn 13 (tl 12 (aP (f_const (.int (nI 3)) 13)))
  (tl 13 (o_callV (lkN [(18, 175)]) 2 16)))
  (tn 17 (tl 16 (aP (f_aload 0 17)))
  (tl 17 (aP (f_getf [18] 1 20)))))
  (tn 23 (tn 22 (tl 20 (aP (f_const (.int (nI 7)) 22)))
  (tl 22 (aP (f_iald 0 23))))
  (tn 26 (tl 23 (aP (f_icmp (fun x y => decide (x < y)) 28 26)))
  (tl 26 (aP (f_const (.int (nI 0)) 27)))))))
  (tn 39 (tn 31 (tn 29 (tn 28 (tl 27 (o_iret (fun x => x == 0 || x == 1)))
  (tl 28 (aP (f_aload 0 29))))
  (tn 30 (tl 29 (aP (f_iload 1 30)))
  (tl 30 (aP (f_const (.int (nI 0)) 31)))))
  (tn 35 (tn 34 (tl 31 (o_callV (lkN [(18, 175)]) 2 34))
  (tl 34 (aP (f_iload 2 35))))
  (tn 38 (tl 35 (aP (f_icmp (fun x y => decide (x = y)) 47 38)))
  (tl 38 (aP (f_aload 0 39))))))
  (tn 47 (tn 41 (tn 40 (tl 39 (aP (f_iload 2 40)))
  (tl 40 (aP (f_iload 1 41))))
  (tn 44 (tl 41 (o_callV (lkN [(18, 183)]) 2 44))
  (tl 44 (aP (f_if (fun x => decide (x = 0)) 51 47)))))
  (tn 51 (tn 48 (tl 47 (aP (f_const (.int (nI 1)) 48)))
  (tl 48 (aP (f_goto 52))))
  (tn 52 (tl 51 (aP (f_const (.int (nI 0)) 52)))
  (tl 52 (o_iret (fun x => x == 0 || x == 1)))))))
theorem kok_X7_canPass {γ : AG} (hm : γ.2.2.2.2.1 = mTab) (hk : γ.2.2.2.2.2 = kTab) : KOK γ m_X7_canPass k_X7_canPass :=
 kn_ok
 (kn_ok
 (kn_ok
 (kn_ok
 (kn_ok
 (kl_ok (ok_aP (ok_aload_n dX7_canPass_0 rfl rfl)))
 (kl_ok (ok_aP (ok_iload_n dX7_canPass_1 rfl rfl))))
 (kn_ok
 (kl_ok (ok_aP (ok_iconst dX7_canPass_2 rfl rfl)))
 (kl_ok (ok_callV (List.forall_mem_cons.mpr ⟨run_V (C0 := "FavourTownModel") rfl rfl (by rw [hm]; rfl) q2059 q2061 qs52 q92 q2062 ⟨nh_1, dl_6⟩ (by decide) dX7_canPass_3, (fun _ h => absurd h List.not_mem_nil)⟩) rfl))))
 (kn_ok
 (kn_ok
 (kl_ok (ok_aP (ok_iconst dX7_canPass_6 rfl rfl)))
 (kl_ok (ok_aP (ok_icmp_eq dX7_canPass_7 rfl rfl))))
 (kn_ok
 (kl_ok (ok_aP (ok_aload_n dX7_canPass_10 rfl rfl)))
 (kl_ok (ok_aP (ok_iload_n dX7_canPass_11 rfl rfl))))))
 (kn_ok
 (kn_ok
 (kn_ok
 (kl_ok (ok_aP (ok_iconst dX7_canPass_12 rfl rfl)))
 (kl_ok (ok_callV (List.forall_mem_cons.mpr ⟨run_V (C0 := "FavourTownModel") rfl rfl (by rw [hm]; rfl) q2059 q2061 qs52 q92 q2062 ⟨nh_1, dl_6⟩ (by decide) dX7_canPass_13, (fun _ h => absurd h List.not_mem_nil)⟩) rfl)))
 (kn_ok
 (kl_ok (ok_aP (ok_aload_n dX7_canPass_16 rfl rfl)))
 (kl_ok (ok_aP (ok_getf fo_54 fs_rf (Or.inl q1840) dX7_canPass_17 rfl)))))
 (kn_ok
 (kn_ok
 (kl_ok (ok_aP (ok_bipush dX7_canPass_20 (by decide +kernel) rfl)))
 (kl_ok (ok_aP (ok_iald dX7_canPass_22 rfl))))
 (kn_ok
 (kl_ok (ok_aP (ok_icmp_lt dX7_canPass_23 rfl rfl)))
 (kl_ok (ok_aP (ok_iconst dX7_canPass_26 rfl rfl)))))))
 (kn_ok
 (kn_ok
 (kn_ok
 (kn_ok
 (kl_ok (ok_zret rfl z_boolean dX7_canPass_27))
 (kl_ok (ok_aP (ok_aload_n dX7_canPass_28 rfl rfl))))
 (kn_ok
 (kl_ok (ok_aP (ok_iload_n dX7_canPass_29 rfl rfl)))
 (kl_ok (ok_aP (ok_iconst dX7_canPass_30 rfl rfl)))))
 (kn_ok
 (kn_ok
 (kl_ok (ok_callV (List.forall_mem_cons.mpr ⟨run_V (C0 := "FavourTownModel") rfl rfl (by rw [hm]; rfl) q2059 q2061 qs52 q92 q2062 ⟨nh_1, dl_6⟩ (by decide) dX7_canPass_31, (fun _ h => absurd h List.not_mem_nil)⟩) rfl))
 (kl_ok (ok_aP (ok_iload_n dX7_canPass_34 rfl rfl))))
 (kn_ok
 (kl_ok (ok_aP (ok_icmp_eq dX7_canPass_35 rfl rfl)))
 (kl_ok (ok_aP (ok_aload_n dX7_canPass_38 rfl rfl))))))
 (kn_ok
 (kn_ok
 (kn_ok
 (kl_ok (ok_aP (ok_iload_n dX7_canPass_39 rfl rfl)))
 (kl_ok (ok_aP (ok_iload_n dX7_canPass_40 rfl rfl))))
 (kn_ok
 (kl_ok (ok_callV (List.forall_mem_cons.mpr ⟨run_V (C0 := "FavourTownModel") rfl rfl (by rw [hm]; rfl) q2091 q2093 qs59 q92 q2094 ⟨nh_1, dl_11⟩ (by decide) dX7_canPass_41, (fun _ h => absurd h List.not_mem_nil)⟩) rfl))
 (kl_ok (ok_aP (ok_if_eq dX7_canPass_44 rfl rfl)))))
 (kn_ok
 (kn_ok
 (kl_ok (ok_aP (ok_iconst dX7_canPass_47 rfl rfl)))
 (kl_ok (ok_aP (ok_goto dX7_canPass_48 rfl))))
 (kn_ok
 (kl_ok (ok_aP (ok_iconst dX7_canPass_51 rfl rfl)))
 (kl_ok (ok_zret rfl z_boolean dX7_canPass_52))))))
/-- 183: FavourTownModel.wouldPass(II)Z -/
noncomputable def k_X7_wouldPass : Nat → Option AOp :=
 tn 50 (tn 23 (tn 9 (tn 3 (tn 1 (tl 0 (aP (f_const (.int (nI 0)) 1)))
  (tn 2 (tl 1 (aP (f_istore 3 2)))
  (tl 2 (aP (f_const (.int (nI 1)) 3)))))
  (tn 7 (tn 5 (tl 3 (aP (f_istore 4 5)))
  (tl 5 (aP (f_iload 4 7))))
  (tn 8 (tl 7 (aP (f_aload 0 8)))
  (tl 8 (aP (f_iload 2 9))))))
  (tn 17 (tn 11 (tl 9 (aP (f_const (.int (nI 6)) 11)))
  (tn 14 (tl 11 (o_callV (lkN [(18, 175)]) 2 14))
  (tl 14 (aP (f_icmp (fun x y => decide (y ≤ x)) 47 17)))))
  (tn 21 (tn 18 (tl 17 (aP (f_iload 3 18)))
  (tl 18 (aP (f_if (fun x => decide (¬ x = 0)) 35 21))))
  (tn 22 (tl 21 (aP (f_aload 0 22)))
  (tl 22 (aP (f_iload 2 23)))))))
  (tn 36 (tn 28 (tn 25 (tl 23 (aP (f_const (.int (nI 7)) 25)))
  (tn 27 (tl 25 (aP (f_iload 4 27)))
  (tl 27 (aP (f_bin (fun x y => x + y) 28)))))
  (tn 32 (tn 31 (tl 28 (o_callV (lkN [(18, 175)]) 2 31))
  (tl 31 (aP (f_iload 1 32))))
  (tn 35 (tl 32 (aP (f_icmp (fun x y => decide (¬ x = y)) 39 35)))
  (tl 35 (aP (f_const (.int (nI 1)) 36))))))
  (tn 44 (tn 40 (tn 39 (tl 36 (aP (f_goto 40)))
  (tl 39 (aP (f_const (.int (nI 0)) 40))))
  (tn 41 (tl 40 (aP (f_istore 3 41)))
  (tl 41 (aP (f_iinc 4 (nI 1) 44)))))
  (tn 48 (tn 47 (tl 44 (aP (f_goto 5)))
  (tl 47 (aP (f_aload 0 48))))
  (tn 49 (tl 48 (aP (f_iload 1 49)))
  (tl 49 (aP (f_aload 0 50))))))))
  (tn 70 (tn 61 (tn 55 (tn 51 (tl 50 (aP (f_iload 2 51)))
  (tn 52 (tl 51 (aP (f_const (.int (nI 0)) 52)))
  (tl 52 (o_callV (lkN [(18, 175)]) 2 55))))
  (tn 57 (tn 56 (tl 55 (aP (f_aload 0 56)))
  (tl 56 (aP (f_iload 2 57))))
  (tn 58 (tl 57 (aP (f_const (.int (nI 1)) 58)))
  (tl 58 (o_callV (lkN [(18, 175)]) 2 61)))))
  (tn 64 (tn 62 (tl 61 (aP (f_aload 0 62)))
  (tn 63 (tl 62 (aP (f_iload 2 63)))
  (tl 63 (aP (f_const (.int (nI 3)) 64)))))
  (tn 68 (tn 67 (tl 64 (o_callV (lkN [(18, 175)]) 2 67))
  (tl 67 (aP (f_const (.int (nI 1)) 68))))
  (tn 69 (tl 68 (aP (f_bin (fun x y => x + y) 69)))
  (tl 69 (aP (f_aload 0 70)))))))
  (tn 81 (tn 75 (tn 71 (tl 70 (aP (f_iload 2 71)))
  (tn 72 (tl 71 (aP (f_const (.int (nI 4)) 72)))
  (tl 72 (o_callV (lkN [(18, 175)]) 2 75))))
  (tn 77 (tn 76 (tl 75 (aP (f_aload 0 76)))
  (tl 76 (aP (f_iload 2 77))))
  (tn 78 (tl 77 (aP (f_const (.int (nI 5)) 78)))
  (tl 78 (o_callV (lkN [(18, 175)]) 2 81)))))
  (tn 89 (tn 85 (tn 82 (tl 81 (aP (f_const (.int (nI 1)) 82)))
  (tl 82 (aP (f_icmp (fun x y => decide (¬ x = y)) 89 85))))
  (tn 86 (tl 85 (aP (f_const (.int (nI 1)) 86)))
  (tl 86 (aP (f_goto 90)))))
  (tn 91 (tn 90 (tl 89 (aP (f_const (.int (nI 0)) 90)))
  (tl 90 (aP (f_iload 3 91))))
  (tn 94 (tl 91 (o_callV (lkN [(18, 176)]) 7 94))
  (tl 94 (o_iret (fun x => x == 0 || x == 1))))))))
theorem kok_X7_wouldPass {γ : AG} (hm : γ.2.2.2.2.1 = mTab) (hk : γ.2.2.2.2.2 = kTab) : KOK γ m_X7_wouldPass k_X7_wouldPass :=
 kn_ok
 (kn_ok
 (kn_ok
 (kn_ok
 (kn_ok
 (kl_ok (ok_aP (ok_iconst dX7_wouldPass_0 rfl rfl)))
 (kn_ok
 (kl_ok (ok_aP (ok_istore_n dX7_wouldPass_1 rfl rfl)))
 (kl_ok (ok_aP (ok_iconst dX7_wouldPass_2 rfl rfl)))))
 (kn_ok
 (kn_ok
 (kl_ok (ok_aP (ok_istore dX7_wouldPass_3 rfl)))
 (kl_ok (ok_aP (ok_iload dX7_wouldPass_5 rfl))))
 (kn_ok
 (kl_ok (ok_aP (ok_aload_n dX7_wouldPass_7 rfl rfl)))
 (kl_ok (ok_aP (ok_iload_n dX7_wouldPass_8 rfl rfl))))))
 (kn_ok
 (kn_ok
 (kl_ok (ok_aP (ok_bipush dX7_wouldPass_9 (by decide +kernel) rfl)))
 (kn_ok
 (kl_ok (ok_callV (List.forall_mem_cons.mpr ⟨run_V (C0 := "FavourTownModel") rfl rfl (by rw [hm]; rfl) q2059 q2061 qs52 q92 q2062 ⟨nh_1, dl_6⟩ (by decide) dX7_wouldPass_11, (fun _ h => absurd h List.not_mem_nil)⟩) rfl))
 (kl_ok (ok_aP (ok_icmp_ge dX7_wouldPass_14 rfl rfl)))))
 (kn_ok
 (kn_ok
 (kl_ok (ok_aP (ok_iload_n dX7_wouldPass_17 rfl rfl)))
 (kl_ok (ok_aP (ok_if_ne dX7_wouldPass_18 rfl rfl))))
 (kn_ok
 (kl_ok (ok_aP (ok_aload_n dX7_wouldPass_21 rfl rfl)))
 (kl_ok (ok_aP (ok_iload_n dX7_wouldPass_22 rfl rfl)))))))
 (kn_ok
 (kn_ok
 (kn_ok
 (kl_ok (ok_aP (ok_bipush dX7_wouldPass_23 (by decide +kernel) rfl)))
 (kn_ok
 (kl_ok (ok_aP (ok_iload dX7_wouldPass_25 rfl)))
 (kl_ok (ok_aP (ok_iadd dX7_wouldPass_27 rfl)))))
 (kn_ok
 (kn_ok
 (kl_ok (ok_callV (List.forall_mem_cons.mpr ⟨run_V (C0 := "FavourTownModel") rfl rfl (by rw [hm]; rfl) q2059 q2061 qs52 q92 q2062 ⟨nh_1, dl_6⟩ (by decide) dX7_wouldPass_28, (fun _ h => absurd h List.not_mem_nil)⟩) rfl))
 (kl_ok (ok_aP (ok_iload_n dX7_wouldPass_31 rfl rfl))))
 (kn_ok
 (kl_ok (ok_aP (ok_icmp_ne dX7_wouldPass_32 rfl rfl)))
 (kl_ok (ok_aP (ok_iconst dX7_wouldPass_35 rfl rfl))))))
 (kn_ok
 (kn_ok
 (kn_ok
 (kl_ok (ok_aP (ok_goto dX7_wouldPass_36 rfl)))
 (kl_ok (ok_aP (ok_iconst dX7_wouldPass_39 rfl rfl))))
 (kn_ok
 (kl_ok (ok_aP (ok_istore_n dX7_wouldPass_40 rfl rfl)))
 (kl_ok (ok_aP (ok_iinc dX7_wouldPass_41 (by decide +kernel) rfl)))))
 (kn_ok
 (kn_ok
 (kl_ok (ok_aP (ok_goto dX7_wouldPass_44 rfl)))
 (kl_ok (ok_aP (ok_aload_n dX7_wouldPass_47 rfl rfl))))
 (kn_ok
 (kl_ok (ok_aP (ok_iload_n dX7_wouldPass_48 rfl rfl)))
 (kl_ok (ok_aP (ok_aload_n dX7_wouldPass_49 rfl rfl))))))))
 (kn_ok
 (kn_ok
 (kn_ok
 (kn_ok
 (kl_ok (ok_aP (ok_iload_n dX7_wouldPass_50 rfl rfl)))
 (kn_ok
 (kl_ok (ok_aP (ok_iconst dX7_wouldPass_51 rfl rfl)))
 (kl_ok (ok_callV (List.forall_mem_cons.mpr ⟨run_V (C0 := "FavourTownModel") rfl rfl (by rw [hm]; rfl) q2059 q2061 qs52 q92 q2062 ⟨nh_1, dl_6⟩ (by decide) dX7_wouldPass_52, (fun _ h => absurd h List.not_mem_nil)⟩) rfl))))
 (kn_ok
 (kn_ok
 (kl_ok (ok_aP (ok_aload_n dX7_wouldPass_55 rfl rfl)))
 (kl_ok (ok_aP (ok_iload_n dX7_wouldPass_56 rfl rfl))))
 (kn_ok
 (kl_ok (ok_aP (ok_iconst dX7_wouldPass_57 rfl rfl)))
 (kl_ok (ok_callV (List.forall_mem_cons.mpr ⟨run_V (C0 := "FavourTownModel") rfl rfl (by rw [hm]; rfl) q2059 q2061 qs52 q92 q2062 ⟨nh_1, dl_6⟩ (by decide) dX7_wouldPass_58, (fun _ h => absurd h List.not_mem_nil)⟩) rfl)))))
 (kn_ok
 (kn_ok
 (kl_ok (ok_aP (ok_aload_n dX7_wouldPass_61 rfl rfl)))
 (kn_ok
 (kl_ok (ok_aP (ok_iload_n dX7_wouldPass_62 rfl rfl)))
 (kl_ok (ok_aP (ok_iconst dX7_wouldPass_63 rfl rfl)))))
 (kn_ok
 (kn_ok
 (kl_ok (ok_callV (List.forall_mem_cons.mpr ⟨run_V (C0 := "FavourTownModel") rfl rfl (by rw [hm]; rfl) q2059 q2061 qs52 q92 q2062 ⟨nh_1, dl_6⟩ (by decide) dX7_wouldPass_64, (fun _ h => absurd h List.not_mem_nil)⟩) rfl))
 (kl_ok (ok_aP (ok_iconst dX7_wouldPass_67 rfl rfl))))
 (kn_ok
 (kl_ok (ok_aP (ok_iadd dX7_wouldPass_68 rfl)))
 (kl_ok (ok_aP (ok_aload_n dX7_wouldPass_69 rfl rfl)))))))
 (kn_ok
 (kn_ok
 (kn_ok
 (kl_ok (ok_aP (ok_iload_n dX7_wouldPass_70 rfl rfl)))
 (kn_ok
 (kl_ok (ok_aP (ok_iconst dX7_wouldPass_71 rfl rfl)))
 (kl_ok (ok_callV (List.forall_mem_cons.mpr ⟨run_V (C0 := "FavourTownModel") rfl rfl (by rw [hm]; rfl) q2059 q2061 qs52 q92 q2062 ⟨nh_1, dl_6⟩ (by decide) dX7_wouldPass_72, (fun _ h => absurd h List.not_mem_nil)⟩) rfl))))
 (kn_ok
 (kn_ok
 (kl_ok (ok_aP (ok_aload_n dX7_wouldPass_75 rfl rfl)))
 (kl_ok (ok_aP (ok_iload_n dX7_wouldPass_76 rfl rfl))))
 (kn_ok
 (kl_ok (ok_aP (ok_iconst dX7_wouldPass_77 rfl rfl)))
 (kl_ok (ok_callV (List.forall_mem_cons.mpr ⟨run_V (C0 := "FavourTownModel") rfl rfl (by rw [hm]; rfl) q2059 q2061 qs52 q92 q2062 ⟨nh_1, dl_6⟩ (by decide) dX7_wouldPass_78, (fun _ h => absurd h List.not_mem_nil)⟩) rfl)))))
 (kn_ok
 (kn_ok
 (kn_ok
 (kl_ok (ok_aP (ok_iconst dX7_wouldPass_81 rfl rfl)))
 (kl_ok (ok_aP (ok_icmp_ne dX7_wouldPass_82 rfl rfl))))
 (kn_ok
 (kl_ok (ok_aP (ok_iconst dX7_wouldPass_85 rfl rfl)))
 (kl_ok (ok_aP (ok_goto dX7_wouldPass_86 rfl)))))
 (kn_ok
 (kn_ok
 (kl_ok (ok_aP (ok_iconst dX7_wouldPass_89 rfl rfl)))
 (kl_ok (ok_aP (ok_iload_n dX7_wouldPass_90 rfl rfl))))
 (kn_ok
 (kl_ok (ok_callV (List.forall_mem_cons.mpr ⟨run_V (C0 := "FavourTownModel") rfl rfl (by rw [hm]; rfl) q2063 q2065 qs53 q92 q2066 ⟨nh_1, dl_47⟩ (by decide) dX7_wouldPass_91, (fun _ h => absurd h List.not_mem_nil)⟩) rfl))
 (kl_ok (ok_zret rfl z_boolean dX7_wouldPass_94)))))))
/-- 184: FavourTownModel.goOn(I)I -/
noncomputable def k_X7_goOn : Nat → Option AOp :=
 tn 36 (tn 15 (tn 9 (tn 6 (tn 1 (tl 0 (aP (f_aload 0 1)))
  (tn 4 (tl 1 (aP (f_getf [18] 1 4)))
  (tl 4 (aP (f_const (.int (nI 6)) 6)))))
  (tn 7 (tl 6 (aP (f_dup2 7)))
  (tn 8 (tl 7 (aP (f_iald 0 8)))
  (tl 8 (aP (f_iload 1 9))))))
  (tn 12 (tn 10 (tl 9 (aP (f_bin (fun x y => x + y) 10)))
  (tn 11 (tl 10 (o_iast 0 (fun y => y) 11))
  (tl 11 (aP (f_const (.int (nI 0)) 12)))))
  (tn 13 (tl 12 (aP (f_istore 2 13)))
  (tn 14 (tl 13 (aP (f_const (.int (nI 0)) 14)))
  (tl 14 (aP (f_istore 3 15)))))))
  (tn 25 (tn 20 (tn 16 (tl 15 (aP (f_iload 3 16)))
  (tn 17 (tl 16 (aP (f_aload 0 17)))
  (tl 17 (aP (f_getf [18] 1 20)))))
  (tn 21 (tl 20 (aP (f_const (.int (nI 3)) 21)))
  (tn 22 (tl 21 (aP (f_iald 0 22)))
  (tl 22 (aP (f_icmp (fun x y => decide (y ≤ x)) 80 25))))))
  (tn 28 (tn 26 (tl 25 (aP (f_aload 0 26)))
  (tn 27 (tl 26 (aP (f_iload 3 27)))
  (tl 27 (aP (f_const (.int (nI 2)) 28)))))
  (tn 32 (tn 31 (tl 28 (o_callV (lkN [(18, 175)]) 2 31))
  (tl 31 (aP (f_const (.int (-1)) 32))))
  (tn 35 (tl 32 (aP (f_icmp (fun x y => decide (x = y)) 74 35)))
  (tl 35 (aP (f_aload 0 36))))))))
  (tn 57 (tn 46 (tn 41 (tn 37 (tl 36 (aP (f_iload 3 37)))
  (tn 38 (tl 37 (aP (f_const (.int (nI 4)) 38)))
  (tl 38 (o_callV (lkN [(18, 175)]) 2 41))))
  (tn 42 (tl 41 (aP (f_const (.int (-1)) 42)))
  (tn 45 (tl 42 (aP (f_icmp (fun x y => decide (x = y)) 74 45)))
  (tl 45 (aP (f_aload 0 46))))))
  (tn 51 (tn 47 (tl 46 (aP (f_iload 3 47)))
  (tn 48 (tl 47 (aP (f_const (.int (nI 4)) 48)))
  (tl 48 (o_callV (lkN [(18, 175)]) 2 51))))
  (tn 52 (tl 51 (aP (f_aload 0 52)))
  (tn 55 (tl 52 (aP (f_getf [18] 1 55)))
  (tl 55 (aP (f_const (.int (nI 6)) 57)))))))
  (tn 67 (tn 64 (tn 58 (tl 57 (aP (f_iald 0 58)))
  (tn 61 (tl 58 (aP (f_icmp (fun x y => decide (x ≤ y)) 64 61)))
  (tl 61 (aP (f_goto 74)))))
  (tn 65 (tl 64 (aP (f_aload 0 65)))
  (tn 66 (tl 65 (aP (f_iload 3 66)))
  (tl 66 (aP (f_const (.int (nI 2)) 67))))))
  (tn 74 (tn 68 (tl 67 (aP (f_const (.int (-1)) 68)))
  (tn 71 (tl 68 (o_callV (lkN [(18, 180)]) 3 71))
  (tl 71 (aP (f_iinc 2 (nI 1) 74)))))
  (tn 80 (tn 77 (tl 74 (aP (f_iinc 3 (nI 1) 77)))
  (tl 77 (aP (f_goto 15))))
  (tn 81 (tl 80 (aP (f_iload 2 81)))
  (tl 81 (o_iret (fun _ => true))))))))
theorem kok_X7_goOn {γ : AG} (hm : γ.2.2.2.2.1 = mTab) (hk : γ.2.2.2.2.2 = kTab) : KOK γ m_X7_goOn k_X7_goOn :=
 kn_ok
 (kn_ok
 (kn_ok
 (kn_ok
 (kn_ok
 (kl_ok (ok_aP (ok_aload_n dX7_goOn_0 rfl rfl)))
 (kn_ok
 (kl_ok (ok_aP (ok_getf fo_54 fs_rf (Or.inl q1840) dX7_goOn_1 rfl)))
 (kl_ok (ok_aP (ok_bipush dX7_goOn_4 (by decide +kernel) rfl)))))
 (kn_ok
 (kl_ok (ok_aP (ok_dup2 dX7_goOn_6 rfl)))
 (kn_ok
 (kl_ok (ok_aP (ok_iald dX7_goOn_7 rfl)))
 (kl_ok (ok_aP (ok_iload_n dX7_goOn_8 rfl rfl))))))
 (kn_ok
 (kn_ok
 (kl_ok (ok_aP (ok_iadd dX7_goOn_9 rfl)))
 (kn_ok
 (kl_ok (ok_hp (ok_iast dX7_goOn_10 rfl) le_iast))
 (kl_ok (ok_aP (ok_iconst dX7_goOn_11 rfl rfl)))))
 (kn_ok
 (kl_ok (ok_aP (ok_istore_n dX7_goOn_12 rfl rfl)))
 (kn_ok
 (kl_ok (ok_aP (ok_iconst dX7_goOn_13 rfl rfl)))
 (kl_ok (ok_aP (ok_istore_n dX7_goOn_14 rfl rfl)))))))
 (kn_ok
 (kn_ok
 (kn_ok
 (kl_ok (ok_aP (ok_iload_n dX7_goOn_15 rfl rfl)))
 (kn_ok
 (kl_ok (ok_aP (ok_aload_n dX7_goOn_16 rfl rfl)))
 (kl_ok (ok_aP (ok_getf fo_54 fs_rf (Or.inl q1840) dX7_goOn_17 rfl)))))
 (kn_ok
 (kl_ok (ok_aP (ok_iconst dX7_goOn_20 rfl rfl)))
 (kn_ok
 (kl_ok (ok_aP (ok_iald dX7_goOn_21 rfl)))
 (kl_ok (ok_aP (ok_icmp_ge dX7_goOn_22 rfl rfl))))))
 (kn_ok
 (kn_ok
 (kl_ok (ok_aP (ok_aload_n dX7_goOn_25 rfl rfl)))
 (kn_ok
 (kl_ok (ok_aP (ok_iload_n dX7_goOn_26 rfl rfl)))
 (kl_ok (ok_aP (ok_iconst dX7_goOn_27 rfl rfl)))))
 (kn_ok
 (kn_ok
 (kl_ok (ok_callV (List.forall_mem_cons.mpr ⟨run_V (C0 := "FavourTownModel") rfl rfl (by rw [hm]; rfl) q2059 q2061 qs52 q92 q2062 ⟨nh_1, dl_6⟩ (by decide) dX7_goOn_28, (fun _ h => absurd h List.not_mem_nil)⟩) rfl))
 (kl_ok (ok_aP (ok_iconst dX7_goOn_31 rfl rfl))))
 (kn_ok
 (kl_ok (ok_aP (ok_icmp_eq dX7_goOn_32 rfl rfl)))
 (kl_ok (ok_aP (ok_aload_n dX7_goOn_35 rfl rfl))))))))
 (kn_ok
 (kn_ok
 (kn_ok
 (kn_ok
 (kl_ok (ok_aP (ok_iload_n dX7_goOn_36 rfl rfl)))
 (kn_ok
 (kl_ok (ok_aP (ok_iconst dX7_goOn_37 rfl rfl)))
 (kl_ok (ok_callV (List.forall_mem_cons.mpr ⟨run_V (C0 := "FavourTownModel") rfl rfl (by rw [hm]; rfl) q2059 q2061 qs52 q92 q2062 ⟨nh_1, dl_6⟩ (by decide) dX7_goOn_38, (fun _ h => absurd h List.not_mem_nil)⟩) rfl))))
 (kn_ok
 (kl_ok (ok_aP (ok_iconst dX7_goOn_41 rfl rfl)))
 (kn_ok
 (kl_ok (ok_aP (ok_icmp_eq dX7_goOn_42 rfl rfl)))
 (kl_ok (ok_aP (ok_aload_n dX7_goOn_45 rfl rfl))))))
 (kn_ok
 (kn_ok
 (kl_ok (ok_aP (ok_iload_n dX7_goOn_46 rfl rfl)))
 (kn_ok
 (kl_ok (ok_aP (ok_iconst dX7_goOn_47 rfl rfl)))
 (kl_ok (ok_callV (List.forall_mem_cons.mpr ⟨run_V (C0 := "FavourTownModel") rfl rfl (by rw [hm]; rfl) q2059 q2061 qs52 q92 q2062 ⟨nh_1, dl_6⟩ (by decide) dX7_goOn_48, (fun _ h => absurd h List.not_mem_nil)⟩) rfl))))
 (kn_ok
 (kl_ok (ok_aP (ok_aload_n dX7_goOn_51 rfl rfl)))
 (kn_ok
 (kl_ok (ok_aP (ok_getf fo_54 fs_rf (Or.inl q1840) dX7_goOn_52 rfl)))
 (kl_ok (ok_aP (ok_bipush dX7_goOn_55 (by decide +kernel) rfl)))))))
 (kn_ok
 (kn_ok
 (kn_ok
 (kl_ok (ok_aP (ok_iald dX7_goOn_57 rfl)))
 (kn_ok
 (kl_ok (ok_aP (ok_icmp_le dX7_goOn_58 rfl rfl)))
 (kl_ok (ok_aP (ok_goto dX7_goOn_61 rfl)))))
 (kn_ok
 (kl_ok (ok_aP (ok_aload_n dX7_goOn_64 rfl rfl)))
 (kn_ok
 (kl_ok (ok_aP (ok_iload_n dX7_goOn_65 rfl rfl)))
 (kl_ok (ok_aP (ok_iconst dX7_goOn_66 rfl rfl))))))
 (kn_ok
 (kn_ok
 (kl_ok (ok_aP (ok_iconst dX7_goOn_67 rfl rfl)))
 (kn_ok
 (kl_ok (ok_callV (List.forall_mem_cons.mpr ⟨run_V (C0 := "FavourTownModel") rfl rfl (by rw [hm]; rfl) q2078 q2080 qs56 q92 q2081 ⟨nh_1, dl_46⟩ (by decide) dX7_goOn_68, (fun _ h => absurd h List.not_mem_nil)⟩) rfl))
 (kl_ok (ok_aP (ok_iinc dX7_goOn_71 (by decide +kernel) rfl)))))
 (kn_ok
 (kn_ok
 (kl_ok (ok_aP (ok_iinc dX7_goOn_74 (by decide +kernel) rfl)))
 (kl_ok (ok_aP (ok_goto dX7_goOn_77 rfl))))
 (kn_ok
 (kl_ok (ok_aP (ok_iload_n dX7_goOn_80 rfl rfl)))
 (kl_ok (ok_iret rfl dX7_goOn_81)))))))
/-- 185: FavourTownModel.temper()I -/
noncomputable def k_X7_temper : Nat → Option AOp :=
 tn 85 (tn 39 (tn 19 (tn 7 (tn 2 (tn 1 (tl 0 (aP (f_aload 0 1)))
  (tl 1 (aP (f_const (.int (-1)) 2))))
  (tn 5 (tl 2 (o_putf [18] 10 vI 5))
  (tn 6 (tl 5 (aP (f_aload 0 6)))
  (tl 6 (aP (f_const (.int (-1)) 7))))))
  (tn 12 (tn 10 (tl 7 (o_putf [18] 7 vI 10))
  (tn 11 (tl 10 (aP (f_aload 0 11)))
  (tl 11 (aP (f_aload 0 12)))))
  (tn 15 (tl 12 (aP (f_getf [18] 6 15)))
  (tn 18 (tl 15 (o_putf [18] 8 vI 18))
  (tl 18 (aP (f_aload 0 19)))))))
  (tn 29 (tn 24 (tn 20 (tl 19 (aP (f_const (.int (-1)) 20)))
  (tn 23 (tl 20 (o_putf [18] 17 vI 23))
  (tl 23 (aP (f_aload 0 24)))))
  (tn 25 (tl 24 (aP (f_const (.int (nI 1)) 25)))
  (tn 28 (tl 25 (o_callV (lkN [(18, 155)]) 1 28))
  (tl 28 (aP (f_aload 0 29))))))
  (tn 34 (tn 32 (tl 29 (aP (f_getf [18] 6 32)))
  (tn 33 (tl 32 (aP (f_istore 1 33)))
  (tl 33 (aP (f_aload 0 34)))))
  (tn 35 (tl 34 (aP (f_const (.int (nI 0)) 35)))
  (tn 38 (tl 35 (o_putf [18] 6 vI 38))
  (tl 38 (aP (f_aload 0 39))))))))
  (tn 59 (tn 48 (tn 43 (tn 40 (tl 39 (aP (f_aload 0 40)))
  (tl 40 (aP (f_getf [18] 10 43))))
  (tn 44 (tl 43 (aP (f_const (.int (-1)) 44)))
  (tn 47 (tl 44 (aP (f_icmp (fun x y => decide (x = y)) 51 47)))
  (tl 47 (aP (f_const (.int (nI 1)) 48))))))
  (tn 55 (tn 51 (tl 48 (aP (f_goto 67)))
  (tn 52 (tl 51 (aP (f_aload 0 52)))
  (tl 52 (aP (f_getf [18] 1 55)))))
  (tn 56 (tl 55 (aP (f_const (.int (nI 2)) 56)))
  (tn 57 (tl 56 (aP (f_iald 0 57)))
  (tl 57 (aP (f_const (.int (nI 6)) 59)))))))
  (tn 71 (tn 66 (tn 62 (tl 59 (aP (f_icmp (fun x y => decide (¬ x = y)) 66 62)))
  (tn 63 (tl 62 (aP (f_const (.int (nI 2)) 63)))
  (tl 63 (aP (f_goto 67)))))
  (tn 67 (tl 66 (aP (f_const (.int (nI 0)) 67)))
  (tn 70 (tl 67 (o_putf [18] 0 vI 70))
  (tl 70 (aP (f_aload 0 71))))))
  (tn 78 (tn 74 (tl 71 (aP (f_getf [18] 0 74)))
  (tn 77 (tl 74 (aP (f_if (fun x => decide (x ≤ 0)) 79 77)))
  (tl 77 (aP (f_const (.int (nI 0)) 78)))))
  (tn 79 (tl 78 (o_iret (fun _ => true)))
  (tn 82 (tl 79 (aP (f_const (.int (nI 940)) 82)))
  (tl 82 (aP (f_const (.int (nI 401)) 85)))))))))
  (tn 116 (tn 100 (tn 92 (tn 89 (tn 86 (tl 85 (aP (f_aload 0 86)))
  (tl 86 (aP (f_getf [18] 1 89))))
  (tn 90 (tl 89 (aP (f_const (.int (nI 2)) 90)))
  (tn 91 (tl 90 (aP (f_iald 0 91)))
  (tl 91 (aP (f_bin (fun x y => x * y) 92))))))
  (tn 95 (tn 93 (tl 92 (aP (f_bin (fun x y => x + y) 93)))
  (tn 94 (tl 93 (aP (f_istore 2 94)))
  (tl 94 (aP (f_aload 0 95)))))
  (tn 98 (tl 95 (aP (f_getf [18] 1 98)))
  (tn 99 (tl 98 (aP (f_iload 2 99)))
  (tl 99 (aP (f_iload 1 100)))))))
  (tn 108 (tn 103 (tn 101 (tl 100 (o_iast 0 (fun y => y) 101))
  (tn 102 (tl 101 (aP (f_const (.int (nI 0)) 102)))
  (tl 102 (aP (f_istore 3 103)))))
  (tn 104 (tl 103 (aP (f_iload 3 104)))
  (tn 105 (tl 104 (aP (f_iload 1 105)))
  (tl 105 (aP (f_icmp (fun x y => decide (y ≤ x)) 130 108))))))
  (tn 113 (tn 109 (tl 108 (aP (f_aload 0 109)))
  (tn 112 (tl 109 (aP (f_getf [18] 1 112)))
  (tl 112 (aP (f_iload 2 113)))))
  (tn 114 (tl 113 (aP (f_const (.int (nI 1)) 114)))
  (tn 115 (tl 114 (aP (f_bin (fun x y => x + y) 115)))
  (tl 115 (aP (f_iload 3 116))))))))
  (tn 135 (tn 123 (tn 118 (tn 117 (tl 116 (aP (f_bin (fun x y => x + y) 117)))
  (tl 117 (aP (f_aload 0 118))))
  (tn 121 (tl 118 (aP (f_getf [18] 5 121)))
  (tn 122 (tl 121 (aP (f_iload 3 122)))
  (tl 122 (aP (f_iald 0 123))))))
  (tn 130 (tn 124 (tl 123 (o_iast 0 (fun y => y) 124))
  (tn 127 (tl 124 (aP (f_iinc 3 (nI 1) 127)))
  (tl 127 (aP (f_goto 103)))))
  (tn 131 (tl 130 (aP (f_aload 0 131)))
  (tn 134 (tl 131 (aP (f_getf [18] 1 134)))
  (tl 134 (aP (f_const (.int (nI 2)) 135)))))))
  (tn 141 (tn 138 (tn 136 (tl 135 (aP (f_dup2 136)))
  (tn 137 (tl 136 (aP (f_iald 0 137)))
  (tl 137 (aP (f_const (.int (nI 1)) 138)))))
  (tn 139 (tl 138 (aP (f_bin (fun x y => x + y) 139)))
  (tn 140 (tl 139 (o_iast 0 (fun y => y) 140))
  (tl 140 (aP (f_aload 0 141))))))
  (tn 146 (tn 144 (tl 141 (aP (f_getf [18] 1 144)))
  (tn 145 (tl 144 (aP (f_const (.int (nI 2)) 145)))
  (tl 145 (aP (f_iald 0 146)))))
  (tn 147 (tl 146 (aP (f_const (.int (nI 1)) 147)))
  (tn 148 (tl 147 (aP (f_bin (fun x y => x - y) 148)))
  (tl 148 (o_iret (fun _ => true)))))))))
theorem kok_X7_temper {γ : AG} (hm : γ.2.2.2.2.1 = mTab) (hk : γ.2.2.2.2.2 = kTab) : KOK γ m_X7_temper k_X7_temper :=
 kn_ok
 (kn_ok
 (kn_ok
 (kn_ok
 (kn_ok
 (kn_ok
 (kl_ok (ok_aP (ok_aload_n dX7_temper_0 rfl rfl)))
 (kl_ok (ok_aP (ok_iconst dX7_temper_1 rfl rfl))))
 (kn_ok
 (kl_ok (ok_hp (ok_putf fo_64 fs_rf fn_43 (Or.inl q1849) pd_0 vI_ok dX7_temper_2 rfl) le_putf))
 (kn_ok
 (kl_ok (ok_aP (ok_aload_n dX7_temper_5 rfl rfl)))
 (kl_ok (ok_aP (ok_iconst dX7_temper_6 rfl rfl))))))
 (kn_ok
 (kn_ok
 (kl_ok (ok_hp (ok_putf fo_65 fs_rf fn_44 (Or.inl q1846) pd_0 vI_ok dX7_temper_7 rfl) le_putf))
 (kn_ok
 (kl_ok (ok_aP (ok_aload_n dX7_temper_10 rfl rfl)))
 (kl_ok (ok_aP (ok_aload_n dX7_temper_11 rfl rfl)))))
 (kn_ok
 (kl_ok (ok_aP (ok_getf fo_74 fs_rf (Or.inl q1845) dX7_temper_12 rfl)))
 (kn_ok
 (kl_ok (ok_hp (ok_putf fo_66 fs_rf fn_45 (Or.inl q1847) pd_0 vI_ok dX7_temper_15 rfl) le_putf))
 (kl_ok (ok_aP (ok_aload_n dX7_temper_18 rfl rfl)))))))
 (kn_ok
 (kn_ok
 (kn_ok
 (kl_ok (ok_aP (ok_iconst dX7_temper_19 rfl rfl)))
 (kn_ok
 (kl_ok (ok_hp (ok_putf fo_69 fs_rf fn_46 (Or.inl q1856) pd_0 vI_ok dX7_temper_20 rfl) le_putf))
 (kl_ok (ok_aP (ok_aload_n dX7_temper_23 rfl rfl)))))
 (kn_ok
 (kl_ok (ok_aP (ok_iconst dX7_temper_24 rfl rfl)))
 (kn_ok
 (kl_ok (ok_callV (List.forall_mem_cons.mpr ⟨run_V (C0 := "FavourTownModel") rfl rfl (by rw [hm]; rfl) q1946 q1948 qs32 q92 q1949 ⟨nh_1, dl_18⟩ (by decide) dX7_temper_25, (fun _ h => absurd h List.not_mem_nil)⟩) rfl))
 (kl_ok (ok_aP (ok_aload_n dX7_temper_28 rfl rfl))))))
 (kn_ok
 (kn_ok
 (kl_ok (ok_aP (ok_getf fo_74 fs_rf (Or.inl q1845) dX7_temper_29 rfl)))
 (kn_ok
 (kl_ok (ok_aP (ok_istore_n dX7_temper_32 rfl rfl)))
 (kl_ok (ok_aP (ok_aload_n dX7_temper_33 rfl rfl)))))
 (kn_ok
 (kl_ok (ok_aP (ok_iconst dX7_temper_34 rfl rfl)))
 (kn_ok
 (kl_ok (ok_hp (ok_putf fo_74 fs_rf fn_50 (Or.inl q1845) pd_0 vI_ok dX7_temper_35 rfl) le_putf))
 (kl_ok (ok_aP (ok_aload_n dX7_temper_38 rfl rfl))))))))
 (kn_ok
 (kn_ok
 (kn_ok
 (kn_ok
 (kl_ok (ok_aP (ok_aload_n dX7_temper_39 rfl rfl)))
 (kl_ok (ok_aP (ok_getf fo_64 fs_rf (Or.inl q1849) dX7_temper_40 rfl))))
 (kn_ok
 (kl_ok (ok_aP (ok_iconst dX7_temper_43 rfl rfl)))
 (kn_ok
 (kl_ok (ok_aP (ok_icmp_eq dX7_temper_44 rfl rfl)))
 (kl_ok (ok_aP (ok_iconst dX7_temper_47 rfl rfl))))))
 (kn_ok
 (kn_ok
 (kl_ok (ok_aP (ok_goto dX7_temper_48 rfl)))
 (kn_ok
 (kl_ok (ok_aP (ok_aload_n dX7_temper_51 rfl rfl)))
 (kl_ok (ok_aP (ok_getf fo_54 fs_rf (Or.inl q1840) dX7_temper_52 rfl)))))
 (kn_ok
 (kl_ok (ok_aP (ok_iconst dX7_temper_55 rfl rfl)))
 (kn_ok
 (kl_ok (ok_aP (ok_iald dX7_temper_56 rfl)))
 (kl_ok (ok_aP (ok_bipush dX7_temper_57 (by decide +kernel) rfl)))))))
 (kn_ok
 (kn_ok
 (kn_ok
 (kl_ok (ok_aP (ok_icmp_ne dX7_temper_59 rfl rfl)))
 (kn_ok
 (kl_ok (ok_aP (ok_iconst dX7_temper_62 rfl rfl)))
 (kl_ok (ok_aP (ok_goto dX7_temper_63 rfl)))))
 (kn_ok
 (kl_ok (ok_aP (ok_iconst dX7_temper_66 rfl rfl)))
 (kn_ok
 (kl_ok (ok_hp (ok_putf fo_53 fs_rf fn_36 (Or.inl q1839) pd_0 vI_ok dX7_temper_67 rfl) le_putf))
 (kl_ok (ok_aP (ok_aload_n dX7_temper_70 rfl rfl))))))
 (kn_ok
 (kn_ok
 (kl_ok (ok_aP (ok_getf fo_53 fs_rf (Or.inl q1839) dX7_temper_71 rfl)))
 (kn_ok
 (kl_ok (ok_aP (ok_if_le dX7_temper_74 rfl rfl)))
 (kl_ok (ok_aP (ok_iconst dX7_temper_77 rfl rfl)))))
 (kn_ok
 (kl_ok (ok_iret rfl dX7_temper_78))
 (kn_ok
 (kl_ok (ok_aP (ok_sipush dX7_temper_79 (by decide +kernel) rfl)))
 (kl_ok (ok_aP (ok_sipush dX7_temper_82 (by decide +kernel) rfl)))))))))
 (kn_ok
 (kn_ok
 (kn_ok
 (kn_ok
 (kn_ok
 (kl_ok (ok_aP (ok_aload_n dX7_temper_85 rfl rfl)))
 (kl_ok (ok_aP (ok_getf fo_54 fs_rf (Or.inl q1840) dX7_temper_86 rfl))))
 (kn_ok
 (kl_ok (ok_aP (ok_iconst dX7_temper_89 rfl rfl)))
 (kn_ok
 (kl_ok (ok_aP (ok_iald dX7_temper_90 rfl)))
 (kl_ok (ok_aP (ok_imul dX7_temper_91 rfl))))))
 (kn_ok
 (kn_ok
 (kl_ok (ok_aP (ok_iadd dX7_temper_92 rfl)))
 (kn_ok
 (kl_ok (ok_aP (ok_istore_n dX7_temper_93 rfl rfl)))
 (kl_ok (ok_aP (ok_aload_n dX7_temper_94 rfl rfl)))))
 (kn_ok
 (kl_ok (ok_aP (ok_getf fo_54 fs_rf (Or.inl q1840) dX7_temper_95 rfl)))
 (kn_ok
 (kl_ok (ok_aP (ok_iload_n dX7_temper_98 rfl rfl)))
 (kl_ok (ok_aP (ok_iload_n dX7_temper_99 rfl rfl)))))))
 (kn_ok
 (kn_ok
 (kn_ok
 (kl_ok (ok_hp (ok_iast dX7_temper_100 rfl) le_iast))
 (kn_ok
 (kl_ok (ok_aP (ok_iconst dX7_temper_101 rfl rfl)))
 (kl_ok (ok_aP (ok_istore_n dX7_temper_102 rfl rfl)))))
 (kn_ok
 (kl_ok (ok_aP (ok_iload_n dX7_temper_103 rfl rfl)))
 (kn_ok
 (kl_ok (ok_aP (ok_iload_n dX7_temper_104 rfl rfl)))
 (kl_ok (ok_aP (ok_icmp_ge dX7_temper_105 rfl rfl))))))
 (kn_ok
 (kn_ok
 (kl_ok (ok_aP (ok_aload_n dX7_temper_108 rfl rfl)))
 (kn_ok
 (kl_ok (ok_aP (ok_getf fo_54 fs_rf (Or.inl q1840) dX7_temper_109 rfl)))
 (kl_ok (ok_aP (ok_iload_n dX7_temper_112 rfl rfl)))))
 (kn_ok
 (kl_ok (ok_aP (ok_iconst dX7_temper_113 rfl rfl)))
 (kn_ok
 (kl_ok (ok_aP (ok_iadd dX7_temper_114 rfl)))
 (kl_ok (ok_aP (ok_iload_n dX7_temper_115 rfl rfl))))))))
 (kn_ok
 (kn_ok
 (kn_ok
 (kn_ok
 (kl_ok (ok_aP (ok_iadd dX7_temper_116 rfl)))
 (kl_ok (ok_aP (ok_aload_n dX7_temper_117 rfl rfl))))
 (kn_ok
 (kl_ok (ok_aP (ok_getf fo_71 fs_rf (Or.inl q1844) dX7_temper_118 rfl)))
 (kn_ok
 (kl_ok (ok_aP (ok_iload_n dX7_temper_121 rfl rfl)))
 (kl_ok (ok_aP (ok_iald dX7_temper_122 rfl))))))
 (kn_ok
 (kn_ok
 (kl_ok (ok_hp (ok_iast dX7_temper_123 rfl) le_iast))
 (kn_ok
 (kl_ok (ok_aP (ok_iinc dX7_temper_124 (by decide +kernel) rfl)))
 (kl_ok (ok_aP (ok_goto dX7_temper_127 rfl)))))
 (kn_ok
 (kl_ok (ok_aP (ok_aload_n dX7_temper_130 rfl rfl)))
 (kn_ok
 (kl_ok (ok_aP (ok_getf fo_54 fs_rf (Or.inl q1840) dX7_temper_131 rfl)))
 (kl_ok (ok_aP (ok_iconst dX7_temper_134 rfl rfl)))))))
 (kn_ok
 (kn_ok
 (kn_ok
 (kl_ok (ok_aP (ok_dup2 dX7_temper_135 rfl)))
 (kn_ok
 (kl_ok (ok_aP (ok_iald dX7_temper_136 rfl)))
 (kl_ok (ok_aP (ok_iconst dX7_temper_137 rfl rfl)))))
 (kn_ok
 (kl_ok (ok_aP (ok_iadd dX7_temper_138 rfl)))
 (kn_ok
 (kl_ok (ok_hp (ok_iast dX7_temper_139 rfl) le_iast))
 (kl_ok (ok_aP (ok_aload_n dX7_temper_140 rfl rfl))))))
 (kn_ok
 (kn_ok
 (kl_ok (ok_aP (ok_getf fo_54 fs_rf (Or.inl q1840) dX7_temper_141 rfl)))
 (kn_ok
 (kl_ok (ok_aP (ok_iconst dX7_temper_144 rfl rfl)))
 (kl_ok (ok_aP (ok_iald dX7_temper_145 rfl)))))
 (kn_ok
 (kl_ok (ok_aP (ok_iconst dX7_temper_146 rfl rfl)))
 (kn_ok
 (kl_ok (ok_aP (ok_isub dX7_temper_147 rfl)))
 (kl_ok (ok_iret rfl dX7_temper_148))))))))
/-- 186: FavourTownModel.fault()I -/
noncomputable def k_X7_fault : Nat → Option AOp :=
 tn 5 (tn 1 (tl 0 (aP (f_aload 0 1)))
  (tn 2 (tl 1 (aP (f_const (.int (nI 0)) 2)))
  (tl 2 (o_putf [18] 0 vI 5))))
  (tn 6 (tl 5 (aP (f_aload 0 6)))
  (tn 9 (tl 6 (aP (f_getf [18] 10 9)))
  (tl 9 (o_iret (fun _ => true)))))
theorem kok_X7_fault {γ : AG} (hm : γ.2.2.2.2.1 = mTab) (hk : γ.2.2.2.2.2 = kTab) : KOK γ m_X7_fault k_X7_fault :=
 kn_ok
 (kn_ok
 (kl_ok (ok_aP (ok_aload_n dX7_fault_0 rfl rfl)))
 (kn_ok
 (kl_ok (ok_aP (ok_iconst dX7_fault_1 rfl rfl)))
 (kl_ok (ok_hp (ok_putf fo_53 fs_rf fn_36 (Or.inl q1839) pd_0 vI_ok dX7_fault_2 rfl) le_putf))))
 (kn_ok
 (kl_ok (ok_aP (ok_aload_n dX7_fault_5 rfl rfl)))
 (kn_ok
 (kl_ok (ok_aP (ok_getf fo_64 fs_rf (Or.inl q1849) dX7_fault_6 rfl)))
 (kl_ok (ok_iret rfl dX7_fault_9))))
/-- 187: FavourTownModel.has(II)I -/
noncomputable def k_X7_has : Nat → Option AOp :=
 tn 42 (tn 18 (tn 10 (tn 3 (tn 1 (tl 0 (aP (f_aload 0 1)))
  (tn 2 (tl 1 (aP (f_aload 0 2)))
  (tl 2 (aP (f_iload 1 3)))))
  (tn 6 (tl 3 (o_callV (lkN [(18, 188)]) 1 6))
  (tn 9 (tl 6 (aP (f_if (fun x => decide (x = 0)) 25 9)))
  (tl 9 (aP (f_iload 2 10))))))
  (tn 15 (tn 11 (tl 10 (aP (f_const (.int (-1)) 11)))
  (tn 12 (tl 11 (aP (f_aload 0 12)))
  (tl 12 (aP (f_getf [18] 1 15)))))
  (tn 16 (tl 15 (aP (f_const (.int (nI 2)) 16)))
  (tn 17 (tl 16 (aP (f_iald 0 17)))
  (tl 17 (aP (f_const (.int (nI 1)) 18)))))))
  (tn 30 (tn 25 (tn 19 (tl 18 (aP (f_bin (fun x y => x - y) 19)))
  (tn 22 (tl 19 (o_callS 153 3 22))
  (tl 22 (aP (f_if (fun x => decide (¬ x = 0)) 29 25)))))
  (tn 26 (tl 25 (aP (f_const (.int (nI 1)) 26)))
  (tn 29 (tl 26 (aP (f_goto 30)))
  (tl 29 (aP (f_const (.int (nI 0)) 30))))))
  (tn 37 (tn 33 (tl 30 (o_putf [18] 0 vI 33))
  (tn 34 (tl 33 (aP (f_aload 0 34)))
  (tl 34 (aP (f_getf [18] 0 37)))))
  (tn 40 (tl 37 (aP (f_if (fun x => decide (x ≤ 0)) 42 40)))
  (tn 41 (tl 40 (aP (f_const (.int (nI 0)) 41)))
  (tl 41 (o_iret (fun _ => true))))))))
  (tn 57 (tn 51 (tn 48 (tn 43 (tl 42 (aP (f_aload 0 43)))
  (tn 46 (tl 43 (aP (f_getf [18] 1 46)))
  (tl 46 (aP (f_const (.int (nI 10)) 48)))))
  (tn 49 (tl 48 (aP (f_const (.int (nI 3)) 49)))
  (tn 50 (tl 49 (aP (f_iload 1 50)))
  (tl 50 (aP (f_bin (fun x y => x * y) 51))))))
  (tn 54 (tn 52 (tl 51 (aP (f_bin (fun x y => x + y) 52)))
  (tn 53 (tl 52 (aP (f_const (.int (nI 1)) 53)))
  (tl 53 (aP (f_bin (fun x y => x + y) 54)))))
  (tn 55 (tl 54 (aP (f_iald 0 55)))
  (tn 56 (tl 55 (aP (f_istore 3 56)))
  (tl 56 (aP (f_aload 0 57)))))))
  (tn 66 (tn 63 (tn 60 (tl 57 (aP (f_getf [18] 1 60)))
  (tn 62 (tl 60 (aP (f_const (.int (nI 10)) 62)))
  (tl 62 (aP (f_const (.int (nI 3)) 63)))))
  (tn 64 (tl 63 (aP (f_iload 1 64)))
  (tn 65 (tl 64 (aP (f_bin (fun x y => x * y) 65)))
  (tl 65 (aP (f_bin (fun x y => x + y) 66))))))
  (tn 69 (tn 67 (tl 66 (aP (f_const (.int (nI 1)) 67)))
  (tn 68 (tl 67 (aP (f_bin (fun x y => x + y) 68)))
  (tl 68 (aP (f_iload 2 69)))))
  (tn 70 (tl 69 (o_iast 0 (fun y => y) 70))
  (tn 71 (tl 70 (aP (f_iload 3 71)))
  (tl 71 (o_iret (fun _ => true))))))))
theorem kok_X7_has {γ : AG} (hm : γ.2.2.2.2.1 = mTab) (hk : γ.2.2.2.2.2 = kTab) : KOK γ m_X7_has k_X7_has :=
 kn_ok
 (kn_ok
 (kn_ok
 (kn_ok
 (kn_ok
 (kl_ok (ok_aP (ok_aload_n dX7_has_0 rfl rfl)))
 (kn_ok
 (kl_ok (ok_aP (ok_aload_n dX7_has_1 rfl rfl)))
 (kl_ok (ok_aP (ok_iload_n dX7_has_2 rfl rfl)))))
 (kn_ok
 (kl_ok (ok_callV (List.forall_mem_cons.mpr ⟨run_V (C0 := "FavourTownModel") rfl rfl (by rw [hm]; rfl) q2115 q2117 qs61 q92 q2118 ⟨nh_1, dl_2⟩ (by decide) dX7_has_3, (fun _ h => absurd h List.not_mem_nil)⟩) rfl))
 (kn_ok
 (kl_ok (ok_aP (ok_if_eq dX7_has_6 rfl rfl)))
 (kl_ok (ok_aP (ok_iload_n dX7_has_9 rfl rfl))))))
 (kn_ok
 (kn_ok
 (kl_ok (ok_aP (ok_iconst dX7_has_10 rfl rfl)))
 (kn_ok
 (kl_ok (ok_aP (ok_aload_n dX7_has_11 rfl rfl)))
 (kl_ok (ok_aP (ok_getf fo_54 fs_rf (Or.inl q1840) dX7_has_12 rfl)))))
 (kn_ok
 (kl_ok (ok_aP (ok_iconst dX7_has_15 rfl rfl)))
 (kn_ok
 (kl_ok (ok_aP (ok_iald dX7_has_16 rfl)))
 (kl_ok (ok_aP (ok_iconst dX7_has_17 rfl rfl)))))))
 (kn_ok
 (kn_ok
 (kn_ok
 (kl_ok (ok_aP (ok_isub dX7_has_18 rfl)))
 (kn_ok
 (kl_ok (ok_callS (run_S (by rw [hm]; rfl) q1939 q1940 q92 q1941 ⟨nh_1, dl_17⟩ (by decide) dX7_has_19) rfl))
 (kl_ok (ok_aP (ok_if_ne dX7_has_22 rfl rfl)))))
 (kn_ok
 (kl_ok (ok_aP (ok_iconst dX7_has_25 rfl rfl)))
 (kn_ok
 (kl_ok (ok_aP (ok_goto dX7_has_26 rfl)))
 (kl_ok (ok_aP (ok_iconst dX7_has_29 rfl rfl))))))
 (kn_ok
 (kn_ok
 (kl_ok (ok_hp (ok_putf fo_53 fs_rf fn_36 (Or.inl q1839) pd_0 vI_ok dX7_has_30 rfl) le_putf))
 (kn_ok
 (kl_ok (ok_aP (ok_aload_n dX7_has_33 rfl rfl)))
 (kl_ok (ok_aP (ok_getf fo_53 fs_rf (Or.inl q1839) dX7_has_34 rfl)))))
 (kn_ok
 (kl_ok (ok_aP (ok_if_le dX7_has_37 rfl rfl)))
 (kn_ok
 (kl_ok (ok_aP (ok_iconst dX7_has_40 rfl rfl)))
 (kl_ok (ok_iret rfl dX7_has_41)))))))
 (kn_ok
 (kn_ok
 (kn_ok
 (kn_ok
 (kl_ok (ok_aP (ok_aload_n dX7_has_42 rfl rfl)))
 (kn_ok
 (kl_ok (ok_aP (ok_getf fo_54 fs_rf (Or.inl q1840) dX7_has_43 rfl)))
 (kl_ok (ok_aP (ok_bipush dX7_has_46 (by decide +kernel) rfl)))))
 (kn_ok
 (kl_ok (ok_aP (ok_iconst dX7_has_48 rfl rfl)))
 (kn_ok
 (kl_ok (ok_aP (ok_iload_n dX7_has_49 rfl rfl)))
 (kl_ok (ok_aP (ok_imul dX7_has_50 rfl))))))
 (kn_ok
 (kn_ok
 (kl_ok (ok_aP (ok_iadd dX7_has_51 rfl)))
 (kn_ok
 (kl_ok (ok_aP (ok_iconst dX7_has_52 rfl rfl)))
 (kl_ok (ok_aP (ok_iadd dX7_has_53 rfl)))))
 (kn_ok
 (kl_ok (ok_aP (ok_iald dX7_has_54 rfl)))
 (kn_ok
 (kl_ok (ok_aP (ok_istore_n dX7_has_55 rfl rfl)))
 (kl_ok (ok_aP (ok_aload_n dX7_has_56 rfl rfl)))))))
 (kn_ok
 (kn_ok
 (kn_ok
 (kl_ok (ok_aP (ok_getf fo_54 fs_rf (Or.inl q1840) dX7_has_57 rfl)))
 (kn_ok
 (kl_ok (ok_aP (ok_bipush dX7_has_60 (by decide +kernel) rfl)))
 (kl_ok (ok_aP (ok_iconst dX7_has_62 rfl rfl)))))
 (kn_ok
 (kl_ok (ok_aP (ok_iload_n dX7_has_63 rfl rfl)))
 (kn_ok
 (kl_ok (ok_aP (ok_imul dX7_has_64 rfl)))
 (kl_ok (ok_aP (ok_iadd dX7_has_65 rfl))))))
 (kn_ok
 (kn_ok
 (kl_ok (ok_aP (ok_iconst dX7_has_66 rfl rfl)))
 (kn_ok
 (kl_ok (ok_aP (ok_iadd dX7_has_67 rfl)))
 (kl_ok (ok_aP (ok_iload_n dX7_has_68 rfl rfl)))))
 (kn_ok
 (kl_ok (ok_hp (ok_iast dX7_has_69 rfl) le_iast))
 (kn_ok
 (kl_ok (ok_aP (ok_iload_n dX7_has_70 rfl rfl)))
 (kl_ok (ok_iret rfl dX7_has_71)))))))
/-- 188: FavourTownModel.isPerson(I)Z -/
noncomputable def k_X7_isPerson : Nat → Option AOp :=
 tn 7 (tn 2 (tn 1 (tl 0 (aP (f_iload 1 1)))
  (tl 1 (aP (f_const (.int (nI 0)) 2))))
  (tn 3 (tl 2 (aP (f_aload 0 3)))
  (tn 6 (tl 3 (aP (f_getf [18] 1 6)))
  (tl 6 (aP (f_const (.int (nI 1)) 7))))))
  (tn 9 (tn 8 (tl 7 (aP (f_iald 0 8)))
  (tl 8 (aP (f_const (.int (nI 1)) 9))))
  (tn 10 (tl 9 (aP (f_bin (fun x y => x - y) 10)))
  (tn 13 (tl 10 (o_callS 153 3 13))
  (tl 13 (o_iret (fun x => x == 0 || x == 1))))))
theorem kok_X7_isPerson {γ : AG} (hm : γ.2.2.2.2.1 = mTab) (hk : γ.2.2.2.2.2 = kTab) : KOK γ m_X7_isPerson k_X7_isPerson :=
 kn_ok
 (kn_ok
 (kn_ok
 (kl_ok (ok_aP (ok_iload_n dX7_isPerson_0 rfl rfl)))
 (kl_ok (ok_aP (ok_iconst dX7_isPerson_1 rfl rfl))))
 (kn_ok
 (kl_ok (ok_aP (ok_aload_n dX7_isPerson_2 rfl rfl)))
 (kn_ok
 (kl_ok (ok_aP (ok_getf fo_54 fs_rf (Or.inl q1840) dX7_isPerson_3 rfl)))
 (kl_ok (ok_aP (ok_iconst dX7_isPerson_6 rfl rfl))))))
 (kn_ok
 (kn_ok
 (kl_ok (ok_aP (ok_iald dX7_isPerson_7 rfl)))
 (kl_ok (ok_aP (ok_iconst dX7_isPerson_8 rfl rfl))))
 (kn_ok
 (kl_ok (ok_aP (ok_isub dX7_isPerson_9 rfl)))
 (kn_ok
 (kl_ok (ok_callS (run_S (by rw [hm]; rfl) q1939 q1940 q92 q1941 ⟨nh_1, dl_17⟩ (by decide) dX7_isPerson_10) rfl))
 (kl_ok (ok_zret rfl z_boolean dX7_isPerson_13)))))
/-- 189: FavourTownModel.give(IIIIZ)I -/
noncomputable def k_X7_give : Nat → Option AOp :=
 tn 38 (tn 18 (tn 9 (tn 2 (tn 1 (tl 0 (aP (f_aload 0 1)))
  (tl 1 (aP (f_aload 0 2))))
  (tn 3 (tl 2 (aP (f_iload 1 3)))
  (tn 6 (tl 3 (o_callV (lkN [(18, 188)]) 1 6))
  (tl 6 (aP (f_if (fun x => decide (x = 0)) 17 9))))))
  (tn 11 (tn 10 (tl 9 (aP (f_aload 0 10)))
  (tl 10 (aP (f_iload 2 11))))
  (tn 14 (tl 11 (o_callV (lkN [(18, 188)]) 1 14))
  (tn 17 (tl 14 (aP (f_if (fun x => decide (¬ x = 0)) 21 17)))
  (tl 17 (aP (f_const (.int (nI 1)) 18)))))))
  (tn 27 (tn 22 (tn 21 (tl 18 (aP (f_goto 52)))
  (tl 21 (aP (f_iload 1 22))))
  (tn 23 (tl 22 (aP (f_iload 2 23)))
  (tn 26 (tl 23 (aP (f_icmp (fun x y => decide (x = y)) 47 26)))
  (tl 26 (aP (f_iload 3 27))))))
  (tn 30 (tn 28 (tl 27 (aP (f_const (.int (nI 1)) 28)))
  (tl 28 (aP (f_const (.int (nI 99)) 30))))
  (tn 33 (tl 30 (o_callS 153 3 33))
  (tn 36 (tl 33 (aP (f_if (fun x => decide (x = 0)) 47 36)))
  (tl 36 (aP (f_iload 4 38))))))))
  (tn 59 (tn 48 (tn 41 (tn 39 (tl 38 (aP (f_const (.int (nI 0)) 39)))
  (tl 39 (aP (f_const (.int (nI 99)) 41))))
  (tn 44 (tl 41 (o_callS 153 3 44))
  (tn 47 (tl 44 (aP (f_if (fun x => decide (¬ x = 0)) 51 47)))
  (tl 47 (aP (f_const (.int (nI 2)) 48))))))
  (tn 52 (tn 51 (tl 48 (aP (f_goto 52)))
  (tl 51 (aP (f_const (.int (nI 0)) 52))))
  (tn 55 (tl 52 (o_putf [18] 0 vI 55))
  (tn 56 (tl 55 (aP (f_aload 0 56)))
  (tl 56 (aP (f_getf [18] 0 59)))))))
  (tn 66 (tn 63 (tn 62 (tl 59 (aP (f_if (fun x => decide (x ≤ 0)) 64 62)))
  (tl 62 (aP (f_const (.int (nI 0)) 63))))
  (tn 64 (tl 63 (o_iret (fun _ => true)))
  (tn 65 (tl 64 (aP (f_aload 0 65)))
  (tl 65 (aP (f_iload 1 66))))))
  (tn 70 (tn 67 (tl 66 (aP (f_iload 2 67)))
  (tn 68 (tl 67 (aP (f_iload 3 68)))
  (tl 68 (aP (f_iload 4 70)))))
  (tn 72 (tl 70 (aP (f_iload 5 72)))
  (tn 75 (tl 72 (o_callV (lkN [(18, 172)]) 5 75))
  (tl 75 (o_iret (fun _ => true))))))))
theorem kok_X7_give {γ : AG} (hm : γ.2.2.2.2.1 = mTab) (hk : γ.2.2.2.2.2 = kTab) : KOK γ m_X7_give k_X7_give :=
 kn_ok
 (kn_ok
 (kn_ok
 (kn_ok
 (kn_ok
 (kl_ok (ok_aP (ok_aload_n dX7_give_0 rfl rfl)))
 (kl_ok (ok_aP (ok_aload_n dX7_give_1 rfl rfl))))
 (kn_ok
 (kl_ok (ok_aP (ok_iload_n dX7_give_2 rfl rfl)))
 (kn_ok
 (kl_ok (ok_callV (List.forall_mem_cons.mpr ⟨run_V (C0 := "FavourTownModel") rfl rfl (by rw [hm]; rfl) q2115 q2117 qs61 q92 q2118 ⟨nh_1, dl_2⟩ (by decide) dX7_give_3, (fun _ h => absurd h List.not_mem_nil)⟩) rfl))
 (kl_ok (ok_aP (ok_if_eq dX7_give_6 rfl rfl))))))
 (kn_ok
 (kn_ok
 (kl_ok (ok_aP (ok_aload_n dX7_give_9 rfl rfl)))
 (kl_ok (ok_aP (ok_iload_n dX7_give_10 rfl rfl))))
 (kn_ok
 (kl_ok (ok_callV (List.forall_mem_cons.mpr ⟨run_V (C0 := "FavourTownModel") rfl rfl (by rw [hm]; rfl) q2115 q2117 qs61 q92 q2118 ⟨nh_1, dl_2⟩ (by decide) dX7_give_11, (fun _ h => absurd h List.not_mem_nil)⟩) rfl))
 (kn_ok
 (kl_ok (ok_aP (ok_if_ne dX7_give_14 rfl rfl)))
 (kl_ok (ok_aP (ok_iconst dX7_give_17 rfl rfl)))))))
 (kn_ok
 (kn_ok
 (kn_ok
 (kl_ok (ok_aP (ok_goto dX7_give_18 rfl)))
 (kl_ok (ok_aP (ok_iload_n dX7_give_21 rfl rfl))))
 (kn_ok
 (kl_ok (ok_aP (ok_iload_n dX7_give_22 rfl rfl)))
 (kn_ok
 (kl_ok (ok_aP (ok_icmp_eq dX7_give_23 rfl rfl)))
 (kl_ok (ok_aP (ok_iload_n dX7_give_26 rfl rfl))))))
 (kn_ok
 (kn_ok
 (kl_ok (ok_aP (ok_iconst dX7_give_27 rfl rfl)))
 (kl_ok (ok_aP (ok_bipush dX7_give_28 (by decide +kernel) rfl))))
 (kn_ok
 (kl_ok (ok_callS (run_S (by rw [hm]; rfl) q1939 q1940 q92 q1941 ⟨nh_1, dl_17⟩ (by decide) dX7_give_30) rfl))
 (kn_ok
 (kl_ok (ok_aP (ok_if_eq dX7_give_33 rfl rfl)))
 (kl_ok (ok_aP (ok_iload dX7_give_36 rfl))))))))
 (kn_ok
 (kn_ok
 (kn_ok
 (kn_ok
 (kl_ok (ok_aP (ok_iconst dX7_give_38 rfl rfl)))
 (kl_ok (ok_aP (ok_bipush dX7_give_39 (by decide +kernel) rfl))))
 (kn_ok
 (kl_ok (ok_callS (run_S (by rw [hm]; rfl) q1939 q1940 q92 q1941 ⟨nh_1, dl_17⟩ (by decide) dX7_give_41) rfl))
 (kn_ok
 (kl_ok (ok_aP (ok_if_ne dX7_give_44 rfl rfl)))
 (kl_ok (ok_aP (ok_iconst dX7_give_47 rfl rfl))))))
 (kn_ok
 (kn_ok
 (kl_ok (ok_aP (ok_goto dX7_give_48 rfl)))
 (kl_ok (ok_aP (ok_iconst dX7_give_51 rfl rfl))))
 (kn_ok
 (kl_ok (ok_hp (ok_putf fo_53 fs_rf fn_36 (Or.inl q1839) pd_0 vI_ok dX7_give_52 rfl) le_putf))
 (kn_ok
 (kl_ok (ok_aP (ok_aload_n dX7_give_55 rfl rfl)))
 (kl_ok (ok_aP (ok_getf fo_53 fs_rf (Or.inl q1839) dX7_give_56 rfl)))))))
 (kn_ok
 (kn_ok
 (kn_ok
 (kl_ok (ok_aP (ok_if_le dX7_give_59 rfl rfl)))
 (kl_ok (ok_aP (ok_iconst dX7_give_62 rfl rfl))))
 (kn_ok
 (kl_ok (ok_iret rfl dX7_give_63))
 (kn_ok
 (kl_ok (ok_aP (ok_aload_n dX7_give_64 rfl rfl)))
 (kl_ok (ok_aP (ok_iload_n dX7_give_65 rfl rfl))))))
 (kn_ok
 (kn_ok
 (kl_ok (ok_aP (ok_iload_n dX7_give_66 rfl rfl)))
 (kn_ok
 (kl_ok (ok_aP (ok_iload_n dX7_give_67 rfl rfl)))
 (kl_ok (ok_aP (ok_iload dX7_give_68 rfl)))))
 (kn_ok
 (kl_ok (ok_aP (ok_iload dX7_give_70 rfl)))
 (kn_ok
 (kl_ok (ok_callV (List.forall_mem_cons.mpr ⟨run_V (C0 := "FavourTownModel") rfl rfl (by rw [hm]; rfl) q2047 q2049 qs49 q92 q2050 ⟨nh_1, dl_8⟩ (by decide) dX7_give_72, (fun _ h => absurd h List.not_mem_nil)⟩) rfl))
 (kl_ok (ok_iret rfl dX7_give_75)))))))
/-- 190: FavourTownModel.pass(II)I -/
noncomputable def k_X7_pass : Nat → Option AOp :=
 tn 27 (tn 11 (tn 3 (tn 1 (tl 0 (aP (f_aload 0 1)))
  (tn 2 (tl 1 (aP (f_aload 0 2)))
  (tl 2 (aP (f_iload 1 3)))))
  (tn 9 (tn 6 (tl 3 (o_callV (lkN [(18, 191)]) 1 6))
  (tl 6 (aP (f_if (fun x => decide (x = 0)) 17 9))))
  (tn 10 (tl 9 (aP (f_aload 0 10)))
  (tl 10 (aP (f_iload 2 11))))))
  (tn 21 (tn 17 (tn 14 (tl 11 (o_callV (lkN [(18, 188)]) 1 14))
  (tl 14 (aP (f_if (fun x => decide (¬ x = 0)) 21 17))))
  (tn 18 (tl 17 (aP (f_const (.int (nI 1)) 18)))
  (tl 18 (aP (f_goto 36)))))
  (tn 23 (tn 22 (tl 21 (aP (f_aload 0 22)))
  (tl 22 (aP (f_iload 1 23))))
  (tn 24 (tl 23 (aP (f_const (.int (nI 2)) 24)))
  (tl 24 (o_callV (lkN [(18, 175)]) 2 27))))))
  (tn 43 (tn 35 (tn 31 (tn 28 (tl 27 (aP (f_iload 2 28)))
  (tl 28 (aP (f_icmp (fun x y => decide (¬ x = y)) 35 31))))
  (tn 32 (tl 31 (aP (f_const (.int (nI 2)) 32)))
  (tl 32 (aP (f_goto 36)))))
  (tn 39 (tn 36 (tl 35 (aP (f_const (.int (nI 0)) 36)))
  (tl 36 (o_putf [18] 0 vI 39)))
  (tn 40 (tl 39 (aP (f_aload 0 40)))
  (tl 40 (aP (f_getf [18] 0 43))))))
  (tn 49 (tn 47 (tn 46 (tl 43 (aP (f_if (fun x => decide (x ≤ 0)) 48 46)))
  (tl 46 (aP (f_const (.int (nI 0)) 47))))
  (tn 48 (tl 47 (o_iret (fun _ => true)))
  (tl 48 (aP (f_aload 0 49)))))
  (tn 51 (tn 50 (tl 49 (aP (f_iload 1 50)))
  (tl 50 (aP (f_iload 2 51))))
  (tn 54 (tl 51 (o_callV (lkN [(18, 181)]) 2 54))
  (tl 54 (o_iret (fun _ => true)))))))
theorem kok_X7_pass {γ : AG} (hm : γ.2.2.2.2.1 = mTab) (hk : γ.2.2.2.2.2 = kTab) : KOK γ m_X7_pass k_X7_pass :=
 kn_ok
 (kn_ok
 (kn_ok
 (kn_ok
 (kl_ok (ok_aP (ok_aload_n dX7_pass_0 rfl rfl)))
 (kn_ok
 (kl_ok (ok_aP (ok_aload_n dX7_pass_1 rfl rfl)))
 (kl_ok (ok_aP (ok_iload_n dX7_pass_2 rfl rfl)))))
 (kn_ok
 (kn_ok
 (kl_ok (ok_callV (List.forall_mem_cons.mpr ⟨run_V (C0 := "FavourTownModel") rfl rfl (by rw [hm]; rfl) q2127 q2129 qs62 q92 q2130 ⟨nh_1, dl_2⟩ (by decide) dX7_pass_3, (fun _ h => absurd h List.not_mem_nil)⟩) rfl))
 (kl_ok (ok_aP (ok_if_eq dX7_pass_6 rfl rfl))))
 (kn_ok
 (kl_ok (ok_aP (ok_aload_n dX7_pass_9 rfl rfl)))
 (kl_ok (ok_aP (ok_iload_n dX7_pass_10 rfl rfl))))))
 (kn_ok
 (kn_ok
 (kn_ok
 (kl_ok (ok_callV (List.forall_mem_cons.mpr ⟨run_V (C0 := "FavourTownModel") rfl rfl (by rw [hm]; rfl) q2115 q2117 qs61 q92 q2118 ⟨nh_1, dl_2⟩ (by decide) dX7_pass_11, (fun _ h => absurd h List.not_mem_nil)⟩) rfl))
 (kl_ok (ok_aP (ok_if_ne dX7_pass_14 rfl rfl))))
 (kn_ok
 (kl_ok (ok_aP (ok_iconst dX7_pass_17 rfl rfl)))
 (kl_ok (ok_aP (ok_goto dX7_pass_18 rfl)))))
 (kn_ok
 (kn_ok
 (kl_ok (ok_aP (ok_aload_n dX7_pass_21 rfl rfl)))
 (kl_ok (ok_aP (ok_iload_n dX7_pass_22 rfl rfl))))
 (kn_ok
 (kl_ok (ok_aP (ok_iconst dX7_pass_23 rfl rfl)))
 (kl_ok (ok_callV (List.forall_mem_cons.mpr ⟨run_V (C0 := "FavourTownModel") rfl rfl (by rw [hm]; rfl) q2059 q2061 qs52 q92 q2062 ⟨nh_1, dl_6⟩ (by decide) dX7_pass_24, (fun _ h => absurd h List.not_mem_nil)⟩) rfl))))))
 (kn_ok
 (kn_ok
 (kn_ok
 (kn_ok
 (kl_ok (ok_aP (ok_iload_n dX7_pass_27 rfl rfl)))
 (kl_ok (ok_aP (ok_icmp_ne dX7_pass_28 rfl rfl))))
 (kn_ok
 (kl_ok (ok_aP (ok_iconst dX7_pass_31 rfl rfl)))
 (kl_ok (ok_aP (ok_goto dX7_pass_32 rfl)))))
 (kn_ok
 (kn_ok
 (kl_ok (ok_aP (ok_iconst dX7_pass_35 rfl rfl)))
 (kl_ok (ok_hp (ok_putf fo_53 fs_rf fn_36 (Or.inl q1839) pd_0 vI_ok dX7_pass_36 rfl) le_putf)))
 (kn_ok
 (kl_ok (ok_aP (ok_aload_n dX7_pass_39 rfl rfl)))
 (kl_ok (ok_aP (ok_getf fo_53 fs_rf (Or.inl q1839) dX7_pass_40 rfl))))))
 (kn_ok
 (kn_ok
 (kn_ok
 (kl_ok (ok_aP (ok_if_le dX7_pass_43 rfl rfl)))
 (kl_ok (ok_aP (ok_iconst dX7_pass_46 rfl rfl))))
 (kn_ok
 (kl_ok (ok_iret rfl dX7_pass_47))
 (kl_ok (ok_aP (ok_aload_n dX7_pass_48 rfl rfl)))))
 (kn_ok
 (kn_ok
 (kl_ok (ok_aP (ok_iload_n dX7_pass_49 rfl rfl)))
 (kl_ok (ok_aP (ok_iload_n dX7_pass_50 rfl rfl))))
 (kn_ok
 (kl_ok (ok_callV (List.forall_mem_cons.mpr ⟨run_V (C0 := "FavourTownModel") rfl rfl (by rw [hm]; rfl) q2083 q2085 qs57 q92 q2086 ⟨nh_1, dl_6⟩ (by decide) dX7_pass_51, (fun _ h => absurd h List.not_mem_nil)⟩) rfl))
 (kl_ok (ok_iret rfl dX7_pass_54))))))
/-- 191: FavourTownModel.isFavour(I)Z -/
noncomputable def k_X7_isFavour : Nat → Option AOp :=
 tn 7 (tn 2 (tn 1 (tl 0 (aP (f_iload 1 1)))
  (tl 1 (aP (f_const (.int (nI 0)) 2))))
  (tn 3 (tl 2 (aP (f_aload 0 3)))
  (tn 6 (tl 3 (aP (f_getf [18] 1 6)))
  (tl 6 (aP (f_const (.int (nI 3)) 7))))))
  (tn 9 (tn 8 (tl 7 (aP (f_iald 0 8)))
  (tl 8 (aP (f_const (.int (nI 1)) 9))))
  (tn 10 (tl 9 (aP (f_bin (fun x y => x - y) 10)))
  (tn 13 (tl 10 (o_callS 153 3 13))
  (tl 13 (o_iret (fun x => x == 0 || x == 1))))))
theorem kok_X7_isFavour {γ : AG} (hm : γ.2.2.2.2.1 = mTab) (hk : γ.2.2.2.2.2 = kTab) : KOK γ m_X7_isFavour k_X7_isFavour :=
 kn_ok
 (kn_ok
 (kn_ok
 (kl_ok (ok_aP (ok_iload_n dX7_isFavour_0 rfl rfl)))
 (kl_ok (ok_aP (ok_iconst dX7_isFavour_1 rfl rfl))))
 (kn_ok
 (kl_ok (ok_aP (ok_aload_n dX7_isFavour_2 rfl rfl)))
 (kn_ok
 (kl_ok (ok_aP (ok_getf fo_54 fs_rf (Or.inl q1840) dX7_isFavour_3 rfl)))
 (kl_ok (ok_aP (ok_iconst dX7_isFavour_6 rfl rfl))))))
 (kn_ok
 (kn_ok
 (kl_ok (ok_aP (ok_iald dX7_isFavour_7 rfl)))
 (kl_ok (ok_aP (ok_iconst dX7_isFavour_8 rfl rfl))))
 (kn_ok
 (kl_ok (ok_aP (ok_isub dX7_isFavour_9 rfl)))
 (kn_ok
 (kl_ok (ok_callS (run_S (by rw [hm]; rfl) q1939 q1940 q92 q1941 ⟨nh_1, dl_17⟩ (by decide) dX7_isFavour_10) rfl))
 (kl_ok (ok_zret rfl z_boolean dX7_isFavour_13)))))
/-- 192: FavourTownModel.call(I)I -/
noncomputable def k_X7_call : Nat → Option AOp :=
 tn 32 (tn 17 (tn 6 (tn 2 (tn 1 (tl 0 (aP (f_aload 0 1)))
  (tl 1 (aP (f_aload 0 2))))
  (tn 3 (tl 2 (aP (f_iload 1 3)))
  (tl 3 (o_callV (lkN [(18, 191)]) 1 6))))
  (tn 10 (tn 9 (tl 6 (aP (f_if (fun x => decide (¬ x = 0)) 13 9)))
  (tl 9 (aP (f_const (.int (nI 1)) 10))))
  (tn 13 (tl 10 (aP (f_goto 14)))
  (tn 14 (tl 13 (aP (f_const (.int (nI 0)) 14)))
  (tl 14 (o_putf [18] 0 vI 17))))))
  (tn 25 (tn 21 (tn 18 (tl 17 (aP (f_aload 0 18)))
  (tl 18 (aP (f_getf [18] 0 21))))
  (tn 24 (tl 21 (aP (f_if (fun x => decide (x ≤ 0)) 26 24)))
  (tl 24 (aP (f_const (.int (nI 0)) 25)))))
  (tn 27 (tn 26 (tl 25 (o_iret (fun _ => true)))
  (tl 26 (aP (f_aload 0 27))))
  (tn 28 (tl 27 (aP (f_iload 1 28)))
  (tn 29 (tl 28 (aP (f_const (.int (nI 2)) 29)))
  (tl 29 (o_callV (lkN [(18, 175)]) 2 32)))))))
  (tn 45 (tn 38 (tn 36 (tn 33 (tl 32 (aP (f_const (.int (-1)) 33)))
  (tl 33 (aP (f_icmp (fun x y => decide (¬ x = y)) 38 36))))
  (tn 37 (tl 36 (aP (f_const (.int (-1)) 37)))
  (tl 37 (o_iret (fun _ => true)))))
  (tn 40 (tn 39 (tl 38 (aP (f_aload 0 39)))
  (tl 39 (aP (f_iload 1 40))))
  (tn 41 (tl 40 (aP (f_const (.int (nI 2)) 41)))
  (tn 42 (tl 41 (aP (f_const (.int (-1)) 42)))
  (tl 42 (o_callV (lkN [(18, 180)]) 3 45))))))
  (tn 52 (tn 47 (tn 46 (tl 45 (aP (f_aload 0 46)))
  (tl 46 (aP (f_iload 1 47))))
  (tn 48 (tl 47 (aP (f_const (.int (nI 1)) 48)))
  (tn 51 (tl 48 (o_callV (lkN [(18, 175)]) 2 51))
  (tl 51 (aP (f_aload 0 52))))))
  (tn 54 (tn 53 (tl 52 (aP (f_iload 1 53)))
  (tl 53 (aP (f_const (.int (nI 3)) 54))))
  (tn 57 (tl 54 (o_callV (lkN [(18, 175)]) 2 57))
  (tn 60 (tl 57 (o_callS 177 2 60))
  (tl 60 (o_iret (fun _ => true))))))))
theorem kok_X7_call {γ : AG} (hm : γ.2.2.2.2.1 = mTab) (hk : γ.2.2.2.2.2 = kTab) : KOK γ m_X7_call k_X7_call :=
 kn_ok
 (kn_ok
 (kn_ok
 (kn_ok
 (kn_ok
 (kl_ok (ok_aP (ok_aload_n dX7_call_0 rfl rfl)))
 (kl_ok (ok_aP (ok_aload_n dX7_call_1 rfl rfl))))
 (kn_ok
 (kl_ok (ok_aP (ok_iload_n dX7_call_2 rfl rfl)))
 (kl_ok (ok_callV (List.forall_mem_cons.mpr ⟨run_V (C0 := "FavourTownModel") rfl rfl (by rw [hm]; rfl) q2127 q2129 qs62 q92 q2130 ⟨nh_1, dl_2⟩ (by decide) dX7_call_3, (fun _ h => absurd h List.not_mem_nil)⟩) rfl))))
 (kn_ok
 (kn_ok
 (kl_ok (ok_aP (ok_if_ne dX7_call_6 rfl rfl)))
 (kl_ok (ok_aP (ok_iconst dX7_call_9 rfl rfl))))
 (kn_ok
 (kl_ok (ok_aP (ok_goto dX7_call_10 rfl)))
 (kn_ok
 (kl_ok (ok_aP (ok_iconst dX7_call_13 rfl rfl)))
 (kl_ok (ok_hp (ok_putf fo_53 fs_rf fn_36 (Or.inl q1839) pd_0 vI_ok dX7_call_14 rfl) le_putf))))))
 (kn_ok
 (kn_ok
 (kn_ok
 (kl_ok (ok_aP (ok_aload_n dX7_call_17 rfl rfl)))
 (kl_ok (ok_aP (ok_getf fo_53 fs_rf (Or.inl q1839) dX7_call_18 rfl))))
 (kn_ok
 (kl_ok (ok_aP (ok_if_le dX7_call_21 rfl rfl)))
 (kl_ok (ok_aP (ok_iconst dX7_call_24 rfl rfl)))))
 (kn_ok
 (kn_ok
 (kl_ok (ok_iret rfl dX7_call_25))
 (kl_ok (ok_aP (ok_aload_n dX7_call_26 rfl rfl))))
 (kn_ok
 (kl_ok (ok_aP (ok_iload_n dX7_call_27 rfl rfl)))
 (kn_ok
 (kl_ok (ok_aP (ok_iconst dX7_call_28 rfl rfl)))
 (kl_ok (ok_callV (List.forall_mem_cons.mpr ⟨run_V (C0 := "FavourTownModel") rfl rfl (by rw [hm]; rfl) q2059 q2061 qs52 q92 q2062 ⟨nh_1, dl_6⟩ (by decide) dX7_call_29, (fun _ h => absurd h List.not_mem_nil)⟩) rfl)))))))
 (kn_ok
 (kn_ok
 (kn_ok
 (kn_ok
 (kl_ok (ok_aP (ok_iconst dX7_call_32 rfl rfl)))
 (kl_ok (ok_aP (ok_icmp_ne dX7_call_33 rfl rfl))))
 (kn_ok
 (kl_ok (ok_aP (ok_iconst dX7_call_36 rfl rfl)))
 (kl_ok (ok_iret rfl dX7_call_37))))
 (kn_ok
 (kn_ok
 (kl_ok (ok_aP (ok_aload_n dX7_call_38 rfl rfl)))
 (kl_ok (ok_aP (ok_iload_n dX7_call_39 rfl rfl))))
 (kn_ok
 (kl_ok (ok_aP (ok_iconst dX7_call_40 rfl rfl)))
 (kn_ok
 (kl_ok (ok_aP (ok_iconst dX7_call_41 rfl rfl)))
 (kl_ok (ok_callV (List.forall_mem_cons.mpr ⟨run_V (C0 := "FavourTownModel") rfl rfl (by rw [hm]; rfl) q2078 q2080 qs56 q92 q2081 ⟨nh_1, dl_46⟩ (by decide) dX7_call_42, (fun _ h => absurd h List.not_mem_nil)⟩) rfl))))))
 (kn_ok
 (kn_ok
 (kn_ok
 (kl_ok (ok_aP (ok_aload_n dX7_call_45 rfl rfl)))
 (kl_ok (ok_aP (ok_iload_n dX7_call_46 rfl rfl))))
 (kn_ok
 (kl_ok (ok_aP (ok_iconst dX7_call_47 rfl rfl)))
 (kn_ok
 (kl_ok (ok_callV (List.forall_mem_cons.mpr ⟨run_V (C0 := "FavourTownModel") rfl rfl (by rw [hm]; rfl) q2059 q2061 qs52 q92 q2062 ⟨nh_1, dl_6⟩ (by decide) dX7_call_48, (fun _ h => absurd h List.not_mem_nil)⟩) rfl))
 (kl_ok (ok_aP (ok_aload_n dX7_call_51 rfl rfl))))))
 (kn_ok
 (kn_ok
 (kl_ok (ok_aP (ok_iload_n dX7_call_52 rfl rfl)))
 (kl_ok (ok_aP (ok_iconst dX7_call_53 rfl rfl))))
 (kn_ok
 (kl_ok (ok_callV (List.forall_mem_cons.mpr ⟨run_V (C0 := "FavourTownModel") rfl rfl (by rw [hm]; rfl) q2059 q2061 qs52 q92 q2062 ⟨nh_1, dl_6⟩ (by decide) dX7_call_54, (fun _ h => absurd h List.not_mem_nil)⟩) rfl))
 (kn_ok
 (kl_ok (ok_callS (run_S (by rw [hm]; rfl) q2067 q2068 q92 q2069 ⟨nh_1, dl_6⟩ (by decide) dX7_call_57) rfl))
 (kl_ok (ok_iret rfl dX7_call_60)))))))
/-- 193: FavourTownModel.days(I)I -/
noncomputable def k_X7_days : Nat → Option AOp :=
 tn 16 (tn 5 (tn 2 (tn 1 (tl 0 (aP (f_aload 0 1)))
  (tl 1 (aP (f_iload 1 2))))
  (tn 3 (tl 2 (aP (f_const (.int (nI 1)) 3)))
  (tl 3 (aP (f_const (.int (nI 99)) 5)))))
  (tn 11 (tn 8 (tl 5 (o_callS 153 3 8))
  (tl 8 (aP (f_if (fun x => decide (¬ x = 0)) 15 11))))
  (tn 12 (tl 11 (aP (f_const (.int (nI 1)) 12)))
  (tn 15 (tl 12 (aP (f_goto 16)))
  (tl 15 (aP (f_const (.int (nI 0)) 16)))))))
  (tn 27 (tn 20 (tn 19 (tl 16 (o_putf [18] 0 vI 19))
  (tl 19 (aP (f_aload 0 20))))
  (tn 23 (tl 20 (aP (f_getf [18] 0 23)))
  (tn 26 (tl 23 (aP (f_if (fun x => decide (x ≤ 0)) 28 26)))
  (tl 26 (aP (f_const (.int (nI 0)) 27))))))
  (tn 29 (tn 28 (tl 27 (o_iret (fun _ => true)))
  (tl 28 (aP (f_aload 0 29))))
  (tn 30 (tl 29 (aP (f_iload 1 30)))
  (tn 33 (tl 30 (o_callV (lkN [(18, 184)]) 1 33))
  (tl 33 (o_iret (fun _ => true)))))))
theorem kok_X7_days {γ : AG} (hm : γ.2.2.2.2.1 = mTab) (hk : γ.2.2.2.2.2 = kTab) : KOK γ m_X7_days k_X7_days :=
 kn_ok
 (kn_ok
 (kn_ok
 (kn_ok
 (kl_ok (ok_aP (ok_aload_n dX7_days_0 rfl rfl)))
 (kl_ok (ok_aP (ok_iload_n dX7_days_1 rfl rfl))))
 (kn_ok
 (kl_ok (ok_aP (ok_iconst dX7_days_2 rfl rfl)))
 (kl_ok (ok_aP (ok_bipush dX7_days_3 (by decide +kernel) rfl)))))
 (kn_ok
 (kn_ok
 (kl_ok (ok_callS (run_S (by rw [hm]; rfl) q1939 q1940 q92 q1941 ⟨nh_1, dl_17⟩ (by decide) dX7_days_5) rfl))
 (kl_ok (ok_aP (ok_if_ne dX7_days_8 rfl rfl))))
 (kn_ok
 (kl_ok (ok_aP (ok_iconst dX7_days_11 rfl rfl)))
 (kn_ok
 (kl_ok (ok_aP (ok_goto dX7_days_12 rfl)))
 (kl_ok (ok_aP (ok_iconst dX7_days_15 rfl rfl)))))))
 (kn_ok
 (kn_ok
 (kn_ok
 (kl_ok (ok_hp (ok_putf fo_53 fs_rf fn_36 (Or.inl q1839) pd_0 vI_ok dX7_days_16 rfl) le_putf))
 (kl_ok (ok_aP (ok_aload_n dX7_days_19 rfl rfl))))
 (kn_ok
 (kl_ok (ok_aP (ok_getf fo_53 fs_rf (Or.inl q1839) dX7_days_20 rfl)))
 (kn_ok
 (kl_ok (ok_aP (ok_if_le dX7_days_23 rfl rfl)))
 (kl_ok (ok_aP (ok_iconst dX7_days_26 rfl rfl))))))
 (kn_ok
 (kn_ok
 (kl_ok (ok_iret rfl dX7_days_27))
 (kl_ok (ok_aP (ok_aload_n dX7_days_28 rfl rfl))))
 (kn_ok
 (kl_ok (ok_aP (ok_iload_n dX7_days_29 rfl rfl)))
 (kn_ok
 (kl_ok (ok_callV (List.forall_mem_cons.mpr ⟨run_V (C0 := "FavourTownModel") rfl rfl (by rw [hm]; rfl) q2097 q2099 qs60 q92 q2100 ⟨nh_1, dl_10⟩ (by decide) dX7_days_30, (fun _ h => absurd h List.not_mem_nil)⟩) rfl))
 (kl_ok (ok_iret rfl dX7_days_33))))))
/-- 194: FavourTownModel.look(II)I -/
noncomputable def k_X7_look : Nat → Option AOp :=
 tn 76 (tn 40 (tn 17 (tn 9 (tn 2 (tn 1 (tl 0 (aP (f_aload 0 1)))
  (tl 1 (aP (f_aload 0 2))))
  (tn 3 (tl 2 (aP (f_iload 1 3)))
  (tn 6 (tl 3 (o_callV (lkN [(18, 191)]) 1 6))
  (tl 6 (aP (f_if (fun x => decide (¬ x = 0)) 13 9))))))
  (tn 13 (tn 10 (tl 9 (aP (f_const (.int (nI 1)) 10)))
  (tl 10 (aP (f_goto 28))))
  (tn 14 (tl 13 (aP (f_iload 2 14)))
  (tn 15 (tl 14 (aP (f_const (.int (nI 0)) 15)))
  (tl 15 (aP (f_const (.int (nI 6)) 17)))))))
  (tn 28 (tn 23 (tn 20 (tl 17 (o_callS 153 3 20))
  (tl 20 (aP (f_if (fun x => decide (¬ x = 0)) 27 23))))
  (tn 24 (tl 23 (aP (f_const (.int (nI 2)) 24)))
  (tn 27 (tl 24 (aP (f_goto 28)))
  (tl 27 (aP (f_const (.int (nI 0)) 28))))))
  (tn 35 (tn 31 (tl 28 (o_putf [18] 0 vI 31))
  (tn 32 (tl 31 (aP (f_aload 0 32)))
  (tl 32 (aP (f_getf [18] 0 35)))))
  (tn 38 (tl 35 (aP (f_if (fun x => decide (x ≤ 0)) 40 38)))
  (tn 39 (tl 38 (aP (f_const (.int (nI 0)) 39)))
  (tl 39 (o_iret (fun _ => true))))))))
  (tn 59 (tn 47 (tn 42 (tn 41 (tl 40 (aP (f_iload 2 41)))
  (tl 41 (aP (f_const (.int (nI 4)) 42))))
  (tn 45 (tl 42 (aP (f_icmp (fun x y => decide (¬ x = y)) 75 45)))
  (tn 46 (tl 45 (aP (f_aload 0 46)))
  (tl 46 (aP (f_iload 1 47))))))
  (tn 52 (tn 48 (tl 47 (aP (f_const (.int (nI 2)) 48)))
  (tn 51 (tl 48 (o_callV (lkN [(18, 175)]) 2 51))
  (tl 51 (aP (f_const (.int (-1)) 52)))))
  (tn 55 (tl 52 (aP (f_icmp (fun x y => decide (¬ x = y)) 59 55)))
  (tn 56 (tl 55 (aP (f_const (.int (nI 0)) 56)))
  (tl 56 (aP (f_goto 74)))))))
  (tn 66 (tn 61 (tn 60 (tl 59 (aP (f_aload 0 60)))
  (tl 60 (aP (f_iload 1 61))))
  (tn 62 (tl 61 (aP (f_const (.int (nI 1)) 62)))
  (tn 65 (tl 62 (o_callV (lkN [(18, 175)]) 2 65))
  (tl 65 (aP (f_aload 0 66))))))
  (tn 71 (tn 67 (tl 66 (aP (f_iload 1 67)))
  (tn 68 (tl 67 (aP (f_const (.int (nI 3)) 68)))
  (tl 68 (o_callV (lkN [(18, 175)]) 2 71))))
  (tn 74 (tl 71 (o_callS 177 2 74))
  (tn 75 (tl 74 (o_iret (fun _ => true)))
  (tl 75 (aP (f_iload 2 76)))))))))
  (tn 113 (tn 94 (tn 85 (tn 80 (tn 79 (tl 76 (aP (f_if (fun x => decide (¬ x = 0)) 88 79)))
  (tl 79 (aP (f_aload 0 80))))
  (tn 81 (tl 80 (aP (f_iload 1 81)))
  (tn 82 (tl 81 (aP (f_const (.int (nI 0)) 82)))
  (tl 82 (o_callV (lkN [(18, 175)]) 2 85)))))
  (tn 89 (tn 88 (tl 85 (aP (f_goto 150)))
  (tl 88 (aP (f_iload 2 89))))
  (tn 90 (tl 89 (aP (f_const (.int (nI 1)) 90)))
  (tn 93 (tl 90 (aP (f_icmp (fun x y => decide (¬ x = y)) 102 93)))
  (tl 93 (aP (f_aload 0 94)))))))
  (tn 103 (tn 96 (tn 95 (tl 94 (aP (f_iload 1 95)))
  (tl 95 (aP (f_const (.int (nI 2)) 96))))
  (tn 99 (tl 96 (o_callV (lkN [(18, 175)]) 2 99))
  (tn 102 (tl 99 (aP (f_goto 150)))
  (tl 102 (aP (f_iload 2 103))))))
  (tn 108 (tn 104 (tl 103 (aP (f_const (.int (nI 2)) 104)))
  (tn 107 (tl 104 (aP (f_icmp (fun x y => decide (¬ x = y)) 116 107)))
  (tl 107 (aP (f_aload 0 108)))))
  (tn 109 (tl 108 (aP (f_iload 1 109)))
  (tn 110 (tl 109 (aP (f_const (.int (nI 1)) 110)))
  (tl 110 (o_callV (lkN [(18, 175)]) 2 113)))))))
  (tn 132 (tn 122 (tn 117 (tn 116 (tl 113 (aP (f_goto 150)))
  (tl 116 (aP (f_iload 2 117))))
  (tn 118 (tl 117 (aP (f_const (.int (nI 3)) 118)))
  (tn 121 (tl 118 (aP (f_icmp (fun x y => decide (¬ x = y)) 130 121)))
  (tl 121 (aP (f_aload 0 122))))))
  (tn 127 (tn 123 (tl 122 (aP (f_iload 1 123)))
  (tn 124 (tl 123 (aP (f_const (.int (nI 3)) 124)))
  (tl 124 (o_callV (lkN [(18, 175)]) 2 127))))
  (tn 130 (tl 127 (aP (f_goto 150)))
  (tn 131 (tl 130 (aP (f_iload 2 131)))
  (tl 131 (aP (f_const (.int (nI 5)) 132)))))))
  (tn 141 (tn 136 (tn 135 (tl 132 (aP (f_icmp (fun x y => decide (¬ x = y)) 144 135)))
  (tl 135 (aP (f_aload 0 136))))
  (tn 137 (tl 136 (aP (f_iload 1 137)))
  (tn 138 (tl 137 (aP (f_const (.int (nI 4)) 138)))
  (tl 138 (o_callV (lkN [(18, 175)]) 2 141)))))
  (tn 146 (tn 144 (tl 141 (aP (f_goto 150)))
  (tn 145 (tl 144 (aP (f_aload 0 145)))
  (tl 145 (aP (f_iload 1 146)))))
  (tn 147 (tl 146 (aP (f_const (.int (nI 5)) 147)))
  (tn 150 (tl 147 (o_callV (lkN [(18, 175)]) 2 150))
  (tl 150 (o_iret (fun _ => true)))))))))
theorem kok_X7_look {γ : AG} (hm : γ.2.2.2.2.1 = mTab) (hk : γ.2.2.2.2.2 = kTab) : KOK γ m_X7_look k_X7_look :=
 kn_ok
 (kn_ok
 (kn_ok
 (kn_ok
 (kn_ok
 (kn_ok
 (kl_ok (ok_aP (ok_aload_n dX7_look_0 rfl rfl)))
 (kl_ok (ok_aP (ok_aload_n dX7_look_1 rfl rfl))))
 (kn_ok
 (kl_ok (ok_aP (ok_iload_n dX7_look_2 rfl rfl)))
 (kn_ok
 (kl_ok (ok_callV (List.forall_mem_cons.mpr ⟨run_V (C0 := "FavourTownModel") rfl rfl (by rw [hm]; rfl) q2127 q2129 qs62 q92 q2130 ⟨nh_1, dl_2⟩ (by decide) dX7_look_3, (fun _ h => absurd h List.not_mem_nil)⟩) rfl))
 (kl_ok (ok_aP (ok_if_ne dX7_look_6 rfl rfl))))))
 (kn_ok
 (kn_ok
 (kl_ok (ok_aP (ok_iconst dX7_look_9 rfl rfl)))
 (kl_ok (ok_aP (ok_goto dX7_look_10 rfl))))
 (kn_ok
 (kl_ok (ok_aP (ok_iload_n dX7_look_13 rfl rfl)))
 (kn_ok
 (kl_ok (ok_aP (ok_iconst dX7_look_14 rfl rfl)))
 (kl_ok (ok_aP (ok_bipush dX7_look_15 (by decide +kernel) rfl)))))))
 (kn_ok
 (kn_ok
 (kn_ok
 (kl_ok (ok_callS (run_S (by rw [hm]; rfl) q1939 q1940 q92 q1941 ⟨nh_1, dl_17⟩ (by decide) dX7_look_17) rfl))
 (kl_ok (ok_aP (ok_if_ne dX7_look_20 rfl rfl))))
 (kn_ok
 (kl_ok (ok_aP (ok_iconst dX7_look_23 rfl rfl)))
 (kn_ok
 (kl_ok (ok_aP (ok_goto dX7_look_24 rfl)))
 (kl_ok (ok_aP (ok_iconst dX7_look_27 rfl rfl))))))
 (kn_ok
 (kn_ok
 (kl_ok (ok_hp (ok_putf fo_53 fs_rf fn_36 (Or.inl q1839) pd_0 vI_ok dX7_look_28 rfl) le_putf))
 (kn_ok
 (kl_ok (ok_aP (ok_aload_n dX7_look_31 rfl rfl)))
 (kl_ok (ok_aP (ok_getf fo_53 fs_rf (Or.inl q1839) dX7_look_32 rfl)))))
 (kn_ok
 (kl_ok (ok_aP (ok_if_le dX7_look_35 rfl rfl)))
 (kn_ok
 (kl_ok (ok_aP (ok_iconst dX7_look_38 rfl rfl)))
 (kl_ok (ok_iret rfl dX7_look_39)))))))
 (kn_ok
 (kn_ok
 (kn_ok
 (kn_ok
 (kl_ok (ok_aP (ok_iload_n dX7_look_40 rfl rfl)))
 (kl_ok (ok_aP (ok_iconst dX7_look_41 rfl rfl))))
 (kn_ok
 (kl_ok (ok_aP (ok_icmp_ne dX7_look_42 rfl rfl)))
 (kn_ok
 (kl_ok (ok_aP (ok_aload_n dX7_look_45 rfl rfl)))
 (kl_ok (ok_aP (ok_iload_n dX7_look_46 rfl rfl))))))
 (kn_ok
 (kn_ok
 (kl_ok (ok_aP (ok_iconst dX7_look_47 rfl rfl)))
 (kn_ok
 (kl_ok (ok_callV (List.forall_mem_cons.mpr ⟨run_V (C0 := "FavourTownModel") rfl rfl (by rw [hm]; rfl) q2059 q2061 qs52 q92 q2062 ⟨nh_1, dl_6⟩ (by decide) dX7_look_48, (fun _ h => absurd h List.not_mem_nil)⟩) rfl))
 (kl_ok (ok_aP (ok_iconst dX7_look_51 rfl rfl)))))
 (kn_ok
 (kl_ok (ok_aP (ok_icmp_ne dX7_look_52 rfl rfl)))
 (kn_ok
 (kl_ok (ok_aP (ok_iconst dX7_look_55 rfl rfl)))
 (kl_ok (ok_aP (ok_goto dX7_look_56 rfl)))))))
 (kn_ok
 (kn_ok
 (kn_ok
 (kl_ok (ok_aP (ok_aload_n dX7_look_59 rfl rfl)))
 (kl_ok (ok_aP (ok_iload_n dX7_look_60 rfl rfl))))
 (kn_ok
 (kl_ok (ok_aP (ok_iconst dX7_look_61 rfl rfl)))
 (kn_ok
 (kl_ok (ok_callV (List.forall_mem_cons.mpr ⟨run_V (C0 := "FavourTownModel") rfl rfl (by rw [hm]; rfl) q2059 q2061 qs52 q92 q2062 ⟨nh_1, dl_6⟩ (by decide) dX7_look_62, (fun _ h => absurd h List.not_mem_nil)⟩) rfl))
 (kl_ok (ok_aP (ok_aload_n dX7_look_65 rfl rfl))))))
 (kn_ok
 (kn_ok
 (kl_ok (ok_aP (ok_iload_n dX7_look_66 rfl rfl)))
 (kn_ok
 (kl_ok (ok_aP (ok_iconst dX7_look_67 rfl rfl)))
 (kl_ok (ok_callV (List.forall_mem_cons.mpr ⟨run_V (C0 := "FavourTownModel") rfl rfl (by rw [hm]; rfl) q2059 q2061 qs52 q92 q2062 ⟨nh_1, dl_6⟩ (by decide) dX7_look_68, (fun _ h => absurd h List.not_mem_nil)⟩) rfl))))
 (kn_ok
 (kl_ok (ok_callS (run_S (by rw [hm]; rfl) q2067 q2068 q92 q2069 ⟨nh_1, dl_6⟩ (by decide) dX7_look_71) rfl))
 (kn_ok
 (kl_ok (ok_iret rfl dX7_look_74))
 (kl_ok (ok_aP (ok_iload_n dX7_look_75 rfl rfl)))))))))
 (kn_ok
 (kn_ok
 (kn_ok
 (kn_ok
 (kn_ok
 (kl_ok (ok_aP (ok_if_ne dX7_look_76 rfl rfl)))
 (kl_ok (ok_aP (ok_aload_n dX7_look_79 rfl rfl))))
 (kn_ok
 (kl_ok (ok_aP (ok_iload_n dX7_look_80 rfl rfl)))
 (kn_ok
 (kl_ok (ok_aP (ok_iconst dX7_look_81 rfl rfl)))
 (kl_ok (ok_callV (List.forall_mem_cons.mpr ⟨run_V (C0 := "FavourTownModel") rfl rfl (by rw [hm]; rfl) q2059 q2061 qs52 q92 q2062 ⟨nh_1, dl_6⟩ (by decide) dX7_look_82, (fun _ h => absurd h List.not_mem_nil)⟩) rfl)))))
 (kn_ok
 (kn_ok
 (kl_ok (ok_aP (ok_goto dX7_look_85 rfl)))
 (kl_ok (ok_aP (ok_iload_n dX7_look_88 rfl rfl))))
 (kn_ok
 (kl_ok (ok_aP (ok_iconst dX7_look_89 rfl rfl)))
 (kn_ok
 (kl_ok (ok_aP (ok_icmp_ne dX7_look_90 rfl rfl)))
 (kl_ok (ok_aP (ok_aload_n dX7_look_93 rfl rfl)))))))
 (kn_ok
 (kn_ok
 (kn_ok
 (kl_ok (ok_aP (ok_iload_n dX7_look_94 rfl rfl)))
 (kl_ok (ok_aP (ok_iconst dX7_look_95 rfl rfl))))
 (kn_ok
 (kl_ok (ok_callV (List.forall_mem_cons.mpr ⟨run_V (C0 := "FavourTownModel") rfl rfl (by rw [hm]; rfl) q2059 q2061 qs52 q92 q2062 ⟨nh_1, dl_6⟩ (by decide) dX7_look_96, (fun _ h => absurd h List.not_mem_nil)⟩) rfl))
 (kn_ok
 (kl_ok (ok_aP (ok_goto dX7_look_99 rfl)))
 (kl_ok (ok_aP (ok_iload_n dX7_look_102 rfl rfl))))))
 (kn_ok
 (kn_ok
 (kl_ok (ok_aP (ok_iconst dX7_look_103 rfl rfl)))
 (kn_ok
 (kl_ok (ok_aP (ok_icmp_ne dX7_look_104 rfl rfl)))
 (kl_ok (ok_aP (ok_aload_n dX7_look_107 rfl rfl)))))
 (kn_ok
 (kl_ok (ok_aP (ok_iload_n dX7_look_108 rfl rfl)))
 (kn_ok
 (kl_ok (ok_aP (ok_iconst dX7_look_109 rfl rfl)))
 (kl_ok (ok_callV (List.forall_mem_cons.mpr ⟨run_V (C0 := "FavourTownModel") rfl rfl (by rw [hm]; rfl) q2059 q2061 qs52 q92 q2062 ⟨nh_1, dl_6⟩ (by decide) dX7_look_110, (fun _ h => absurd h List.not_mem_nil)⟩) rfl)))))))
 (kn_ok
 (kn_ok
 (kn_ok
 (kn_ok
 (kl_ok (ok_aP (ok_goto dX7_look_113 rfl)))
 (kl_ok (ok_aP (ok_iload_n dX7_look_116 rfl rfl))))
 (kn_ok
 (kl_ok (ok_aP (ok_iconst dX7_look_117 rfl rfl)))
 (kn_ok
 (kl_ok (ok_aP (ok_icmp_ne dX7_look_118 rfl rfl)))
 (kl_ok (ok_aP (ok_aload_n dX7_look_121 rfl rfl))))))
 (kn_ok
 (kn_ok
 (kl_ok (ok_aP (ok_iload_n dX7_look_122 rfl rfl)))
 (kn_ok
 (kl_ok (ok_aP (ok_iconst dX7_look_123 rfl rfl)))
 (kl_ok (ok_callV (List.forall_mem_cons.mpr ⟨run_V (C0 := "FavourTownModel") rfl rfl (by rw [hm]; rfl) q2059 q2061 qs52 q92 q2062 ⟨nh_1, dl_6⟩ (by decide) dX7_look_124, (fun _ h => absurd h List.not_mem_nil)⟩) rfl))))
 (kn_ok
 (kl_ok (ok_aP (ok_goto dX7_look_127 rfl)))
 (kn_ok
 (kl_ok (ok_aP (ok_iload_n dX7_look_130 rfl rfl)))
 (kl_ok (ok_aP (ok_iconst dX7_look_131 rfl rfl)))))))
 (kn_ok
 (kn_ok
 (kn_ok
 (kl_ok (ok_aP (ok_icmp_ne dX7_look_132 rfl rfl)))
 (kl_ok (ok_aP (ok_aload_n dX7_look_135 rfl rfl))))
 (kn_ok
 (kl_ok (ok_aP (ok_iload_n dX7_look_136 rfl rfl)))
 (kn_ok
 (kl_ok (ok_aP (ok_iconst dX7_look_137 rfl rfl)))
 (kl_ok (ok_callV (List.forall_mem_cons.mpr ⟨run_V (C0 := "FavourTownModel") rfl rfl (by rw [hm]; rfl) q2059 q2061 qs52 q92 q2062 ⟨nh_1, dl_6⟩ (by decide) dX7_look_138, (fun _ h => absurd h List.not_mem_nil)⟩) rfl)))))
 (kn_ok
 (kn_ok
 (kl_ok (ok_aP (ok_goto dX7_look_141 rfl)))
 (kn_ok
 (kl_ok (ok_aP (ok_aload_n dX7_look_144 rfl rfl)))
 (kl_ok (ok_aP (ok_iload_n dX7_look_145 rfl rfl)))))
 (kn_ok
 (kl_ok (ok_aP (ok_iconst dX7_look_146 rfl rfl)))
 (kn_ok
 (kl_ok (ok_callV (List.forall_mem_cons.mpr ⟨run_V (C0 := "FavourTownModel") rfl rfl (by rw [hm]; rfl) q2059 q2061 qs52 q92 q2062 ⟨nh_1, dl_6⟩ (by decide) dX7_look_147, (fun _ h => absurd h List.not_mem_nil)⟩) rfl))
 (kl_ok (ok_iret rfl dX7_look_150))))))))
/-- 195: FavourTownModel.hand(II)I -/
noncomputable def k_X7_hand : Nat → Option AOp :=
 tn 28 (tn 14 (tn 6 (tn 2 (tn 1 (tl 0 (aP (f_aload 0 1)))
  (tl 1 (aP (f_aload 0 2))))
  (tn 3 (tl 2 (aP (f_iload 1 3)))
  (tl 3 (o_callV (lkN [(18, 191)]) 1 6))))
  (tn 10 (tn 9 (tl 6 (aP (f_if (fun x => decide (¬ x = 0)) 13 9)))
  (tl 9 (aP (f_const (.int (nI 1)) 10))))
  (tn 13 (tl 10 (aP (f_goto 14)))
  (tl 13 (aP (f_const (.int (nI 0)) 14))))))
  (tn 24 (tn 18 (tn 17 (tl 14 (o_putf [18] 0 vI 17))
  (tl 17 (aP (f_aload 0 18))))
  (tn 21 (tl 18 (aP (f_getf [18] 0 21)))
  (tl 21 (aP (f_if (fun x => decide (x ≤ 0)) 26 24)))))
  (tn 26 (tn 25 (tl 24 (aP (f_const (.int (nI 0)) 25)))
  (tl 25 (o_iret (fun _ => true))))
  (tn 27 (tl 26 (aP (f_iload 2 27)))
  (tl 27 (aP (f_const (.int (nI 0)) 28)))))))
  (tn 43 (tn 35 (tn 30 (tn 29 (tl 28 (aP (f_aload 0 29)))
  (tl 29 (aP (f_iload 1 30))))
  (tn 32 (tl 30 (aP (f_const (.int (nI 6)) 32)))
  (tl 32 (o_callV (lkN [(18, 175)]) 2 35))))
  (tn 37 (tn 36 (tl 35 (aP (f_const (.int (nI 1)) 36)))
  (tl 36 (aP (f_bin (fun x y => x - y) 37))))
  (tn 40 (tl 37 (o_callS 153 3 40))
  (tl 40 (aP (f_if (fun x => decide (x = 0)) 55 43))))))
  (tn 48 (tn 45 (tn 44 (tl 43 (aP (f_aload 0 44)))
  (tl 44 (aP (f_iload 1 45))))
  (tn 47 (tl 45 (aP (f_const (.int (nI 7)) 47)))
  (tl 47 (aP (f_iload 2 48)))))
  (tn 52 (tn 49 (tl 48 (aP (f_bin (fun x y => x + y) 49)))
  (tl 49 (o_callV (lkN [(18, 175)]) 2 52)))
  (tn 55 (tl 52 (aP (f_goto 56)))
  (tn 56 (tl 55 (aP (f_const (.int (-1)) 56)))
  (tl 56 (o_iret (fun _ => true))))))))
theorem kok_X7_hand {γ : AG} (hm : γ.2.2.2.2.1 = mTab) (hk : γ.2.2.2.2.2 = kTab) : KOK γ m_X7_hand k_X7_hand :=
 kn_ok
 (kn_ok
 (kn_ok
 (kn_ok
 (kn_ok
 (kl_ok (ok_aP (ok_aload_n dX7_hand_0 rfl rfl)))
 (kl_ok (ok_aP (ok_aload_n dX7_hand_1 rfl rfl))))
 (kn_ok
 (kl_ok (ok_aP (ok_iload_n dX7_hand_2 rfl rfl)))
 (kl_ok (ok_callV (List.forall_mem_cons.mpr ⟨run_V (C0 := "FavourTownModel") rfl rfl (by rw [hm]; rfl) q2127 q2129 qs62 q92 q2130 ⟨nh_1, dl_2⟩ (by decide) dX7_hand_3, (fun _ h => absurd h List.not_mem_nil)⟩) rfl))))
 (kn_ok
 (kn_ok
 (kl_ok (ok_aP (ok_if_ne dX7_hand_6 rfl rfl)))
 (kl_ok (ok_aP (ok_iconst dX7_hand_9 rfl rfl))))
 (kn_ok
 (kl_ok (ok_aP (ok_goto dX7_hand_10 rfl)))
 (kl_ok (ok_aP (ok_iconst dX7_hand_13 rfl rfl))))))
 (kn_ok
 (kn_ok
 (kn_ok
 (kl_ok (ok_hp (ok_putf fo_53 fs_rf fn_36 (Or.inl q1839) pd_0 vI_ok dX7_hand_14 rfl) le_putf))
 (kl_ok (ok_aP (ok_aload_n dX7_hand_17 rfl rfl))))
 (kn_ok
 (kl_ok (ok_aP (ok_getf fo_53 fs_rf (Or.inl q1839) dX7_hand_18 rfl)))
 (kl_ok (ok_aP (ok_if_le dX7_hand_21 rfl rfl)))))
 (kn_ok
 (kn_ok
 (kl_ok (ok_aP (ok_iconst dX7_hand_24 rfl rfl)))
 (kl_ok (ok_iret rfl dX7_hand_25)))
 (kn_ok
 (kl_ok (ok_aP (ok_iload_n dX7_hand_26 rfl rfl)))
 (kl_ok (ok_aP (ok_iconst dX7_hand_27 rfl rfl)))))))
 (kn_ok
 (kn_ok
 (kn_ok
 (kn_ok
 (kl_ok (ok_aP (ok_aload_n dX7_hand_28 rfl rfl)))
 (kl_ok (ok_aP (ok_iload_n dX7_hand_29 rfl rfl))))
 (kn_ok
 (kl_ok (ok_aP (ok_bipush dX7_hand_30 (by decide +kernel) rfl)))
 (kl_ok (ok_callV (List.forall_mem_cons.mpr ⟨run_V (C0 := "FavourTownModel") rfl rfl (by rw [hm]; rfl) q2059 q2061 qs52 q92 q2062 ⟨nh_1, dl_6⟩ (by decide) dX7_hand_32, (fun _ h => absurd h List.not_mem_nil)⟩) rfl))))
 (kn_ok
 (kn_ok
 (kl_ok (ok_aP (ok_iconst dX7_hand_35 rfl rfl)))
 (kl_ok (ok_aP (ok_isub dX7_hand_36 rfl))))
 (kn_ok
 (kl_ok (ok_callS (run_S (by rw [hm]; rfl) q1939 q1940 q92 q1941 ⟨nh_1, dl_17⟩ (by decide) dX7_hand_37) rfl))
 (kl_ok (ok_aP (ok_if_eq dX7_hand_40 rfl rfl))))))
 (kn_ok
 (kn_ok
 (kn_ok
 (kl_ok (ok_aP (ok_aload_n dX7_hand_43 rfl rfl)))
 (kl_ok (ok_aP (ok_iload_n dX7_hand_44 rfl rfl))))
 (kn_ok
 (kl_ok (ok_aP (ok_bipush dX7_hand_45 (by decide +kernel) rfl)))
 (kl_ok (ok_aP (ok_iload_n dX7_hand_47 rfl rfl)))))
 (kn_ok
 (kn_ok
 (kl_ok (ok_aP (ok_iadd dX7_hand_48 rfl)))
 (kl_ok (ok_callV (List.forall_mem_cons.mpr ⟨run_V (C0 := "FavourTownModel") rfl rfl (by rw [hm]; rfl) q2059 q2061 qs52 q92 q2062 ⟨nh_1, dl_6⟩ (by decide) dX7_hand_49, (fun _ h => absurd h List.not_mem_nil)⟩) rfl)))
 (kn_ok
 (kl_ok (ok_aP (ok_goto dX7_hand_52 rfl)))
 (kn_ok
 (kl_ok (ok_aP (ok_iconst dX7_hand_55 rfl rfl)))
 (kl_ok (ok_iret rfl dX7_hand_56)))))))
/-- 196: FavourTownModel.takes(II)Z -/
noncomputable def k_X7_takes : Nat → Option AOp :=
 tn 21 (tn 9 (tn 2 (tn 1 (tl 0 (aP (f_aload 0 1)))
  (tl 1 (aP (f_aload 0 2))))
  (tn 3 (tl 2 (aP (f_iload 1 3)))
  (tn 6 (tl 3 (o_callV (lkN [(18, 188)]) 1 6))
  (tl 6 (aP (f_if (fun x => decide (x = 0)) 17 9))))))
  (tn 14 (tn 10 (tl 9 (aP (f_aload 0 10)))
  (tn 11 (tl 10 (aP (f_iload 2 11)))
  (tl 11 (o_callV (lkN [(18, 191)]) 1 14))))
  (tn 17 (tl 14 (aP (f_if (fun x => decide (¬ x = 0)) 21 17)))
  (tn 18 (tl 17 (aP (f_const (.int (nI 1)) 18)))
  (tl 18 (aP (f_goto 22)))))))
  (tn 33 (tn 26 (tn 22 (tl 21 (aP (f_const (.int (nI 0)) 22)))
  (tn 25 (tl 22 (o_putf [18] 0 vI 25))
  (tl 25 (aP (f_aload 0 26)))))
  (tn 29 (tl 26 (aP (f_getf [18] 0 29)))
  (tn 32 (tl 29 (aP (f_if (fun x => decide (x ≤ 0)) 34 32)))
  (tl 32 (aP (f_const (.int (nI 0)) 33))))))
  (tn 36 (tn 34 (tl 33 (o_iret (fun x => x == 0 || x == 1)))
  (tn 35 (tl 34 (aP (f_aload 0 35)))
  (tl 35 (aP (f_iload 1 36)))))
  (tn 37 (tl 36 (aP (f_iload 2 37)))
  (tn 40 (tl 37 (o_callV (lkN [(18, 183)]) 2 40))
  (tl 40 (o_iret (fun x => x == 0 || x == 1)))))))
theorem kok_X7_takes {γ : AG} (hm : γ.2.2.2.2.1 = mTab) (hk : γ.2.2.2.2.2 = kTab) : KOK γ m_X7_takes k_X7_takes :=
 kn_ok
 (kn_ok
 (kn_ok
 (kn_ok
 (kl_ok (ok_aP (ok_aload_n dX7_takes_0 rfl rfl)))
 (kl_ok (ok_aP (ok_aload_n dX7_takes_1 rfl rfl))))
 (kn_ok
 (kl_ok (ok_aP (ok_iload_n dX7_takes_2 rfl rfl)))
 (kn_ok
 (kl_ok (ok_callV (List.forall_mem_cons.mpr ⟨run_V (C0 := "FavourTownModel") rfl rfl (by rw [hm]; rfl) q2115 q2117 qs61 q92 q2118 ⟨nh_1, dl_2⟩ (by decide) dX7_takes_3, (fun _ h => absurd h List.not_mem_nil)⟩) rfl))
 (kl_ok (ok_aP (ok_if_eq dX7_takes_6 rfl rfl))))))
 (kn_ok
 (kn_ok
 (kl_ok (ok_aP (ok_aload_n dX7_takes_9 rfl rfl)))
 (kn_ok
 (kl_ok (ok_aP (ok_iload_n dX7_takes_10 rfl rfl)))
 (kl_ok (ok_callV (List.forall_mem_cons.mpr ⟨run_V (C0 := "FavourTownModel") rfl rfl (by rw [hm]; rfl) q2127 q2129 qs62 q92 q2130 ⟨nh_1, dl_2⟩ (by decide) dX7_takes_11, (fun _ h => absurd h List.not_mem_nil)⟩) rfl))))
 (kn_ok
 (kl_ok (ok_aP (ok_if_ne dX7_takes_14 rfl rfl)))
 (kn_ok
 (kl_ok (ok_aP (ok_iconst dX7_takes_17 rfl rfl)))
 (kl_ok (ok_aP (ok_goto dX7_takes_18 rfl)))))))
 (kn_ok
 (kn_ok
 (kn_ok
 (kl_ok (ok_aP (ok_iconst dX7_takes_21 rfl rfl)))
 (kn_ok
 (kl_ok (ok_hp (ok_putf fo_53 fs_rf fn_36 (Or.inl q1839) pd_0 vI_ok dX7_takes_22 rfl) le_putf))
 (kl_ok (ok_aP (ok_aload_n dX7_takes_25 rfl rfl)))))
 (kn_ok
 (kl_ok (ok_aP (ok_getf fo_53 fs_rf (Or.inl q1839) dX7_takes_26 rfl)))
 (kn_ok
 (kl_ok (ok_aP (ok_if_le dX7_takes_29 rfl rfl)))
 (kl_ok (ok_aP (ok_iconst dX7_takes_32 rfl rfl))))))
 (kn_ok
 (kn_ok
 (kl_ok (ok_zret rfl z_boolean dX7_takes_33))
 (kn_ok
 (kl_ok (ok_aP (ok_aload_n dX7_takes_34 rfl rfl)))
 (kl_ok (ok_aP (ok_iload_n dX7_takes_35 rfl rfl)))))
 (kn_ok
 (kl_ok (ok_aP (ok_iload_n dX7_takes_36 rfl rfl)))
 (kn_ok
 (kl_ok (ok_callV (List.forall_mem_cons.mpr ⟨run_V (C0 := "FavourTownModel") rfl rfl (by rw [hm]; rfl) q2091 q2093 qs59 q92 q2094 ⟨nh_1, dl_11⟩ (by decide) dX7_takes_37, (fun _ h => absurd h List.not_mem_nil)⟩) rfl))
 (kl_ok (ok_zret rfl z_boolean dX7_takes_40))))))
/-- 197: FavourTownModel.rich(I)I -/
noncomputable def k_X7_rich : Nat → Option AOp :=
 tn 17 (tn 6 (tn 2 (tn 1 (tl 0 (aP (f_aload 0 1)))
  (tl 1 (aP (f_aload 0 2))))
  (tn 3 (tl 2 (aP (f_iload 1 3)))
  (tl 3 (o_callV (lkN [(18, 188)]) 1 6))))
  (tn 10 (tn 9 (tl 6 (aP (f_if (fun x => decide (¬ x = 0)) 13 9)))
  (tl 9 (aP (f_const (.int (nI 1)) 10))))
  (tn 13 (tl 10 (aP (f_goto 14)))
  (tn 14 (tl 13 (aP (f_const (.int (nI 0)) 14)))
  (tl 14 (o_putf [18] 0 vI 17))))))
  (tn 25 (tn 21 (tn 18 (tl 17 (aP (f_aload 0 18)))
  (tl 18 (aP (f_getf [18] 0 21))))
  (tn 24 (tl 21 (aP (f_if (fun x => decide (x ≤ 0)) 26 24)))
  (tl 24 (aP (f_const (.int (nI 0)) 25)))))
  (tn 27 (tn 26 (tl 25 (o_iret (fun _ => true)))
  (tl 26 (aP (f_aload 0 27))))
  (tn 28 (tl 27 (aP (f_iload 1 28)))
  (tn 31 (tl 28 (o_callV (lkN [(18, 178)]) 1 31))
  (tl 31 (o_iret (fun _ => true)))))))
theorem kok_X7_rich {γ : AG} (hm : γ.2.2.2.2.1 = mTab) (hk : γ.2.2.2.2.2 = kTab) : KOK γ m_X7_rich k_X7_rich :=
 kn_ok
 (kn_ok
 (kn_ok
 (kn_ok
 (kl_ok (ok_aP (ok_aload_n dX7_rich_0 rfl rfl)))
 (kl_ok (ok_aP (ok_aload_n dX7_rich_1 rfl rfl))))
 (kn_ok
 (kl_ok (ok_aP (ok_iload_n dX7_rich_2 rfl rfl)))
 (kl_ok (ok_callV (List.forall_mem_cons.mpr ⟨run_V (C0 := "FavourTownModel") rfl rfl (by rw [hm]; rfl) q2115 q2117 qs61 q92 q2118 ⟨nh_1, dl_2⟩ (by decide) dX7_rich_3, (fun _ h => absurd h List.not_mem_nil)⟩) rfl))))
 (kn_ok
 (kn_ok
 (kl_ok (ok_aP (ok_if_ne dX7_rich_6 rfl rfl)))
 (kl_ok (ok_aP (ok_iconst dX7_rich_9 rfl rfl))))
 (kn_ok
 (kl_ok (ok_aP (ok_goto dX7_rich_10 rfl)))
 (kn_ok
 (kl_ok (ok_aP (ok_iconst dX7_rich_13 rfl rfl)))
 (kl_ok (ok_hp (ok_putf fo_53 fs_rf fn_36 (Or.inl q1839) pd_0 vI_ok dX7_rich_14 rfl) le_putf))))))
 (kn_ok
 (kn_ok
 (kn_ok
 (kl_ok (ok_aP (ok_aload_n dX7_rich_17 rfl rfl)))
 (kl_ok (ok_aP (ok_getf fo_53 fs_rf (Or.inl q1839) dX7_rich_18 rfl))))
 (kn_ok
 (kl_ok (ok_aP (ok_if_le dX7_rich_21 rfl rfl)))
 (kl_ok (ok_aP (ok_iconst dX7_rich_24 rfl rfl)))))
 (kn_ok
 (kn_ok
 (kl_ok (ok_iret rfl dX7_rich_25))
 (kl_ok (ok_aP (ok_aload_n dX7_rich_26 rfl rfl))))
 (kn_ok
 (kl_ok (ok_aP (ok_iload_n dX7_rich_27 rfl rfl)))
 (kn_ok
 (kl_ok (ok_callV (List.forall_mem_cons.mpr ⟨run_V (C0 := "FavourTownModel") rfl rfl (by rw [hm]; rfl) q2070 q2072 qs54 q92 q2073 ⟨nh_1, dl_10⟩ (by decide) dX7_rich_28, (fun _ h => absurd h List.not_mem_nil)⟩) rfl))
 (kl_ok (ok_iret rfl dX7_rich_31))))))
/-- 198: FavourTownModel.debt(I)I -/
noncomputable def k_X7_debt : Nat → Option AOp :=
 tn 17 (tn 6 (tn 2 (tn 1 (tl 0 (aP (f_aload 0 1)))
  (tl 1 (aP (f_aload 0 2))))
  (tn 3 (tl 2 (aP (f_iload 1 3)))
  (tl 3 (o_callV (lkN [(18, 188)]) 1 6))))
  (tn 10 (tn 9 (tl 6 (aP (f_if (fun x => decide (¬ x = 0)) 13 9)))
  (tl 9 (aP (f_const (.int (nI 1)) 10))))
  (tn 13 (tl 10 (aP (f_goto 14)))
  (tn 14 (tl 13 (aP (f_const (.int (nI 0)) 14)))
  (tl 14 (o_putf [18] 0 vI 17))))))
  (tn 25 (tn 21 (tn 18 (tl 17 (aP (f_aload 0 18)))
  (tl 18 (aP (f_getf [18] 0 21))))
  (tn 24 (tl 21 (aP (f_if (fun x => decide (x ≤ 0)) 26 24)))
  (tl 24 (aP (f_const (.int (nI 0)) 25)))))
  (tn 27 (tn 26 (tl 25 (o_iret (fun _ => true)))
  (tl 26 (aP (f_aload 0 27))))
  (tn 28 (tl 27 (aP (f_iload 1 28)))
  (tn 31 (tl 28 (o_callV (lkN [(18, 174)]) 1 31))
  (tl 31 (o_iret (fun _ => true)))))))
theorem kok_X7_debt {γ : AG} (hm : γ.2.2.2.2.1 = mTab) (hk : γ.2.2.2.2.2 = kTab) : KOK γ m_X7_debt k_X7_debt :=
 kn_ok
 (kn_ok
 (kn_ok
 (kn_ok
 (kl_ok (ok_aP (ok_aload_n dX7_debt_0 rfl rfl)))
 (kl_ok (ok_aP (ok_aload_n dX7_debt_1 rfl rfl))))
 (kn_ok
 (kl_ok (ok_aP (ok_iload_n dX7_debt_2 rfl rfl)))
 (kl_ok (ok_callV (List.forall_mem_cons.mpr ⟨run_V (C0 := "FavourTownModel") rfl rfl (by rw [hm]; rfl) q2115 q2117 qs61 q92 q2118 ⟨nh_1, dl_2⟩ (by decide) dX7_debt_3, (fun _ h => absurd h List.not_mem_nil)⟩) rfl))))
 (kn_ok
 (kn_ok
 (kl_ok (ok_aP (ok_if_ne dX7_debt_6 rfl rfl)))
 (kl_ok (ok_aP (ok_iconst dX7_debt_9 rfl rfl))))
 (kn_ok
 (kl_ok (ok_aP (ok_goto dX7_debt_10 rfl)))
 (kn_ok
 (kl_ok (ok_aP (ok_iconst dX7_debt_13 rfl rfl)))
 (kl_ok (ok_hp (ok_putf fo_53 fs_rf fn_36 (Or.inl q1839) pd_0 vI_ok dX7_debt_14 rfl) le_putf))))))
 (kn_ok
 (kn_ok
 (kn_ok
 (kl_ok (ok_aP (ok_aload_n dX7_debt_17 rfl rfl)))
 (kl_ok (ok_aP (ok_getf fo_53 fs_rf (Or.inl q1839) dX7_debt_18 rfl))))
 (kn_ok
 (kl_ok (ok_aP (ok_if_le dX7_debt_21 rfl rfl)))
 (kl_ok (ok_aP (ok_iconst dX7_debt_24 rfl rfl)))))
 (kn_ok
 (kn_ok
 (kl_ok (ok_iret rfl dX7_debt_25))
 (kl_ok (ok_aP (ok_aload_n dX7_debt_26 rfl rfl))))
 (kn_ok
 (kl_ok (ok_aP (ok_iload_n dX7_debt_27 rfl rfl)))
 (kn_ok
 (kl_ok (ok_callV (List.forall_mem_cons.mpr ⟨run_V (C0 := "FavourTownModel") rfl rfl (by rw [hm]; rfl) q2055 q2057 qs51 q92 q2058 ⟨nh_1, dl_10⟩ (by decide) dX7_debt_28, (fun _ h => absurd h List.not_mem_nil)⟩) rfl))
 (kl_ok (ok_iret rfl dX7_debt_31))))))
/-- 199: FavourTownModel.owes(II)I -/
noncomputable def k_X7_owes : Nat → Option AOp :=
 tn 21 (tn 9 (tn 2 (tn 1 (tl 0 (aP (f_aload 0 1)))
  (tl 1 (aP (f_aload 0 2))))
  (tn 3 (tl 2 (aP (f_iload 1 3)))
  (tn 6 (tl 3 (o_callV (lkN [(18, 188)]) 1 6))
  (tl 6 (aP (f_if (fun x => decide (x = 0)) 17 9))))))
  (tn 14 (tn 10 (tl 9 (aP (f_aload 0 10)))
  (tn 11 (tl 10 (aP (f_iload 2 11)))
  (tl 11 (o_callV (lkN [(18, 188)]) 1 14))))
  (tn 17 (tl 14 (aP (f_if (fun x => decide (¬ x = 0)) 21 17)))
  (tn 18 (tl 17 (aP (f_const (.int (nI 1)) 18)))
  (tl 18 (aP (f_goto 22)))))))
  (tn 33 (tn 26 (tn 22 (tl 21 (aP (f_const (.int (nI 0)) 22)))
  (tn 25 (tl 22 (o_putf [18] 0 vI 25))
  (tl 25 (aP (f_aload 0 26)))))
  (tn 29 (tl 26 (aP (f_getf [18] 0 29)))
  (tn 32 (tl 29 (aP (f_if (fun x => decide (x ≤ 0)) 34 32)))
  (tl 32 (aP (f_const (.int (nI 0)) 33))))))
  (tn 36 (tn 34 (tl 33 (o_iret (fun _ => true)))
  (tn 35 (tl 34 (aP (f_aload 0 35)))
  (tl 35 (aP (f_iload 1 36)))))
  (tn 37 (tl 36 (aP (f_iload 2 37)))
  (tn 40 (tl 37 (o_callV (lkN [(18, 200)]) 2 40))
  (tl 40 (o_iret (fun _ => true)))))))
theorem kok_X7_owes {γ : AG} (hm : γ.2.2.2.2.1 = mTab) (hk : γ.2.2.2.2.2 = kTab) : KOK γ m_X7_owes k_X7_owes :=
 kn_ok
 (kn_ok
 (kn_ok
 (kn_ok
 (kl_ok (ok_aP (ok_aload_n dX7_owes_0 rfl rfl)))
 (kl_ok (ok_aP (ok_aload_n dX7_owes_1 rfl rfl))))
 (kn_ok
 (kl_ok (ok_aP (ok_iload_n dX7_owes_2 rfl rfl)))
 (kn_ok
 (kl_ok (ok_callV (List.forall_mem_cons.mpr ⟨run_V (C0 := "FavourTownModel") rfl rfl (by rw [hm]; rfl) q2115 q2117 qs61 q92 q2118 ⟨nh_1, dl_2⟩ (by decide) dX7_owes_3, (fun _ h => absurd h List.not_mem_nil)⟩) rfl))
 (kl_ok (ok_aP (ok_if_eq dX7_owes_6 rfl rfl))))))
 (kn_ok
 (kn_ok
 (kl_ok (ok_aP (ok_aload_n dX7_owes_9 rfl rfl)))
 (kn_ok
 (kl_ok (ok_aP (ok_iload_n dX7_owes_10 rfl rfl)))
 (kl_ok (ok_callV (List.forall_mem_cons.mpr ⟨run_V (C0 := "FavourTownModel") rfl rfl (by rw [hm]; rfl) q2115 q2117 qs61 q92 q2118 ⟨nh_1, dl_2⟩ (by decide) dX7_owes_11, (fun _ h => absurd h List.not_mem_nil)⟩) rfl))))
 (kn_ok
 (kl_ok (ok_aP (ok_if_ne dX7_owes_14 rfl rfl)))
 (kn_ok
 (kl_ok (ok_aP (ok_iconst dX7_owes_17 rfl rfl)))
 (kl_ok (ok_aP (ok_goto dX7_owes_18 rfl)))))))
 (kn_ok
 (kn_ok
 (kn_ok
 (kl_ok (ok_aP (ok_iconst dX7_owes_21 rfl rfl)))
 (kn_ok
 (kl_ok (ok_hp (ok_putf fo_53 fs_rf fn_36 (Or.inl q1839) pd_0 vI_ok dX7_owes_22 rfl) le_putf))
 (kl_ok (ok_aP (ok_aload_n dX7_owes_25 rfl rfl)))))
 (kn_ok
 (kl_ok (ok_aP (ok_getf fo_53 fs_rf (Or.inl q1839) dX7_owes_26 rfl)))
 (kn_ok
 (kl_ok (ok_aP (ok_if_le dX7_owes_29 rfl rfl)))
 (kl_ok (ok_aP (ok_iconst dX7_owes_32 rfl rfl))))))
 (kn_ok
 (kn_ok
 (kl_ok (ok_iret rfl dX7_owes_33))
 (kn_ok
 (kl_ok (ok_aP (ok_aload_n dX7_owes_34 rfl rfl)))
 (kl_ok (ok_aP (ok_iload_n dX7_owes_35 rfl rfl)))))
 (kn_ok
 (kl_ok (ok_aP (ok_iload_n dX7_owes_36 rfl rfl)))
 (kn_ok
 (kl_ok (ok_callV (List.forall_mem_cons.mpr ⟨run_V (C0 := "FavourTownModel") rfl rfl (by rw [hm]; rfl) q2163 q2165 qs63 q92 q2166 ⟨nh_1, dl_6⟩ (by decide) dX7_owes_37, (fun _ h => absurd h List.not_mem_nil)⟩) rfl))
 (kl_ok (ok_iret rfl dX7_owes_40))))))
/-- 200: FavourTownModel.owesOf(II)I -/
noncomputable def k_X7_owesOf : Nat → Option AOp :=
 tn 28 (tn 12 (tn 5 (tn 2 (tn 1 (tl 0 (aP (f_const (.int (nI 0)) 1)))
  (tl 1 (aP (f_istore 3 2))))
  (tn 3 (tl 2 (aP (f_const (.int (nI 0)) 3)))
  (tl 3 (aP (f_istore 4 5)))))
  (tn 8 (tn 7 (tl 5 (aP (f_iload 4 7)))
  (tl 7 (aP (f_aload 0 8))))
  (tn 11 (tl 8 (aP (f_getf [18] 1 11)))
  (tl 11 (aP (f_const (.int (nI 3)) 12))))))
  (tn 18 (tn 16 (tn 13 (tl 12 (aP (f_iald 0 13)))
  (tl 13 (aP (f_icmp (fun x y => decide (y ≤ x)) 58 16))))
  (tn 17 (tl 16 (aP (f_iload 3 17)))
  (tl 17 (aP (f_aload 0 18)))))
  (tn 21 (tn 20 (tl 18 (aP (f_iload 4 20)))
  (tl 20 (aP (f_const (.int (nI 0)) 21))))
  (tn 24 (tl 21 (o_callV (lkN [(18, 175)]) 2 24))
  (tn 25 (tl 24 (aP (f_iload 1 25)))
  (tl 25 (aP (f_icmp (fun x y => decide (¬ x = y)) 49 28))))))))
  (tn 43 (tn 35 (tn 31 (tn 29 (tl 28 (aP (f_aload 0 29)))
  (tl 29 (aP (f_iload 4 31))))
  (tn 32 (tl 31 (aP (f_const (.int (nI 2)) 32)))
  (tl 32 (o_callV (lkN [(18, 175)]) 2 35))))
  (tn 39 (tn 36 (tl 35 (aP (f_iload 2 36)))
  (tl 36 (aP (f_icmp (fun x y => decide (¬ x = y)) 49 39))))
  (tn 40 (tl 39 (aP (f_aload 0 40)))
  (tn 42 (tl 40 (aP (f_iload 4 42)))
  (tl 42 (aP (f_const (.int (nI 1)) 43)))))))
  (tn 51 (tn 49 (tn 46 (tl 43 (o_callV (lkN [(18, 175)]) 2 46))
  (tl 46 (aP (f_goto 50))))
  (tn 50 (tl 49 (aP (f_const (.int (nI 0)) 50)))
  (tl 50 (aP (f_bin (fun x y => x + y) 51)))))
  (tn 55 (tn 52 (tl 51 (aP (f_istore 3 52)))
  (tl 52 (aP (f_iinc 4 (nI 1) 55))))
  (tn 58 (tl 55 (aP (f_goto 5)))
  (tn 59 (tl 58 (aP (f_iload 3 59)))
  (tl 59 (o_iret (fun _ => true))))))))
theorem kok_X7_owesOf {γ : AG} (hm : γ.2.2.2.2.1 = mTab) (hk : γ.2.2.2.2.2 = kTab) : KOK γ m_X7_owesOf k_X7_owesOf :=
 kn_ok
 (kn_ok
 (kn_ok
 (kn_ok
 (kn_ok
 (kl_ok (ok_aP (ok_iconst dX7_owesOf_0 rfl rfl)))
 (kl_ok (ok_aP (ok_istore_n dX7_owesOf_1 rfl rfl))))
 (kn_ok
 (kl_ok (ok_aP (ok_iconst dX7_owesOf_2 rfl rfl)))
 (kl_ok (ok_aP (ok_istore dX7_owesOf_3 rfl)))))
 (kn_ok
 (kn_ok
 (kl_ok (ok_aP (ok_iload dX7_owesOf_5 rfl)))
 (kl_ok (ok_aP (ok_aload_n dX7_owesOf_7 rfl rfl))))
 (kn_ok
 (kl_ok (ok_aP (ok_getf fo_54 fs_rf (Or.inl q1840) dX7_owesOf_8 rfl)))
 (kl_ok (ok_aP (ok_iconst dX7_owesOf_11 rfl rfl))))))
 (kn_ok
 (kn_ok
 (kn_ok
 (kl_ok (ok_aP (ok_iald dX7_owesOf_12 rfl)))
 (kl_ok (ok_aP (ok_icmp_ge dX7_owesOf_13 rfl rfl))))
 (kn_ok
 (kl_ok (ok_aP (ok_iload_n dX7_owesOf_16 rfl rfl)))
 (kl_ok (ok_aP (ok_aload_n dX7_owesOf_17 rfl rfl)))))
 (kn_ok
 (kn_ok
 (kl_ok (ok_aP (ok_iload dX7_owesOf_18 rfl)))
 (kl_ok (ok_aP (ok_iconst dX7_owesOf_20 rfl rfl))))
 (kn_ok
 (kl_ok (ok_callV (List.forall_mem_cons.mpr ⟨run_V (C0 := "FavourTownModel") rfl rfl (by rw [hm]; rfl) q2059 q2061 qs52 q92 q2062 ⟨nh_1, dl_6⟩ (by decide) dX7_owesOf_21, (fun _ h => absurd h List.not_mem_nil)⟩) rfl))
 (kn_ok
 (kl_ok (ok_aP (ok_iload_n dX7_owesOf_24 rfl rfl)))
 (kl_ok (ok_aP (ok_icmp_ne dX7_owesOf_25 rfl rfl))))))))
 (kn_ok
 (kn_ok
 (kn_ok
 (kn_ok
 (kl_ok (ok_aP (ok_aload_n dX7_owesOf_28 rfl rfl)))
 (kl_ok (ok_aP (ok_iload dX7_owesOf_29 rfl))))
 (kn_ok
 (kl_ok (ok_aP (ok_iconst dX7_owesOf_31 rfl rfl)))
 (kl_ok (ok_callV (List.forall_mem_cons.mpr ⟨run_V (C0 := "FavourTownModel") rfl rfl (by rw [hm]; rfl) q2059 q2061 qs52 q92 q2062 ⟨nh_1, dl_6⟩ (by decide) dX7_owesOf_32, (fun _ h => absurd h List.not_mem_nil)⟩) rfl))))
 (kn_ok
 (kn_ok
 (kl_ok (ok_aP (ok_iload_n dX7_owesOf_35 rfl rfl)))
 (kl_ok (ok_aP (ok_icmp_ne dX7_owesOf_36 rfl rfl))))
 (kn_ok
 (kl_ok (ok_aP (ok_aload_n dX7_owesOf_39 rfl rfl)))
 (kn_ok
 (kl_ok (ok_aP (ok_iload dX7_owesOf_40 rfl)))
 (kl_ok (ok_aP (ok_iconst dX7_owesOf_42 rfl rfl)))))))
 (kn_ok
 (kn_ok
 (kn_ok
 (kl_ok (ok_callV (List.forall_mem_cons.mpr ⟨run_V (C0 := "FavourTownModel") rfl rfl (by rw [hm]; rfl) q2059 q2061 qs52 q92 q2062 ⟨nh_1, dl_6⟩ (by decide) dX7_owesOf_43, (fun _ h => absurd h List.not_mem_nil)⟩) rfl))
 (kl_ok (ok_aP (ok_goto dX7_owesOf_46 rfl))))
 (kn_ok
 (kl_ok (ok_aP (ok_iconst dX7_owesOf_49 rfl rfl)))
 (kl_ok (ok_aP (ok_iadd dX7_owesOf_50 rfl)))))
 (kn_ok
 (kn_ok
 (kl_ok (ok_aP (ok_istore_n dX7_owesOf_51 rfl rfl)))
 (kl_ok (ok_aP (ok_iinc dX7_owesOf_52 (by decide +kernel) rfl))))
 (kn_ok
 (kl_ok (ok_aP (ok_goto dX7_owesOf_55 rfl)))
 (kn_ok
 (kl_ok (ok_aP (ok_iload_n dX7_owesOf_58 rfl rfl)))
 (kl_ok (ok_iret rfl dX7_owesOf_59)))))))
/-- 201: FavourTownModel.pays(III)I -/
noncomputable def k_X7_pays : Nat → Option AOp :=
 tn 30 (tn 14 (tn 6 (tn 2 (tn 1 (tl 0 (aP (f_aload 0 1)))
  (tl 1 (aP (f_aload 0 2))))
  (tn 3 (tl 2 (aP (f_iload 1 3)))
  (tl 3 (o_callV (lkN [(18, 188)]) 1 6))))
  (tn 10 (tn 9 (tl 6 (aP (f_if (fun x => decide (x = 0)) 17 9)))
  (tl 9 (aP (f_aload 0 10))))
  (tn 11 (tl 10 (aP (f_iload 2 11)))
  (tl 11 (o_callV (lkN [(18, 188)]) 1 14)))))
  (tn 22 (tn 18 (tn 17 (tl 14 (aP (f_if (fun x => decide (¬ x = 0)) 21 17)))
  (tl 17 (aP (f_const (.int (nI 1)) 18))))
  (tn 21 (tl 18 (aP (f_goto 41)))
  (tl 21 (aP (f_iload 1 22)))))
  (tn 26 (tn 23 (tl 22 (aP (f_iload 2 23)))
  (tl 23 (aP (f_icmp (fun x y => decide (x = y)) 36 26))))
  (tn 27 (tl 26 (aP (f_iload 3 27)))
  (tn 28 (tl 27 (aP (f_const (.int (nI 1)) 28)))
  (tl 28 (aP (f_const (.int (nI 99)) 30))))))))
  (tn 48 (tn 40 (tn 36 (tn 33 (tl 30 (o_callS 153 3 33))
  (tl 33 (aP (f_if (fun x => decide (¬ x = 0)) 40 36))))
  (tn 37 (tl 36 (aP (f_const (.int (nI 2)) 37)))
  (tl 37 (aP (f_goto 41)))))
  (tn 44 (tn 41 (tl 40 (aP (f_const (.int (nI 0)) 41)))
  (tl 41 (o_putf [18] 0 vI 44)))
  (tn 45 (tl 44 (aP (f_aload 0 45)))
  (tl 45 (aP (f_getf [18] 0 48))))))
  (tn 54 (tn 52 (tn 51 (tl 48 (aP (f_if (fun x => decide (x ≤ 0)) 53 51)))
  (tl 51 (aP (f_const (.int (nI 0)) 52))))
  (tn 53 (tl 52 (o_iret (fun _ => true)))
  (tl 53 (aP (f_aload 0 54)))))
  (tn 56 (tn 55 (tl 54 (aP (f_iload 1 55)))
  (tl 55 (aP (f_iload 2 56))))
  (tn 57 (tl 56 (aP (f_iload 3 57)))
  (tn 60 (tl 57 (o_callV (lkN [(18, 202)]) 3 60))
  (tl 60 (o_iret (fun _ => true))))))))
theorem kok_X7_pays {γ : AG} (hm : γ.2.2.2.2.1 = mTab) (hk : γ.2.2.2.2.2 = kTab) : KOK γ m_X7_pays k_X7_pays :=
 kn_ok
 (kn_ok
 (kn_ok
 (kn_ok
 (kn_ok
 (kl_ok (ok_aP (ok_aload_n dX7_pays_0 rfl rfl)))
 (kl_ok (ok_aP (ok_aload_n dX7_pays_1 rfl rfl))))
 (kn_ok
 (kl_ok (ok_aP (ok_iload_n dX7_pays_2 rfl rfl)))
 (kl_ok (ok_callV (List.forall_mem_cons.mpr ⟨run_V (C0 := "FavourTownModel") rfl rfl (by rw [hm]; rfl) q2115 q2117 qs61 q92 q2118 ⟨nh_1, dl_2⟩ (by decide) dX7_pays_3, (fun _ h => absurd h List.not_mem_nil)⟩) rfl))))
 (kn_ok
 (kn_ok
 (kl_ok (ok_aP (ok_if_eq dX7_pays_6 rfl rfl)))
 (kl_ok (ok_aP (ok_aload_n dX7_pays_9 rfl rfl))))
 (kn_ok
 (kl_ok (ok_aP (ok_iload_n dX7_pays_10 rfl rfl)))
 (kl_ok (ok_callV (List.forall_mem_cons.mpr ⟨run_V (C0 := "FavourTownModel") rfl rfl (by rw [hm]; rfl) q2115 q2117 qs61 q92 q2118 ⟨nh_1, dl_2⟩ (by decide) dX7_pays_11, (fun _ h => absurd h List.not_mem_nil)⟩) rfl)))))
 (kn_ok
 (kn_ok
 (kn_ok
 (kl_ok (ok_aP (ok_if_ne dX7_pays_14 rfl rfl)))
 (kl_ok (ok_aP (ok_iconst dX7_pays_17 rfl rfl))))
 (kn_ok
 (kl_ok (ok_aP (ok_goto dX7_pays_18 rfl)))
 (kl_ok (ok_aP (ok_iload_n dX7_pays_21 rfl rfl)))))
 (kn_ok
 (kn_ok
 (kl_ok (ok_aP (ok_iload_n dX7_pays_22 rfl rfl)))
 (kl_ok (ok_aP (ok_icmp_eq dX7_pays_23 rfl rfl))))
 (kn_ok
 (kl_ok (ok_aP (ok_iload_n dX7_pays_26 rfl rfl)))
 (kn_ok
 (kl_ok (ok_aP (ok_iconst dX7_pays_27 rfl rfl)))
 (kl_ok (ok_aP (ok_bipush dX7_pays_28 (by decide +kernel) rfl))))))))
 (kn_ok
 (kn_ok
 (kn_ok
 (kn_ok
 (kl_ok (ok_callS (run_S (by rw [hm]; rfl) q1939 q1940 q92 q1941 ⟨nh_1, dl_17⟩ (by decide) dX7_pays_30) rfl))
 (kl_ok (ok_aP (ok_if_ne dX7_pays_33 rfl rfl))))
 (kn_ok
 (kl_ok (ok_aP (ok_iconst dX7_pays_36 rfl rfl)))
 (kl_ok (ok_aP (ok_goto dX7_pays_37 rfl)))))
 (kn_ok
 (kn_ok
 (kl_ok (ok_aP (ok_iconst dX7_pays_40 rfl rfl)))
 (kl_ok (ok_hp (ok_putf fo_53 fs_rf fn_36 (Or.inl q1839) pd_0 vI_ok dX7_pays_41 rfl) le_putf)))
 (kn_ok
 (kl_ok (ok_aP (ok_aload_n dX7_pays_44 rfl rfl)))
 (kl_ok (ok_aP (ok_getf fo_53 fs_rf (Or.inl q1839) dX7_pays_45 rfl))))))
 (kn_ok
 (kn_ok
 (kn_ok
 (kl_ok (ok_aP (ok_if_le dX7_pays_48 rfl rfl)))
 (kl_ok (ok_aP (ok_iconst dX7_pays_51 rfl rfl))))
 (kn_ok
 (kl_ok (ok_iret rfl dX7_pays_52))
 (kl_ok (ok_aP (ok_aload_n dX7_pays_53 rfl rfl)))))
 (kn_ok
 (kn_ok
 (kl_ok (ok_aP (ok_iload_n dX7_pays_54 rfl rfl)))
 (kl_ok (ok_aP (ok_iload_n dX7_pays_55 rfl rfl))))
 (kn_ok
 (kl_ok (ok_aP (ok_iload_n dX7_pays_56 rfl rfl)))
 (kn_ok
 (kl_ok (ok_callV (List.forall_mem_cons.mpr ⟨run_V (C0 := "FavourTownModel") rfl rfl (by rw [hm]; rfl) q2171 q2173 qs64 q92 q2174 ⟨nh_1, dl_13⟩ (by decide) dX7_pays_57, (fun _ h => absurd h List.not_mem_nil)⟩) rfl))
 (kl_ok (ok_iret rfl dX7_pays_60)))))))
/-- 202: FavourTownModel.paysBy(III)I -/
noncomputable def k_X7_paysBy : Nat → Option AOp :=
 tn 48 (tn 23 (tn 11 (tn 4 (tn 1 (tl 0 (aP (f_const (.int (-1)) 1)))
  (tn 3 (tl 1 (aP (f_istore 4 3)))
  (tl 3 (aP (f_const (.int (nI 0)) 4)))))
  (tn 7 (tn 6 (tl 4 (aP (f_istore 5 6)))
  (tl 6 (aP (f_const (.int (nI 0)) 7))))
  (tn 9 (tl 7 (aP (f_istore 6 9)))
  (tl 9 (aP (f_iload 6 11))))))
  (tn 16 (tn 12 (tl 11 (aP (f_aload 0 12)))
  (tn 15 (tl 12 (aP (f_getf [18] 1 15)))
  (tl 15 (aP (f_const (.int (nI 3)) 16)))))
  (tn 20 (tn 17 (tl 16 (aP (f_iald 0 17)))
  (tl 17 (aP (f_icmp (fun x y => decide (y ≤ x)) 103 20))))
  (tn 21 (tl 20 (aP (f_aload 0 21)))
  (tl 21 (aP (f_iload 6 23)))))))
  (tn 35 (tn 28 (tn 24 (tl 23 (aP (f_const (.int (nI 1)) 24)))
  (tn 27 (tl 24 (o_callV (lkN [(18, 175)]) 2 27))
  (tl 27 (aP (f_aload 0 28)))))
  (tn 31 (tn 30 (tl 28 (aP (f_iload 6 30)))
  (tl 30 (aP (f_const (.int (nI 3)) 31))))
  (tn 34 (tl 31 (o_callV (lkN [(18, 175)]) 2 34))
  (tl 34 (aP (f_const (.int (nI 1)) 35))))))
  (tn 41 (tn 36 (tl 35 (aP (f_bin (fun x y => x + y) 36)))
  (tn 39 (tl 36 (o_callS 177 2 39))
  (tl 39 (aP (f_istore 7 41)))))
  (tn 44 (tn 42 (tl 41 (aP (f_aload 0 42)))
  (tl 42 (aP (f_iload 6 44))))
  (tn 45 (tl 44 (aP (f_const (.int (nI 2)) 45)))
  (tl 45 (o_callV (lkN [(18, 175)]) 2 48)))))))
  (tn 76 (tn 62 (tn 54 (tn 49 (tl 48 (aP (f_iload 1 49)))
  (tn 52 (tl 49 (aP (f_icmp (fun x y => decide (¬ x = y)) 97 52)))
  (tl 52 (aP (f_iload 7 54)))))
  (tn 58 (tn 57 (tl 54 (aP (f_const (.int (nI 1024)) 57)))
  (tl 57 (aP (f_iload 3 58))))
  (tn 59 (tl 58 (aP (f_bin (fun x y => x * y) 59)))
  (tl 59 (aP (f_icmp (fun x y => decide (x < y)) 97 62))))))
  (tn 68 (tn 64 (tl 62 (aP (f_iload 4 64)))
  (tn 65 (tl 64 (aP (f_const (.int (-1)) 65)))
  (tl 65 (aP (f_icmp (fun x y => decide (x = y)) 75 68)))))
  (tn 72 (tn 70 (tl 68 (aP (f_iload 7 70)))
  (tl 70 (aP (f_iload 5 72))))
  (tn 75 (tl 72 (aP (f_icmp (fun x y => decide (y ≤ x)) 97 75)))
  (tl 75 (aP (f_aload 0 76)))))))
  (tn 91 (tn 80 (tn 78 (tl 76 (aP (f_iload 6 78)))
  (tn 79 (tl 78 (aP (f_iload 1 79)))
  (tl 79 (aP (f_iload 2 80)))))
  (tn 86 (tn 83 (tl 80 (o_callV (lkN [(18, 203)]) 3 83))
  (tl 83 (aP (f_if (fun x => decide (¬ x = 0)) 89 86))))
  (tn 89 (tl 86 (aP (f_goto 97)))
  (tl 89 (aP (f_iload 6 91))))))
  (tn 97 (tn 93 (tl 91 (aP (f_istore 4 93)))
  (tn 95 (tl 93 (aP (f_iload 7 95)))
  (tl 95 (aP (f_istore 5 97)))))
  (tn 103 (tn 100 (tl 97 (aP (f_iinc 6 (nI 1) 100)))
  (tl 100 (aP (f_goto 9))))
  (tn 105 (tl 103 (aP (f_iload 4 105)))
  (tl 105 (o_iret (fun _ => true))))))))
theorem kok_X7_paysBy {γ : AG} (hm : γ.2.2.2.2.1 = mTab) (hk : γ.2.2.2.2.2 = kTab) : KOK γ m_X7_paysBy k_X7_paysBy :=
 kn_ok
 (kn_ok
 (kn_ok
 (kn_ok
 (kn_ok
 (kl_ok (ok_aP (ok_iconst dX7_paysBy_0 rfl rfl)))
 (kn_ok
 (kl_ok (ok_aP (ok_istore dX7_paysBy_1 rfl)))
 (kl_ok (ok_aP (ok_iconst dX7_paysBy_3 rfl rfl)))))
 (kn_ok
 (kn_ok
 (kl_ok (ok_aP (ok_istore dX7_paysBy_4 rfl)))
 (kl_ok (ok_aP (ok_iconst dX7_paysBy_6 rfl rfl))))
 (kn_ok
 (kl_ok (ok_aP (ok_istore dX7_paysBy_7 rfl)))
 (kl_ok (ok_aP (ok_iload dX7_paysBy_9 rfl))))))
 (kn_ok
 (kn_ok
 (kl_ok (ok_aP (ok_aload_n dX7_paysBy_11 rfl rfl)))
 (kn_ok
 (kl_ok (ok_aP (ok_getf fo_54 fs_rf (Or.inl q1840) dX7_paysBy_12 rfl)))
 (kl_ok (ok_aP (ok_iconst dX7_paysBy_15 rfl rfl)))))
 (kn_ok
 (kn_ok
 (kl_ok (ok_aP (ok_iald dX7_paysBy_16 rfl)))
 (kl_ok (ok_aP (ok_icmp_ge dX7_paysBy_17 rfl rfl))))
 (kn_ok
 (kl_ok (ok_aP (ok_aload_n dX7_paysBy_20 rfl rfl)))
 (kl_ok (ok_aP (ok_iload dX7_paysBy_21 rfl)))))))
 (kn_ok
 (kn_ok
 (kn_ok
 (kl_ok (ok_aP (ok_iconst dX7_paysBy_23 rfl rfl)))
 (kn_ok
 (kl_ok (ok_callV (List.forall_mem_cons.mpr ⟨run_V (C0 := "FavourTownModel") rfl rfl (by rw [hm]; rfl) q2059 q2061 qs52 q92 q2062 ⟨nh_1, dl_6⟩ (by decide) dX7_paysBy_24, (fun _ h => absurd h List.not_mem_nil)⟩) rfl))
 (kl_ok (ok_aP (ok_aload_n dX7_paysBy_27 rfl rfl)))))
 (kn_ok
 (kn_ok
 (kl_ok (ok_aP (ok_iload dX7_paysBy_28 rfl)))
 (kl_ok (ok_aP (ok_iconst dX7_paysBy_30 rfl rfl))))
 (kn_ok
 (kl_ok (ok_callV (List.forall_mem_cons.mpr ⟨run_V (C0 := "FavourTownModel") rfl rfl (by rw [hm]; rfl) q2059 q2061 qs52 q92 q2062 ⟨nh_1, dl_6⟩ (by decide) dX7_paysBy_31, (fun _ h => absurd h List.not_mem_nil)⟩) rfl))
 (kl_ok (ok_aP (ok_iconst dX7_paysBy_34 rfl rfl))))))
 (kn_ok
 (kn_ok
 (kl_ok (ok_aP (ok_iadd dX7_paysBy_35 rfl)))
 (kn_ok
 (kl_ok (ok_callS (run_S (by rw [hm]; rfl) q2067 q2068 q92 q2069 ⟨nh_1, dl_6⟩ (by decide) dX7_paysBy_36) rfl))
 (kl_ok (ok_aP (ok_istore dX7_paysBy_39 rfl)))))
 (kn_ok
 (kn_ok
 (kl_ok (ok_aP (ok_aload_n dX7_paysBy_41 rfl rfl)))
 (kl_ok (ok_aP (ok_iload dX7_paysBy_42 rfl))))
 (kn_ok
 (kl_ok (ok_aP (ok_iconst dX7_paysBy_44 rfl rfl)))
 (kl_ok (ok_callV (List.forall_mem_cons.mpr ⟨run_V (C0 := "FavourTownModel") rfl rfl (by rw [hm]; rfl) q2059 q2061 qs52 q92 q2062 ⟨nh_1, dl_6⟩ (by decide) dX7_paysBy_45, (fun _ h => absurd h List.not_mem_nil)⟩) rfl)))))))
 (kn_ok
 (kn_ok
 (kn_ok
 (kn_ok
 (kl_ok (ok_aP (ok_iload_n dX7_paysBy_48 rfl rfl)))
 (kn_ok
 (kl_ok (ok_aP (ok_icmp_ne dX7_paysBy_49 rfl rfl)))
 (kl_ok (ok_aP (ok_iload dX7_paysBy_52 rfl)))))
 (kn_ok
 (kn_ok
 (kl_ok (ok_aP (ok_sipush dX7_paysBy_54 (by decide +kernel) rfl)))
 (kl_ok (ok_aP (ok_iload_n dX7_paysBy_57 rfl rfl))))
 (kn_ok
 (kl_ok (ok_aP (ok_imul dX7_paysBy_58 rfl)))
 (kl_ok (ok_aP (ok_icmp_lt dX7_paysBy_59 rfl rfl))))))
 (kn_ok
 (kn_ok
 (kl_ok (ok_aP (ok_iload dX7_paysBy_62 rfl)))
 (kn_ok
 (kl_ok (ok_aP (ok_iconst dX7_paysBy_64 rfl rfl)))
 (kl_ok (ok_aP (ok_icmp_eq dX7_paysBy_65 rfl rfl)))))
 (kn_ok
 (kn_ok
 (kl_ok (ok_aP (ok_iload dX7_paysBy_68 rfl)))
 (kl_ok (ok_aP (ok_iload dX7_paysBy_70 rfl))))
 (kn_ok
 (kl_ok (ok_aP (ok_icmp_ge dX7_paysBy_72 rfl rfl)))
 (kl_ok (ok_aP (ok_aload_n dX7_paysBy_75 rfl rfl)))))))
 (kn_ok
 (kn_ok
 (kn_ok
 (kl_ok (ok_aP (ok_iload dX7_paysBy_76 rfl)))
 (kn_ok
 (kl_ok (ok_aP (ok_iload_n dX7_paysBy_78 rfl rfl)))
 (kl_ok (ok_aP (ok_iload_n dX7_paysBy_79 rfl rfl)))))
 (kn_ok
 (kn_ok
 (kl_ok (ok_callV (List.forall_mem_cons.mpr ⟨run_V (C0 := "FavourTownModel") rfl rfl (by rw [hm]; rfl) q2175 q2177 qs65 q92 q2178 ⟨nh_1, dl_17⟩ (by decide) dX7_paysBy_80, (fun _ h => absurd h List.not_mem_nil)⟩) rfl))
 (kl_ok (ok_aP (ok_if_ne dX7_paysBy_83 rfl rfl))))
 (kn_ok
 (kl_ok (ok_aP (ok_goto dX7_paysBy_86 rfl)))
 (kl_ok (ok_aP (ok_iload dX7_paysBy_89 rfl))))))
 (kn_ok
 (kn_ok
 (kl_ok (ok_aP (ok_istore dX7_paysBy_91 rfl)))
 (kn_ok
 (kl_ok (ok_aP (ok_iload dX7_paysBy_93 rfl)))
 (kl_ok (ok_aP (ok_istore dX7_paysBy_95 rfl)))))
 (kn_ok
 (kn_ok
 (kl_ok (ok_aP (ok_iinc dX7_paysBy_97 (by decide +kernel) rfl)))
 (kl_ok (ok_aP (ok_goto dX7_paysBy_100 rfl))))
 (kn_ok
 (kl_ok (ok_aP (ok_iload dX7_paysBy_103 rfl)))
 (kl_ok (ok_iret rfl dX7_paysBy_105)))))))
/-- 203: FavourTownModel.goes(III)Z -/
noncomputable def k_X7_goes : Nat → Option AOp :=
 tn 16 (tn 7 (tn 2 (tn 1 (tl 0 (aP (f_aload 0 1)))
  (tl 1 (aP (f_iload 1 2))))
  (tn 3 (tl 2 (aP (f_const (.int (nI 2)) 3)))
  (tn 6 (tl 3 (o_callV (lkN [(18, 175)]) 2 6))
  (tl 6 (aP (f_iload 2 7))))))
  (tn 11 (tn 10 (tl 7 (aP (f_icmp (fun x y => decide (¬ x = y)) 33 10)))
  (tl 10 (aP (f_aload 0 11))))
  (tn 12 (tl 11 (aP (f_iload 1 12)))
  (tn 13 (tl 12 (aP (f_const (.int (nI 0)) 13)))
  (tl 13 (o_callV (lkN [(18, 175)]) 2 16))))))
  (tn 23 (tn 20 (tn 17 (tl 16 (aP (f_iload 3 17)))
  (tl 17 (aP (f_icmp (fun x y => decide (x = y)) 33 20))))
  (tn 21 (tl 20 (aP (f_aload 0 21)))
  (tn 22 (tl 21 (aP (f_iload 1 22)))
  (tl 22 (aP (f_iload 3 23))))))
  (tn 30 (tn 26 (tl 23 (o_callV (lkN [(18, 182)]) 2 26))
  (tn 29 (tl 26 (aP (f_if (fun x => decide (x = 0)) 33 29)))
  (tl 29 (aP (f_const (.int (nI 1)) 30)))))
  (tn 33 (tl 30 (aP (f_goto 34)))
  (tn 34 (tl 33 (aP (f_const (.int (nI 0)) 34)))
  (tl 34 (o_iret (fun x => x == 0 || x == 1)))))))
theorem kok_X7_goes {γ : AG} (hm : γ.2.2.2.2.1 = mTab) (hk : γ.2.2.2.2.2 = kTab) : KOK γ m_X7_goes k_X7_goes :=
 kn_ok
 (kn_ok
 (kn_ok
 (kn_ok
 (kl_ok (ok_aP (ok_aload_n dX7_goes_0 rfl rfl)))
 (kl_ok (ok_aP (ok_iload_n dX7_goes_1 rfl rfl))))
 (kn_ok
 (kl_ok (ok_aP (ok_iconst dX7_goes_2 rfl rfl)))
 (kn_ok
 (kl_ok (ok_callV (List.forall_mem_cons.mpr ⟨run_V (C0 := "FavourTownModel") rfl rfl (by rw [hm]; rfl) q2059 q2061 qs52 q92 q2062 ⟨nh_1, dl_6⟩ (by decide) dX7_goes_3, (fun _ h => absurd h List.not_mem_nil)⟩) rfl))
 (kl_ok (ok_aP (ok_iload_n dX7_goes_6 rfl rfl))))))
 (kn_ok
 (kn_ok
 (kl_ok (ok_aP (ok_icmp_ne dX7_goes_7 rfl rfl)))
 (kl_ok (ok_aP (ok_aload_n dX7_goes_10 rfl rfl))))
 (kn_ok
 (kl_ok (ok_aP (ok_iload_n dX7_goes_11 rfl rfl)))
 (kn_ok
 (kl_ok (ok_aP (ok_iconst dX7_goes_12 rfl rfl)))
 (kl_ok (ok_callV (List.forall_mem_cons.mpr ⟨run_V (C0 := "FavourTownModel") rfl rfl (by rw [hm]; rfl) q2059 q2061 qs52 q92 q2062 ⟨nh_1, dl_6⟩ (by decide) dX7_goes_13, (fun _ h => absurd h List.not_mem_nil)⟩) rfl))))))
 (kn_ok
 (kn_ok
 (kn_ok
 (kl_ok (ok_aP (ok_iload_n dX7_goes_16 rfl rfl)))
 (kl_ok (ok_aP (ok_icmp_eq dX7_goes_17 rfl rfl))))
 (kn_ok
 (kl_ok (ok_aP (ok_aload_n dX7_goes_20 rfl rfl)))
 (kn_ok
 (kl_ok (ok_aP (ok_iload_n dX7_goes_21 rfl rfl)))
 (kl_ok (ok_aP (ok_iload_n dX7_goes_22 rfl rfl))))))
 (kn_ok
 (kn_ok
 (kl_ok (ok_callV (List.forall_mem_cons.mpr ⟨run_V (C0 := "FavourTownModel") rfl rfl (by rw [hm]; rfl) q2087 q2089 qs58 q92 q2090 ⟨nh_1, dl_11⟩ (by decide) dX7_goes_23, (fun _ h => absurd h List.not_mem_nil)⟩) rfl))
 (kn_ok
 (kl_ok (ok_aP (ok_if_eq dX7_goes_26 rfl rfl)))
 (kl_ok (ok_aP (ok_iconst dX7_goes_29 rfl rfl)))))
 (kn_ok
 (kl_ok (ok_aP (ok_goto dX7_goes_30 rfl)))
 (kn_ok
 (kl_ok (ok_aP (ok_iconst dX7_goes_33 rfl rfl)))
 (kl_ok (ok_zret rfl z_boolean dX7_goes_34))))))
/-- 204: FavourTownModel.can(I)Z -/
noncomputable def k_X7_can : Nat → Option AOp :=
 tn 17 (tn 6 (tn 2 (tn 1 (tl 0 (aP (f_aload 0 1)))
  (tl 1 (aP (f_aload 0 2))))
  (tn 3 (tl 2 (aP (f_iload 1 3)))
  (tl 3 (o_callV (lkN [(18, 205)]) 1 6))))
  (tn 10 (tn 9 (tl 6 (aP (f_if (fun x => decide (¬ x = 0)) 13 9)))
  (tl 9 (aP (f_const (.int (nI 1)) 10))))
  (tn 13 (tl 10 (aP (f_goto 14)))
  (tn 14 (tl 13 (aP (f_const (.int (nI 0)) 14)))
  (tl 14 (o_putf [18] 0 vI 17))))))
  (tn 25 (tn 21 (tn 18 (tl 17 (aP (f_aload 0 18)))
  (tl 18 (aP (f_getf [18] 0 21))))
  (tn 24 (tl 21 (aP (f_if (fun x => decide (x ≤ 0)) 26 24)))
  (tl 24 (aP (f_const (.int (nI 0)) 25)))))
  (tn 27 (tn 26 (tl 25 (o_iret (fun x => x == 0 || x == 1)))
  (tl 26 (aP (f_aload 0 27))))
  (tn 28 (tl 27 (aP (f_iload 1 28)))
  (tn 31 (tl 28 (o_callV (lkN [(18, 206)]) 1 31))
  (tl 31 (o_iret (fun x => x == 0 || x == 1)))))))
theorem kok_X7_can {γ : AG} (hm : γ.2.2.2.2.1 = mTab) (hk : γ.2.2.2.2.2 = kTab) : KOK γ m_X7_can k_X7_can :=
 kn_ok
 (kn_ok
 (kn_ok
 (kn_ok
 (kl_ok (ok_aP (ok_aload_n dX7_can_0 rfl rfl)))
 (kl_ok (ok_aP (ok_aload_n dX7_can_1 rfl rfl))))
 (kn_ok
 (kl_ok (ok_aP (ok_iload_n dX7_can_2 rfl rfl)))
 (kl_ok (ok_callV (List.forall_mem_cons.mpr ⟨run_V (C0 := "FavourTownModel") rfl rfl (by rw [hm]; rfl) q2183 q2185 qs66 q92 q2186 ⟨nh_1, dl_2⟩ (by decide) dX7_can_3, (fun _ h => absurd h List.not_mem_nil)⟩) rfl))))
 (kn_ok
 (kn_ok
 (kl_ok (ok_aP (ok_if_ne dX7_can_6 rfl rfl)))
 (kl_ok (ok_aP (ok_iconst dX7_can_9 rfl rfl))))
 (kn_ok
 (kl_ok (ok_aP (ok_goto dX7_can_10 rfl)))
 (kn_ok
 (kl_ok (ok_aP (ok_iconst dX7_can_13 rfl rfl)))
 (kl_ok (ok_hp (ok_putf fo_53 fs_rf fn_36 (Or.inl q1839) pd_0 vI_ok dX7_can_14 rfl) le_putf))))))
 (kn_ok
 (kn_ok
 (kn_ok
 (kl_ok (ok_aP (ok_aload_n dX7_can_17 rfl rfl)))
 (kl_ok (ok_aP (ok_getf fo_53 fs_rf (Or.inl q1839) dX7_can_18 rfl))))
 (kn_ok
 (kl_ok (ok_aP (ok_if_le dX7_can_21 rfl rfl)))
 (kl_ok (ok_aP (ok_iconst dX7_can_24 rfl rfl)))))
 (kn_ok
 (kn_ok
 (kl_ok (ok_zret rfl z_boolean dX7_can_25))
 (kl_ok (ok_aP (ok_aload_n dX7_can_26 rfl rfl))))
 (kn_ok
 (kl_ok (ok_aP (ok_iload_n dX7_can_27 rfl rfl)))
 (kn_ok
 (kl_ok (ok_callV (List.forall_mem_cons.mpr ⟨run_V (C0 := "FavourTownModel") rfl rfl (by rw [hm]; rfl) q2187 q2189 qs67 q92 q2190 ⟨nh_1, dl_2⟩ (by decide) dX7_can_28, (fun _ h => absurd h List.not_mem_nil)⟩) rfl))
 (kl_ok (ok_zret rfl z_boolean dX7_can_31))))))
/-- 205: FavourTownModel.isNeed(I)Z -/
noncomputable def k_X7_isNeed : Nat → Option AOp :=
 tn 7 (tn 2 (tn 1 (tl 0 (aP (f_iload 1 1)))
  (tl 1 (aP (f_const (.int (nI 0)) 2))))
  (tn 3 (tl 2 (aP (f_aload 0 3)))
  (tn 6 (tl 3 (aP (f_getf [18] 1 6)))
  (tl 6 (aP (f_const (.int (nI 4)) 7))))))
  (tn 9 (tn 8 (tl 7 (aP (f_iald 0 8)))
  (tl 8 (aP (f_const (.int (nI 1)) 9))))
  (tn 10 (tl 9 (aP (f_bin (fun x y => x - y) 10)))
  (tn 13 (tl 10 (o_callS 153 3 13))
  (tl 13 (o_iret (fun x => x == 0 || x == 1))))))
theorem kok_X7_isNeed {γ : AG} (hm : γ.2.2.2.2.1 = mTab) (hk : γ.2.2.2.2.2 = kTab) : KOK γ m_X7_isNeed k_X7_isNeed :=
 kn_ok
 (kn_ok
 (kn_ok
 (kl_ok (ok_aP (ok_iload_n dX7_isNeed_0 rfl rfl)))
 (kl_ok (ok_aP (ok_iconst dX7_isNeed_1 rfl rfl))))
 (kn_ok
 (kl_ok (ok_aP (ok_aload_n dX7_isNeed_2 rfl rfl)))
 (kn_ok
 (kl_ok (ok_aP (ok_getf fo_54 fs_rf (Or.inl q1840) dX7_isNeed_3 rfl)))
 (kl_ok (ok_aP (ok_iconst dX7_isNeed_6 rfl rfl))))))
 (kn_ok
 (kn_ok
 (kl_ok (ok_aP (ok_iald dX7_isNeed_7 rfl)))
 (kl_ok (ok_aP (ok_iconst dX7_isNeed_8 rfl rfl))))
 (kn_ok
 (kl_ok (ok_aP (ok_isub dX7_isNeed_9 rfl)))
 (kn_ok
 (kl_ok (ok_callS (run_S (by rw [hm]; rfl) q1939 q1940 q92 q1941 ⟨nh_1, dl_17⟩ (by decide) dX7_isNeed_10) rfl))
 (kl_ok (ok_zret rfl z_boolean dX7_isNeed_13)))))
/-- 206: FavourTownModel.canNeed(I)Z -/
noncomputable def k_X7_canNeed : Nat → Option AOp :=
 tn 21 (tn 10 (tn 5 (tn 1 (tl 0 (aP (f_aload 0 1)))
  (tn 2 (tl 1 (aP (f_aload 0 2)))
  (tl 2 (aP (f_getf [18] 1 5)))))
  (tn 8 (tn 7 (tl 5 (aP (f_const (.int (nI 46)) 7)))
  (tl 7 (aP (f_const (.int (nI 3)) 8))))
  (tn 9 (tl 8 (aP (f_iload 1 9)))
  (tl 9 (aP (f_bin (fun x y => x * y) 10))))))
  (tn 16 (tn 12 (tn 11 (tl 10 (aP (f_bin (fun x y => x + y) 11)))
  (tl 11 (aP (f_iald 0 12))))
  (tn 13 (tl 12 (aP (f_aload 0 13)))
  (tl 13 (aP (f_getf [18] 1 16)))))
  (tn 19 (tn 18 (tl 16 (aP (f_const (.int (nI 46)) 18)))
  (tl 18 (aP (f_const (.int (nI 3)) 19))))
  (tn 20 (tl 19 (aP (f_iload 1 20)))
  (tl 20 (aP (f_bin (fun x y => x * y) 21)))))))
  (tn 32 (tn 25 (tn 23 (tn 22 (tl 21 (aP (f_bin (fun x y => x + y) 22)))
  (tl 22 (aP (f_const (.int (nI 1)) 23))))
  (tn 24 (tl 23 (aP (f_bin (fun x y => x + y) 24)))
  (tl 24 (aP (f_iald 0 25)))))
  (tn 29 (tn 26 (tl 25 (aP (f_aload 0 26)))
  (tl 26 (aP (f_getf [18] 1 29))))
  (tn 31 (tl 29 (aP (f_const (.int (nI 46)) 31)))
  (tl 31 (aP (f_const (.int (nI 3)) 32))))))
  (tn 36 (tn 34 (tn 33 (tl 32 (aP (f_iload 1 33)))
  (tl 33 (aP (f_bin (fun x y => x * y) 34))))
  (tn 35 (tl 34 (aP (f_bin (fun x y => x + y) 35)))
  (tl 35 (aP (f_const (.int (nI 2)) 36)))))
  (tn 38 (tn 37 (tl 36 (aP (f_bin (fun x y => x + y) 37)))
  (tl 37 (aP (f_iald 0 38))))
  (tn 41 (tl 38 (o_callV (lkN [(18, 207)]) 3 41))
  (tl 41 (o_iret (fun x => x == 0 || x == 1)))))))
theorem kok_X7_canNeed {γ : AG} (hm : γ.2.2.2.2.1 = mTab) (hk : γ.2.2.2.2.2 = kTab) : KOK γ m_X7_canNeed k_X7_canNeed :=
 kn_ok
 (kn_ok
 (kn_ok
 (kn_ok
 (kl_ok (ok_aP (ok_aload_n dX7_canNeed_0 rfl rfl)))
 (kn_ok
 (kl_ok (ok_aP (ok_aload_n dX7_canNeed_1 rfl rfl)))
 (kl_ok (ok_aP (ok_getf fo_54 fs_rf (Or.inl q1840) dX7_canNeed_2 rfl)))))
 (kn_ok
 (kn_ok
 (kl_ok (ok_aP (ok_bipush dX7_canNeed_5 (by decide +kernel) rfl)))
 (kl_ok (ok_aP (ok_iconst dX7_canNeed_7 rfl rfl))))
 (kn_ok
 (kl_ok (ok_aP (ok_iload_n dX7_canNeed_8 rfl rfl)))
 (kl_ok (ok_aP (ok_imul dX7_canNeed_9 rfl))))))
 (kn_ok
 (kn_ok
 (kn_ok
 (kl_ok (ok_aP (ok_iadd dX7_canNeed_10 rfl)))
 (kl_ok (ok_aP (ok_iald dX7_canNeed_11 rfl))))
 (kn_ok
 (kl_ok (ok_aP (ok_aload_n dX7_canNeed_12 rfl rfl)))
 (kl_ok (ok_aP (ok_getf fo_54 fs_rf (Or.inl q1840) dX7_canNeed_13 rfl)))))
 (kn_ok
 (kn_ok
 (kl_ok (ok_aP (ok_bipush dX7_canNeed_16 (by decide +kernel) rfl)))
 (kl_ok (ok_aP (ok_iconst dX7_canNeed_18 rfl rfl))))
 (kn_ok
 (kl_ok (ok_aP (ok_iload_n dX7_canNeed_19 rfl rfl)))
 (kl_ok (ok_aP (ok_imul dX7_canNeed_20 rfl)))))))
 (kn_ok
 (kn_ok
 (kn_ok
 (kn_ok
 (kl_ok (ok_aP (ok_iadd dX7_canNeed_21 rfl)))
 (kl_ok (ok_aP (ok_iconst dX7_canNeed_22 rfl rfl))))
 (kn_ok
 (kl_ok (ok_aP (ok_iadd dX7_canNeed_23 rfl)))
 (kl_ok (ok_aP (ok_iald dX7_canNeed_24 rfl)))))
 (kn_ok
 (kn_ok
 (kl_ok (ok_aP (ok_aload_n dX7_canNeed_25 rfl rfl)))
 (kl_ok (ok_aP (ok_getf fo_54 fs_rf (Or.inl q1840) dX7_canNeed_26 rfl))))
 (kn_ok
 (kl_ok (ok_aP (ok_bipush dX7_canNeed_29 (by decide +kernel) rfl)))
 (kl_ok (ok_aP (ok_iconst dX7_canNeed_31 rfl rfl))))))
 (kn_ok
 (kn_ok
 (kn_ok
 (kl_ok (ok_aP (ok_iload_n dX7_canNeed_32 rfl rfl)))
 (kl_ok (ok_aP (ok_imul dX7_canNeed_33 rfl))))
 (kn_ok
 (kl_ok (ok_aP (ok_iadd dX7_canNeed_34 rfl)))
 (kl_ok (ok_aP (ok_iconst dX7_canNeed_35 rfl rfl)))))
 (kn_ok
 (kn_ok
 (kl_ok (ok_aP (ok_iadd dX7_canNeed_36 rfl)))
 (kl_ok (ok_aP (ok_iald dX7_canNeed_37 rfl))))
 (kn_ok
 (kl_ok (ok_callV (List.forall_mem_cons.mpr ⟨run_V (C0 := "FavourTownModel") rfl rfl (by rw [hm]; rfl) q2191 q2193 qs68 q92 q2194 ⟨nh_1, dl_17⟩ (by decide) dX7_canNeed_38, (fun _ h => absurd h List.not_mem_nil)⟩) rfl))
 (kl_ok (ok_zret rfl z_boolean dX7_canNeed_41))))))
/-- 207: FavourTownModel.canMeet(III)Z -/
noncomputable def k_X7_canMeet : Nat → Option AOp :=
 tn 13 (tn 4 (tn 2 (tn 1 (tl 0 (aP (f_aload 0 1)))
  (tl 1 (aP (f_iload 1 2))))
  (tn 3 (tl 2 (aP (f_iload 2 3)))
  (tl 3 (aP (f_iload 3 4)))))
  (tn 8 (tn 7 (tl 4 (o_callV (lkN [(18, 202)]) 3 7))
  (tl 7 (aP (f_const (.int (-1)) 8))))
  (tn 11 (tl 8 (aP (f_icmp (fun x y => decide (¬ x = y)) 23 11)))
  (tn 12 (tl 11 (aP (f_aload 0 12)))
  (tl 12 (aP (f_iload 1 13)))))))
  (tn 20 (tn 15 (tn 14 (tl 13 (aP (f_iload 2 14)))
  (tl 14 (aP (f_iload 3 15))))
  (tn 16 (tl 15 (aP (f_const (.int (-1)) 16)))
  (tn 17 (tl 16 (aP (f_const (.int (nI 0)) 17)))
  (tl 17 (o_callV (lkN [(18, 173)]) 5 20)))))
  (tn 24 (tn 23 (tl 20 (aP (f_if (fun x => decide (x = 0)) 27 23)))
  (tl 23 (aP (f_const (.int (nI 1)) 24))))
  (tn 27 (tl 24 (aP (f_goto 28)))
  (tn 28 (tl 27 (aP (f_const (.int (nI 0)) 28)))
  (tl 28 (o_iret (fun x => x == 0 || x == 1)))))))
theorem kok_X7_canMeet {γ : AG} (hm : γ.2.2.2.2.1 = mTab) (hk : γ.2.2.2.2.2 = kTab) : KOK γ m_X7_canMeet k_X7_canMeet :=
 kn_ok
 (kn_ok
 (kn_ok
 (kn_ok
 (kl_ok (ok_aP (ok_aload_n dX7_canMeet_0 rfl rfl)))
 (kl_ok (ok_aP (ok_iload_n dX7_canMeet_1 rfl rfl))))
 (kn_ok
 (kl_ok (ok_aP (ok_iload_n dX7_canMeet_2 rfl rfl)))
 (kl_ok (ok_aP (ok_iload_n dX7_canMeet_3 rfl rfl)))))
 (kn_ok
 (kn_ok
 (kl_ok (ok_callV (List.forall_mem_cons.mpr ⟨run_V (C0 := "FavourTownModel") rfl rfl (by rw [hm]; rfl) q2171 q2173 qs64 q92 q2174 ⟨nh_1, dl_13⟩ (by decide) dX7_canMeet_4, (fun _ h => absurd h List.not_mem_nil)⟩) rfl))
 (kl_ok (ok_aP (ok_iconst dX7_canMeet_7 rfl rfl))))
 (kn_ok
 (kl_ok (ok_aP (ok_icmp_ne dX7_canMeet_8 rfl rfl)))
 (kn_ok
 (kl_ok (ok_aP (ok_aload_n dX7_canMeet_11 rfl rfl)))
 (kl_ok (ok_aP (ok_iload_n dX7_canMeet_12 rfl rfl)))))))
 (kn_ok
 (kn_ok
 (kn_ok
 (kl_ok (ok_aP (ok_iload_n dX7_canMeet_13 rfl rfl)))
 (kl_ok (ok_aP (ok_iload_n dX7_canMeet_14 rfl rfl))))
 (kn_ok
 (kl_ok (ok_aP (ok_iconst dX7_canMeet_15 rfl rfl)))
 (kn_ok
 (kl_ok (ok_aP (ok_iconst dX7_canMeet_16 rfl rfl)))
 (kl_ok (ok_callV (List.forall_mem_cons.mpr ⟨run_V (C0 := "FavourTownModel") rfl rfl (by rw [hm]; rfl) q2051 q2053 qs50 q92 q2054 ⟨nh_1, dl_33⟩ (by decide) dX7_canMeet_17, (fun _ h => absurd h List.not_mem_nil)⟩) rfl)))))
 (kn_ok
 (kn_ok
 (kl_ok (ok_aP (ok_if_eq dX7_canMeet_20 rfl rfl)))
 (kl_ok (ok_aP (ok_iconst dX7_canMeet_23 rfl rfl))))
 (kn_ok
 (kl_ok (ok_aP (ok_goto dX7_canMeet_24 rfl)))
 (kn_ok
 (kl_ok (ok_aP (ok_iconst dX7_canMeet_27 rfl rfl)))
 (kl_ok (ok_zret rfl z_boolean dX7_canMeet_28))))))
/-- 208: FavourTownModel.meet(I)I -/
noncomputable def k_X7_meet : Nat → Option AOp :=
 tn 37 (tn 21 (tn 9 (tn 2 (tn 1 (tl 0 (aP (f_aload 0 1)))
  (tl 1 (aP (f_aload 0 2))))
  (tn 3 (tl 2 (aP (f_iload 1 3)))
  (tn 6 (tl 3 (o_callV (lkN [(18, 205)]) 1 6))
  (tl 6 (aP (f_if (fun x => decide (¬ x = 0)) 13 9))))))
  (tn 14 (tn 10 (tl 9 (aP (f_const (.int (nI 1)) 10)))
  (tn 13 (tl 10 (aP (f_goto 14)))
  (tl 13 (aP (f_const (.int (nI 0)) 14)))))
  (tn 17 (tl 14 (o_putf [18] 0 vI 17))
  (tn 18 (tl 17 (aP (f_aload 0 18)))
  (tl 18 (aP (f_getf [18] 0 21)))))))
  (tn 28 (tn 25 (tn 24 (tl 21 (aP (f_if (fun x => decide (x ≤ 0)) 26 24)))
  (tl 24 (aP (f_const (.int (nI 0)) 25))))
  (tn 26 (tl 25 (o_iret (fun _ => true)))
  (tn 27 (tl 26 (aP (f_aload 0 27)))
  (tl 27 (aP (f_aload 0 28))))))
  (tn 34 (tn 31 (tl 28 (aP (f_getf [18] 1 31)))
  (tn 33 (tl 31 (aP (f_const (.int (nI 46)) 33)))
  (tl 33 (aP (f_const (.int (nI 3)) 34)))))
  (tn 35 (tl 34 (aP (f_iload 1 35)))
  (tn 36 (tl 35 (aP (f_bin (fun x y => x * y) 36)))
  (tl 36 (aP (f_bin (fun x y => x + y) 37))))))))
  (tn 51 (tn 45 (tn 39 (tn 38 (tl 37 (aP (f_iald 0 38)))
  (tl 38 (aP (f_aload 0 39))))
  (tn 42 (tl 39 (aP (f_getf [18] 1 42)))
  (tn 44 (tl 42 (aP (f_const (.int (nI 46)) 44)))
  (tl 44 (aP (f_const (.int (nI 3)) 45))))))
  (tn 48 (tn 46 (tl 45 (aP (f_iload 1 46)))
  (tn 47 (tl 46 (aP (f_bin (fun x y => x * y) 47)))
  (tl 47 (aP (f_bin (fun x y => x + y) 48)))))
  (tn 49 (tl 48 (aP (f_const (.int (nI 1)) 49)))
  (tn 50 (tl 49 (aP (f_bin (fun x y => x + y) 50)))
  (tl 50 (aP (f_iald 0 51)))))))
  (tn 60 (tn 57 (tn 52 (tl 51 (aP (f_aload 0 52)))
  (tn 55 (tl 52 (aP (f_getf [18] 1 55)))
  (tl 55 (aP (f_const (.int (nI 46)) 57)))))
  (tn 58 (tl 57 (aP (f_const (.int (nI 3)) 58)))
  (tn 59 (tl 58 (aP (f_iload 1 59)))
  (tl 59 (aP (f_bin (fun x y => x * y) 60))))))
  (tn 63 (tn 61 (tl 60 (aP (f_bin (fun x y => x + y) 61)))
  (tn 62 (tl 61 (aP (f_const (.int (nI 2)) 62)))
  (tl 62 (aP (f_bin (fun x y => x + y) 63)))))
  (tn 64 (tl 63 (aP (f_iald 0 64)))
  (tn 67 (tl 64 (o_callV (lkN [(18, 209)]) 3 67))
  (tl 67 (o_iret (fun _ => true))))))))
theorem kok_X7_meet {γ : AG} (hm : γ.2.2.2.2.1 = mTab) (hk : γ.2.2.2.2.2 = kTab) : KOK γ m_X7_meet k_X7_meet :=
 kn_ok
 (kn_ok
 (kn_ok
 (kn_ok
 (kn_ok
 (kl_ok (ok_aP (ok_aload_n dX7_meet_0 rfl rfl)))
 (kl_ok (ok_aP (ok_aload_n dX7_meet_1 rfl rfl))))
 (kn_ok
 (kl_ok (ok_aP (ok_iload_n dX7_meet_2 rfl rfl)))
 (kn_ok
 (kl_ok (ok_callV (List.forall_mem_cons.mpr ⟨run_V (C0 := "FavourTownModel") rfl rfl (by rw [hm]; rfl) q2183 q2185 qs66 q92 q2186 ⟨nh_1, dl_2⟩ (by decide) dX7_meet_3, (fun _ h => absurd h List.not_mem_nil)⟩) rfl))
 (kl_ok (ok_aP (ok_if_ne dX7_meet_6 rfl rfl))))))
 (kn_ok
 (kn_ok
 (kl_ok (ok_aP (ok_iconst dX7_meet_9 rfl rfl)))
 (kn_ok
 (kl_ok (ok_aP (ok_goto dX7_meet_10 rfl)))
 (kl_ok (ok_aP (ok_iconst dX7_meet_13 rfl rfl)))))
 (kn_ok
 (kl_ok (ok_hp (ok_putf fo_53 fs_rf fn_36 (Or.inl q1839) pd_0 vI_ok dX7_meet_14 rfl) le_putf))
 (kn_ok
 (kl_ok (ok_aP (ok_aload_n dX7_meet_17 rfl rfl)))
 (kl_ok (ok_aP (ok_getf fo_53 fs_rf (Or.inl q1839) dX7_meet_18 rfl)))))))
 (kn_ok
 (kn_ok
 (kn_ok
 (kl_ok (ok_aP (ok_if_le dX7_meet_21 rfl rfl)))
 (kl_ok (ok_aP (ok_iconst dX7_meet_24 rfl rfl))))
 (kn_ok
 (kl_ok (ok_iret rfl dX7_meet_25))
 (kn_ok
 (kl_ok (ok_aP (ok_aload_n dX7_meet_26 rfl rfl)))
 (kl_ok (ok_aP (ok_aload_n dX7_meet_27 rfl rfl))))))
 (kn_ok
 (kn_ok
 (kl_ok (ok_aP (ok_getf fo_54 fs_rf (Or.inl q1840) dX7_meet_28 rfl)))
 (kn_ok
 (kl_ok (ok_aP (ok_bipush dX7_meet_31 (by decide +kernel) rfl)))
 (kl_ok (ok_aP (ok_iconst dX7_meet_33 rfl rfl)))))
 (kn_ok
 (kl_ok (ok_aP (ok_iload_n dX7_meet_34 rfl rfl)))
 (kn_ok
 (kl_ok (ok_aP (ok_imul dX7_meet_35 rfl)))
 (kl_ok (ok_aP (ok_iadd dX7_meet_36 rfl))))))))
 (kn_ok
 (kn_ok
 (kn_ok
 (kn_ok
 (kl_ok (ok_aP (ok_iald dX7_meet_37 rfl)))
 (kl_ok (ok_aP (ok_aload_n dX7_meet_38 rfl rfl))))
 (kn_ok
 (kl_ok (ok_aP (ok_getf fo_54 fs_rf (Or.inl q1840) dX7_meet_39 rfl)))
 (kn_ok
 (kl_ok (ok_aP (ok_bipush dX7_meet_42 (by decide +kernel) rfl)))
 (kl_ok (ok_aP (ok_iconst dX7_meet_44 rfl rfl))))))
 (kn_ok
 (kn_ok
 (kl_ok (ok_aP (ok_iload_n dX7_meet_45 rfl rfl)))
 (kn_ok
 (kl_ok (ok_aP (ok_imul dX7_meet_46 rfl)))
 (kl_ok (ok_aP (ok_iadd dX7_meet_47 rfl)))))
 (kn_ok
 (kl_ok (ok_aP (ok_iconst dX7_meet_48 rfl rfl)))
 (kn_ok
 (kl_ok (ok_aP (ok_iadd dX7_meet_49 rfl)))
 (kl_ok (ok_aP (ok_iald dX7_meet_50 rfl)))))))
 (kn_ok
 (kn_ok
 (kn_ok
 (kl_ok (ok_aP (ok_aload_n dX7_meet_51 rfl rfl)))
 (kn_ok
 (kl_ok (ok_aP (ok_getf fo_54 fs_rf (Or.inl q1840) dX7_meet_52 rfl)))
 (kl_ok (ok_aP (ok_bipush dX7_meet_55 (by decide +kernel) rfl)))))
 (kn_ok
 (kl_ok (ok_aP (ok_iconst dX7_meet_57 rfl rfl)))
 (kn_ok
 (kl_ok (ok_aP (ok_iload_n dX7_meet_58 rfl rfl)))
 (kl_ok (ok_aP (ok_imul dX7_meet_59 rfl))))))
 (kn_ok
 (kn_ok
 (kl_ok (ok_aP (ok_iadd dX7_meet_60 rfl)))
 (kn_ok
 (kl_ok (ok_aP (ok_iconst dX7_meet_61 rfl rfl)))
 (kl_ok (ok_aP (ok_iadd dX7_meet_62 rfl)))))
 (kn_ok
 (kl_ok (ok_aP (ok_iald dX7_meet_63 rfl)))
 (kn_ok
 (kl_ok (ok_callV (List.forall_mem_cons.mpr ⟨run_V (C0 := "FavourTownModel") rfl rfl (by rw [hm]; rfl) q2199 q2201 qs69 q92 q2202 ⟨nh_1, dl_13⟩ (by decide) dX7_meet_64, (fun _ h => absurd h List.not_mem_nil)⟩) rfl))
 (kl_ok (ok_iret rfl dX7_meet_67)))))))
/-- 209: FavourTownModel.meets(III)I -/
noncomputable def k_X7_meets : Nat → Option AOp :=
 tn 30 (tn 12 (tn 4 (tn 2 (tn 1 (tl 0 (aP (f_aload 0 1)))
  (tl 1 (aP (f_iload 1 2))))
  (tn 3 (tl 2 (aP (f_iload 2 3)))
  (tl 3 (aP (f_iload 3 4)))))
  (tn 9 (tn 7 (tl 4 (o_callV (lkN [(18, 202)]) 3 7))
  (tl 7 (aP (f_istore 4 9))))
  (tn 10 (tl 9 (aP (f_aload 0 10)))
  (tl 10 (aP (f_iload 4 12))))))
  (tn 20 (tn 16 (tn 13 (tl 12 (aP (f_const (.int (-1)) 13)))
  (tl 13 (aP (f_icmp (fun x y => decide (x = y)) 20 16))))
  (tn 17 (tl 16 (aP (f_const (.int (nI 1)) 17)))
  (tl 17 (aP (f_goto 21)))))
  (tn 24 (tn 21 (tl 20 (aP (f_const (.int (nI 0)) 21)))
  (tl 21 (o_putf [18] 26 vZ 24)))
  (tn 26 (tl 24 (aP (f_iload 4 26)))
  (tn 27 (tl 26 (aP (f_const (.int (-1)) 27)))
  (tl 27 (aP (f_icmp (fun x y => decide (¬ x = y)) 40 30))))))))
  (tn 41 (tn 34 (tn 32 (tn 31 (tl 30 (aP (f_aload 0 31)))
  (tl 31 (aP (f_iload 1 32))))
  (tn 33 (tl 32 (aP (f_iload 2 33)))
  (tl 33 (aP (f_iload 3 34)))))
  (tn 36 (tn 35 (tl 34 (aP (f_const (.int (nI 0)) 35)))
  (tl 35 (aP (f_const (.int (nI 0)) 36))))
  (tn 39 (tl 36 (o_callV (lkN [(18, 172)]) 5 39))
  (tn 40 (tl 39 (o_iret (fun _ => true)))
  (tl 40 (aP (f_aload 0 41)))))))
  (tn 48 (tn 44 (tn 43 (tl 41 (aP (f_iload 4 43)))
  (tl 43 (aP (f_iload 2 44))))
  (tn 47 (tl 44 (o_callV (lkN [(18, 181)]) 2 47))
  (tl 47 (aP (f_const (.int (-1)) 48)))))
  (tn 52 (tn 51 (tl 48 (aP (f_icmp (fun x y => decide (¬ x = y)) 55 51)))
  (tl 51 (aP (f_const (.int (-1)) 52))))
  (tn 55 (tl 52 (aP (f_goto 57)))
  (tn 57 (tl 55 (aP (f_iload 4 57)))
  (tl 57 (o_iret (fun _ => true))))))))
theorem kok_X7_meets {γ : AG} (hm : γ.2.2.2.2.1 = mTab) (hk : γ.2.2.2.2.2 = kTab) : KOK γ m_X7_meets k_X7_meets :=
 kn_ok
 (kn_ok
 (kn_ok
 (kn_ok
 (kn_ok
 (kl_ok (ok_aP (ok_aload_n dX7_meets_0 rfl rfl)))
 (kl_ok (ok_aP (ok_iload_n dX7_meets_1 rfl rfl))))
 (kn_ok
 (kl_ok (ok_aP (ok_iload_n dX7_meets_2 rfl rfl)))
 (kl_ok (ok_aP (ok_iload_n dX7_meets_3 rfl rfl)))))
 (kn_ok
 (kn_ok
 (kl_ok (ok_callV (List.forall_mem_cons.mpr ⟨run_V (C0 := "FavourTownModel") rfl rfl (by rw [hm]; rfl) q2171 q2173 qs64 q92 q2174 ⟨nh_1, dl_13⟩ (by decide) dX7_meets_4, (fun _ h => absurd h List.not_mem_nil)⟩) rfl))
 (kl_ok (ok_aP (ok_istore dX7_meets_7 rfl))))
 (kn_ok
 (kl_ok (ok_aP (ok_aload_n dX7_meets_9 rfl rfl)))
 (kl_ok (ok_aP (ok_iload dX7_meets_10 rfl))))))
 (kn_ok
 (kn_ok
 (kn_ok
 (kl_ok (ok_aP (ok_iconst dX7_meets_12 rfl rfl)))
 (kl_ok (ok_aP (ok_icmp_eq dX7_meets_13 rfl rfl))))
 (kn_ok
 (kl_ok (ok_aP (ok_iconst dX7_meets_16 rfl rfl)))
 (kl_ok (ok_aP (ok_goto dX7_meets_17 rfl)))))
 (kn_ok
 (kn_ok
 (kl_ok (ok_aP (ok_iconst dX7_meets_20 rfl rfl)))
 (kl_ok (ok_hp (ok_putf fo_59 fs_rf fn_39 (Or.inl q1865) pd_1 vZ_ok dX7_meets_21 rfl) le_putf)))
 (kn_ok
 (kl_ok (ok_aP (ok_iload dX7_meets_24 rfl)))
 (kn_ok
 (kl_ok (ok_aP (ok_iconst dX7_meets_26 rfl rfl)))
 (kl_ok (ok_aP (ok_icmp_ne dX7_meets_27 rfl rfl))))))))
 (kn_ok
 (kn_ok
 (kn_ok
 (kn_ok
 (kl_ok (ok_aP (ok_aload_n dX7_meets_30 rfl rfl)))
 (kl_ok (ok_aP (ok_iload_n dX7_meets_31 rfl rfl))))
 (kn_ok
 (kl_ok (ok_aP (ok_iload_n dX7_meets_32 rfl rfl)))
 (kl_ok (ok_aP (ok_iload_n dX7_meets_33 rfl rfl)))))
 (kn_ok
 (kn_ok
 (kl_ok (ok_aP (ok_iconst dX7_meets_34 rfl rfl)))
 (kl_ok (ok_aP (ok_iconst dX7_meets_35 rfl rfl))))
 (kn_ok
 (kl_ok (ok_callV (List.forall_mem_cons.mpr ⟨run_V (C0 := "FavourTownModel") rfl rfl (by rw [hm]; rfl) q2047 q2049 qs49 q92 q2050 ⟨nh_1, dl_8⟩ (by decide) dX7_meets_36, (fun _ h => absurd h List.not_mem_nil)⟩) rfl))
 (kn_ok
 (kl_ok (ok_iret rfl dX7_meets_39))
 (kl_ok (ok_aP (ok_aload_n dX7_meets_40 rfl rfl)))))))
 (kn_ok
 (kn_ok
 (kn_ok
 (kl_ok (ok_aP (ok_iload dX7_meets_41 rfl)))
 (kl_ok (ok_aP (ok_iload_n dX7_meets_43 rfl rfl))))
 (kn_ok
 (kl_ok (ok_callV (List.forall_mem_cons.mpr ⟨run_V (C0 := "FavourTownModel") rfl rfl (by rw [hm]; rfl) q2083 q2085 qs57 q92 q2086 ⟨nh_1, dl_6⟩ (by decide) dX7_meets_44, (fun _ h => absurd h List.not_mem_nil)⟩) rfl))
 (kl_ok (ok_aP (ok_iconst dX7_meets_47 rfl rfl)))))
 (kn_ok
 (kn_ok
 (kl_ok (ok_aP (ok_icmp_ne dX7_meets_48 rfl rfl)))
 (kl_ok (ok_aP (ok_iconst dX7_meets_51 rfl rfl))))
 (kn_ok
 (kl_ok (ok_aP (ok_goto dX7_meets_52 rfl)))
 (kn_ok
 (kl_ok (ok_aP (ok_iload dX7_meets_55 rfl)))
 (kl_ok (ok_iret rfl dX7_meets_57)))))))
/-- 210: FavourTownModel.enough(I)Z -/
noncomputable def k_X7_enough : Nat → Option AOp :=
 tn 10 (tn 5 (tn 1 (tl 0 (aP (f_aload 0 1)))
  (tn 2 (tl 1 (aP (f_const (.int (nI 0)) 2)))
  (tl 2 (o_putf [18] 0 vI 5))))
  (tn 6 (tl 5 (aP (f_aload 0 6)))
  (tn 7 (tl 6 (aP (f_iload 1 7)))
  (tl 7 (o_callV (lkN [(18, 211)]) 1 10)))))
  (tn 15 (tn 11 (tl 10 (aP (f_const (.int (-1)) 11)))
  (tn 14 (tl 11 (aP (f_icmp (fun x y => decide (¬ x = y)) 18 14)))
  (tl 14 (aP (f_const (.int (nI 1)) 15)))))
  (tn 18 (tl 15 (aP (f_goto 19)))
  (tn 19 (tl 18 (aP (f_const (.int (nI 0)) 19)))
  (tl 19 (o_iret (fun x => x == 0 || x == 1))))))
theorem kok_X7_enough {γ : AG} (hm : γ.2.2.2.2.1 = mTab) (hk : γ.2.2.2.2.2 = kTab) : KOK γ m_X7_enough k_X7_enough :=
 kn_ok
 (kn_ok
 (kn_ok
 (kl_ok (ok_aP (ok_aload_n dX7_enough_0 rfl rfl)))
 (kn_ok
 (kl_ok (ok_aP (ok_iconst dX7_enough_1 rfl rfl)))
 (kl_ok (ok_hp (ok_putf fo_53 fs_rf fn_36 (Or.inl q1839) pd_0 vI_ok dX7_enough_2 rfl) le_putf))))
 (kn_ok
 (kl_ok (ok_aP (ok_aload_n dX7_enough_5 rfl rfl)))
 (kn_ok
 (kl_ok (ok_aP (ok_iload_n dX7_enough_6 rfl rfl)))
 (kl_ok (ok_callV (List.forall_mem_cons.mpr ⟨run_V (C0 := "FavourTownModel") rfl rfl (by rw [hm]; rfl) q2207 q2209 qs70 q92 q2210 ⟨nh_1, dl_10⟩ (by decide) dX7_enough_7, (fun _ h => absurd h List.not_mem_nil)⟩) rfl)))))
 (kn_ok
 (kn_ok
 (kl_ok (ok_aP (ok_iconst dX7_enough_10 rfl rfl)))
 (kn_ok
 (kl_ok (ok_aP (ok_icmp_ne dX7_enough_11 rfl rfl)))
 (kl_ok (ok_aP (ok_iconst dX7_enough_14 rfl rfl)))))
 (kn_ok
 (kl_ok (ok_aP (ok_goto dX7_enough_15 rfl)))
 (kn_ok
 (kl_ok (ok_aP (ok_iconst dX7_enough_18 rfl rfl)))
 (kl_ok (ok_zret rfl z_boolean dX7_enough_19)))))
/-- 211: FavourTownModel.witnessOf(I)I -/
noncomputable def k_X7_witnessOf : Nat → Option AOp :=
 tn 50 (tn 24 (tn 12 (tn 4 (tn 2 (tn 1 (tl 0 (aP (f_const (.int (nI 0)) 1)))
  (tl 1 (aP (f_istore 2 2))))
  (tn 3 (tl 2 (aP (f_iload 2 3)))
  (tl 3 (aP (f_aload 0 4)))))
  (tn 8 (tn 7 (tl 4 (aP (f_getf [18] 1 7)))
  (tl 7 (aP (f_const (.int (nI 3)) 8))))
  (tn 9 (tl 8 (aP (f_iald 0 9)))
  (tl 9 (aP (f_icmp (fun x y => decide (y ≤ x)) 30 12))))))
  (tn 18 (tn 16 (tn 13 (tl 12 (aP (f_aload 0 13)))
  (tl 13 (aP (f_getf [18] 27 16))))
  (tn 17 (tl 16 (aP (f_iload 2 17)))
  (tl 17 (aP (f_aload 0 18)))))
  (tn 20 (tn 19 (tl 18 (aP (f_iload 2 19)))
  (tl 19 (aP (f_const (.int (nI 2)) 20))))
  (tn 23 (tl 20 (o_callV (lkN [(18, 175)]) 2 23))
  (tl 23 (o_iast 0 (fun y => y) 24))))))
  (tn 38 (tn 32 (tn 30 (tn 27 (tl 24 (aP (f_iinc 2 (nI 1) 27)))
  (tl 27 (aP (f_goto 2))))
  (tn 31 (tl 30 (aP (f_aload 0 31)))
  (tl 31 (aP (f_iload 1 32)))))
  (tn 36 (tn 35 (tl 32 (o_callV (lkN [(18, 212)]) 1 35))
  (tl 35 (aP (f_pop 36))))
  (tn 37 (tl 36 (aP (f_const (.int (nI 0)) 37)))
  (tl 37 (aP (f_istore 2 38))))))
  (tn 44 (tn 40 (tn 39 (tl 38 (aP (f_iload 2 39)))
  (tl 39 (aP (f_aload 0 40))))
  (tn 43 (tl 40 (aP (f_getf [18] 1 43)))
  (tl 43 (aP (f_const (.int (nI 4)) 44)))))
  (tn 48 (tn 45 (tl 44 (aP (f_iald 0 45)))
  (tl 45 (aP (f_icmp (fun x y => decide (y ≤ x)) 62 48))))
  (tn 49 (tl 48 (aP (f_aload 0 49)))
  (tl 49 (aP (f_iload 2 50))))))))
  (tn 78 (tn 66 (tn 62 (tn 56 (tn 53 (tl 50 (o_callV (lkN [(18, 206)]) 1 53))
  (tl 53 (aP (f_if (fun x => decide (x = 0)) 62 56))))
  (tn 59 (tl 56 (aP (f_iinc 2 (nI 1) 59)))
  (tl 59 (aP (f_goto 38)))))
  (tn 64 (tn 63 (tl 62 (aP (f_const (.int (nI 0)) 63)))
  (tl 63 (aP (f_istore 3 64))))
  (tn 65 (tl 64 (aP (f_iload 3 65)))
  (tl 65 (aP (f_aload 0 66))))))
  (tn 74 (tn 70 (tn 69 (tl 66 (aP (f_getf [18] 1 69)))
  (tl 69 (aP (f_const (.int (nI 3)) 70))))
  (tn 71 (tl 70 (aP (f_iald 0 71)))
  (tl 71 (aP (f_icmp (fun x y => decide (y ≤ x)) 92 74)))))
  (tn 76 (tn 75 (tl 74 (aP (f_aload 0 75)))
  (tl 75 (aP (f_iload 3 76))))
  (tn 77 (tl 76 (aP (f_const (.int (nI 2)) 77)))
  (tl 77 (aP (f_aload 0 78)))))))
  (tn 94 (tn 86 (tn 82 (tn 81 (tl 78 (aP (f_getf [18] 27 81)))
  (tl 81 (aP (f_iload 3 82))))
  (tn 83 (tl 82 (aP (f_iald 0 83)))
  (tl 83 (o_callV (lkN [(18, 180)]) 3 86))))
  (tn 92 (tn 89 (tl 86 (aP (f_iinc 3 (nI 1) 89)))
  (tl 89 (aP (f_goto 64))))
  (tn 93 (tl 92 (aP (f_iload 2 93)))
  (tl 93 (aP (f_aload 0 94))))))
  (tn 102 (tn 98 (tn 97 (tl 94 (aP (f_getf [18] 1 97)))
  (tl 97 (aP (f_const (.int (nI 4)) 98))))
  (tn 99 (tl 98 (aP (f_iald 0 99)))
  (tl 99 (aP (f_icmp (fun x y => decide (y ≤ x)) 106 102)))))
  (tn 106 (tn 103 (tl 102 (aP (f_iload 2 103)))
  (tl 103 (aP (f_goto 107))))
  (tn 107 (tl 106 (aP (f_const (.int (-1)) 107)))
  (tl 107 (o_iret (fun _ => true))))))))
theorem kok_X7_witnessOf {γ : AG} (hm : γ.2.2.2.2.1 = mTab) (hk : γ.2.2.2.2.2 = kTab) : KOK γ m_X7_witnessOf k_X7_witnessOf :=
 kn_ok
 (kn_ok
 (kn_ok
 (kn_ok
 (kn_ok
 (kn_ok
 (kl_ok (ok_aP (ok_iconst dX7_witnessOf_0 rfl rfl)))
 (kl_ok (ok_aP (ok_istore_n dX7_witnessOf_1 rfl rfl))))
 (kn_ok
 (kl_ok (ok_aP (ok_iload_n dX7_witnessOf_2 rfl rfl)))
 (kl_ok (ok_aP (ok_aload_n dX7_witnessOf_3 rfl rfl)))))
 (kn_ok
 (kn_ok
 (kl_ok (ok_aP (ok_getf fo_54 fs_rf (Or.inl q1840) dX7_witnessOf_4 rfl)))
 (kl_ok (ok_aP (ok_iconst dX7_witnessOf_7 rfl rfl))))
 (kn_ok
 (kl_ok (ok_aP (ok_iald dX7_witnessOf_8 rfl)))
 (kl_ok (ok_aP (ok_icmp_ge dX7_witnessOf_9 rfl rfl))))))
 (kn_ok
 (kn_ok
 (kn_ok
 (kl_ok (ok_aP (ok_aload_n dX7_witnessOf_12 rfl rfl)))
 (kl_ok (ok_aP (ok_getf fo_83 fs_rf (Or.inl q1866) dX7_witnessOf_13 rfl))))
 (kn_ok
 (kl_ok (ok_aP (ok_iload_n dX7_witnessOf_16 rfl rfl)))
 (kl_ok (ok_aP (ok_aload_n dX7_witnessOf_17 rfl rfl)))))
 (kn_ok
 (kn_ok
 (kl_ok (ok_aP (ok_iload_n dX7_witnessOf_18 rfl rfl)))
 (kl_ok (ok_aP (ok_iconst dX7_witnessOf_19 rfl rfl))))
 (kn_ok
 (kl_ok (ok_callV (List.forall_mem_cons.mpr ⟨run_V (C0 := "FavourTownModel") rfl rfl (by rw [hm]; rfl) q2059 q2061 qs52 q92 q2062 ⟨nh_1, dl_6⟩ (by decide) dX7_witnessOf_20, (fun _ h => absurd h List.not_mem_nil)⟩) rfl))
 (kl_ok (ok_hp (ok_iast dX7_witnessOf_23 rfl) le_iast))))))
 (kn_ok
 (kn_ok
 (kn_ok
 (kn_ok
 (kl_ok (ok_aP (ok_iinc dX7_witnessOf_24 (by decide +kernel) rfl)))
 (kl_ok (ok_aP (ok_goto dX7_witnessOf_27 rfl))))
 (kn_ok
 (kl_ok (ok_aP (ok_aload_n dX7_witnessOf_30 rfl rfl)))
 (kl_ok (ok_aP (ok_iload_n dX7_witnessOf_31 rfl rfl)))))
 (kn_ok
 (kn_ok
 (kl_ok (ok_callV (List.forall_mem_cons.mpr ⟨run_V (C0 := "FavourTownModel") rfl rfl (by rw [hm]; rfl) q2211 q2213 qs71 q92 q2214 ⟨nh_1, dl_10⟩ (by decide) dX7_witnessOf_32, (fun _ h => absurd h List.not_mem_nil)⟩) rfl))
 (kl_ok (ok_aP (ok_pop dX7_witnessOf_35 rfl))))
 (kn_ok
 (kl_ok (ok_aP (ok_iconst dX7_witnessOf_36 rfl rfl)))
 (kl_ok (ok_aP (ok_istore_n dX7_witnessOf_37 rfl rfl))))))
 (kn_ok
 (kn_ok
 (kn_ok
 (kl_ok (ok_aP (ok_iload_n dX7_witnessOf_38 rfl rfl)))
 (kl_ok (ok_aP (ok_aload_n dX7_witnessOf_39 rfl rfl))))
 (kn_ok
 (kl_ok (ok_aP (ok_getf fo_54 fs_rf (Or.inl q1840) dX7_witnessOf_40 rfl)))
 (kl_ok (ok_aP (ok_iconst dX7_witnessOf_43 rfl rfl)))))
 (kn_ok
 (kn_ok
 (kl_ok (ok_aP (ok_iald dX7_witnessOf_44 rfl)))
 (kl_ok (ok_aP (ok_icmp_ge dX7_witnessOf_45 rfl rfl))))
 (kn_ok
 (kl_ok (ok_aP (ok_aload_n dX7_witnessOf_48 rfl rfl)))
 (kl_ok (ok_aP (ok_iload_n dX7_witnessOf_49 rfl rfl))))))))
 (kn_ok
 (kn_ok
 (kn_ok
 (kn_ok
 (kn_ok
 (kl_ok (ok_callV (List.forall_mem_cons.mpr ⟨run_V (C0 := "FavourTownModel") rfl rfl (by rw [hm]; rfl) q2187 q2189 qs67 q92 q2190 ⟨nh_1, dl_2⟩ (by decide) dX7_witnessOf_50, (fun _ h => absurd h List.not_mem_nil)⟩) rfl))
 (kl_ok (ok_aP (ok_if_eq dX7_witnessOf_53 rfl rfl))))
 (kn_ok
 (kl_ok (ok_aP (ok_iinc dX7_witnessOf_56 (by decide +kernel) rfl)))
 (kl_ok (ok_aP (ok_goto dX7_witnessOf_59 rfl)))))
 (kn_ok
 (kn_ok
 (kl_ok (ok_aP (ok_iconst dX7_witnessOf_62 rfl rfl)))
 (kl_ok (ok_aP (ok_istore_n dX7_witnessOf_63 rfl rfl))))
 (kn_ok
 (kl_ok (ok_aP (ok_iload_n dX7_witnessOf_64 rfl rfl)))
 (kl_ok (ok_aP (ok_aload_n dX7_witnessOf_65 rfl rfl))))))
 (kn_ok
 (kn_ok
 (kn_ok
 (kl_ok (ok_aP (ok_getf fo_54 fs_rf (Or.inl q1840) dX7_witnessOf_66 rfl)))
 (kl_ok (ok_aP (ok_iconst dX7_witnessOf_69 rfl rfl))))
 (kn_ok
 (kl_ok (ok_aP (ok_iald dX7_witnessOf_70 rfl)))
 (kl_ok (ok_aP (ok_icmp_ge dX7_witnessOf_71 rfl rfl)))))
 (kn_ok
 (kn_ok
 (kl_ok (ok_aP (ok_aload_n dX7_witnessOf_74 rfl rfl)))
 (kl_ok (ok_aP (ok_iload_n dX7_witnessOf_75 rfl rfl))))
 (kn_ok
 (kl_ok (ok_aP (ok_iconst dX7_witnessOf_76 rfl rfl)))
 (kl_ok (ok_aP (ok_aload_n dX7_witnessOf_77 rfl rfl)))))))
 (kn_ok
 (kn_ok
 (kn_ok
 (kn_ok
 (kl_ok (ok_aP (ok_getf fo_83 fs_rf (Or.inl q1866) dX7_witnessOf_78 rfl)))
 (kl_ok (ok_aP (ok_iload_n dX7_witnessOf_81 rfl rfl))))
 (kn_ok
 (kl_ok (ok_aP (ok_iald dX7_witnessOf_82 rfl)))
 (kl_ok (ok_callV (List.forall_mem_cons.mpr ⟨run_V (C0 := "FavourTownModel") rfl rfl (by rw [hm]; rfl) q2078 q2080 qs56 q92 q2081 ⟨nh_1, dl_46⟩ (by decide) dX7_witnessOf_83, (fun _ h => absurd h List.not_mem_nil)⟩) rfl))))
 (kn_ok
 (kn_ok
 (kl_ok (ok_aP (ok_iinc dX7_witnessOf_86 (by decide +kernel) rfl)))
 (kl_ok (ok_aP (ok_goto dX7_witnessOf_89 rfl))))
 (kn_ok
 (kl_ok (ok_aP (ok_iload_n dX7_witnessOf_92 rfl rfl)))
 (kl_ok (ok_aP (ok_aload_n dX7_witnessOf_93 rfl rfl))))))
 (kn_ok
 (kn_ok
 (kn_ok
 (kl_ok (ok_aP (ok_getf fo_54 fs_rf (Or.inl q1840) dX7_witnessOf_94 rfl)))
 (kl_ok (ok_aP (ok_iconst dX7_witnessOf_97 rfl rfl))))
 (kn_ok
 (kl_ok (ok_aP (ok_iald dX7_witnessOf_98 rfl)))
 (kl_ok (ok_aP (ok_icmp_ge dX7_witnessOf_99 rfl rfl)))))
 (kn_ok
 (kn_ok
 (kl_ok (ok_aP (ok_iload_n dX7_witnessOf_102 rfl rfl)))
 (kl_ok (ok_aP (ok_goto dX7_witnessOf_103 rfl))))
 (kn_ok
 (kl_ok (ok_aP (ok_iconst dX7_witnessOf_106 rfl rfl)))
 (kl_ok (ok_iret rfl dX7_witnessOf_107)))))))
/-- 212: FavourTownModel.lets(I)I -/
noncomputable def k_X7_lets : Nat → Option AOp :=
 tn 25 (tn 10 (tn 4 (tn 2 (tn 1 (tl 0 (aP (f_const (.int (nI 0)) 1)))
  (tl 1 (aP (f_istore 2 2))))
  (tn 3 (tl 2 (aP (f_const (.int (nI 0)) 3)))
  (tl 3 (aP (f_istore 3 4)))))
  (tn 6 (tn 5 (tl 4 (aP (f_iload 3 5)))
  (tl 5 (aP (f_aload 0 6))))
  (tn 9 (tl 6 (aP (f_getf [18] 1 9)))
  (tl 9 (aP (f_const (.int (nI 3)) 10))))))
  (tn 16 (tn 14 (tn 11 (tl 10 (aP (f_iald 0 11)))
  (tl 11 (aP (f_icmp (fun x y => decide (y ≤ x)) 56 14))))
  (tn 15 (tl 14 (aP (f_aload 0 15)))
  (tl 15 (aP (f_iload 3 16)))))
  (tn 20 (tn 17 (tl 16 (aP (f_const (.int (nI 2)) 17)))
  (tl 17 (o_callV (lkN [(18, 175)]) 2 20)))
  (tn 22 (tl 20 (aP (f_istore 4 22)))
  (tn 24 (tl 22 (aP (f_iload 4 24)))
  (tl 24 (aP (f_const (.int (-1)) 25))))))))
  (tn 41 (tn 32 (tn 29 (tn 28 (tl 25 (aP (f_icmp (fun x y => decide (x = y)) 50 28)))
  (tl 28 (aP (f_iload 1 29))))
  (tn 31 (tl 29 (aP (f_iload 4 31)))
  (tl 31 (aP (f_bin (fun x y => x >>> (y &&& 31)) 32)))))
  (tn 34 (tn 33 (tl 32 (aP (f_const (.int (nI 1)) 33)))
  (tl 33 (aP (f_bin (fun x y => x &&& y) 34))))
  (tn 37 (tl 34 (aP (f_if (fun x => decide (¬ x = 0)) 40 37)))
  (tn 40 (tl 37 (aP (f_goto 50)))
  (tl 40 (aP (f_aload 0 41)))))))
  (tn 47 (tn 43 (tn 42 (tl 41 (aP (f_iload 3 42)))
  (tl 42 (aP (f_const (.int (nI 2)) 43))))
  (tn 44 (tl 43 (aP (f_const (.int (-1)) 44)))
  (tl 44 (o_callV (lkN [(18, 180)]) 3 47))))
  (tn 53 (tn 50 (tl 47 (aP (f_iinc 2 (nI 1) 50)))
  (tl 50 (aP (f_iinc 3 (nI 1) 53))))
  (tn 56 (tl 53 (aP (f_goto 4)))
  (tn 57 (tl 56 (aP (f_iload 2 57)))
  (tl 57 (o_iret (fun _ => true))))))))
theorem kok_X7_lets {γ : AG} (hm : γ.2.2.2.2.1 = mTab) (hk : γ.2.2.2.2.2 = kTab) : KOK γ m_X7_lets k_X7_lets :=
 kn_ok
 (kn_ok
 (kn_ok
 (kn_ok
 (kn_ok
 (kl_ok (ok_aP (ok_iconst dX7_lets_0 rfl rfl)))
 (kl_ok (ok_aP (ok_istore_n dX7_lets_1 rfl rfl))))
 (kn_ok
 (kl_ok (ok_aP (ok_iconst dX7_lets_2 rfl rfl)))
 (kl_ok (ok_aP (ok_istore_n dX7_lets_3 rfl rfl)))))
 (kn_ok
 (kn_ok
 (kl_ok (ok_aP (ok_iload_n dX7_lets_4 rfl rfl)))
 (kl_ok (ok_aP (ok_aload_n dX7_lets_5 rfl rfl))))
 (kn_ok
 (kl_ok (ok_aP (ok_getf fo_54 fs_rf (Or.inl q1840) dX7_lets_6 rfl)))
 (kl_ok (ok_aP (ok_iconst dX7_lets_9 rfl rfl))))))
 (kn_ok
 (kn_ok
 (kn_ok
 (kl_ok (ok_aP (ok_iald dX7_lets_10 rfl)))
 (kl_ok (ok_aP (ok_icmp_ge dX7_lets_11 rfl rfl))))
 (kn_ok
 (kl_ok (ok_aP (ok_aload_n dX7_lets_14 rfl rfl)))
 (kl_ok (ok_aP (ok_iload_n dX7_lets_15 rfl rfl)))))
 (kn_ok
 (kn_ok
 (kl_ok (ok_aP (ok_iconst dX7_lets_16 rfl rfl)))
 (kl_ok (ok_callV (List.forall_mem_cons.mpr ⟨run_V (C0 := "FavourTownModel") rfl rfl (by rw [hm]; rfl) q2059 q2061 qs52 q92 q2062 ⟨nh_1, dl_6⟩ (by decide) dX7_lets_17, (fun _ h => absurd h List.not_mem_nil)⟩) rfl)))
 (kn_ok
 (kl_ok (ok_aP (ok_istore dX7_lets_20 rfl)))
 (kn_ok
 (kl_ok (ok_aP (ok_iload dX7_lets_22 rfl)))
 (kl_ok (ok_aP (ok_iconst dX7_lets_24 rfl rfl))))))))
 (kn_ok
 (kn_ok
 (kn_ok
 (kn_ok
 (kl_ok (ok_aP (ok_icmp_eq dX7_lets_25 rfl rfl)))
 (kl_ok (ok_aP (ok_iload_n dX7_lets_28 rfl rfl))))
 (kn_ok
 (kl_ok (ok_aP (ok_iload dX7_lets_29 rfl)))
 (kl_ok (ok_aP (ok_ishr dX7_lets_31 rfl)))))
 (kn_ok
 (kn_ok
 (kl_ok (ok_aP (ok_iconst dX7_lets_32 rfl rfl)))
 (kl_ok (ok_aP (ok_iand dX7_lets_33 rfl))))
 (kn_ok
 (kl_ok (ok_aP (ok_if_ne dX7_lets_34 rfl rfl)))
 (kn_ok
 (kl_ok (ok_aP (ok_goto dX7_lets_37 rfl)))
 (kl_ok (ok_aP (ok_aload_n dX7_lets_40 rfl rfl)))))))
 (kn_ok
 (kn_ok
 (kn_ok
 (kl_ok (ok_aP (ok_iload_n dX7_lets_41 rfl rfl)))
 (kl_ok (ok_aP (ok_iconst dX7_lets_42 rfl rfl))))
 (kn_ok
 (kl_ok (ok_aP (ok_iconst dX7_lets_43 rfl rfl)))
 (kl_ok (ok_callV (List.forall_mem_cons.mpr ⟨run_V (C0 := "FavourTownModel") rfl rfl (by rw [hm]; rfl) q2078 q2080 qs56 q92 q2081 ⟨nh_1, dl_46⟩ (by decide) dX7_lets_44, (fun _ h => absurd h List.not_mem_nil)⟩) rfl))))
 (kn_ok
 (kn_ok
 (kl_ok (ok_aP (ok_iinc dX7_lets_47 (by decide +kernel) rfl)))
 (kl_ok (ok_aP (ok_iinc dX7_lets_50 (by decide +kernel) rfl))))
 (kn_ok
 (kl_ok (ok_aP (ok_goto dX7_lets_53 rfl)))
 (kn_ok
 (kl_ok (ok_aP (ok_iload_n dX7_lets_56 rfl rfl)))
 (kl_ok (ok_iret rfl dX7_lets_57)))))))
/-- 213: FavourTownModel.witness(I)I -/
noncomputable def k_X7_witness : Nat → Option AOp :=
 tn 5 (tn 1 (tl 0 (aP (f_aload 0 1)))
  (tn 2 (tl 1 (aP (f_const (.int (nI 0)) 2)))
  (tl 2 (o_putf [18] 0 vI 5))))
  (tn 7 (tn 6 (tl 5 (aP (f_aload 0 6)))
  (tl 6 (aP (f_iload 1 7))))
  (tn 10 (tl 7 (o_callV (lkN [(18, 211)]) 1 10))
  (tl 10 (o_iret (fun _ => true)))))
theorem kok_X7_witness {γ : AG} (hm : γ.2.2.2.2.1 = mTab) (hk : γ.2.2.2.2.2 = kTab) : KOK γ m_X7_witness k_X7_witness :=
 kn_ok
 (kn_ok
 (kl_ok (ok_aP (ok_aload_n dX7_witness_0 rfl rfl)))
 (kn_ok
 (kl_ok (ok_aP (ok_iconst dX7_witness_1 rfl rfl)))
 (kl_ok (ok_hp (ok_putf fo_53 fs_rf fn_36 (Or.inl q1839) pd_0 vI_ok dX7_witness_2 rfl) le_putf))))
 (kn_ok
 (kn_ok
 (kl_ok (ok_aP (ok_aload_n dX7_witness_5 rfl rfl)))
 (kl_ok (ok_aP (ok_iload_n dX7_witness_6 rfl rfl))))
 (kn_ok
 (kl_ok (ok_callV (List.forall_mem_cons.mpr ⟨run_V (C0 := "FavourTownModel") rfl rfl (by rw [hm]; rfl) q2207 q2209 qs70 q92 q2210 ⟨nh_1, dl_10⟩ (by decide) dX7_witness_7, (fun _ h => absurd h List.not_mem_nil)⟩) rfl))
 (kl_ok (ok_iret rfl dX7_witness_10))))
/-- 214: FavourTownModel.fewest()I -/
noncomputable def k_X7_fewest : Nat → Option AOp :=
 tn 27 (tn 13 (tn 6 (tn 2 (tn 1 (tl 0 (aP (f_aload 0 1)))
  (tl 1 (aP (f_const (.int (nI 0)) 2))))
  (tn 5 (tl 2 (o_putf [18] 0 vI 5))
  (tl 5 (aP (f_const (.int (nI 0)) 6)))))
  (tn 8 (tn 7 (tl 6 (aP (f_istore 1 7)))
  (tl 7 (aP (f_iload 1 8))))
  (tn 9 (tl 8 (aP (f_aload 0 9)))
  (tn 12 (tl 9 (aP (f_getf [18] 1 12)))
  (tl 12 (aP (f_const (.int (nI 1)) 13)))))))
  (tn 20 (tn 17 (tn 14 (tl 13 (aP (f_iald 0 14)))
  (tl 14 (aP (f_icmp (fun x y => decide (y < x)) 62 17))))
  (tn 18 (tl 17 (aP (f_const (.int (nI 0)) 18)))
  (tn 19 (tl 18 (aP (f_istore 2 19)))
  (tl 19 (aP (f_iload 2 20))))))
  (tn 22 (tn 21 (tl 20 (aP (f_const (.int (nI 1)) 21)))
  (tl 21 (aP (f_aload 0 22))))
  (tn 25 (tl 22 (aP (f_getf [18] 1 25)))
  (tn 26 (tl 25 (aP (f_const (.int (nI 1)) 26)))
  (tl 26 (aP (f_iald 0 27))))))))
  (tn 44 (tn 35 (tn 31 (tn 28 (tl 27 (aP (f_bin (fun x y => x <<< (y &&& 31)) 28)))
  (tl 28 (aP (f_icmp (fun x y => decide (y ≤ x)) 56 31))))
  (tn 32 (tl 31 (aP (f_iload 2 32)))
  (tl 32 (o_callS 215 1 35))))
  (tn 39 (tn 36 (tl 35 (aP (f_iload 1 36)))
  (tl 36 (aP (f_icmp (fun x y => decide (¬ x = y)) 50 39))))
  (tn 40 (tl 39 (aP (f_aload 0 40)))
  (tn 41 (tl 40 (aP (f_iload 2 41)))
  (tl 41 (o_callV (lkN [(18, 211)]) 1 44))))))
  (tn 53 (tn 48 (tn 45 (tl 44 (aP (f_const (.int (-1)) 45)))
  (tl 45 (aP (f_icmp (fun x y => decide (¬ x = y)) 50 48))))
  (tn 49 (tl 48 (aP (f_iload 2 49)))
  (tn 50 (tl 49 (o_iret (fun _ => true)))
  (tl 50 (aP (f_iinc 2 (nI 1) 53))))))
  (tn 59 (tn 56 (tl 53 (aP (f_goto 19)))
  (tl 56 (aP (f_iinc 1 (nI 1) 59))))
  (tn 62 (tl 59 (aP (f_goto 7)))
  (tn 63 (tl 62 (aP (f_const (.int (-1)) 63)))
  (tl 63 (o_iret (fun _ => true))))))))
theorem kok_X7_fewest {γ : AG} (hm : γ.2.2.2.2.1 = mTab) (hk : γ.2.2.2.2.2 = kTab) : KOK γ m_X7_fewest k_X7_fewest :=
 kn_ok
 (kn_ok
 (kn_ok
 (kn_ok
 (kn_ok
 (kl_ok (ok_aP (ok_aload_n dX7_fewest_0 rfl rfl)))
 (kl_ok (ok_aP (ok_iconst dX7_fewest_1 rfl rfl))))
 (kn_ok
 (kl_ok (ok_hp (ok_putf fo_53 fs_rf fn_36 (Or.inl q1839) pd_0 vI_ok dX7_fewest_2 rfl) le_putf))
 (kl_ok (ok_aP (ok_iconst dX7_fewest_5 rfl rfl)))))
 (kn_ok
 (kn_ok
 (kl_ok (ok_aP (ok_istore_n dX7_fewest_6 rfl rfl)))
 (kl_ok (ok_aP (ok_iload_n dX7_fewest_7 rfl rfl))))
 (kn_ok
 (kl_ok (ok_aP (ok_aload_n dX7_fewest_8 rfl rfl)))
 (kn_ok
 (kl_ok (ok_aP (ok_getf fo_54 fs_rf (Or.inl q1840) dX7_fewest_9 rfl)))
 (kl_ok (ok_aP (ok_iconst dX7_fewest_12 rfl rfl)))))))
 (kn_ok
 (kn_ok
 (kn_ok
 (kl_ok (ok_aP (ok_iald dX7_fewest_13 rfl)))
 (kl_ok (ok_aP (ok_icmp_gt dX7_fewest_14 rfl rfl))))
 (kn_ok
 (kl_ok (ok_aP (ok_iconst dX7_fewest_17 rfl rfl)))
 (kn_ok
 (kl_ok (ok_aP (ok_istore_n dX7_fewest_18 rfl rfl)))
 (kl_ok (ok_aP (ok_iload_n dX7_fewest_19 rfl rfl))))))
 (kn_ok
 (kn_ok
 (kl_ok (ok_aP (ok_iconst dX7_fewest_20 rfl rfl)))
 (kl_ok (ok_aP (ok_aload_n dX7_fewest_21 rfl rfl))))
 (kn_ok
 (kl_ok (ok_aP (ok_getf fo_54 fs_rf (Or.inl q1840) dX7_fewest_22 rfl)))
 (kn_ok
 (kl_ok (ok_aP (ok_iconst dX7_fewest_25 rfl rfl)))
 (kl_ok (ok_aP (ok_iald dX7_fewest_26 rfl))))))))
 (kn_ok
 (kn_ok
 (kn_ok
 (kn_ok
 (kl_ok (ok_aP (ok_ishl dX7_fewest_27 rfl)))
 (kl_ok (ok_aP (ok_icmp_ge dX7_fewest_28 rfl rfl))))
 (kn_ok
 (kl_ok (ok_aP (ok_iload_n dX7_fewest_31 rfl rfl)))
 (kl_ok (ok_callS (run_S (by rw [hm]; rfl) q2223 q2224 q92 q2225 ⟨nh_1, dl_10⟩ (by decide) dX7_fewest_32) rfl))))
 (kn_ok
 (kn_ok
 (kl_ok (ok_aP (ok_iload_n dX7_fewest_35 rfl rfl)))
 (kl_ok (ok_aP (ok_icmp_ne dX7_fewest_36 rfl rfl))))
 (kn_ok
 (kl_ok (ok_aP (ok_aload_n dX7_fewest_39 rfl rfl)))
 (kn_ok
 (kl_ok (ok_aP (ok_iload_n dX7_fewest_40 rfl rfl)))
 (kl_ok (ok_callV (List.forall_mem_cons.mpr ⟨run_V (C0 := "FavourTownModel") rfl rfl (by rw [hm]; rfl) q2207 q2209 qs70 q92 q2210 ⟨nh_1, dl_10⟩ (by decide) dX7_fewest_41, (fun _ h => absurd h List.not_mem_nil)⟩) rfl))))))
 (kn_ok
 (kn_ok
 (kn_ok
 (kl_ok (ok_aP (ok_iconst dX7_fewest_44 rfl rfl)))
 (kl_ok (ok_aP (ok_icmp_ne dX7_fewest_45 rfl rfl))))
 (kn_ok
 (kl_ok (ok_aP (ok_iload_n dX7_fewest_48 rfl rfl)))
 (kn_ok
 (kl_ok (ok_iret rfl dX7_fewest_49))
 (kl_ok (ok_aP (ok_iinc dX7_fewest_50 (by decide +kernel) rfl))))))
 (kn_ok
 (kn_ok
 (kl_ok (ok_aP (ok_goto dX7_fewest_53 rfl)))
 (kl_ok (ok_aP (ok_iinc dX7_fewest_56 (by decide +kernel) rfl))))
 (kn_ok
 (kl_ok (ok_aP (ok_goto dX7_fewest_59 rfl)))
 (kn_ok
 (kl_ok (ok_aP (ok_iconst dX7_fewest_62 rfl rfl)))
 (kl_ok (ok_iret rfl dX7_fewest_63)))))))
/-- 215: FavourTownModel.bits(I)I -/
noncomputable def k_X7_bits : Nat → Option AOp :=
 tn 12 (tn 4 (tn 2 (tn 1 (tl 0 (aP (f_const (.int (nI 0)) 1)))
  (tl 1 (aP (f_istore 1 2))))
  (tn 3 (tl 2 (aP (f_const (.int (nI 0)) 3)))
  (tl 3 (aP (f_istore 2 4)))))
  (tn 7 (tn 5 (tl 4 (aP (f_iload 2 5)))
  (tl 5 (aP (f_const (.int (nI 12)) 7))))
  (tn 10 (tl 7 (aP (f_icmp (fun x y => decide (y ≤ x)) 24 10)))
  (tn 11 (tl 10 (aP (f_iload 1 11)))
  (tl 11 (aP (f_iload 0 12)))))))
  (tn 17 (tn 14 (tn 13 (tl 12 (aP (f_iload 2 13)))
  (tl 13 (aP (f_bin (fun x y => x >>> (y &&& 31)) 14))))
  (tn 15 (tl 14 (aP (f_const (.int (nI 1)) 15)))
  (tn 16 (tl 15 (aP (f_bin (fun x y => x &&& y) 16)))
  (tl 16 (aP (f_bin (fun x y => x + y) 17))))))
  (tn 21 (tn 18 (tl 17 (aP (f_istore 1 18)))
  (tl 18 (aP (f_iinc 2 (nI 1) 21))))
  (tn 24 (tl 21 (aP (f_goto 4)))
  (tn 25 (tl 24 (aP (f_iload 1 25)))
  (tl 25 (o_iret (fun _ => true)))))))
theorem kok_X7_bits {γ : AG} (hm : γ.2.2.2.2.1 = mTab) (hk : γ.2.2.2.2.2 = kTab) : KOK γ m_X7_bits k_X7_bits :=
 kn_ok
 (kn_ok
 (kn_ok
 (kn_ok
 (kl_ok (ok_aP (ok_iconst dX7_bits_0 rfl rfl)))
 (kl_ok (ok_aP (ok_istore_n dX7_bits_1 rfl rfl))))
 (kn_ok
 (kl_ok (ok_aP (ok_iconst dX7_bits_2 rfl rfl)))
 (kl_ok (ok_aP (ok_istore_n dX7_bits_3 rfl rfl)))))
 (kn_ok
 (kn_ok
 (kl_ok (ok_aP (ok_iload_n dX7_bits_4 rfl rfl)))
 (kl_ok (ok_aP (ok_bipush dX7_bits_5 (by decide +kernel) rfl))))
 (kn_ok
 (kl_ok (ok_aP (ok_icmp_ge dX7_bits_7 rfl rfl)))
 (kn_ok
 (kl_ok (ok_aP (ok_iload_n dX7_bits_10 rfl rfl)))
 (kl_ok (ok_aP (ok_iload_n dX7_bits_11 rfl rfl)))))))
 (kn_ok
 (kn_ok
 (kn_ok
 (kl_ok (ok_aP (ok_iload_n dX7_bits_12 rfl rfl)))
 (kl_ok (ok_aP (ok_ishr dX7_bits_13 rfl))))
 (kn_ok
 (kl_ok (ok_aP (ok_iconst dX7_bits_14 rfl rfl)))
 (kn_ok
 (kl_ok (ok_aP (ok_iand dX7_bits_15 rfl)))
 (kl_ok (ok_aP (ok_iadd dX7_bits_16 rfl))))))
 (kn_ok
 (kn_ok
 (kl_ok (ok_aP (ok_istore_n dX7_bits_17 rfl rfl)))
 (kl_ok (ok_aP (ok_iinc dX7_bits_18 (by decide +kernel) rfl))))
 (kn_ok
 (kl_ok (ok_aP (ok_goto dX7_bits_21 rfl)))
 (kn_ok
 (kl_ok (ok_aP (ok_iload_n dX7_bits_24 rfl rfl)))
 (kl_ok (ok_iret rfl dX7_bits_25))))))
/-- 216: FavourTownModel.forgive(I)I -/
noncomputable def k_X7_forgive : Nat → Option AOp :=
 tn 5 (tn 1 (tl 0 (aP (f_aload 0 1)))
  (tn 2 (tl 1 (aP (f_const (.int (nI 0)) 2)))
  (tl 2 (o_putf [18] 0 vI 5))))
  (tn 7 (tn 6 (tl 5 (aP (f_aload 0 6)))
  (tl 6 (aP (f_iload 1 7))))
  (tn 10 (tl 7 (o_callV (lkN [(18, 212)]) 1 10))
  (tl 10 (o_iret (fun _ => true)))))
theorem kok_X7_forgive {γ : AG} (hm : γ.2.2.2.2.1 = mTab) (hk : γ.2.2.2.2.2 = kTab) : KOK γ m_X7_forgive k_X7_forgive :=
 kn_ok
 (kn_ok
 (kl_ok (ok_aP (ok_aload_n dX7_forgive_0 rfl rfl)))
 (kn_ok
 (kl_ok (ok_aP (ok_iconst dX7_forgive_1 rfl rfl)))
 (kl_ok (ok_hp (ok_putf fo_53 fs_rf fn_36 (Or.inl q1839) pd_0 vI_ok dX7_forgive_2 rfl) le_putf))))
 (kn_ok
 (kn_ok
 (kl_ok (ok_aP (ok_aload_n dX7_forgive_5 rfl rfl)))
 (kl_ok (ok_aP (ok_iload_n dX7_forgive_6 rfl rfl))))
 (kn_ok
 (kl_ok (ok_callV (List.forall_mem_cons.mpr ⟨run_V (C0 := "FavourTownModel") rfl rfl (by rw [hm]; rfl) q2211 q2213 qs71 q92 q2214 ⟨nh_1, dl_10⟩ (by decide) dX7_forgive_7, (fun _ h => absurd h List.not_mem_nil)⟩) rfl))
 (kl_ok (ok_iret rfl dX7_forgive_10))))
/-- 217: FavourTownModel.port(II)I -/
noncomputable def k_X7_port : Nat → Option AOp :=
 tn 14 (tn 4 (tn 2 (tn 1 (tl 0 (aP (f_aload 0 1)))
  (tl 1 (aP (f_aload 0 2))))
  (tn 3 (tl 2 (aP (f_iload 1 3)))
  (tl 3 (aP (f_iload 2 4)))))
  (tn 10 (tn 7 (tl 4 (o_callV (lkN [(18, 218)]) 2 7))
  (tl 7 (o_putf [18] 0 vI 10)))
  (tn 11 (tl 10 (aP (f_aload 0 11)))
  (tl 11 (aP (f_getf [18] 0 14))))))
  (tn 20 (tn 18 (tn 17 (tl 14 (aP (f_if (fun x => decide (x ≤ 0)) 19 17)))
  (tl 17 (aP (f_const (.int (nI 0)) 18))))
  (tn 19 (tl 18 (o_iret (fun _ => true)))
  (tl 19 (aP (f_aload 0 20)))))
  (tn 22 (tn 21 (tl 20 (aP (f_iload 1 21)))
  (tl 21 (aP (f_iload 2 22))))
  (tn 25 (tl 22 (o_callV (lkN [(18, 219)]) 2 25))
  (tl 25 (o_iret (fun _ => true))))))
theorem kok_X7_port {γ : AG} (hm : γ.2.2.2.2.1 = mTab) (hk : γ.2.2.2.2.2 = kTab) : KOK γ m_X7_port k_X7_port :=
 kn_ok
 (kn_ok
 (kn_ok
 (kn_ok
 (kl_ok (ok_aP (ok_aload_n dX7_port_0 rfl rfl)))
 (kl_ok (ok_aP (ok_aload_n dX7_port_1 rfl rfl))))
 (kn_ok
 (kl_ok (ok_aP (ok_iload_n dX7_port_2 rfl rfl)))
 (kl_ok (ok_aP (ok_iload_n dX7_port_3 rfl rfl)))))
 (kn_ok
 (kn_ok
 (kl_ok (ok_callV (List.forall_mem_cons.mpr ⟨run_V (C0 := "FavourTownModel") rfl rfl (by rw [hm]; rfl) q2234 q2236 qs72 q92 q2237 ⟨nh_1, dl_6⟩ (by decide) dX7_port_4, (fun _ h => absurd h List.not_mem_nil)⟩) rfl))
 (kl_ok (ok_hp (ok_putf fo_53 fs_rf fn_36 (Or.inl q1839) pd_0 vI_ok dX7_port_7 rfl) le_putf)))
 (kn_ok
 (kl_ok (ok_aP (ok_aload_n dX7_port_10 rfl rfl)))
 (kl_ok (ok_aP (ok_getf fo_53 fs_rf (Or.inl q1839) dX7_port_11 rfl))))))
 (kn_ok
 (kn_ok
 (kn_ok
 (kl_ok (ok_aP (ok_if_le dX7_port_14 rfl rfl)))
 (kl_ok (ok_aP (ok_iconst dX7_port_17 rfl rfl))))
 (kn_ok
 (kl_ok (ok_iret rfl dX7_port_18))
 (kl_ok (ok_aP (ok_aload_n dX7_port_19 rfl rfl)))))
 (kn_ok
 (kn_ok
 (kl_ok (ok_aP (ok_iload_n dX7_port_20 rfl rfl)))
 (kl_ok (ok_aP (ok_iload_n dX7_port_21 rfl rfl))))
 (kn_ok
 (kl_ok (ok_callV (List.forall_mem_cons.mpr ⟨run_V (C0 := "FavourTownModel") rfl rfl (by rw [hm]; rfl) q2238 q2240 qs73 q92 q2241 ⟨nh_1, dl_6⟩ (by decide) dX7_port_22, (fun _ h => absurd h List.not_mem_nil)⟩) rfl))
 (kl_ok (ok_iret rfl dX7_port_25)))))
/-- 218: FavourTownModel.twoOf(II)I -/
noncomputable def k_X7_twoOf : Nat → Option AOp :=
 tn 16 (tn 8 (tn 2 (tn 1 (tl 0 (aP (f_aload 0 1)))
  (tl 1 (aP (f_iload 1 2))))
  (tn 5 (tl 2 (o_callV (lkN [(18, 188)]) 1 5))
  (tl 5 (aP (f_if (fun x => decide (x = 0)) 16 8)))))
  (tn 10 (tn 9 (tl 8 (aP (f_aload 0 9)))
  (tl 9 (aP (f_iload 2 10))))
  (tn 13 (tl 10 (o_callV (lkN [(18, 188)]) 1 13))
  (tl 13 (aP (f_if (fun x => decide (¬ x = 0)) 20 16))))))
  (tn 22 (tn 20 (tn 17 (tl 16 (aP (f_const (.int (nI 1)) 17)))
  (tl 17 (aP (f_goto 30))))
  (tn 21 (tl 20 (aP (f_iload 1 21)))
  (tl 21 (aP (f_iload 2 22)))))
  (tn 26 (tn 25 (tl 22 (aP (f_icmp (fun x y => decide (¬ x = y)) 29 25)))
  (tl 25 (aP (f_const (.int (nI 2)) 26))))
  (tn 29 (tl 26 (aP (f_goto 30)))
  (tn 30 (tl 29 (aP (f_const (.int (nI 0)) 30)))
  (tl 30 (o_iret (fun _ => true)))))))
theorem kok_X7_twoOf {γ : AG} (hm : γ.2.2.2.2.1 = mTab) (hk : γ.2.2.2.2.2 = kTab) : KOK γ m_X7_twoOf k_X7_twoOf :=
 kn_ok
 (kn_ok
 (kn_ok
 (kn_ok
 (kl_ok (ok_aP (ok_aload_n dX7_twoOf_0 rfl rfl)))
 (kl_ok (ok_aP (ok_iload_n dX7_twoOf_1 rfl rfl))))
 (kn_ok
 (kl_ok (ok_callV (List.forall_mem_cons.mpr ⟨run_V (C0 := "FavourTownModel") rfl rfl (by rw [hm]; rfl) q2115 q2117 qs61 q92 q2118 ⟨nh_1, dl_2⟩ (by decide) dX7_twoOf_2, (fun _ h => absurd h List.not_mem_nil)⟩) rfl))
 (kl_ok (ok_aP (ok_if_eq dX7_twoOf_5 rfl rfl)))))
 (kn_ok
 (kn_ok
 (kl_ok (ok_aP (ok_aload_n dX7_twoOf_8 rfl rfl)))
 (kl_ok (ok_aP (ok_iload_n dX7_twoOf_9 rfl rfl))))
 (kn_ok
 (kl_ok (ok_callV (List.forall_mem_cons.mpr ⟨run_V (C0 := "FavourTownModel") rfl rfl (by rw [hm]; rfl) q2115 q2117 qs61 q92 q2118 ⟨nh_1, dl_2⟩ (by decide) dX7_twoOf_10, (fun _ h => absurd h List.not_mem_nil)⟩) rfl))
 (kl_ok (ok_aP (ok_if_ne dX7_twoOf_13 rfl rfl))))))
 (kn_ok
 (kn_ok
 (kn_ok
 (kl_ok (ok_aP (ok_iconst dX7_twoOf_16 rfl rfl)))
 (kl_ok (ok_aP (ok_goto dX7_twoOf_17 rfl))))
 (kn_ok
 (kl_ok (ok_aP (ok_iload_n dX7_twoOf_20 rfl rfl)))
 (kl_ok (ok_aP (ok_iload_n dX7_twoOf_21 rfl rfl)))))
 (kn_ok
 (kn_ok
 (kl_ok (ok_aP (ok_icmp_ne dX7_twoOf_22 rfl rfl)))
 (kl_ok (ok_aP (ok_iconst dX7_twoOf_25 rfl rfl))))
 (kn_ok
 (kl_ok (ok_aP (ok_goto dX7_twoOf_26 rfl)))
 (kn_ok
 (kl_ok (ok_aP (ok_iconst dX7_twoOf_29 rfl rfl)))
 (kl_ok (ok_iret rfl dX7_twoOf_30))))))
/-- 219: FavourTownModel.portOf(II)I -/
noncomputable def k_X7_portOf : Nat → Option AOp :=
 tn 35 (tn 16 (tn 7 (tn 2 (tn 1 (tl 0 (aP (f_const (.int (nI 0)) 1)))
  (tl 1 (aP (f_istore 3 2))))
  (tn 3 (tl 2 (aP (f_const (.int (nI 0)) 3)))
  (tn 5 (tl 3 (aP (f_istore 4 5)))
  (tl 5 (aP (f_iload 4 7))))))
  (tn 11 (tn 8 (tl 7 (aP (f_aload 0 8)))
  (tl 8 (aP (f_getf [18] 1 11))))
  (tn 12 (tl 11 (aP (f_const (.int (nI 3)) 12)))
  (tn 13 (tl 12 (aP (f_iald 0 13)))
  (tl 13 (aP (f_icmp (fun x y => decide (y ≤ x)) 70 16)))))))
  (tn 24 (tn 19 (tn 17 (tl 16 (aP (f_aload 0 17)))
  (tl 17 (aP (f_iload 4 19))))
  (tn 20 (tl 19 (aP (f_const (.int (nI 2)) 20)))
  (tn 23 (tl 20 (o_callV (lkN [(18, 175)]) 2 23))
  (tl 23 (aP (f_iload 1 24))))))
  (tn 30 (tn 27 (tl 24 (aP (f_icmp (fun x y => decide (¬ x = y)) 64 27)))
  (tn 28 (tl 27 (aP (f_aload 0 28)))
  (tl 28 (aP (f_iload 4 30)))))
  (tn 31 (tl 30 (aP (f_iload 1 31)))
  (tn 32 (tl 31 (aP (f_iload 2 32)))
  (tl 32 (o_callV (lkN [(18, 203)]) 3 35)))))))
  (tn 53 (tn 43 (tn 39 (tn 38 (tl 35 (aP (f_if (fun x => decide (x = 0)) 64 38)))
  (tl 38 (aP (f_iload 3 39))))
  (tn 40 (tl 39 (aP (f_aload 0 40)))
  (tn 42 (tl 40 (aP (f_iload 4 42)))
  (tl 42 (aP (f_const (.int (nI 1)) 43))))))
  (tn 47 (tn 46 (tl 43 (o_callV (lkN [(18, 175)]) 2 46))
  (tl 46 (aP (f_aload 0 47))))
  (tn 49 (tl 47 (aP (f_iload 4 49)))
  (tn 50 (tl 49 (aP (f_const (.int (nI 3)) 50)))
  (tl 50 (o_callV (lkN [(18, 175)]) 2 53))))))
  (tn 62 (tn 55 (tn 54 (tl 53 (aP (f_const (.int (nI 1)) 54)))
  (tl 54 (aP (f_bin (fun x y => x + y) 55))))
  (tn 58 (tl 55 (o_callS 177 2 58))
  (tn 61 (tl 58 (aP (f_const (.int (nI 1024)) 61)))
  (tl 61 (aP (f_div (fun x y => x / y) 62))))))
  (tn 67 (tn 63 (tl 62 (aP (f_bin (fun x y => x + y) 63)))
  (tn 64 (tl 63 (aP (f_istore 3 64)))
  (tl 64 (aP (f_iinc 4 (nI 1) 67)))))
  (tn 70 (tl 67 (aP (f_goto 5)))
  (tn 71 (tl 70 (aP (f_iload 3 71)))
  (tl 71 (o_iret (fun _ => true))))))))
theorem kok_X7_portOf {γ : AG} (hm : γ.2.2.2.2.1 = mTab) (hk : γ.2.2.2.2.2 = kTab) : KOK γ m_X7_portOf k_X7_portOf :=
 kn_ok
 (kn_ok
 (kn_ok
 (kn_ok
 (kn_ok
 (kl_ok (ok_aP (ok_iconst dX7_portOf_0 rfl rfl)))
 (kl_ok (ok_aP (ok_istore_n dX7_portOf_1 rfl rfl))))
 (kn_ok
 (kl_ok (ok_aP (ok_iconst dX7_portOf_2 rfl rfl)))
 (kn_ok
 (kl_ok (ok_aP (ok_istore dX7_portOf_3 rfl)))
 (kl_ok (ok_aP (ok_iload dX7_portOf_5 rfl))))))
 (kn_ok
 (kn_ok
 (kl_ok (ok_aP (ok_aload_n dX7_portOf_7 rfl rfl)))
 (kl_ok (ok_aP (ok_getf fo_54 fs_rf (Or.inl q1840) dX7_portOf_8 rfl))))
 (kn_ok
 (kl_ok (ok_aP (ok_iconst dX7_portOf_11 rfl rfl)))
 (kn_ok
 (kl_ok (ok_aP (ok_iald dX7_portOf_12 rfl)))
 (kl_ok (ok_aP (ok_icmp_ge dX7_portOf_13 rfl rfl)))))))
 (kn_ok
 (kn_ok
 (kn_ok
 (kl_ok (ok_aP (ok_aload_n dX7_portOf_16 rfl rfl)))
 (kl_ok (ok_aP (ok_iload dX7_portOf_17 rfl))))
 (kn_ok
 (kl_ok (ok_aP (ok_iconst dX7_portOf_19 rfl rfl)))
 (kn_ok
 (kl_ok (ok_callV (List.forall_mem_cons.mpr ⟨run_V (C0 := "FavourTownModel") rfl rfl (by rw [hm]; rfl) q2059 q2061 qs52 q92 q2062 ⟨nh_1, dl_6⟩ (by decide) dX7_portOf_20, (fun _ h => absurd h List.not_mem_nil)⟩) rfl))
 (kl_ok (ok_aP (ok_iload_n dX7_portOf_23 rfl rfl))))))
 (kn_ok
 (kn_ok
 (kl_ok (ok_aP (ok_icmp_ne dX7_portOf_24 rfl rfl)))
 (kn_ok
 (kl_ok (ok_aP (ok_aload_n dX7_portOf_27 rfl rfl)))
 (kl_ok (ok_aP (ok_iload dX7_portOf_28 rfl)))))
 (kn_ok
 (kl_ok (ok_aP (ok_iload_n dX7_portOf_30 rfl rfl)))
 (kn_ok
 (kl_ok (ok_aP (ok_iload_n dX7_portOf_31 rfl rfl)))
 (kl_ok (ok_callV (List.forall_mem_cons.mpr ⟨run_V (C0 := "FavourTownModel") rfl rfl (by rw [hm]; rfl) q2175 q2177 qs65 q92 q2178 ⟨nh_1, dl_17⟩ (by decide) dX7_portOf_32, (fun _ h => absurd h List.not_mem_nil)⟩) rfl)))))))
 (kn_ok
 (kn_ok
 (kn_ok
 (kn_ok
 (kl_ok (ok_aP (ok_if_eq dX7_portOf_35 rfl rfl)))
 (kl_ok (ok_aP (ok_iload_n dX7_portOf_38 rfl rfl))))
 (kn_ok
 (kl_ok (ok_aP (ok_aload_n dX7_portOf_39 rfl rfl)))
 (kn_ok
 (kl_ok (ok_aP (ok_iload dX7_portOf_40 rfl)))
 (kl_ok (ok_aP (ok_iconst dX7_portOf_42 rfl rfl))))))
 (kn_ok
 (kn_ok
 (kl_ok (ok_callV (List.forall_mem_cons.mpr ⟨run_V (C0 := "FavourTownModel") rfl rfl (by rw [hm]; rfl) q2059 q2061 qs52 q92 q2062 ⟨nh_1, dl_6⟩ (by decide) dX7_portOf_43, (fun _ h => absurd h List.not_mem_nil)⟩) rfl))
 (kl_ok (ok_aP (ok_aload_n dX7_portOf_46 rfl rfl))))
 (kn_ok
 (kl_ok (ok_aP (ok_iload dX7_portOf_47 rfl)))
 (kn_ok
 (kl_ok (ok_aP (ok_iconst dX7_portOf_49 rfl rfl)))
 (kl_ok (ok_callV (List.forall_mem_cons.mpr ⟨run_V (C0 := "FavourTownModel") rfl rfl (by rw [hm]; rfl) q2059 q2061 qs52 q92 q2062 ⟨nh_1, dl_6⟩ (by decide) dX7_portOf_50, (fun _ h => absurd h List.not_mem_nil)⟩) rfl))))))
 (kn_ok
 (kn_ok
 (kn_ok
 (kl_ok (ok_aP (ok_iconst dX7_portOf_53 rfl rfl)))
 (kl_ok (ok_aP (ok_iadd dX7_portOf_54 rfl))))
 (kn_ok
 (kl_ok (ok_callS (run_S (by rw [hm]; rfl) q2067 q2068 q92 q2069 ⟨nh_1, dl_6⟩ (by decide) dX7_portOf_55) rfl))
 (kn_ok
 (kl_ok (ok_aP (ok_sipush dX7_portOf_58 (by decide +kernel) rfl)))
 (kl_ok (ok_aP (ok_idiv dX7_portOf_61 rfl))))))
 (kn_ok
 (kn_ok
 (kl_ok (ok_aP (ok_iadd dX7_portOf_62 rfl)))
 (kn_ok
 (kl_ok (ok_aP (ok_istore_n dX7_portOf_63 rfl rfl)))
 (kl_ok (ok_aP (ok_iinc dX7_portOf_64 (by decide +kernel) rfl)))))
 (kn_ok
 (kl_ok (ok_aP (ok_goto dX7_portOf_67 rfl)))
 (kn_ok
 (kl_ok (ok_aP (ok_iload_n dX7_portOf_70 rfl rfl)))
 (kl_ok (ok_iret rfl dX7_portOf_71)))))))
/-- 220: FavourTownModel.most(II)I -/
noncomputable def k_X7_most : Nat → Option AOp :=
 tn 14 (tn 4 (tn 2 (tn 1 (tl 0 (aP (f_aload 0 1)))
  (tl 1 (aP (f_aload 0 2))))
  (tn 3 (tl 2 (aP (f_iload 1 3)))
  (tl 3 (aP (f_iload 2 4)))))
  (tn 10 (tn 7 (tl 4 (o_callV (lkN [(18, 218)]) 2 7))
  (tl 7 (o_putf [18] 0 vI 10)))
  (tn 11 (tl 10 (aP (f_aload 0 11)))
  (tl 11 (aP (f_getf [18] 0 14))))))
  (tn 20 (tn 18 (tn 17 (tl 14 (aP (f_if (fun x => decide (x ≤ 0)) 19 17)))
  (tl 17 (aP (f_const (.int (nI 0)) 18))))
  (tn 19 (tl 18 (o_iret (fun _ => true)))
  (tl 19 (aP (f_aload 0 20)))))
  (tn 22 (tn 21 (tl 20 (aP (f_iload 1 21)))
  (tl 21 (aP (f_iload 2 22))))
  (tn 25 (tl 22 (o_callV (lkN [(18, 221)]) 2 25))
  (tl 25 (o_iret (fun _ => true))))))
theorem kok_X7_most {γ : AG} (hm : γ.2.2.2.2.1 = mTab) (hk : γ.2.2.2.2.2 = kTab) : KOK γ m_X7_most k_X7_most :=
 kn_ok
 (kn_ok
 (kn_ok
 (kn_ok
 (kl_ok (ok_aP (ok_aload_n dX7_most_0 rfl rfl)))
 (kl_ok (ok_aP (ok_aload_n dX7_most_1 rfl rfl))))
 (kn_ok
 (kl_ok (ok_aP (ok_iload_n dX7_most_2 rfl rfl)))
 (kl_ok (ok_aP (ok_iload_n dX7_most_3 rfl rfl)))))
 (kn_ok
 (kn_ok
 (kl_ok (ok_callV (List.forall_mem_cons.mpr ⟨run_V (C0 := "FavourTownModel") rfl rfl (by rw [hm]; rfl) q2234 q2236 qs72 q92 q2237 ⟨nh_1, dl_6⟩ (by decide) dX7_most_4, (fun _ h => absurd h List.not_mem_nil)⟩) rfl))
 (kl_ok (ok_hp (ok_putf fo_53 fs_rf fn_36 (Or.inl q1839) pd_0 vI_ok dX7_most_7 rfl) le_putf)))
 (kn_ok
 (kl_ok (ok_aP (ok_aload_n dX7_most_10 rfl rfl)))
 (kl_ok (ok_aP (ok_getf fo_53 fs_rf (Or.inl q1839) dX7_most_11 rfl))))))
 (kn_ok
 (kn_ok
 (kn_ok
 (kl_ok (ok_aP (ok_if_le dX7_most_14 rfl rfl)))
 (kl_ok (ok_aP (ok_iconst dX7_most_17 rfl rfl))))
 (kn_ok
 (kl_ok (ok_iret rfl dX7_most_18))
 (kl_ok (ok_aP (ok_aload_n dX7_most_19 rfl rfl)))))
 (kn_ok
 (kn_ok
 (kl_ok (ok_aP (ok_iload_n dX7_most_20 rfl rfl)))
 (kl_ok (ok_aP (ok_iload_n dX7_most_21 rfl rfl))))
 (kn_ok
 (kl_ok (ok_callV (List.forall_mem_cons.mpr ⟨run_V (C0 := "FavourTownModel") rfl rfl (by rw [hm]; rfl) q2246 q2248 qs74 q92 q2249 ⟨nh_1, dl_6⟩ (by decide) dX7_most_22, (fun _ h => absurd h List.not_mem_nil)⟩) rfl))
 (kl_ok (ok_iret rfl dX7_most_25)))))
/-- 221: FavourTownModel.flows(II)I -/
noncomputable def k_X7_flows : Nat → Option AOp :=
 tn 90 (tn 40 (tn 19 (tn 8 (tn 5 (tn 1 (tl 0 (aP (f_aload 0 1)))
  (tn 4 (tl 1 (o_callV (lkN [(18, 222)]) 0 4))
  (tl 4 (aP (f_const (.int (nI 0)) 5)))))
  (tn 6 (tl 5 (aP (f_istore 3 6)))
  (tn 7 (tl 6 (aP (f_aload 0 7)))
  (tl 7 (aP (f_iload 1 8))))))
  (tn 13 (tn 11 (tl 8 (o_callV (lkN [(18, 223)]) 1 11))
  (tn 12 (tl 11 (aP (f_iload 2 12)))
  (tl 12 (aP (f_bin (fun x y => x >>> (y &&& 31)) 13)))))
  (tn 15 (tn 14 (tl 13 (aP (f_const (.int (nI 1)) 14)))
  (tl 14 (aP (f_bin (fun x y => x &&& y) 15))))
  (tn 16 (tl 15 (aP (f_const (.int (nI 1)) 16)))
  (tl 16 (aP (f_icmp (fun x y => decide (¬ x = y)) 181 19)))))))
  (tn 31 (tn 25 (tn 20 (tl 19 (aP (f_aload 0 20)))
  (tn 23 (tl 20 (aP (f_getf [18] 18 23)))
  (tl 23 (aP (f_const (.int (nI 12)) 25)))))
  (tn 29 (tn 26 (tl 25 (aP (f_aload 0 26)))
  (tl 26 (aP (f_getf [18] 19 29))))
  (tn 30 (tl 29 (aP (f_iload 2 30)))
  (tl 30 (aP (f_iald 0 31))))))
  (tn 34 (tn 32 (tl 31 (aP (f_bin (fun x y => x * y) 32)))
  (tn 33 (tl 32 (aP (f_iload 2 33)))
  (tl 33 (aP (f_bin (fun x y => x + y) 34)))))
  (tn 37 (tn 35 (tl 34 (aP (f_iald 0 35)))
  (tl 35 (aP (f_istore 4 37))))
  (tn 38 (tl 37 (aP (f_iload 2 38)))
  (tl 38 (aP (f_istore 5 40))))))))
  (tn 64 (tn 53 (tn 46 (tn 42 (tl 40 (aP (f_iload 5 42)))
  (tn 43 (tl 42 (aP (f_iload 1 43)))
  (tl 43 (aP (f_icmp (fun x y => decide (x = y)) 106 46)))))
  (tn 50 (tn 47 (tl 46 (aP (f_aload 0 47)))
  (tl 47 (aP (f_getf [18] 18 50))))
  (tn 52 (tl 50 (aP (f_const (.int (nI 12)) 52)))
  (tl 52 (aP (f_aload 0 53))))))
  (tn 59 (tn 56 (tl 53 (aP (f_getf [18] 19 56)))
  (tn 58 (tl 56 (aP (f_iload 5 58)))
  (tl 58 (aP (f_iald 0 59)))))
  (tn 62 (tn 60 (tl 59 (aP (f_bin (fun x y => x * y) 60)))
  (tl 60 (aP (f_iload 5 62))))
  (tn 63 (tl 62 (aP (f_bin (fun x y => x + y) 63)))
  (tl 63 (aP (f_iald 0 64)))))))
  (tn 79 (tn 70 (tn 66 (tl 64 (aP (f_iload 4 66)))
  (tn 69 (tl 66 (aP (f_icmp (fun x y => decide (y ≤ x)) 90 69)))
  (tl 69 (aP (f_aload 0 70)))))
  (tn 75 (tn 73 (tl 70 (aP (f_getf [18] 18 73)))
  (tl 73 (aP (f_const (.int (nI 12)) 75))))
  (tn 76 (tl 75 (aP (f_aload 0 76)))
  (tl 76 (aP (f_getf [18] 19 79))))))
  (tn 83 (tn 81 (tl 79 (aP (f_iload 5 81)))
  (tn 82 (tl 81 (aP (f_iald 0 82)))
  (tl 82 (aP (f_bin (fun x y => x * y) 83)))))
  (tn 86 (tn 85 (tl 83 (aP (f_iload 5 85)))
  (tl 85 (aP (f_bin (fun x y => x + y) 86))))
  (tn 87 (tl 86 (aP (f_iald 0 87)))
  (tl 87 (aP (f_goto 92)))))))))
  (tn 138 (tn 116 (tn 103 (tn 95 (tn 92 (tl 90 (aP (f_iload 4 92)))
  (tn 94 (tl 92 (aP (f_istore 4 94)))
  (tl 94 (aP (f_aload 0 95)))))
  (tn 100 (tn 98 (tl 95 (aP (f_getf [18] 19 98)))
  (tl 98 (aP (f_iload 5 100))))
  (tn 101 (tl 100 (aP (f_iald 0 101)))
  (tl 101 (aP (f_istore 5 103))))))
  (tn 109 (tn 106 (tl 103 (aP (f_goto 40)))
  (tn 107 (tl 106 (aP (f_iload 2 107)))
  (tl 107 (aP (f_istore 5 109)))))
  (tn 112 (tn 111 (tl 109 (aP (f_iload 5 111)))
  (tl 111 (aP (f_iload 1 112))))
  (tn 115 (tl 112 (aP (f_icmp (fun x y => decide (x = y)) 173 115)))
  (tl 115 (aP (f_aload 0 116)))))))
  (tn 129 (tn 122 (tn 119 (tl 116 (aP (f_getf [18] 18 119)))
  (tn 121 (tl 119 (aP (f_const (.int (nI 12)) 121)))
  (tl 121 (aP (f_aload 0 122)))))
  (tn 127 (tn 125 (tl 122 (aP (f_getf [18] 19 125)))
  (tl 125 (aP (f_iload 5 127))))
  (tn 128 (tl 127 (aP (f_iald 0 128)))
  (tl 128 (aP (f_bin (fun x y => x * y) 129))))))
  (tn 133 (tn 131 (tl 129 (aP (f_iload 5 131)))
  (tn 132 (tl 131 (aP (f_bin (fun x y => x + y) 132)))
  (tl 132 (aP (f_dup2 133)))))
  (tn 136 (tn 134 (tl 133 (aP (f_iald 0 134)))
  (tl 134 (aP (f_iload 4 136))))
  (tn 137 (tl 136 (aP (f_bin (fun x y => x - y) 137)))
  (tl 137 (o_iast 0 (fun y => y) 138)))))))
  (tn 160 (tn 151 (tn 144 (tn 139 (tl 138 (aP (f_aload 0 139)))
  (tn 142 (tl 139 (aP (f_getf [18] 18 142)))
  (tl 142 (aP (f_const (.int (nI 12)) 144)))))
  (tn 147 (tn 146 (tl 144 (aP (f_iload 5 146)))
  (tl 146 (aP (f_bin (fun x y => x * y) 147))))
  (tn 148 (tl 147 (aP (f_aload 0 148)))
  (tl 148 (aP (f_getf [18] 19 151))))))
  (tn 155 (tn 153 (tl 151 (aP (f_iload 5 153)))
  (tn 154 (tl 153 (aP (f_iald 0 154)))
  (tl 154 (aP (f_bin (fun x y => x + y) 155)))))
  (tn 157 (tn 156 (tl 155 (aP (f_dup2 156)))
  (tl 156 (aP (f_iald 0 157))))
  (tn 159 (tl 157 (aP (f_iload 4 159)))
  (tl 159 (aP (f_bin (fun x y => x + y) 160)))))))
  (tn 173 (tn 165 (tn 161 (tl 160 (o_iast 0 (fun y => y) 161))
  (tn 162 (tl 161 (aP (f_aload 0 162)))
  (tl 162 (aP (f_getf [18] 19 165)))))
  (tn 168 (tn 167 (tl 165 (aP (f_iload 5 167)))
  (tl 167 (aP (f_iald 0 168))))
  (tn 170 (tl 168 (aP (f_istore 5 170)))
  (tl 170 (aP (f_goto 109))))))
  (tn 177 (tn 174 (tl 173 (aP (f_iload 3 174)))
  (tn 176 (tl 174 (aP (f_iload 4 176)))
  (tl 176 (aP (f_bin (fun x y => x + y) 177)))))
  (tn 181 (tn 178 (tl 177 (aP (f_istore 3 178)))
  (tl 178 (aP (f_goto 6))))
  (tn 182 (tl 181 (aP (f_iload 3 182)))
  (tl 182 (o_iret (fun _ => true)))))))))
theorem kok_X7_flows {γ : AG} (hm : γ.2.2.2.2.1 = mTab) (hk : γ.2.2.2.2.2 = kTab) : KOK γ m_X7_flows k_X7_flows :=
 kn_ok
 (kn_ok
 (kn_ok
 (kn_ok
 (kn_ok
 (kn_ok
 (kl_ok (ok_aP (ok_aload_n dX7_flows_0 rfl rfl)))
 (kn_ok
 (kl_ok (ok_callV (List.forall_mem_cons.mpr ⟨run_V (C0 := "FavourTownModel") rfl rfl (by rw [hm]; rfl) q2250 q2252 qs75 q92 q2253 ⟨nh_1, dl_0⟩ (by decide) dX7_flows_1, (fun _ h => absurd h List.not_mem_nil)⟩) rfl))
 (kl_ok (ok_aP (ok_iconst dX7_flows_4 rfl rfl)))))
 (kn_ok
 (kl_ok (ok_aP (ok_istore_n dX7_flows_5 rfl rfl)))
 (kn_ok
 (kl_ok (ok_aP (ok_aload_n dX7_flows_6 rfl rfl)))
 (kl_ok (ok_aP (ok_iload_n dX7_flows_7 rfl rfl))))))
 (kn_ok
 (kn_ok
 (kl_ok (ok_callV (List.forall_mem_cons.mpr ⟨run_V (C0 := "FavourTownModel") rfl rfl (by rw [hm]; rfl) q2254 q2256 qs76 q92 q2257 ⟨nh_1, dl_10⟩ (by decide) dX7_flows_8, (fun _ h => absurd h List.not_mem_nil)⟩) rfl))
 (kn_ok
 (kl_ok (ok_aP (ok_iload_n dX7_flows_11 rfl rfl)))
 (kl_ok (ok_aP (ok_ishr dX7_flows_12 rfl)))))
 (kn_ok
 (kn_ok
 (kl_ok (ok_aP (ok_iconst dX7_flows_13 rfl rfl)))
 (kl_ok (ok_aP (ok_iand dX7_flows_14 rfl))))
 (kn_ok
 (kl_ok (ok_aP (ok_iconst dX7_flows_15 rfl rfl)))
 (kl_ok (ok_aP (ok_icmp_ne dX7_flows_16 rfl rfl)))))))
 (kn_ok
 (kn_ok
 (kn_ok
 (kl_ok (ok_aP (ok_aload_n dX7_flows_19 rfl rfl)))
 (kn_ok
 (kl_ok (ok_aP (ok_getf fo_80 fs_rf (Or.inl q1857) dX7_flows_20 rfl)))
 (kl_ok (ok_aP (ok_bipush dX7_flows_23 (by decide +kernel) rfl)))))
 (kn_ok
 (kn_ok
 (kl_ok (ok_aP (ok_aload_n dX7_flows_25 rfl rfl)))
 (kl_ok (ok_aP (ok_getf fo_82 fs_rf (Or.inl q1858) dX7_flows_26 rfl))))
 (kn_ok
 (kl_ok (ok_aP (ok_iload_n dX7_flows_29 rfl rfl)))
 (kl_ok (ok_aP (ok_iald dX7_flows_30 rfl))))))
 (kn_ok
 (kn_ok
 (kl_ok (ok_aP (ok_imul dX7_flows_31 rfl)))
 (kn_ok
 (kl_ok (ok_aP (ok_iload_n dX7_flows_32 rfl rfl)))
 (kl_ok (ok_aP (ok_iadd dX7_flows_33 rfl)))))
 (kn_ok
 (kn_ok
 (kl_ok (ok_aP (ok_iald dX7_flows_34 rfl)))
 (kl_ok (ok_aP (ok_istore dX7_flows_35 rfl))))
 (kn_ok
 (kl_ok (ok_aP (ok_iload_n dX7_flows_37 rfl rfl)))
 (kl_ok (ok_aP (ok_istore dX7_flows_38 rfl))))))))
 (kn_ok
 (kn_ok
 (kn_ok
 (kn_ok
 (kl_ok (ok_aP (ok_iload dX7_flows_40 rfl)))
 (kn_ok
 (kl_ok (ok_aP (ok_iload_n dX7_flows_42 rfl rfl)))
 (kl_ok (ok_aP (ok_icmp_eq dX7_flows_43 rfl rfl)))))
 (kn_ok
 (kn_ok
 (kl_ok (ok_aP (ok_aload_n dX7_flows_46 rfl rfl)))
 (kl_ok (ok_aP (ok_getf fo_80 fs_rf (Or.inl q1857) dX7_flows_47 rfl))))
 (kn_ok
 (kl_ok (ok_aP (ok_bipush dX7_flows_50 (by decide +kernel) rfl)))
 (kl_ok (ok_aP (ok_aload_n dX7_flows_52 rfl rfl))))))
 (kn_ok
 (kn_ok
 (kl_ok (ok_aP (ok_getf fo_82 fs_rf (Or.inl q1858) dX7_flows_53 rfl)))
 (kn_ok
 (kl_ok (ok_aP (ok_iload dX7_flows_56 rfl)))
 (kl_ok (ok_aP (ok_iald dX7_flows_58 rfl)))))
 (kn_ok
 (kn_ok
 (kl_ok (ok_aP (ok_imul dX7_flows_59 rfl)))
 (kl_ok (ok_aP (ok_iload dX7_flows_60 rfl))))
 (kn_ok
 (kl_ok (ok_aP (ok_iadd dX7_flows_62 rfl)))
 (kl_ok (ok_aP (ok_iald dX7_flows_63 rfl)))))))
 (kn_ok
 (kn_ok
 (kn_ok
 (kl_ok (ok_aP (ok_iload dX7_flows_64 rfl)))
 (kn_ok
 (kl_ok (ok_aP (ok_icmp_ge dX7_flows_66 rfl rfl)))
 (kl_ok (ok_aP (ok_aload_n dX7_flows_69 rfl rfl)))))
 (kn_ok
 (kn_ok
 (kl_ok (ok_aP (ok_getf fo_80 fs_rf (Or.inl q1857) dX7_flows_70 rfl)))
 (kl_ok (ok_aP (ok_bipush dX7_flows_73 (by decide +kernel) rfl))))
 (kn_ok
 (kl_ok (ok_aP (ok_aload_n dX7_flows_75 rfl rfl)))
 (kl_ok (ok_aP (ok_getf fo_82 fs_rf (Or.inl q1858) dX7_flows_76 rfl))))))
 (kn_ok
 (kn_ok
 (kl_ok (ok_aP (ok_iload dX7_flows_79 rfl)))
 (kn_ok
 (kl_ok (ok_aP (ok_iald dX7_flows_81 rfl)))
 (kl_ok (ok_aP (ok_imul dX7_flows_82 rfl)))))
 (kn_ok
 (kn_ok
 (kl_ok (ok_aP (ok_iload dX7_flows_83 rfl)))
 (kl_ok (ok_aP (ok_iadd dX7_flows_85 rfl))))
 (kn_ok
 (kl_ok (ok_aP (ok_iald dX7_flows_86 rfl)))
 (kl_ok (ok_aP (ok_goto dX7_flows_87 rfl)))))))))
 (kn_ok
 (kn_ok
 (kn_ok
 (kn_ok
 (kn_ok
 (kl_ok (ok_aP (ok_iload dX7_flows_90 rfl)))
 (kn_ok
 (kl_ok (ok_aP (ok_istore dX7_flows_92 rfl)))
 (kl_ok (ok_aP (ok_aload_n dX7_flows_94 rfl rfl)))))
 (kn_ok
 (kn_ok
 (kl_ok (ok_aP (ok_getf fo_82 fs_rf (Or.inl q1858) dX7_flows_95 rfl)))
 (kl_ok (ok_aP (ok_iload dX7_flows_98 rfl))))
 (kn_ok
 (kl_ok (ok_aP (ok_iald dX7_flows_100 rfl)))
 (kl_ok (ok_aP (ok_istore dX7_flows_101 rfl))))))
 (kn_ok
 (kn_ok
 (kl_ok (ok_aP (ok_goto dX7_flows_103 rfl)))
 (kn_ok
 (kl_ok (ok_aP (ok_iload_n dX7_flows_106 rfl rfl)))
 (kl_ok (ok_aP (ok_istore dX7_flows_107 rfl)))))
 (kn_ok
 (kn_ok
 (kl_ok (ok_aP (ok_iload dX7_flows_109 rfl)))
 (kl_ok (ok_aP (ok_iload_n dX7_flows_111 rfl rfl))))
 (kn_ok
 (kl_ok (ok_aP (ok_icmp_eq dX7_flows_112 rfl rfl)))
 (kl_ok (ok_aP (ok_aload_n dX7_flows_115 rfl rfl)))))))
 (kn_ok
 (kn_ok
 (kn_ok
 (kl_ok (ok_aP (ok_getf fo_80 fs_rf (Or.inl q1857) dX7_flows_116 rfl)))
 (kn_ok
 (kl_ok (ok_aP (ok_bipush dX7_flows_119 (by decide +kernel) rfl)))
 (kl_ok (ok_aP (ok_aload_n dX7_flows_121 rfl rfl)))))
 (kn_ok
 (kn_ok
 (kl_ok (ok_aP (ok_getf fo_82 fs_rf (Or.inl q1858) dX7_flows_122 rfl)))
 (kl_ok (ok_aP (ok_iload dX7_flows_125 rfl))))
 (kn_ok
 (kl_ok (ok_aP (ok_iald dX7_flows_127 rfl)))
 (kl_ok (ok_aP (ok_imul dX7_flows_128 rfl))))))
 (kn_ok
 (kn_ok
 (kl_ok (ok_aP (ok_iload dX7_flows_129 rfl)))
 (kn_ok
 (kl_ok (ok_aP (ok_iadd dX7_flows_131 rfl)))
 (kl_ok (ok_aP (ok_dup2 dX7_flows_132 rfl)))))
 (kn_ok
 (kn_ok
 (kl_ok (ok_aP (ok_iald dX7_flows_133 rfl)))
 (kl_ok (ok_aP (ok_iload dX7_flows_134 rfl))))
 (kn_ok
 (kl_ok (ok_aP (ok_isub dX7_flows_136 rfl)))
 (kl_ok (ok_hp (ok_iast dX7_flows_137 rfl) le_iast)))))))
 (kn_ok
 (kn_ok
 (kn_ok
 (kn_ok
 (kl_ok (ok_aP (ok_aload_n dX7_flows_138 rfl rfl)))
 (kn_ok
 (kl_ok (ok_aP (ok_getf fo_80 fs_rf (Or.inl q1857) dX7_flows_139 rfl)))
 (kl_ok (ok_aP (ok_bipush dX7_flows_142 (by decide +kernel) rfl)))))
 (kn_ok
 (kn_ok
 (kl_ok (ok_aP (ok_iload dX7_flows_144 rfl)))
 (kl_ok (ok_aP (ok_imul dX7_flows_146 rfl))))
 (kn_ok
 (kl_ok (ok_aP (ok_aload_n dX7_flows_147 rfl rfl)))
 (kl_ok (ok_aP (ok_getf fo_82 fs_rf (Or.inl q1858) dX7_flows_148 rfl))))))
 (kn_ok
 (kn_ok
 (kl_ok (ok_aP (ok_iload dX7_flows_151 rfl)))
 (kn_ok
 (kl_ok (ok_aP (ok_iald dX7_flows_153 rfl)))
 (kl_ok (ok_aP (ok_iadd dX7_flows_154 rfl)))))
 (kn_ok
 (kn_ok
 (kl_ok (ok_aP (ok_dup2 dX7_flows_155 rfl)))
 (kl_ok (ok_aP (ok_iald dX7_flows_156 rfl))))
 (kn_ok
 (kl_ok (ok_aP (ok_iload dX7_flows_157 rfl)))
 (kl_ok (ok_aP (ok_iadd dX7_flows_159 rfl)))))))
 (kn_ok
 (kn_ok
 (kn_ok
 (kl_ok (ok_hp (ok_iast dX7_flows_160 rfl) le_iast))
 (kn_ok
 (kl_ok (ok_aP (ok_aload_n dX7_flows_161 rfl rfl)))
 (kl_ok (ok_aP (ok_getf fo_82 fs_rf (Or.inl q1858) dX7_flows_162 rfl)))))
 (kn_ok
 (kn_ok
 (kl_ok (ok_aP (ok_iload dX7_flows_165 rfl)))
 (kl_ok (ok_aP (ok_iald dX7_flows_167 rfl))))
 (kn_ok
 (kl_ok (ok_aP (ok_istore dX7_flows_168 rfl)))
 (kl_ok (ok_aP (ok_goto dX7_flows_170 rfl))))))
 (kn_ok
 (kn_ok
 (kl_ok (ok_aP (ok_iload_n dX7_flows_173 rfl rfl)))
 (kn_ok
 (kl_ok (ok_aP (ok_iload dX7_flows_174 rfl)))
 (kl_ok (ok_aP (ok_iadd dX7_flows_176 rfl)))))
 (kn_ok
 (kn_ok
 (kl_ok (ok_aP (ok_istore_n dX7_flows_177 rfl rfl)))
 (kl_ok (ok_aP (ok_goto dX7_flows_178 rfl))))
 (kn_ok
 (kl_ok (ok_aP (ok_iload_n dX7_flows_181 rfl rfl)))
 (kl_ok (ok_iret rfl dX7_flows_182))))))))
/-- 222: FavourTownModel.allPorts()V -/
noncomputable def k_X7_allPorts : Nat → Option AOp :=
 tn 30 (tn 13 (tn 4 (tn 2 (tn 1 (tl 0 (aP (f_const (.int (nI 0)) 1)))
  (tl 1 (aP (f_istore 1 2))))
  (tn 3 (tl 2 (aP (f_iload 1 3)))
  (tl 3 (aP (f_aload 0 4)))))
  (tn 8 (tn 7 (tl 4 (aP (f_getf [18] 1 7)))
  (tl 7 (aP (f_const (.int (nI 1)) 8))))
  (tn 9 (tl 8 (aP (f_iald 0 9)))
  (tn 12 (tl 9 (aP (f_icmp (fun x y => decide (y ≤ x)) 62 12)))
  (tl 12 (aP (f_const (.int (nI 0)) 13)))))))
  (tn 20 (tn 15 (tn 14 (tl 13 (aP (f_istore 2 14)))
  (tl 14 (aP (f_iload 2 15))))
  (tn 16 (tl 15 (aP (f_aload 0 16)))
  (tn 19 (tl 16 (aP (f_getf [18] 1 19)))
  (tl 19 (aP (f_const (.int (nI 1)) 20))))))
  (tn 24 (tn 21 (tl 20 (aP (f_iald 0 21)))
  (tl 21 (aP (f_icmp (fun x y => decide (y ≤ x)) 56 24))))
  (tn 25 (tl 24 (aP (f_aload 0 25)))
  (tn 28 (tl 25 (aP (f_getf [18] 18 28)))
  (tl 28 (aP (f_const (.int (nI 12)) 30))))))))
  (tn 43 (tn 34 (tn 32 (tn 31 (tl 30 (aP (f_iload 1 31)))
  (tl 31 (aP (f_bin (fun x y => x * y) 32))))
  (tn 33 (tl 32 (aP (f_iload 2 33)))
  (tl 33 (aP (f_bin (fun x y => x + y) 34)))))
  (tn 36 (tn 35 (tl 34 (aP (f_iload 1 35)))
  (tl 35 (aP (f_iload 2 36))))
  (tn 39 (tl 36 (aP (f_icmp (fun x y => decide (¬ x = y)) 43 39)))
  (tn 40 (tl 39 (aP (f_const (.int (nI 0)) 40)))
  (tl 40 (aP (f_goto 49)))))))
  (tn 50 (tn 45 (tn 44 (tl 43 (aP (f_aload 0 44)))
  (tl 44 (aP (f_iload 1 45))))
  (tn 46 (tl 45 (aP (f_iload 2 46)))
  (tn 49 (tl 46 (o_callV (lkN [(18, 219)]) 2 49))
  (tl 49 (o_iast 0 (fun y => y) 50)))))
  (tn 56 (tn 53 (tl 50 (aP (f_iinc 2 (nI 1) 53)))
  (tl 53 (aP (f_goto 14))))
  (tn 59 (tl 56 (aP (f_iinc 1 (nI 1) 59)))
  (tn 62 (tl 59 (aP (f_goto 2)))
  (tl 62 (o_vret)))))))
theorem kok_X7_allPorts {γ : AG} (hm : γ.2.2.2.2.1 = mTab) (hk : γ.2.2.2.2.2 = kTab) : KOK γ m_X7_allPorts k_X7_allPorts :=
 kn_ok
 (kn_ok
 (kn_ok
 (kn_ok
 (kn_ok
 (kl_ok (ok_aP (ok_iconst dX7_allPorts_0 rfl rfl)))
 (kl_ok (ok_aP (ok_istore_n dX7_allPorts_1 rfl rfl))))
 (kn_ok
 (kl_ok (ok_aP (ok_iload_n dX7_allPorts_2 rfl rfl)))
 (kl_ok (ok_aP (ok_aload_n dX7_allPorts_3 rfl rfl)))))
 (kn_ok
 (kn_ok
 (kl_ok (ok_aP (ok_getf fo_54 fs_rf (Or.inl q1840) dX7_allPorts_4 rfl)))
 (kl_ok (ok_aP (ok_iconst dX7_allPorts_7 rfl rfl))))
 (kn_ok
 (kl_ok (ok_aP (ok_iald dX7_allPorts_8 rfl)))
 (kn_ok
 (kl_ok (ok_aP (ok_icmp_ge dX7_allPorts_9 rfl rfl)))
 (kl_ok (ok_aP (ok_iconst dX7_allPorts_12 rfl rfl)))))))
 (kn_ok
 (kn_ok
 (kn_ok
 (kl_ok (ok_aP (ok_istore_n dX7_allPorts_13 rfl rfl)))
 (kl_ok (ok_aP (ok_iload_n dX7_allPorts_14 rfl rfl))))
 (kn_ok
 (kl_ok (ok_aP (ok_aload_n dX7_allPorts_15 rfl rfl)))
 (kn_ok
 (kl_ok (ok_aP (ok_getf fo_54 fs_rf (Or.inl q1840) dX7_allPorts_16 rfl)))
 (kl_ok (ok_aP (ok_iconst dX7_allPorts_19 rfl rfl))))))
 (kn_ok
 (kn_ok
 (kl_ok (ok_aP (ok_iald dX7_allPorts_20 rfl)))
 (kl_ok (ok_aP (ok_icmp_ge dX7_allPorts_21 rfl rfl))))
 (kn_ok
 (kl_ok (ok_aP (ok_aload_n dX7_allPorts_24 rfl rfl)))
 (kn_ok
 (kl_ok (ok_aP (ok_getf fo_80 fs_rf (Or.inl q1857) dX7_allPorts_25 rfl)))
 (kl_ok (ok_aP (ok_bipush dX7_allPorts_28 (by decide +kernel) rfl))))))))
 (kn_ok
 (kn_ok
 (kn_ok
 (kn_ok
 (kl_ok (ok_aP (ok_iload_n dX7_allPorts_30 rfl rfl)))
 (kl_ok (ok_aP (ok_imul dX7_allPorts_31 rfl))))
 (kn_ok
 (kl_ok (ok_aP (ok_iload_n dX7_allPorts_32 rfl rfl)))
 (kl_ok (ok_aP (ok_iadd dX7_allPorts_33 rfl)))))
 (kn_ok
 (kn_ok
 (kl_ok (ok_aP (ok_iload_n dX7_allPorts_34 rfl rfl)))
 (kl_ok (ok_aP (ok_iload_n dX7_allPorts_35 rfl rfl))))
 (kn_ok
 (kl_ok (ok_aP (ok_icmp_ne dX7_allPorts_36 rfl rfl)))
 (kn_ok
 (kl_ok (ok_aP (ok_iconst dX7_allPorts_39 rfl rfl)))
 (kl_ok (ok_aP (ok_goto dX7_allPorts_40 rfl)))))))
 (kn_ok
 (kn_ok
 (kn_ok
 (kl_ok (ok_aP (ok_aload_n dX7_allPorts_43 rfl rfl)))
 (kl_ok (ok_aP (ok_iload_n dX7_allPorts_44 rfl rfl))))
 (kn_ok
 (kl_ok (ok_aP (ok_iload_n dX7_allPorts_45 rfl rfl)))
 (kn_ok
 (kl_ok (ok_callV (List.forall_mem_cons.mpr ⟨run_V (C0 := "FavourTownModel") rfl rfl (by rw [hm]; rfl) q2238 q2240 qs73 q92 q2241 ⟨nh_1, dl_6⟩ (by decide) dX7_allPorts_46, (fun _ h => absurd h List.not_mem_nil)⟩) rfl))
 (kl_ok (ok_hp (ok_iast dX7_allPorts_49 rfl) le_iast)))))
 (kn_ok
 (kn_ok
 (kl_ok (ok_aP (ok_iinc dX7_allPorts_50 (by decide +kernel) rfl)))
 (kl_ok (ok_aP (ok_goto dX7_allPorts_53 rfl))))
 (kn_ok
 (kl_ok (ok_aP (ok_iinc dX7_allPorts_56 (by decide +kernel) rfl)))
 (kn_ok
 (kl_ok (ok_aP (ok_goto dX7_allPorts_59 rfl)))
 (kl_ok (ok_vret rfl dX7_allPorts_62)))))))
/-- 223: FavourTownModel.reaches(I)I -/
noncomputable def k_X7_reaches : Nat → Option AOp :=
 tn 54 (tn 23 (tn 10 (tn 4 (tn 2 (tn 1 (tl 0 (aP (f_const (.int (nI 1)) 1)))
  (tl 1 (aP (f_iload 1 2))))
  (tn 3 (tl 2 (aP (f_bin (fun x y => x <<< (y &&& 31)) 3)))
  (tl 3 (aP (f_istore 2 4)))))
  (tn 6 (tn 5 (tl 4 (aP (f_const (.int (nI 1)) 5)))
  (tl 5 (aP (f_istore 3 6))))
  (tn 7 (tl 6 (aP (f_aload 0 7)))
  (tl 7 (aP (f_getf [18] 20 10))))))
  (tn 14 (tn 12 (tn 11 (tl 10 (aP (f_const (.int (nI 0)) 11)))
  (tl 11 (aP (f_iload 1 12))))
  (tn 13 (tl 12 (o_iast 0 (fun y => y) 13))
  (tl 13 (aP (f_const (.int (nI 0)) 14)))))
  (tn 18 (tn 16 (tl 14 (aP (f_istore 4 16)))
  (tl 16 (aP (f_iload 4 18))))
  (tn 19 (tl 18 (aP (f_iload 3 19)))
  (tn 22 (tl 19 (aP (f_icmp (fun x y => decide (y ≤ x)) 113 22)))
  (tl 22 (aP (f_aload 0 23))))))))
  (tn 37 (tn 31 (tn 28 (tn 26 (tl 23 (aP (f_getf [18] 20 26)))
  (tl 26 (aP (f_iload 4 28))))
  (tn 29 (tl 28 (aP (f_iald 0 29)))
  (tl 29 (aP (f_istore 5 31)))))
  (tn 34 (tn 32 (tl 31 (aP (f_const (.int (nI 0)) 32)))
  (tl 32 (aP (f_istore 6 34))))
  (tn 36 (tl 34 (aP (f_iload 6 36)))
  (tl 36 (aP (f_aload 0 37))))))
  (tn 45 (tn 41 (tn 40 (tl 37 (aP (f_getf [18] 1 40)))
  (tl 40 (aP (f_const (.int (nI 1)) 41))))
  (tn 42 (tl 41 (aP (f_iald 0 42)))
  (tl 42 (aP (f_icmp (fun x y => decide (y ≤ x)) 107 45)))))
  (tn 49 (tn 46 (tl 45 (aP (f_aload 0 46)))
  (tl 46 (aP (f_getf [18] 18 49))))
  (tn 51 (tl 49 (aP (f_const (.int (nI 12)) 51)))
  (tn 53 (tl 51 (aP (f_iload 5 53)))
  (tl 53 (aP (f_bin (fun x y => x * y) 54)))))))))
  (tn 80 (tn 66 (tn 61 (tn 57 (tn 56 (tl 54 (aP (f_iload 6 56)))
  (tl 56 (aP (f_bin (fun x y => x + y) 57))))
  (tn 58 (tl 57 (aP (f_iald 0 58)))
  (tl 58 (aP (f_if (fun x => decide (x = 0)) 101 61)))))
  (tn 64 (tn 62 (tl 61 (aP (f_iload 2 62)))
  (tl 62 (aP (f_iload 6 64))))
  (tn 65 (tl 64 (aP (f_bin (fun x y => x >>> (y &&& 31)) 65)))
  (tl 65 (aP (f_const (.int (nI 1)) 66))))))
  (tn 74 (tn 68 (tn 67 (tl 66 (aP (f_bin (fun x y => x &&& y) 67)))
  (tl 67 (aP (f_const (.int (nI 1)) 68))))
  (tn 71 (tl 68 (aP (f_icmp (fun x y => decide (¬ x = y)) 74 71)))
  (tl 71 (aP (f_goto 101)))))
  (tn 76 (tn 75 (tl 74 (aP (f_iload 2 75)))
  (tl 75 (aP (f_const (.int (nI 1)) 76))))
  (tn 78 (tl 76 (aP (f_iload 6 78)))
  (tn 79 (tl 78 (aP (f_bin (fun x y => x <<< (y &&& 31)) 79)))
  (tl 79 (aP (f_bin (fun x y => x ||| y) 80))))))))
  (tn 95 (tn 87 (tn 82 (tn 81 (tl 80 (aP (f_istore 2 81)))
  (tl 81 (aP (f_aload 0 82))))
  (tn 85 (tl 82 (aP (f_getf [18] 19 85)))
  (tl 85 (aP (f_iload 6 87)))))
  (tn 90 (tn 89 (tl 87 (aP (f_iload 5 89)))
  (tl 89 (o_iast 0 (fun y => y) 90)))
  (tn 91 (tl 90 (aP (f_aload 0 91)))
  (tn 94 (tl 91 (aP (f_getf [18] 20 94)))
  (tl 94 (aP (f_iload 3 95)))))))
  (tn 104 (tn 98 (tn 97 (tl 95 (aP (f_iload 6 97)))
  (tl 97 (o_iast 0 (fun y => y) 98)))
  (tn 101 (tl 98 (aP (f_iinc 3 (nI 1) 101)))
  (tl 101 (aP (f_iinc 6 (nI 1) 104)))))
  (tn 110 (tn 107 (tl 104 (aP (f_goto 34)))
  (tl 107 (aP (f_iinc 4 (nI 1) 110))))
  (tn 113 (tl 110 (aP (f_goto 16)))
  (tn 114 (tl 113 (aP (f_iload 2 114)))
  (tl 114 (o_iret (fun _ => true)))))))))
theorem kok_X7_reaches {γ : AG} (hm : γ.2.2.2.2.1 = mTab) (hk : γ.2.2.2.2.2 = kTab) : KOK γ m_X7_reaches k_X7_reaches :=
 kn_ok
 (kn_ok
 (kn_ok
 (kn_ok
 (kn_ok
 (kn_ok
 (kl_ok (ok_aP (ok_iconst dX7_reaches_0 rfl rfl)))
 (kl_ok (ok_aP (ok_iload_n dX7_reaches_1 rfl rfl))))
 (kn_ok
 (kl_ok (ok_aP (ok_ishl dX7_reaches_2 rfl)))
 (kl_ok (ok_aP (ok_istore_n dX7_reaches_3 rfl rfl)))))
 (kn_ok
 (kn_ok
 (kl_ok (ok_aP (ok_iconst dX7_reaches_4 rfl rfl)))
 (kl_ok (ok_aP (ok_istore_n dX7_reaches_5 rfl rfl))))
 (kn_ok
 (kl_ok (ok_aP (ok_aload_n dX7_reaches_6 rfl rfl)))
 (kl_ok (ok_aP (ok_getf fo_81 fs_rf (Or.inl q1859) dX7_reaches_7 rfl))))))
 (kn_ok
 (kn_ok
 (kn_ok
 (kl_ok (ok_aP (ok_iconst dX7_reaches_10 rfl rfl)))
 (kl_ok (ok_aP (ok_iload_n dX7_reaches_11 rfl rfl))))
 (kn_ok
 (kl_ok (ok_hp (ok_iast dX7_reaches_12 rfl) le_iast))
 (kl_ok (ok_aP (ok_iconst dX7_reaches_13 rfl rfl)))))
 (kn_ok
 (kn_ok
 (kl_ok (ok_aP (ok_istore dX7_reaches_14 rfl)))
 (kl_ok (ok_aP (ok_iload dX7_reaches_16 rfl))))
 (kn_ok
 (kl_ok (ok_aP (ok_iload_n dX7_reaches_18 rfl rfl)))
 (kn_ok
 (kl_ok (ok_aP (ok_icmp_ge dX7_reaches_19 rfl rfl)))
 (kl_ok (ok_aP (ok_aload_n dX7_reaches_22 rfl rfl))))))))
 (kn_ok
 (kn_ok
 (kn_ok
 (kn_ok
 (kl_ok (ok_aP (ok_getf fo_81 fs_rf (Or.inl q1859) dX7_reaches_23 rfl)))
 (kl_ok (ok_aP (ok_iload dX7_reaches_26 rfl))))
 (kn_ok
 (kl_ok (ok_aP (ok_iald dX7_reaches_28 rfl)))
 (kl_ok (ok_aP (ok_istore dX7_reaches_29 rfl)))))
 (kn_ok
 (kn_ok
 (kl_ok (ok_aP (ok_iconst dX7_reaches_31 rfl rfl)))
 (kl_ok (ok_aP (ok_istore dX7_reaches_32 rfl))))
 (kn_ok
 (kl_ok (ok_aP (ok_iload dX7_reaches_34 rfl)))
 (kl_ok (ok_aP (ok_aload_n dX7_reaches_36 rfl rfl))))))
 (kn_ok
 (kn_ok
 (kn_ok
 (kl_ok (ok_aP (ok_getf fo_54 fs_rf (Or.inl q1840) dX7_reaches_37 rfl)))
 (kl_ok (ok_aP (ok_iconst dX7_reaches_40 rfl rfl))))
 (kn_ok
 (kl_ok (ok_aP (ok_iald dX7_reaches_41 rfl)))
 (kl_ok (ok_aP (ok_icmp_ge dX7_reaches_42 rfl rfl)))))
 (kn_ok
 (kn_ok
 (kl_ok (ok_aP (ok_aload_n dX7_reaches_45 rfl rfl)))
 (kl_ok (ok_aP (ok_getf fo_80 fs_rf (Or.inl q1857) dX7_reaches_46 rfl))))
 (kn_ok
 (kl_ok (ok_aP (ok_bipush dX7_reaches_49 (by decide +kernel) rfl)))
 (kn_ok
 (kl_ok (ok_aP (ok_iload dX7_reaches_51 rfl)))
 (kl_ok (ok_aP (ok_imul dX7_reaches_53 rfl)))))))))
 (kn_ok
 (kn_ok
 (kn_ok
 (kn_ok
 (kn_ok
 (kl_ok (ok_aP (ok_iload dX7_reaches_54 rfl)))
 (kl_ok (ok_aP (ok_iadd dX7_reaches_56 rfl))))
 (kn_ok
 (kl_ok (ok_aP (ok_iald dX7_reaches_57 rfl)))
 (kl_ok (ok_aP (ok_if_eq dX7_reaches_58 rfl rfl)))))
 (kn_ok
 (kn_ok
 (kl_ok (ok_aP (ok_iload_n dX7_reaches_61 rfl rfl)))
 (kl_ok (ok_aP (ok_iload dX7_reaches_62 rfl))))
 (kn_ok
 (kl_ok (ok_aP (ok_ishr dX7_reaches_64 rfl)))
 (kl_ok (ok_aP (ok_iconst dX7_reaches_65 rfl rfl))))))
 (kn_ok
 (kn_ok
 (kn_ok
 (kl_ok (ok_aP (ok_iand dX7_reaches_66 rfl)))
 (kl_ok (ok_aP (ok_iconst dX7_reaches_67 rfl rfl))))
 (kn_ok
 (kl_ok (ok_aP (ok_icmp_ne dX7_reaches_68 rfl rfl)))
 (kl_ok (ok_aP (ok_goto dX7_reaches_71 rfl)))))
 (kn_ok
 (kn_ok
 (kl_ok (ok_aP (ok_iload_n dX7_reaches_74 rfl rfl)))
 (kl_ok (ok_aP (ok_iconst dX7_reaches_75 rfl rfl))))
 (kn_ok
 (kl_ok (ok_aP (ok_iload dX7_reaches_76 rfl)))
 (kn_ok
 (kl_ok (ok_aP (ok_ishl dX7_reaches_78 rfl)))
 (kl_ok (ok_aP (ok_ior dX7_reaches_79 rfl))))))))
 (kn_ok
 (kn_ok
 (kn_ok
 (kn_ok
 (kl_ok (ok_aP (ok_istore_n dX7_reaches_80 rfl rfl)))
 (kl_ok (ok_aP (ok_aload_n dX7_reaches_81 rfl rfl))))
 (kn_ok
 (kl_ok (ok_aP (ok_getf fo_82 fs_rf (Or.inl q1858) dX7_reaches_82 rfl)))
 (kl_ok (ok_aP (ok_iload dX7_reaches_85 rfl)))))
 (kn_ok
 (kn_ok
 (kl_ok (ok_aP (ok_iload dX7_reaches_87 rfl)))
 (kl_ok (ok_hp (ok_iast dX7_reaches_89 rfl) le_iast)))
 (kn_ok
 (kl_ok (ok_aP (ok_aload_n dX7_reaches_90 rfl rfl)))
 (kn_ok
 (kl_ok (ok_aP (ok_getf fo_81 fs_rf (Or.inl q1859) dX7_reaches_91 rfl)))
 (kl_ok (ok_aP (ok_iload_n dX7_reaches_94 rfl rfl)))))))
 (kn_ok
 (kn_ok
 (kn_ok
 (kl_ok (ok_aP (ok_iload dX7_reaches_95 rfl)))
 (kl_ok (ok_hp (ok_iast dX7_reaches_97 rfl) le_iast)))
 (kn_ok
 (kl_ok (ok_aP (ok_iinc dX7_reaches_98 (by decide +kernel) rfl)))
 (kl_ok (ok_aP (ok_iinc dX7_reaches_101 (by decide +kernel) rfl)))))
 (kn_ok
 (kn_ok
 (kl_ok (ok_aP (ok_goto dX7_reaches_104 rfl)))
 (kl_ok (ok_aP (ok_iinc dX7_reaches_107 (by decide +kernel) rfl))))
 (kn_ok
 (kl_ok (ok_aP (ok_goto dX7_reaches_110 rfl)))
 (kn_ok
 (kl_ok (ok_aP (ok_iload_n dX7_reaches_113 rfl rfl)))
 (kl_ok (ok_iret rfl dX7_reaches_114))))))))
/-- 224: FavourTownModel.cut(II)I -/
noncomputable def k_X7_cut : Nat → Option AOp :=
 tn 19 (tn 7 (tn 2 (tn 1 (tl 0 (aP (f_aload 0 1)))
  (tl 1 (aP (f_aload 0 2))))
  (tn 3 (tl 2 (aP (f_iload 1 3)))
  (tn 4 (tl 3 (aP (f_iload 2 4)))
  (tl 4 (o_callV (lkN [(18, 218)]) 2 7)))))
  (tn 14 (tn 10 (tl 7 (o_putf [18] 0 vI 10))
  (tn 11 (tl 10 (aP (f_aload 0 11)))
  (tl 11 (aP (f_getf [18] 0 14)))))
  (tn 17 (tl 14 (aP (f_if (fun x => decide (x ≤ 0)) 19 17)))
  (tn 18 (tl 17 (aP (f_const (.int (nI 0)) 18)))
  (tl 18 (o_iret (fun _ => true)))))))
  (tn 28 (tn 21 (tn 20 (tl 19 (aP (f_aload 0 20)))
  (tl 20 (aP (f_iload 1 21))))
  (tn 22 (tl 21 (aP (f_iload 2 22)))
  (tn 25 (tl 22 (o_callV (lkN [(18, 221)]) 2 25))
  (tl 25 (aP (f_if (fun x => decide (0 ≤ x)) 32 28))))))
  (tn 33 (tn 29 (tl 28 (aP (f_const (.int (nI 0)) 29)))
  (tn 32 (tl 29 (aP (f_goto 37)))
  (tl 32 (aP (f_aload 0 33)))))
  (tn 34 (tl 33 (aP (f_iload 1 34)))
  (tn 37 (tl 34 (o_callV (lkN [(18, 223)]) 1 37))
  (tl 37 (o_iret (fun _ => true)))))))
theorem kok_X7_cut {γ : AG} (hm : γ.2.2.2.2.1 = mTab) (hk : γ.2.2.2.2.2 = kTab) : KOK γ m_X7_cut k_X7_cut :=
 kn_ok
 (kn_ok
 (kn_ok
 (kn_ok
 (kl_ok (ok_aP (ok_aload_n dX7_cut_0 rfl rfl)))
 (kl_ok (ok_aP (ok_aload_n dX7_cut_1 rfl rfl))))
 (kn_ok
 (kl_ok (ok_aP (ok_iload_n dX7_cut_2 rfl rfl)))
 (kn_ok
 (kl_ok (ok_aP (ok_iload_n dX7_cut_3 rfl rfl)))
 (kl_ok (ok_callV (List.forall_mem_cons.mpr ⟨run_V (C0 := "FavourTownModel") rfl rfl (by rw [hm]; rfl) q2234 q2236 qs72 q92 q2237 ⟨nh_1, dl_6⟩ (by decide) dX7_cut_4, (fun _ h => absurd h List.not_mem_nil)⟩) rfl)))))
 (kn_ok
 (kn_ok
 (kl_ok (ok_hp (ok_putf fo_53 fs_rf fn_36 (Or.inl q1839) pd_0 vI_ok dX7_cut_7 rfl) le_putf))
 (kn_ok
 (kl_ok (ok_aP (ok_aload_n dX7_cut_10 rfl rfl)))
 (kl_ok (ok_aP (ok_getf fo_53 fs_rf (Or.inl q1839) dX7_cut_11 rfl)))))
 (kn_ok
 (kl_ok (ok_aP (ok_if_le dX7_cut_14 rfl rfl)))
 (kn_ok
 (kl_ok (ok_aP (ok_iconst dX7_cut_17 rfl rfl)))
 (kl_ok (ok_iret rfl dX7_cut_18))))))
 (kn_ok
 (kn_ok
 (kn_ok
 (kl_ok (ok_aP (ok_aload_n dX7_cut_19 rfl rfl)))
 (kl_ok (ok_aP (ok_iload_n dX7_cut_20 rfl rfl))))
 (kn_ok
 (kl_ok (ok_aP (ok_iload_n dX7_cut_21 rfl rfl)))
 (kn_ok
 (kl_ok (ok_callV (List.forall_mem_cons.mpr ⟨run_V (C0 := "FavourTownModel") rfl rfl (by rw [hm]; rfl) q2246 q2248 qs74 q92 q2249 ⟨nh_1, dl_6⟩ (by decide) dX7_cut_22, (fun _ h => absurd h List.not_mem_nil)⟩) rfl))
 (kl_ok (ok_aP (ok_if_ge dX7_cut_25 rfl rfl))))))
 (kn_ok
 (kn_ok
 (kl_ok (ok_aP (ok_iconst dX7_cut_28 rfl rfl)))
 (kn_ok
 (kl_ok (ok_aP (ok_goto dX7_cut_29 rfl)))
 (kl_ok (ok_aP (ok_aload_n dX7_cut_32 rfl rfl)))))
 (kn_ok
 (kl_ok (ok_aP (ok_iload_n dX7_cut_33 rfl rfl)))
 (kn_ok
 (kl_ok (ok_callV (List.forall_mem_cons.mpr ⟨run_V (C0 := "FavourTownModel") rfl rfl (by rw [hm]; rfl) q2254 q2256 qs76 q92 q2257 ⟨nh_1, dl_10⟩ (by decide) dX7_cut_34, (fun _ h => absurd h List.not_mem_nil)⟩) rfl))
 (kl_ok (ok_iret rfl dX7_cut_37))))))
/-- 225: FavourTownModel.chain(IIII)I -/
noncomputable def k_X7_chain : Nat → Option AOp :=
 tn 152 (tn 78 (tn 38 (tn 18 (tn 7 (tn 2 (tn 1 (tl 0 (aP (f_aload 0 1)))
  (tl 1 (aP (f_aload 0 2))))
  (tn 3 (tl 2 (aP (f_iload 1 3)))
  (tn 4 (tl 3 (aP (f_iload 2 4)))
  (tl 4 (o_callV (lkN [(18, 218)]) 2 7)))))
  (tn 11 (tn 10 (tl 7 (o_putf [18] 0 vI 10))
  (tl 10 (aP (f_aload 0 11))))
  (tn 14 (tl 11 (aP (f_getf [18] 0 14)))
  (tn 17 (tl 14 (aP (f_if (fun x => decide (¬ x = 0)) 38 17)))
  (tl 17 (aP (f_iload 3 18)))))))
  (tn 29 (tn 21 (tn 19 (tl 18 (aP (f_const (.int (nI 1)) 19)))
  (tl 19 (aP (f_const (.int (nI 99)) 21))))
  (tn 24 (tl 21 (o_callS 153 3 24))
  (tn 27 (tl 24 (aP (f_if (fun x => decide (x = 0)) 33 27)))
  (tl 27 (aP (f_iload 4 29))))))
  (tn 33 (tn 30 (tl 29 (aP (f_const (.int (-1)) 30)))
  (tl 30 (aP (f_icmp (fun x y => decide (y ≤ x)) 38 33))))
  (tn 34 (tl 33 (aP (f_aload 0 34)))
  (tn 35 (tl 34 (aP (f_const (.int (nI 2)) 35)))
  (tl 35 (o_putf [18] 0 vI 38)))))))
  (tn 56 (tn 47 (tn 42 (tn 39 (tl 38 (aP (f_aload 0 39)))
  (tl 39 (aP (f_getf [18] 0 42))))
  (tn 45 (tl 42 (aP (f_if (fun x => decide (x ≤ 0)) 47 45)))
  (tn 46 (tl 45 (aP (f_const (.int (nI 0)) 46)))
  (tl 46 (o_iret (fun _ => true))))))
  (tn 51 (tn 48 (tl 47 (aP (f_aload 0 48)))
  (tl 48 (o_callV (lkN [(18, 222)]) 0 51)))
  (tn 52 (tl 51 (aP (f_const (.int (nI 0)) 52)))
  (tn 54 (tl 52 (aP (f_istore 5 54)))
  (tl 54 (aP (f_iload 5 56)))))))
  (tn 67 (tn 61 (tn 58 (tl 56 (aP (f_const (.int (nI 12)) 58)))
  (tl 58 (aP (f_icmp (fun x y => decide (y ≤ x)) 85 61))))
  (tn 62 (tl 61 (aP (f_aload 0 62)))
  (tn 65 (tl 62 (aP (f_getf [18] 21 65)))
  (tl 65 (aP (f_iload 5 67))))))
  (tn 73 (tn 69 (tl 67 (aP (f_iload 5 69)))
  (tn 70 (tl 69 (aP (f_iload 2 70)))
  (tl 70 (aP (f_icmp (fun x y => decide (¬ x = y)) 77 73)))))
  (tn 74 (tl 73 (aP (f_const (.int (nI 0)) 74)))
  (tn 77 (tl 74 (aP (f_goto 78)))
  (tl 77 (aP (f_const (.int (-1)) 78)))))))))
  (tn 114 (tn 96 (tn 88 (tn 82 (tn 79 (tl 78 (o_iast 0 (fun y => y) 79))
  (tl 79 (aP (f_iinc 5 (nI 1) 82))))
  (tn 85 (tl 82 (aP (f_goto 54)))
  (tn 86 (tl 85 (aP (f_const (.int (nI 1)) 86)))
  (tl 86 (aP (f_istore 5 88))))))
  (tn 91 (tn 90 (tl 88 (aP (f_iload 5 90)))
  (tl 90 (aP (f_aload 0 91))))
  (tn 94 (tl 91 (aP (f_getf [18] 1 94)))
  (tn 95 (tl 94 (aP (f_const (.int (nI 1)) 95)))
  (tl 95 (aP (f_iald 0 96)))))))
  (tn 105 (tn 100 (tn 99 (tl 96 (aP (f_icmp (fun x y => decide (y ≤ x)) 199 99)))
  (tl 99 (aP (f_const (.int (nI 0)) 100))))
  (tn 102 (tl 100 (aP (f_istore 6 102)))
  (tn 104 (tl 102 (aP (f_iload 6 104)))
  (tl 104 (aP (f_aload 0 105))))))
  (tn 109 (tn 108 (tl 105 (aP (f_getf [18] 1 108)))
  (tl 108 (aP (f_const (.int (nI 1)) 109))))
  (tn 110 (tl 109 (aP (f_iald 0 110)))
  (tn 113 (tl 110 (aP (f_icmp (fun x y => decide (y ≤ x)) 193 113)))
  (tl 113 (aP (f_aload 0 114))))))))
  (tn 133 (tn 124 (tn 119 (tn 117 (tl 114 (aP (f_getf [18] 21 117)))
  (tl 117 (aP (f_iload 6 119))))
  (tn 120 (tl 119 (aP (f_iald 0 120)))
  (tn 121 (tl 120 (aP (f_const (.int (-1)) 121)))
  (tl 121 (aP (f_icmp (fun x y => decide (x = y)) 127 124))))))
  (tn 128 (tn 127 (tl 124 (aP (f_goto 187)))
  (tl 127 (aP (f_const (.int (nI 0)) 128))))
  (tn 130 (tl 128 (aP (f_istore 7 130)))
  (tn 132 (tl 130 (aP (f_iload 7 132)))
  (tl 132 (aP (f_aload 0 133)))))))
  (tn 142 (tn 137 (tn 136 (tl 133 (aP (f_getf [18] 1 136)))
  (tl 136 (aP (f_const (.int (nI 1)) 137))))
  (tn 138 (tl 137 (aP (f_iald 0 138)))
  (tn 141 (tl 138 (aP (f_icmp (fun x y => decide (y ≤ x)) 187 141)))
  (tl 141 (aP (f_aload 0 142))))))
  (tn 148 (tn 145 (tl 142 (aP (f_getf [18] 21 145)))
  (tn 147 (tl 145 (aP (f_iload 7 147)))
  (tl 147 (aP (f_iald 0 148)))))
  (tn 150 (tl 148 (aP (f_iload 5 150)))
  (tn 151 (tl 150 (aP (f_const (.int (nI 1)) 151)))
  (tl 151 (aP (f_bin (fun x y => x - y) 152))))))))))
  (tn 230 (tn 193 (tn 169 (tn 163 (tn 156 (tn 155 (tl 152 (aP (f_icmp (fun x y => decide (¬ x = y)) 181 155)))
  (tl 155 (aP (f_aload 0 156))))
  (tn 159 (tl 156 (aP (f_getf [18] 18 159)))
  (tn 161 (tl 159 (aP (f_const (.int (nI 12)) 161)))
  (tl 161 (aP (f_iload 6 163))))))
  (tn 166 (tn 164 (tl 163 (aP (f_bin (fun x y => x * y) 164)))
  (tl 164 (aP (f_iload 7 166))))
  (tn 167 (tl 166 (aP (f_bin (fun x y => x + y) 167)))
  (tn 168 (tl 167 (aP (f_iald 0 168)))
  (tl 168 (aP (f_iload 3 169)))))))
  (tn 180 (tn 173 (tn 172 (tl 169 (aP (f_icmp (fun x y => decide (x < y)) 181 172)))
  (tl 172 (aP (f_aload 0 173))))
  (tn 176 (tl 173 (aP (f_getf [18] 21 176)))
  (tn 178 (tl 176 (aP (f_iload 6 178)))
  (tl 178 (aP (f_iload 5 180))))))
  (tn 184 (tn 181 (tl 180 (o_iast 0 (fun y => y) 181))
  (tl 181 (aP (f_iinc 7 (nI 1) 184))))
  (tn 187 (tl 184 (aP (f_goto 130)))
  (tn 190 (tl 187 (aP (f_iinc 6 (nI 1) 190)))
  (tl 190 (aP (f_goto 102))))))))
  (tn 212 (tn 204 (tn 199 (tn 196 (tl 193 (aP (f_iinc 5 (nI 1) 196)))
  (tl 196 (aP (f_goto 88))))
  (tn 200 (tl 199 (aP (f_aload 0 200)))
  (tn 203 (tl 200 (aP (f_getf [18] 21 203)))
  (tl 203 (aP (f_iload 1 204))))))
  (tn 206 (tn 205 (tl 204 (aP (f_iald 0 205)))
  (tl 205 (aP (f_const (.int (-1)) 206))))
  (tn 209 (tl 206 (aP (f_icmp (fun x y => decide (x = y)) 215 209)))
  (tn 211 (tl 209 (aP (f_iload 4 211)))
  (tl 211 (aP (f_const (.int (-1)) 212)))))))
  (tn 221 (tn 216 (tn 215 (tl 212 (aP (f_icmp (fun x y => decide (¬ x = y)) 222 215)))
  (tl 215 (aP (f_aload 0 216))))
  (tn 219 (tl 216 (aP (f_getf [18] 21 219)))
  (tn 220 (tl 219 (aP (f_iload 1 220)))
  (tl 220 (aP (f_iald 0 221))))))
  (tn 225 (tn 222 (tl 221 (o_iret (fun _ => true)))
  (tn 224 (tl 222 (aP (f_iload 4 224)))
  (tl 224 (aP (f_aload 0 225)))))
  (tn 228 (tl 225 (aP (f_getf [18] 21 228)))
  (tn 229 (tl 228 (aP (f_iload 1 229)))
  (tl 229 (aP (f_iald 0 230)))))))))
  (tn 265 (tn 248 (tn 238 (tn 234 (tn 233 (tl 230 (aP (f_icmp (fun x y => decide (x ≤ y)) 235 233)))
  (tl 233 (aP (f_const (.int (-1)) 234))))
  (tn 235 (tl 234 (o_iret (fun _ => true)))
  (tn 236 (tl 235 (aP (f_iload 1 236)))
  (tl 236 (aP (f_istore 5 238))))))
  (tn 241 (tn 239 (tl 238 (aP (f_const (.int (nI 0)) 239)))
  (tl 239 (aP (f_istore 6 241))))
  (tn 243 (tl 241 (aP (f_iload 6 243)))
  (tn 245 (tl 243 (aP (f_iload 4 245)))
  (tl 245 (aP (f_icmp (fun x y => decide (y ≤ x)) 303 248)))))))
  (tn 257 (tn 251 (tn 249 (tl 248 (aP (f_const (.int (nI 0)) 249)))
  (tl 249 (aP (f_istore 7 251))))
  (tn 252 (tl 251 (aP (f_aload 0 252)))
  (tn 255 (tl 252 (aP (f_getf [18] 21 255)))
  (tl 255 (aP (f_iload 7 257))))))
  (tn 259 (tn 258 (tl 257 (aP (f_iald 0 258)))
  (tl 258 (aP (f_aload 0 259))))
  (tn 262 (tl 259 (aP (f_getf [18] 21 262)))
  (tn 264 (tl 262 (aP (f_iload 5 264)))
  (tl 264 (aP (f_iald 0 265))))))))
  (tn 282 (tn 274 (tn 267 (tn 266 (tl 265 (aP (f_const (.int (nI 1)) 266)))
  (tl 266 (aP (f_bin (fun x y => x - y) 267))))
  (tn 270 (tl 267 (aP (f_icmp (fun x y => decide (¬ x = y)) 287 270)))
  (tn 271 (tl 270 (aP (f_aload 0 271)))
  (tl 271 (aP (f_getf [18] 18 274))))))
  (tn 278 (tn 276 (tl 274 (aP (f_const (.int (nI 12)) 276)))
  (tl 276 (aP (f_iload 5 278))))
  (tn 279 (tl 278 (aP (f_bin (fun x y => x * y) 279)))
  (tn 281 (tl 279 (aP (f_iload 7 281)))
  (tl 281 (aP (f_bin (fun x y => x + y) 282)))))))
  (tn 293 (tn 284 (tn 283 (tl 282 (aP (f_iald 0 283)))
  (tl 283 (aP (f_iload 3 284))))
  (tn 287 (tl 284 (aP (f_icmp (fun x y => decide (y ≤ x)) 293 287)))
  (tn 290 (tl 287 (aP (f_iinc 7 (nI 1) 290)))
  (tl 290 (aP (f_goto 251))))))
  (tn 300 (tn 295 (tl 293 (aP (f_iload 7 295)))
  (tn 297 (tl 295 (aP (f_istore 5 297)))
  (tl 297 (aP (f_iinc 6 (nI 1) 300)))))
  (tn 303 (tl 300 (aP (f_goto 241)))
  (tn 305 (tl 303 (aP (f_iload 5 305)))
  (tl 305 (o_iret (fun _ => true))))))))))
theorem kok_X7_chain {γ : AG} (hm : γ.2.2.2.2.1 = mTab) (hk : γ.2.2.2.2.2 = kTab) : KOK γ m_X7_chain k_X7_chain :=
 kn_ok
 (kn_ok
 (kn_ok
 (kn_ok
 (kn_ok
 (kn_ok
 (kn_ok
 (kl_ok (ok_aP (ok_aload_n dX7_chain_0 rfl rfl)))
 (kl_ok (ok_aP (ok_aload_n dX7_chain_1 rfl rfl))))
 (kn_ok
 (kl_ok (ok_aP (ok_iload_n dX7_chain_2 rfl rfl)))
 (kn_ok
 (kl_ok (ok_aP (ok_iload_n dX7_chain_3 rfl rfl)))
 (kl_ok (ok_callV (List.forall_mem_cons.mpr ⟨run_V (C0 := "FavourTownModel") rfl rfl (by rw [hm]; rfl) q2234 q2236 qs72 q92 q2237 ⟨nh_1, dl_6⟩ (by decide) dX7_chain_4, (fun _ h => absurd h List.not_mem_nil)⟩) rfl)))))
 (kn_ok
 (kn_ok
 (kl_ok (ok_hp (ok_putf fo_53 fs_rf fn_36 (Or.inl q1839) pd_0 vI_ok dX7_chain_7 rfl) le_putf))
 (kl_ok (ok_aP (ok_aload_n dX7_chain_10 rfl rfl))))
 (kn_ok
 (kl_ok (ok_aP (ok_getf fo_53 fs_rf (Or.inl q1839) dX7_chain_11 rfl)))
 (kn_ok
 (kl_ok (ok_aP (ok_if_ne dX7_chain_14 rfl rfl)))
 (kl_ok (ok_aP (ok_iload_n dX7_chain_17 rfl rfl)))))))
 (kn_ok
 (kn_ok
 (kn_ok
 (kl_ok (ok_aP (ok_iconst dX7_chain_18 rfl rfl)))
 (kl_ok (ok_aP (ok_bipush dX7_chain_19 (by decide +kernel) rfl))))
 (kn_ok
 (kl_ok (ok_callS (run_S (by rw [hm]; rfl) q1939 q1940 q92 q1941 ⟨nh_1, dl_17⟩ (by decide) dX7_chain_21) rfl))
 (kn_ok
 (kl_ok (ok_aP (ok_if_eq dX7_chain_24 rfl rfl)))
 (kl_ok (ok_aP (ok_iload dX7_chain_27 rfl))))))
 (kn_ok
 (kn_ok
 (kl_ok (ok_aP (ok_iconst dX7_chain_29 rfl rfl)))
 (kl_ok (ok_aP (ok_icmp_ge dX7_chain_30 rfl rfl))))
 (kn_ok
 (kl_ok (ok_aP (ok_aload_n dX7_chain_33 rfl rfl)))
 (kn_ok
 (kl_ok (ok_aP (ok_iconst dX7_chain_34 rfl rfl)))
 (kl_ok (ok_hp (ok_putf fo_53 fs_rf fn_36 (Or.inl q1839) pd_0 vI_ok dX7_chain_35 rfl) le_putf)))))))
 (kn_ok
 (kn_ok
 (kn_ok
 (kn_ok
 (kl_ok (ok_aP (ok_aload_n dX7_chain_38 rfl rfl)))
 (kl_ok (ok_aP (ok_getf fo_53 fs_rf (Or.inl q1839) dX7_chain_39 rfl))))
 (kn_ok
 (kl_ok (ok_aP (ok_if_le dX7_chain_42 rfl rfl)))
 (kn_ok
 (kl_ok (ok_aP (ok_iconst dX7_chain_45 rfl rfl)))
 (kl_ok (ok_iret rfl dX7_chain_46)))))
 (kn_ok
 (kn_ok
 (kl_ok (ok_aP (ok_aload_n dX7_chain_47 rfl rfl)))
 (kl_ok (ok_callV (List.forall_mem_cons.mpr ⟨run_V (C0 := "FavourTownModel") rfl rfl (by rw [hm]; rfl) q2250 q2252 qs75 q92 q2253 ⟨nh_1, dl_0⟩ (by decide) dX7_chain_48, (fun _ h => absurd h List.not_mem_nil)⟩) rfl)))
 (kn_ok
 (kl_ok (ok_aP (ok_iconst dX7_chain_51 rfl rfl)))
 (kn_ok
 (kl_ok (ok_aP (ok_istore dX7_chain_52 rfl)))
 (kl_ok (ok_aP (ok_iload dX7_chain_54 rfl)))))))
 (kn_ok
 (kn_ok
 (kn_ok
 (kl_ok (ok_aP (ok_bipush dX7_chain_56 (by decide +kernel) rfl)))
 (kl_ok (ok_aP (ok_icmp_ge dX7_chain_58 rfl rfl))))
 (kn_ok
 (kl_ok (ok_aP (ok_aload_n dX7_chain_61 rfl rfl)))
 (kn_ok
 (kl_ok (ok_aP (ok_getf fo_79 fs_rf (Or.inl q1860) dX7_chain_62 rfl)))
 (kl_ok (ok_aP (ok_iload dX7_chain_65 rfl))))))
 (kn_ok
 (kn_ok
 (kl_ok (ok_aP (ok_iload dX7_chain_67 rfl)))
 (kn_ok
 (kl_ok (ok_aP (ok_iload_n dX7_chain_69 rfl rfl)))
 (kl_ok (ok_aP (ok_icmp_ne dX7_chain_70 rfl rfl)))))
 (kn_ok
 (kl_ok (ok_aP (ok_iconst dX7_chain_73 rfl rfl)))
 (kn_ok
 (kl_ok (ok_aP (ok_goto dX7_chain_74 rfl)))
 (kl_ok (ok_aP (ok_iconst dX7_chain_77 rfl rfl)))))))))
 (kn_ok
 (kn_ok
 (kn_ok
 (kn_ok
 (kn_ok
 (kl_ok (ok_hp (ok_iast dX7_chain_78 rfl) le_iast))
 (kl_ok (ok_aP (ok_iinc dX7_chain_79 (by decide +kernel) rfl))))
 (kn_ok
 (kl_ok (ok_aP (ok_goto dX7_chain_82 rfl)))
 (kn_ok
 (kl_ok (ok_aP (ok_iconst dX7_chain_85 rfl rfl)))
 (kl_ok (ok_aP (ok_istore dX7_chain_86 rfl))))))
 (kn_ok
 (kn_ok
 (kl_ok (ok_aP (ok_iload dX7_chain_88 rfl)))
 (kl_ok (ok_aP (ok_aload_n dX7_chain_90 rfl rfl))))
 (kn_ok
 (kl_ok (ok_aP (ok_getf fo_54 fs_rf (Or.inl q1840) dX7_chain_91 rfl)))
 (kn_ok
 (kl_ok (ok_aP (ok_iconst dX7_chain_94 rfl rfl)))
 (kl_ok (ok_aP (ok_iald dX7_chain_95 rfl)))))))
 (kn_ok
 (kn_ok
 (kn_ok
 (kl_ok (ok_aP (ok_icmp_ge dX7_chain_96 rfl rfl)))
 (kl_ok (ok_aP (ok_iconst dX7_chain_99 rfl rfl))))
 (kn_ok
 (kl_ok (ok_aP (ok_istore dX7_chain_100 rfl)))
 (kn_ok
 (kl_ok (ok_aP (ok_iload dX7_chain_102 rfl)))
 (kl_ok (ok_aP (ok_aload_n dX7_chain_104 rfl rfl))))))
 (kn_ok
 (kn_ok
 (kl_ok (ok_aP (ok_getf fo_54 fs_rf (Or.inl q1840) dX7_chain_105 rfl)))
 (kl_ok (ok_aP (ok_iconst dX7_chain_108 rfl rfl))))
 (kn_ok
 (kl_ok (ok_aP (ok_iald dX7_chain_109 rfl)))
 (kn_ok
 (kl_ok (ok_aP (ok_icmp_ge dX7_chain_110 rfl rfl)))
 (kl_ok (ok_aP (ok_aload_n dX7_chain_113 rfl rfl))))))))
 (kn_ok
 (kn_ok
 (kn_ok
 (kn_ok
 (kl_ok (ok_aP (ok_getf fo_79 fs_rf (Or.inl q1860) dX7_chain_114 rfl)))
 (kl_ok (ok_aP (ok_iload dX7_chain_117 rfl))))
 (kn_ok
 (kl_ok (ok_aP (ok_iald dX7_chain_119 rfl)))
 (kn_ok
 (kl_ok (ok_aP (ok_iconst dX7_chain_120 rfl rfl)))
 (kl_ok (ok_aP (ok_icmp_eq dX7_chain_121 rfl rfl))))))
 (kn_ok
 (kn_ok
 (kl_ok (ok_aP (ok_goto dX7_chain_124 rfl)))
 (kl_ok (ok_aP (ok_iconst dX7_chain_127 rfl rfl))))
 (kn_ok
 (kl_ok (ok_aP (ok_istore dX7_chain_128 rfl)))
 (kn_ok
 (kl_ok (ok_aP (ok_iload dX7_chain_130 rfl)))
 (kl_ok (ok_aP (ok_aload_n dX7_chain_132 rfl rfl)))))))
 (kn_ok
 (kn_ok
 (kn_ok
 (kl_ok (ok_aP (ok_getf fo_54 fs_rf (Or.inl q1840) dX7_chain_133 rfl)))
 (kl_ok (ok_aP (ok_iconst dX7_chain_136 rfl rfl))))
 (kn_ok
 (kl_ok (ok_aP (ok_iald dX7_chain_137 rfl)))
 (kn_ok
 (kl_ok (ok_aP (ok_icmp_ge dX7_chain_138 rfl rfl)))
 (kl_ok (ok_aP (ok_aload_n dX7_chain_141 rfl rfl))))))
 (kn_ok
 (kn_ok
 (kl_ok (ok_aP (ok_getf fo_79 fs_rf (Or.inl q1860) dX7_chain_142 rfl)))
 (kn_ok
 (kl_ok (ok_aP (ok_iload dX7_chain_145 rfl)))
 (kl_ok (ok_aP (ok_iald dX7_chain_147 rfl)))))
 (kn_ok
 (kl_ok (ok_aP (ok_iload dX7_chain_148 rfl)))
 (kn_ok
 (kl_ok (ok_aP (ok_iconst dX7_chain_150 rfl rfl)))
 (kl_ok (ok_aP (ok_isub dX7_chain_151 rfl))))))))))
 (kn_ok
 (kn_ok
 (kn_ok
 (kn_ok
 (kn_ok
 (kn_ok
 (kl_ok (ok_aP (ok_icmp_ne dX7_chain_152 rfl rfl)))
 (kl_ok (ok_aP (ok_aload_n dX7_chain_155 rfl rfl))))
 (kn_ok
 (kl_ok (ok_aP (ok_getf fo_80 fs_rf (Or.inl q1857) dX7_chain_156 rfl)))
 (kn_ok
 (kl_ok (ok_aP (ok_bipush dX7_chain_159 (by decide +kernel) rfl)))
 (kl_ok (ok_aP (ok_iload dX7_chain_161 rfl))))))
 (kn_ok
 (kn_ok
 (kl_ok (ok_aP (ok_imul dX7_chain_163 rfl)))
 (kl_ok (ok_aP (ok_iload dX7_chain_164 rfl))))
 (kn_ok
 (kl_ok (ok_aP (ok_iadd dX7_chain_166 rfl)))
 (kn_ok
 (kl_ok (ok_aP (ok_iald dX7_chain_167 rfl)))
 (kl_ok (ok_aP (ok_iload_n dX7_chain_168 rfl rfl)))))))
 (kn_ok
 (kn_ok
 (kn_ok
 (kl_ok (ok_aP (ok_icmp_lt dX7_chain_169 rfl rfl)))
 (kl_ok (ok_aP (ok_aload_n dX7_chain_172 rfl rfl))))
 (kn_ok
 (kl_ok (ok_aP (ok_getf fo_79 fs_rf (Or.inl q1860) dX7_chain_173 rfl)))
 (kn_ok
 (kl_ok (ok_aP (ok_iload dX7_chain_176 rfl)))
 (kl_ok (ok_aP (ok_iload dX7_chain_178 rfl))))))
 (kn_ok
 (kn_ok
 (kl_ok (ok_hp (ok_iast dX7_chain_180 rfl) le_iast))
 (kl_ok (ok_aP (ok_iinc dX7_chain_181 (by decide +kernel) rfl))))
 (kn_ok
 (kl_ok (ok_aP (ok_goto dX7_chain_184 rfl)))
 (kn_ok
 (kl_ok (ok_aP (ok_iinc dX7_chain_187 (by decide +kernel) rfl)))
 (kl_ok (ok_aP (ok_goto dX7_chain_190 rfl))))))))
 (kn_ok
 (kn_ok
 (kn_ok
 (kn_ok
 (kl_ok (ok_aP (ok_iinc dX7_chain_193 (by decide +kernel) rfl)))
 (kl_ok (ok_aP (ok_goto dX7_chain_196 rfl))))
 (kn_ok
 (kl_ok (ok_aP (ok_aload_n dX7_chain_199 rfl rfl)))
 (kn_ok
 (kl_ok (ok_aP (ok_getf fo_79 fs_rf (Or.inl q1860) dX7_chain_200 rfl)))
 (kl_ok (ok_aP (ok_iload_n dX7_chain_203 rfl rfl))))))
 (kn_ok
 (kn_ok
 (kl_ok (ok_aP (ok_iald dX7_chain_204 rfl)))
 (kl_ok (ok_aP (ok_iconst dX7_chain_205 rfl rfl))))
 (kn_ok
 (kl_ok (ok_aP (ok_icmp_eq dX7_chain_206 rfl rfl)))
 (kn_ok
 (kl_ok (ok_aP (ok_iload dX7_chain_209 rfl)))
 (kl_ok (ok_aP (ok_iconst dX7_chain_211 rfl rfl)))))))
 (kn_ok
 (kn_ok
 (kn_ok
 (kl_ok (ok_aP (ok_icmp_ne dX7_chain_212 rfl rfl)))
 (kl_ok (ok_aP (ok_aload_n dX7_chain_215 rfl rfl))))
 (kn_ok
 (kl_ok (ok_aP (ok_getf fo_79 fs_rf (Or.inl q1860) dX7_chain_216 rfl)))
 (kn_ok
 (kl_ok (ok_aP (ok_iload_n dX7_chain_219 rfl rfl)))
 (kl_ok (ok_aP (ok_iald dX7_chain_220 rfl))))))
 (kn_ok
 (kn_ok
 (kl_ok (ok_iret rfl dX7_chain_221))
 (kn_ok
 (kl_ok (ok_aP (ok_iload dX7_chain_222 rfl)))
 (kl_ok (ok_aP (ok_aload_n dX7_chain_224 rfl rfl)))))
 (kn_ok
 (kl_ok (ok_aP (ok_getf fo_79 fs_rf (Or.inl q1860) dX7_chain_225 rfl)))
 (kn_ok
 (kl_ok (ok_aP (ok_iload_n dX7_chain_228 rfl rfl)))
 (kl_ok (ok_aP (ok_iald dX7_chain_229 rfl)))))))))
 (kn_ok
 (kn_ok
 (kn_ok
 (kn_ok
 (kn_ok
 (kl_ok (ok_aP (ok_icmp_le dX7_chain_230 rfl rfl)))
 (kl_ok (ok_aP (ok_iconst dX7_chain_233 rfl rfl))))
 (kn_ok
 (kl_ok (ok_iret rfl dX7_chain_234))
 (kn_ok
 (kl_ok (ok_aP (ok_iload_n dX7_chain_235 rfl rfl)))
 (kl_ok (ok_aP (ok_istore dX7_chain_236 rfl))))))
 (kn_ok
 (kn_ok
 (kl_ok (ok_aP (ok_iconst dX7_chain_238 rfl rfl)))
 (kl_ok (ok_aP (ok_istore dX7_chain_239 rfl))))
 (kn_ok
 (kl_ok (ok_aP (ok_iload dX7_chain_241 rfl)))
 (kn_ok
 (kl_ok (ok_aP (ok_iload dX7_chain_243 rfl)))
 (kl_ok (ok_aP (ok_icmp_ge dX7_chain_245 rfl rfl)))))))
 (kn_ok
 (kn_ok
 (kn_ok
 (kl_ok (ok_aP (ok_iconst dX7_chain_248 rfl rfl)))
 (kl_ok (ok_aP (ok_istore dX7_chain_249 rfl))))
 (kn_ok
 (kl_ok (ok_aP (ok_aload_n dX7_chain_251 rfl rfl)))
 (kn_ok
 (kl_ok (ok_aP (ok_getf fo_79 fs_rf (Or.inl q1860) dX7_chain_252 rfl)))
 (kl_ok (ok_aP (ok_iload dX7_chain_255 rfl))))))
 (kn_ok
 (kn_ok
 (kl_ok (ok_aP (ok_iald dX7_chain_257 rfl)))
 (kl_ok (ok_aP (ok_aload_n dX7_chain_258 rfl rfl))))
 (kn_ok
 (kl_ok (ok_aP (ok_getf fo_79 fs_rf (Or.inl q1860) dX7_chain_259 rfl)))
 (kn_ok
 (kl_ok (ok_aP (ok_iload dX7_chain_262 rfl)))
 (kl_ok (ok_aP (ok_iald dX7_chain_264 rfl))))))))
 (kn_ok
 (kn_ok
 (kn_ok
 (kn_ok
 (kl_ok (ok_aP (ok_iconst dX7_chain_265 rfl rfl)))
 (kl_ok (ok_aP (ok_isub dX7_chain_266 rfl))))
 (kn_ok
 (kl_ok (ok_aP (ok_icmp_ne dX7_chain_267 rfl rfl)))
 (kn_ok
 (kl_ok (ok_aP (ok_aload_n dX7_chain_270 rfl rfl)))
 (kl_ok (ok_aP (ok_getf fo_80 fs_rf (Or.inl q1857) dX7_chain_271 rfl))))))
 (kn_ok
 (kn_ok
 (kl_ok (ok_aP (ok_bipush dX7_chain_274 (by decide +kernel) rfl)))
 (kl_ok (ok_aP (ok_iload dX7_chain_276 rfl))))
 (kn_ok
 (kl_ok (ok_aP (ok_imul dX7_chain_278 rfl)))
 (kn_ok
 (kl_ok (ok_aP (ok_iload dX7_chain_279 rfl)))
 (kl_ok (ok_aP (ok_iadd dX7_chain_281 rfl)))))))
 (kn_ok
 (kn_ok
 (kn_ok
 (kl_ok (ok_aP (ok_iald dX7_chain_282 rfl)))
 (kl_ok (ok_aP (ok_iload_n dX7_chain_283 rfl rfl))))
 (kn_ok
 (kl_ok (ok_aP (ok_icmp_ge dX7_chain_284 rfl rfl)))
 (kn_ok
 (kl_ok (ok_aP (ok_iinc dX7_chain_287 (by decide +kernel) rfl)))
 (kl_ok (ok_aP (ok_goto dX7_chain_290 rfl))))))
 (kn_ok
 (kn_ok
 (kl_ok (ok_aP (ok_iload dX7_chain_293 rfl)))
 (kn_ok
 (kl_ok (ok_aP (ok_istore dX7_chain_295 rfl)))
 (kl_ok (ok_aP (ok_iinc dX7_chain_297 (by decide +kernel) rfl)))))
 (kn_ok
 (kl_ok (ok_aP (ok_goto dX7_chain_300 rfl)))
 (kn_ok
 (kl_ok (ok_aP (ok_iload dX7_chain_303 rfl)))
 (kl_ok (ok_iret rfl dX7_chain_305)))))))))
/-- 226: FavourTownModel.ring()I -/
noncomputable def k_X7_ring : Nat → Option AOp :=
 tn 105 (tn 48 (tn 24 (tn 11 (tn 5 (tn 1 (tl 0 (aP (f_aload 0 1)))
  (tn 4 (tl 1 (aP (f_getf [18] 6 4)))
  (tl 4 (aP (f_istore 1 5)))))
  (tn 7 (tn 6 (tl 5 (aP (f_aload 0 6)))
  (tl 6 (aP (f_const (.int (nI 0)) 7))))
  (tn 10 (tl 7 (o_putf [18] 6 vI 10))
  (tl 10 (aP (f_iload 1 11))))))
  (tn 18 (tn 14 (tn 12 (tl 11 (aP (f_const (.int (nI 2)) 12)))
  (tl 12 (aP (f_const (.int (nI 6)) 14))))
  (tn 17 (tl 14 (o_callS 153 3 17))
  (tl 17 (aP (f_istore 2 18)))))
  (tn 20 (tn 19 (tl 18 (aP (f_const (.int (nI 0)) 19)))
  (tl 19 (aP (f_istore 3 20))))
  (tn 21 (tl 20 (aP (f_iload 2 21)))
  (tl 21 (aP (f_if (fun x => decide (x = 0)) 90 24)))))))
  (tn 35 (tn 29 (tn 25 (tl 24 (aP (f_iload 3 25)))
  (tn 26 (tl 25 (aP (f_iload 1 26)))
  (tl 26 (aP (f_icmp (fun x y => decide (y ≤ x)) 90 29)))))
  (tn 31 (tn 30 (tl 29 (aP (f_aload 0 30)))
  (tl 30 (aP (f_aload 0 31))))
  (tn 34 (tl 31 (aP (f_getf [18] 5 34)))
  (tl 34 (aP (f_iload 3 35))))))
  (tn 42 (tn 38 (tn 36 (tl 35 (aP (f_iald 0 36)))
  (tl 36 (aP (f_const (.int (nI 97)) 38))))
  (tn 39 (tl 38 (aP (f_bin (fun x y => x - y) 39)))
  (tl 39 (o_callV (lkN [(18, 188)]) 1 42))))
  (tn 44 (tn 43 (tl 42 (aP (f_istore 2 43)))
  (tl 43 (aP (f_const (.int (nI 0)) 44))))
  (tn 46 (tl 44 (aP (f_istore 4 46)))
  (tl 46 (aP (f_iload 4 48))))))))
  (tn 76 (tn 62 (tn 53 (tn 49 (tl 48 (aP (f_iload 3 49)))
  (tn 52 (tl 49 (aP (f_icmp (fun x y => decide (y ≤ x)) 84 52)))
  (tl 52 (aP (f_iload 2 53)))))
  (tn 57 (tn 56 (tl 53 (aP (f_if (fun x => decide (x = 0)) 76 56)))
  (tl 56 (aP (f_aload 0 57))))
  (tn 60 (tl 57 (aP (f_getf [18] 5 60)))
  (tl 60 (aP (f_iload 4 62))))))
  (tn 68 (tn 64 (tn 63 (tl 62 (aP (f_iald 0 63)))
  (tl 63 (aP (f_aload 0 64))))
  (tn 67 (tl 64 (aP (f_getf [18] 5 67)))
  (tl 67 (aP (f_iload 3 68)))))
  (tn 72 (tn 69 (tl 68 (aP (f_iald 0 69)))
  (tl 69 (aP (f_icmp (fun x y => decide (x = y)) 76 72))))
  (tn 73 (tl 72 (aP (f_const (.int (nI 1)) 73)))
  (tl 73 (aP (f_goto 77)))))))
  (tn 91 (tn 81 (tn 77 (tl 76 (aP (f_const (.int (nI 0)) 77)))
  (tn 78 (tl 77 (aP (f_istore 2 78)))
  (tl 78 (aP (f_iinc 4 (nI 1) 81)))))
  (tn 87 (tn 84 (tl 81 (aP (f_goto 46)))
  (tl 84 (aP (f_iinc 3 (nI 1) 87))))
  (tn 90 (tl 87 (aP (f_goto 20)))
  (tl 90 (aP (f_aload 0 91))))))
  (tn 99 (tn 95 (tn 92 (tl 91 (aP (f_iload 2 92)))
  (tl 92 (aP (f_if (fun x => decide (¬ x = 0)) 99 95))))
  (tn 96 (tl 95 (aP (f_const (.int (nI 1)) 96)))
  (tl 96 (aP (f_goto 115)))))
  (tn 103 (tn 100 (tl 99 (aP (f_aload 0 100)))
  (tl 100 (aP (f_getf [18] 1 103))))
  (tn 104 (tl 103 (aP (f_const (.int (nI 5)) 104)))
  (tl 104 (aP (f_iald 0 105)))))))))
  (tn 156 (tn 135 (tn 119 (tn 111 (tn 107 (tl 105 (aP (f_const (.int (nI 8)) 107)))
  (tn 110 (tl 107 (aP (f_icmp (fun x y => decide (¬ x = y)) 114 110)))
  (tl 110 (aP (f_const (.int (nI 2)) 111)))))
  (tn 115 (tn 114 (tl 111 (aP (f_goto 115)))
  (tl 114 (aP (f_const (.int (nI 0)) 115))))
  (tn 118 (tl 115 (o_putf [18] 0 vI 118))
  (tl 118 (aP (f_aload 0 119))))))
  (tn 127 (tn 125 (tn 122 (tl 119 (aP (f_getf [18] 0 122)))
  (tl 122 (aP (f_if (fun x => decide (x ≤ 0)) 127 125))))
  (tn 126 (tl 125 (aP (f_const (.int (nI 0)) 126)))
  (tl 126 (o_iret (fun _ => true)))))
  (tn 131 (tn 129 (tl 127 (aP (f_const (.int (nI 82)) 129)))
  (tl 129 (aP (f_const (.int (nI 7)) 131))))
  (tn 132 (tl 131 (aP (f_aload 0 132)))
  (tl 132 (aP (f_getf [18] 1 135)))))))
  (tn 144 (tn 138 (tn 136 (tl 135 (aP (f_const (.int (nI 5)) 136)))
  (tn 137 (tl 136 (aP (f_iald 0 137)))
  (tl 137 (aP (f_bin (fun x y => x * y) 138)))))
  (tn 140 (tn 139 (tl 138 (aP (f_bin (fun x y => x + y) 139)))
  (tl 139 (aP (f_istore 3 140))))
  (tn 141 (tl 140 (aP (f_aload 0 141)))
  (tl 141 (aP (f_getf [18] 1 144))))))
  (tn 148 (tn 146 (tn 145 (tl 144 (aP (f_iload 3 145)))
  (tl 145 (aP (f_iload 1 146))))
  (tn 147 (tl 146 (o_iast 0 (fun y => y) 147))
  (tl 147 (aP (f_const (.int (nI 0)) 148)))))
  (tn 152 (tn 150 (tl 148 (aP (f_istore 4 150)))
  (tl 150 (aP (f_iload 4 152))))
  (tn 153 (tl 152 (aP (f_iload 1 153)))
  (tl 153 (aP (f_icmp (fun x y => decide (y ≤ x)) 183 156))))))))
  (tn 180 (tn 166 (tn 161 (tn 157 (tl 156 (aP (f_aload 0 157)))
  (tn 160 (tl 157 (aP (f_getf [18] 1 160)))
  (tl 160 (aP (f_iload 3 161)))))
  (tn 163 (tn 162 (tl 161 (aP (f_const (.int (nI 1)) 162)))
  (tl 162 (aP (f_bin (fun x y => x + y) 163))))
  (tn 165 (tl 163 (aP (f_iload 4 165)))
  (tl 165 (aP (f_bin (fun x y => x + y) 166))))))
  (tn 173 (tn 170 (tn 167 (tl 166 (aP (f_aload 0 167)))
  (tl 167 (aP (f_getf [18] 5 170))))
  (tn 172 (tl 170 (aP (f_iload 4 172)))
  (tl 172 (aP (f_iald 0 173)))))
  (tn 176 (tn 175 (tl 173 (aP (f_const (.int (nI 97)) 175)))
  (tl 175 (aP (f_bin (fun x y => x - y) 176))))
  (tn 177 (tl 176 (o_iast 0 (fun y => y) 177))
  (tl 177 (aP (f_iinc 4 (nI 1) 180)))))))
  (tn 192 (tn 188 (tn 184 (tn 183 (tl 180 (aP (f_goto 150)))
  (tl 183 (aP (f_aload 0 184))))
  (tn 187 (tl 184 (aP (f_getf [18] 1 187)))
  (tl 187 (aP (f_const (.int (nI 5)) 188)))))
  (tn 190 (tn 189 (tl 188 (aP (f_dup2 189)))
  (tl 189 (aP (f_iald 0 190))))
  (tn 191 (tl 190 (aP (f_const (.int (nI 1)) 191)))
  (tl 191 (aP (f_bin (fun x y => x + y) 192))))))
  (tn 198 (tn 194 (tn 193 (tl 192 (o_iast 0 (fun y => y) 193))
  (tl 193 (aP (f_aload 0 194))))
  (tn 197 (tl 194 (aP (f_getf [18] 1 197)))
  (tl 197 (aP (f_const (.int (nI 5)) 198)))))
  (tn 200 (tn 199 (tl 198 (aP (f_iald 0 199)))
  (tl 199 (aP (f_const (.int (nI 1)) 200))))
  (tn 201 (tl 200 (aP (f_bin (fun x y => x - y) 201)))
  (tl 201 (o_iret (fun _ => true)))))))))
theorem kok_X7_ring {γ : AG} (hm : γ.2.2.2.2.1 = mTab) (hk : γ.2.2.2.2.2 = kTab) : KOK γ m_X7_ring k_X7_ring :=
 kn_ok
 (kn_ok
 (kn_ok
 (kn_ok
 (kn_ok
 (kn_ok
 (kl_ok (ok_aP (ok_aload_n dX7_ring_0 rfl rfl)))
 (kn_ok
 (kl_ok (ok_aP (ok_getf fo_74 fs_rf (Or.inl q1845) dX7_ring_1 rfl)))
 (kl_ok (ok_aP (ok_istore_n dX7_ring_4 rfl rfl)))))
 (kn_ok
 (kn_ok
 (kl_ok (ok_aP (ok_aload_n dX7_ring_5 rfl rfl)))
 (kl_ok (ok_aP (ok_iconst dX7_ring_6 rfl rfl))))
 (kn_ok
 (kl_ok (ok_hp (ok_putf fo_74 fs_rf fn_50 (Or.inl q1845) pd_0 vI_ok dX7_ring_7 rfl) le_putf))
 (kl_ok (ok_aP (ok_iload_n dX7_ring_10 rfl rfl))))))
 (kn_ok
 (kn_ok
 (kn_ok
 (kl_ok (ok_aP (ok_iconst dX7_ring_11 rfl rfl)))
 (kl_ok (ok_aP (ok_bipush dX7_ring_12 (by decide +kernel) rfl))))
 (kn_ok
 (kl_ok (ok_callS (run_S (by rw [hm]; rfl) q1939 q1940 q92 q1941 ⟨nh_1, dl_17⟩ (by decide) dX7_ring_14) rfl))
 (kl_ok (ok_aP (ok_istore_n dX7_ring_17 rfl rfl)))))
 (kn_ok
 (kn_ok
 (kl_ok (ok_aP (ok_iconst dX7_ring_18 rfl rfl)))
 (kl_ok (ok_aP (ok_istore_n dX7_ring_19 rfl rfl))))
 (kn_ok
 (kl_ok (ok_aP (ok_iload_n dX7_ring_20 rfl rfl)))
 (kl_ok (ok_aP (ok_if_eq dX7_ring_21 rfl rfl)))))))
 (kn_ok
 (kn_ok
 (kn_ok
 (kl_ok (ok_aP (ok_iload_n dX7_ring_24 rfl rfl)))
 (kn_ok
 (kl_ok (ok_aP (ok_iload_n dX7_ring_25 rfl rfl)))
 (kl_ok (ok_aP (ok_icmp_ge dX7_ring_26 rfl rfl)))))
 (kn_ok
 (kn_ok
 (kl_ok (ok_aP (ok_aload_n dX7_ring_29 rfl rfl)))
 (kl_ok (ok_aP (ok_aload_n dX7_ring_30 rfl rfl))))
 (kn_ok
 (kl_ok (ok_aP (ok_getf fo_71 fs_rf (Or.inl q1844) dX7_ring_31 rfl)))
 (kl_ok (ok_aP (ok_iload_n dX7_ring_34 rfl rfl))))))
 (kn_ok
 (kn_ok
 (kn_ok
 (kl_ok (ok_aP (ok_iald dX7_ring_35 rfl)))
 (kl_ok (ok_aP (ok_bipush dX7_ring_36 (by decide +kernel) rfl))))
 (kn_ok
 (kl_ok (ok_aP (ok_isub dX7_ring_38 rfl)))
 (kl_ok (ok_callV (List.forall_mem_cons.mpr ⟨run_V (C0 := "FavourTownModel") rfl rfl (by rw [hm]; rfl) q2115 q2117 qs61 q92 q2118 ⟨nh_1, dl_2⟩ (by decide) dX7_ring_39, (fun _ h => absurd h List.not_mem_nil)⟩) rfl))))
 (kn_ok
 (kn_ok
 (kl_ok (ok_aP (ok_istore_n dX7_ring_42 rfl rfl)))
 (kl_ok (ok_aP (ok_iconst dX7_ring_43 rfl rfl))))
 (kn_ok
 (kl_ok (ok_aP (ok_istore dX7_ring_44 rfl)))
 (kl_ok (ok_aP (ok_iload dX7_ring_46 rfl))))))))
 (kn_ok
 (kn_ok
 (kn_ok
 (kn_ok
 (kl_ok (ok_aP (ok_iload_n dX7_ring_48 rfl rfl)))
 (kn_ok
 (kl_ok (ok_aP (ok_icmp_ge dX7_ring_49 rfl rfl)))
 (kl_ok (ok_aP (ok_iload_n dX7_ring_52 rfl rfl)))))
 (kn_ok
 (kn_ok
 (kl_ok (ok_aP (ok_if_eq dX7_ring_53 rfl rfl)))
 (kl_ok (ok_aP (ok_aload_n dX7_ring_56 rfl rfl))))
 (kn_ok
 (kl_ok (ok_aP (ok_getf fo_71 fs_rf (Or.inl q1844) dX7_ring_57 rfl)))
 (kl_ok (ok_aP (ok_iload dX7_ring_60 rfl))))))
 (kn_ok
 (kn_ok
 (kn_ok
 (kl_ok (ok_aP (ok_iald dX7_ring_62 rfl)))
 (kl_ok (ok_aP (ok_aload_n dX7_ring_63 rfl rfl))))
 (kn_ok
 (kl_ok (ok_aP (ok_getf fo_71 fs_rf (Or.inl q1844) dX7_ring_64 rfl)))
 (kl_ok (ok_aP (ok_iload_n dX7_ring_67 rfl rfl)))))
 (kn_ok
 (kn_ok
 (kl_ok (ok_aP (ok_iald dX7_ring_68 rfl)))
 (kl_ok (ok_aP (ok_icmp_eq dX7_ring_69 rfl rfl))))
 (kn_ok
 (kl_ok (ok_aP (ok_iconst dX7_ring_72 rfl rfl)))
 (kl_ok (ok_aP (ok_goto dX7_ring_73 rfl)))))))
 (kn_ok
 (kn_ok
 (kn_ok
 (kl_ok (ok_aP (ok_iconst dX7_ring_76 rfl rfl)))
 (kn_ok
 (kl_ok (ok_aP (ok_istore_n dX7_ring_77 rfl rfl)))
 (kl_ok (ok_aP (ok_iinc dX7_ring_78 (by decide +kernel) rfl)))))
 (kn_ok
 (kn_ok
 (kl_ok (ok_aP (ok_goto dX7_ring_81 rfl)))
 (kl_ok (ok_aP (ok_iinc dX7_ring_84 (by decide +kernel) rfl))))
 (kn_ok
 (kl_ok (ok_aP (ok_goto dX7_ring_87 rfl)))
 (kl_ok (ok_aP (ok_aload_n dX7_ring_90 rfl rfl))))))
 (kn_ok
 (kn_ok
 (kn_ok
 (kl_ok (ok_aP (ok_iload_n dX7_ring_91 rfl rfl)))
 (kl_ok (ok_aP (ok_if_ne dX7_ring_92 rfl rfl))))
 (kn_ok
 (kl_ok (ok_aP (ok_iconst dX7_ring_95 rfl rfl)))
 (kl_ok (ok_aP (ok_goto dX7_ring_96 rfl)))))
 (kn_ok
 (kn_ok
 (kl_ok (ok_aP (ok_aload_n dX7_ring_99 rfl rfl)))
 (kl_ok (ok_aP (ok_getf fo_54 fs_rf (Or.inl q1840) dX7_ring_100 rfl))))
 (kn_ok
 (kl_ok (ok_aP (ok_iconst dX7_ring_103 rfl rfl)))
 (kl_ok (ok_aP (ok_iald dX7_ring_104 rfl)))))))))
 (kn_ok
 (kn_ok
 (kn_ok
 (kn_ok
 (kn_ok
 (kl_ok (ok_aP (ok_bipush dX7_ring_105 (by decide +kernel) rfl)))
 (kn_ok
 (kl_ok (ok_aP (ok_icmp_ne dX7_ring_107 rfl rfl)))
 (kl_ok (ok_aP (ok_iconst dX7_ring_110 rfl rfl)))))
 (kn_ok
 (kn_ok
 (kl_ok (ok_aP (ok_goto dX7_ring_111 rfl)))
 (kl_ok (ok_aP (ok_iconst dX7_ring_114 rfl rfl))))
 (kn_ok
 (kl_ok (ok_hp (ok_putf fo_53 fs_rf fn_36 (Or.inl q1839) pd_0 vI_ok dX7_ring_115 rfl) le_putf))
 (kl_ok (ok_aP (ok_aload_n dX7_ring_118 rfl rfl))))))
 (kn_ok
 (kn_ok
 (kn_ok
 (kl_ok (ok_aP (ok_getf fo_53 fs_rf (Or.inl q1839) dX7_ring_119 rfl)))
 (kl_ok (ok_aP (ok_if_le dX7_ring_122 rfl rfl))))
 (kn_ok
 (kl_ok (ok_aP (ok_iconst dX7_ring_125 rfl rfl)))
 (kl_ok (ok_iret rfl dX7_ring_126))))
 (kn_ok
 (kn_ok
 (kl_ok (ok_aP (ok_bipush dX7_ring_127 (by decide +kernel) rfl)))
 (kl_ok (ok_aP (ok_bipush dX7_ring_129 (by decide +kernel) rfl))))
 (kn_ok
 (kl_ok (ok_aP (ok_aload_n dX7_ring_131 rfl rfl)))
 (kl_ok (ok_aP (ok_getf fo_54 fs_rf (Or.inl q1840) dX7_ring_132 rfl)))))))
 (kn_ok
 (kn_ok
 (kn_ok
 (kl_ok (ok_aP (ok_iconst dX7_ring_135 rfl rfl)))
 (kn_ok
 (kl_ok (ok_aP (ok_iald dX7_ring_136 rfl)))
 (kl_ok (ok_aP (ok_imul dX7_ring_137 rfl)))))
 (kn_ok
 (kn_ok
 (kl_ok (ok_aP (ok_iadd dX7_ring_138 rfl)))
 (kl_ok (ok_aP (ok_istore_n dX7_ring_139 rfl rfl))))
 (kn_ok
 (kl_ok (ok_aP (ok_aload_n dX7_ring_140 rfl rfl)))
 (kl_ok (ok_aP (ok_getf fo_54 fs_rf (Or.inl q1840) dX7_ring_141 rfl))))))
 (kn_ok
 (kn_ok
 (kn_ok
 (kl_ok (ok_aP (ok_iload_n dX7_ring_144 rfl rfl)))
 (kl_ok (ok_aP (ok_iload_n dX7_ring_145 rfl rfl))))
 (kn_ok
 (kl_ok (ok_hp (ok_iast dX7_ring_146 rfl) le_iast))
 (kl_ok (ok_aP (ok_iconst dX7_ring_147 rfl rfl)))))
 (kn_ok
 (kn_ok
 (kl_ok (ok_aP (ok_istore dX7_ring_148 rfl)))
 (kl_ok (ok_aP (ok_iload dX7_ring_150 rfl))))
 (kn_ok
 (kl_ok (ok_aP (ok_iload_n dX7_ring_152 rfl rfl)))
 (kl_ok (ok_aP (ok_icmp_ge dX7_ring_153 rfl rfl))))))))
 (kn_ok
 (kn_ok
 (kn_ok
 (kn_ok
 (kl_ok (ok_aP (ok_aload_n dX7_ring_156 rfl rfl)))
 (kn_ok
 (kl_ok (ok_aP (ok_getf fo_54 fs_rf (Or.inl q1840) dX7_ring_157 rfl)))
 (kl_ok (ok_aP (ok_iload_n dX7_ring_160 rfl rfl)))))
 (kn_ok
 (kn_ok
 (kl_ok (ok_aP (ok_iconst dX7_ring_161 rfl rfl)))
 (kl_ok (ok_aP (ok_iadd dX7_ring_162 rfl))))
 (kn_ok
 (kl_ok (ok_aP (ok_iload dX7_ring_163 rfl)))
 (kl_ok (ok_aP (ok_iadd dX7_ring_165 rfl))))))
 (kn_ok
 (kn_ok
 (kn_ok
 (kl_ok (ok_aP (ok_aload_n dX7_ring_166 rfl rfl)))
 (kl_ok (ok_aP (ok_getf fo_71 fs_rf (Or.inl q1844) dX7_ring_167 rfl))))
 (kn_ok
 (kl_ok (ok_aP (ok_iload dX7_ring_170 rfl)))
 (kl_ok (ok_aP (ok_iald dX7_ring_172 rfl)))))
 (kn_ok
 (kn_ok
 (kl_ok (ok_aP (ok_bipush dX7_ring_173 (by decide +kernel) rfl)))
 (kl_ok (ok_aP (ok_isub dX7_ring_175 rfl))))
 (kn_ok
 (kl_ok (ok_hp (ok_iast dX7_ring_176 rfl) le_iast))
 (kl_ok (ok_aP (ok_iinc dX7_ring_177 (by decide +kernel) rfl)))))))
 (kn_ok
 (kn_ok
 (kn_ok
 (kn_ok
 (kl_ok (ok_aP (ok_goto dX7_ring_180 rfl)))
 (kl_ok (ok_aP (ok_aload_n dX7_ring_183 rfl rfl))))
 (kn_ok
 (kl_ok (ok_aP (ok_getf fo_54 fs_rf (Or.inl q1840) dX7_ring_184 rfl)))
 (kl_ok (ok_aP (ok_iconst dX7_ring_187 rfl rfl)))))
 (kn_ok
 (kn_ok
 (kl_ok (ok_aP (ok_dup2 dX7_ring_188 rfl)))
 (kl_ok (ok_aP (ok_iald dX7_ring_189 rfl))))
 (kn_ok
 (kl_ok (ok_aP (ok_iconst dX7_ring_190 rfl rfl)))
 (kl_ok (ok_aP (ok_iadd dX7_ring_191 rfl))))))
 (kn_ok
 (kn_ok
 (kn_ok
 (kl_ok (ok_hp (ok_iast dX7_ring_192 rfl) le_iast))
 (kl_ok (ok_aP (ok_aload_n dX7_ring_193 rfl rfl))))
 (kn_ok
 (kl_ok (ok_aP (ok_getf fo_54 fs_rf (Or.inl q1840) dX7_ring_194 rfl)))
 (kl_ok (ok_aP (ok_iconst dX7_ring_197 rfl rfl)))))
 (kn_ok
 (kn_ok
 (kl_ok (ok_aP (ok_iald dX7_ring_198 rfl)))
 (kl_ok (ok_aP (ok_iconst dX7_ring_199 rfl rfl))))
 (kn_ok
 (kl_ok (ok_aP (ok_isub dX7_ring_200 rfl)))
 (kl_ok (ok_iret rfl dX7_ring_201))))))))
/-- 227: FavourTownModel.clear(I)I -/
noncomputable def k_X7_clear : Nat → Option AOp :=
 tn 57 (tn 30 (tn 15 (tn 6 (tn 2 (tn 1 (tl 0 (aP (f_aload 0 1)))
  (tl 1 (aP (f_iload 1 2))))
  (tn 3 (tl 2 (aP (f_const (.int (-1)) 3)))
  (tl 3 (aP (f_icmp (fun x y => decide (y ≤ x)) 10 6)))))
  (tn 10 (tn 7 (tl 6 (aP (f_const (.int (nI 1)) 7)))
  (tl 7 (aP (f_goto 11))))
  (tn 11 (tl 10 (aP (f_const (.int (nI 0)) 11)))
  (tn 14 (tl 11 (o_putf [18] 0 vI 14))
  (tl 14 (aP (f_aload 0 15)))))))
  (tn 23 (tn 21 (tn 18 (tl 15 (aP (f_getf [18] 0 18)))
  (tl 18 (aP (f_if (fun x => decide (x ≤ 0)) 23 21))))
  (tn 22 (tl 21 (aP (f_const (.int (nI 0)) 22)))
  (tl 22 (o_iret (fun _ => true)))))
  (tn 25 (tn 24 (tl 23 (aP (f_const (.int (nI 0)) 24)))
  (tl 24 (aP (f_istore 2 25))))
  (tn 26 (tl 25 (aP (f_iload 2 26)))
  (tn 27 (tl 26 (aP (f_aload 0 27)))
  (tl 27 (aP (f_getf [18] 1 30))))))))
  (tn 43 (tn 36 (tn 32 (tn 31 (tl 30 (aP (f_const (.int (nI 1)) 31)))
  (tl 31 (aP (f_iald 0 32))))
  (tn 35 (tl 32 (aP (f_icmp (fun x y => decide (y ≤ x)) 76 35)))
  (tl 35 (aP (f_const (.int (nI 0)) 36)))))
  (tn 38 (tn 37 (tl 36 (aP (f_istore 3 37)))
  (tl 37 (aP (f_iload 3 38))))
  (tn 39 (tl 38 (aP (f_aload 0 39)))
  (tn 42 (tl 39 (aP (f_getf [18] 1 42)))
  (tl 42 (aP (f_const (.int (nI 1)) 43)))))))
  (tn 51 (tn 47 (tn 44 (tl 43 (aP (f_iald 0 44)))
  (tl 44 (aP (f_icmp (fun x y => decide (y ≤ x)) 70 47))))
  (tn 48 (tl 47 (aP (f_aload 0 48)))
  (tl 48 (aP (f_getf [18] 22 51)))))
  (tn 54 (tn 53 (tl 51 (aP (f_const (.int (nI 12)) 53)))
  (tl 53 (aP (f_iload 2 54))))
  (tn 55 (tl 54 (aP (f_bin (fun x y => x * y) 55)))
  (tn 56 (tl 55 (aP (f_iload 3 56)))
  (tl 56 (aP (f_bin (fun x y => x + y) 57)))))))))
  (tn 89 (tn 76 (tn 63 (tn 59 (tn 58 (tl 57 (aP (f_aload 0 58)))
  (tl 58 (aP (f_iload 2 59))))
  (tn 60 (tl 59 (aP (f_iload 3 60)))
  (tl 60 (o_callV (lkN [(18, 200)]) 2 63))))
  (tn 67 (tn 64 (tl 63 (o_iast 0 (fun y => y) 64))
  (tl 64 (aP (f_iinc 3 (nI 1) 67))))
  (tn 70 (tl 67 (aP (f_goto 37)))
  (tn 73 (tl 70 (aP (f_iinc 2 (nI 1) 73)))
  (tl 73 (aP (f_goto 25)))))))
  (tn 82 (tn 78 (tn 77 (tl 76 (aP (f_aload 0 77)))
  (tl 77 (aP (f_const (.int (-1)) 78))))
  (tn 81 (tl 78 (o_putf [18] 25 vI 81))
  (tl 81 (aP (f_aload 0 82)))))
  (tn 84 (tn 83 (tl 82 (aP (f_const (.int (nI 0)) 83)))
  (tl 83 (aP (f_const (.int (nI 0)) 84))))
  (tn 85 (tl 84 (aP (f_const (.int (nI 0)) 85)))
  (tn 88 (tl 85 (o_callV (lkN [(18, 228)]) 3 88))
  (tl 88 (aP (f_iload 1 89))))))))
  (tn 106 (tn 97 (tn 93 (tn 90 (tl 89 (aP (f_const (.int (-1)) 90)))
  (tl 90 (aP (f_icmp (fun x y => decide (¬ x = y)) 100 93))))
  (tn 94 (tl 93 (aP (f_aload 0 94)))
  (tl 94 (aP (f_getf [18] 25 97)))))
  (tn 101 (tn 100 (tl 97 (aP (f_goto 120)))
  (tl 100 (aP (f_iload 1 101))))
  (tn 102 (tl 101 (aP (f_aload 0 102)))
  (tn 105 (tl 102 (aP (f_getf [18] 1 105)))
  (tl 105 (aP (f_const (.int (nI 5)) 106)))))))
  (tn 114 (tn 110 (tn 107 (tl 106 (aP (f_iald 0 107)))
  (tl 107 (aP (f_icmp (fun x y => decide (y ≤ x)) 119 110))))
  (tn 111 (tl 110 (aP (f_aload 0 111)))
  (tl 111 (aP (f_getf [18] 24 114)))))
  (tn 116 (tn 115 (tl 114 (aP (f_iload 1 115)))
  (tl 115 (aP (f_iald 0 116))))
  (tn 119 (tl 116 (aP (f_goto 120)))
  (tn 120 (tl 119 (aP (f_const (.int (-1)) 120)))
  (tl 120 (o_iret (fun _ => true)))))))))
theorem kok_X7_clear {γ : AG} (hm : γ.2.2.2.2.1 = mTab) (hk : γ.2.2.2.2.2 = kTab) : KOK γ m_X7_clear k_X7_clear :=
 kn_ok
 (kn_ok
 (kn_ok
 (kn_ok
 (kn_ok
 (kn_ok
 (kl_ok (ok_aP (ok_aload_n dX7_clear_0 rfl rfl)))
 (kl_ok (ok_aP (ok_iload_n dX7_clear_1 rfl rfl))))
 (kn_ok
 (kl_ok (ok_aP (ok_iconst dX7_clear_2 rfl rfl)))
 (kl_ok (ok_aP (ok_icmp_ge dX7_clear_3 rfl rfl)))))
 (kn_ok
 (kn_ok
 (kl_ok (ok_aP (ok_iconst dX7_clear_6 rfl rfl)))
 (kl_ok (ok_aP (ok_goto dX7_clear_7 rfl))))
 (kn_ok
 (kl_ok (ok_aP (ok_iconst dX7_clear_10 rfl rfl)))
 (kn_ok
 (kl_ok (ok_hp (ok_putf fo_53 fs_rf fn_36 (Or.inl q1839) pd_0 vI_ok dX7_clear_11 rfl) le_putf))
 (kl_ok (ok_aP (ok_aload_n dX7_clear_14 rfl rfl)))))))
 (kn_ok
 (kn_ok
 (kn_ok
 (kl_ok (ok_aP (ok_getf fo_53 fs_rf (Or.inl q1839) dX7_clear_15 rfl)))
 (kl_ok (ok_aP (ok_if_le dX7_clear_18 rfl rfl))))
 (kn_ok
 (kl_ok (ok_aP (ok_iconst dX7_clear_21 rfl rfl)))
 (kl_ok (ok_iret rfl dX7_clear_22))))
 (kn_ok
 (kn_ok
 (kl_ok (ok_aP (ok_iconst dX7_clear_23 rfl rfl)))
 (kl_ok (ok_aP (ok_istore_n dX7_clear_24 rfl rfl))))
 (kn_ok
 (kl_ok (ok_aP (ok_iload_n dX7_clear_25 rfl rfl)))
 (kn_ok
 (kl_ok (ok_aP (ok_aload_n dX7_clear_26 rfl rfl)))
 (kl_ok (ok_aP (ok_getf fo_54 fs_rf (Or.inl q1840) dX7_clear_27 rfl))))))))
 (kn_ok
 (kn_ok
 (kn_ok
 (kn_ok
 (kl_ok (ok_aP (ok_iconst dX7_clear_30 rfl rfl)))
 (kl_ok (ok_aP (ok_iald dX7_clear_31 rfl))))
 (kn_ok
 (kl_ok (ok_aP (ok_icmp_ge dX7_clear_32 rfl rfl)))
 (kl_ok (ok_aP (ok_iconst dX7_clear_35 rfl rfl)))))
 (kn_ok
 (kn_ok
 (kl_ok (ok_aP (ok_istore_n dX7_clear_36 rfl rfl)))
 (kl_ok (ok_aP (ok_iload_n dX7_clear_37 rfl rfl))))
 (kn_ok
 (kl_ok (ok_aP (ok_aload_n dX7_clear_38 rfl rfl)))
 (kn_ok
 (kl_ok (ok_aP (ok_getf fo_54 fs_rf (Or.inl q1840) dX7_clear_39 rfl)))
 (kl_ok (ok_aP (ok_iconst dX7_clear_42 rfl rfl)))))))
 (kn_ok
 (kn_ok
 (kn_ok
 (kl_ok (ok_aP (ok_iald dX7_clear_43 rfl)))
 (kl_ok (ok_aP (ok_icmp_ge dX7_clear_44 rfl rfl))))
 (kn_ok
 (kl_ok (ok_aP (ok_aload_n dX7_clear_47 rfl rfl)))
 (kl_ok (ok_aP (ok_getf fo_75 fs_rf (Or.inl q1861) dX7_clear_48 rfl)))))
 (kn_ok
 (kn_ok
 (kl_ok (ok_aP (ok_bipush dX7_clear_51 (by decide +kernel) rfl)))
 (kl_ok (ok_aP (ok_iload_n dX7_clear_53 rfl rfl))))
 (kn_ok
 (kl_ok (ok_aP (ok_imul dX7_clear_54 rfl)))
 (kn_ok
 (kl_ok (ok_aP (ok_iload_n dX7_clear_55 rfl rfl)))
 (kl_ok (ok_aP (ok_iadd dX7_clear_56 rfl)))))))))
 (kn_ok
 (kn_ok
 (kn_ok
 (kn_ok
 (kn_ok
 (kl_ok (ok_aP (ok_aload_n dX7_clear_57 rfl rfl)))
 (kl_ok (ok_aP (ok_iload_n dX7_clear_58 rfl rfl))))
 (kn_ok
 (kl_ok (ok_aP (ok_iload_n dX7_clear_59 rfl rfl)))
 (kl_ok (ok_callV (List.forall_mem_cons.mpr ⟨run_V (C0 := "FavourTownModel") rfl rfl (by rw [hm]; rfl) q2163 q2165 qs63 q92 q2166 ⟨nh_1, dl_6⟩ (by decide) dX7_clear_60, (fun _ h => absurd h List.not_mem_nil)⟩) rfl))))
 (kn_ok
 (kn_ok
 (kl_ok (ok_hp (ok_iast dX7_clear_63 rfl) le_iast))
 (kl_ok (ok_aP (ok_iinc dX7_clear_64 (by decide +kernel) rfl))))
 (kn_ok
 (kl_ok (ok_aP (ok_goto dX7_clear_67 rfl)))
 (kn_ok
 (kl_ok (ok_aP (ok_iinc dX7_clear_70 (by decide +kernel) rfl)))
 (kl_ok (ok_aP (ok_goto dX7_clear_73 rfl)))))))
 (kn_ok
 (kn_ok
 (kn_ok
 (kl_ok (ok_aP (ok_aload_n dX7_clear_76 rfl rfl)))
 (kl_ok (ok_aP (ok_iconst dX7_clear_77 rfl rfl))))
 (kn_ok
 (kl_ok (ok_hp (ok_putf fo_76 fs_rf fn_51 (Or.inl q1864) pd_0 vI_ok dX7_clear_78 rfl) le_putf))
 (kl_ok (ok_aP (ok_aload_n dX7_clear_81 rfl rfl)))))
 (kn_ok
 (kn_ok
 (kl_ok (ok_aP (ok_iconst dX7_clear_82 rfl rfl)))
 (kl_ok (ok_aP (ok_iconst dX7_clear_83 rfl rfl))))
 (kn_ok
 (kl_ok (ok_aP (ok_iconst dX7_clear_84 rfl rfl)))
 (kn_ok
 (kl_ok (ok_callV (List.forall_mem_cons.mpr ⟨run_V (C0 := "FavourTownModel") rfl rfl (by rw [hm]; rfl) q2274 q2276 qs77 q92 q2277 ⟨nh_1, dl_46⟩ (by decide) dX7_clear_85, (fun _ h => absurd h List.not_mem_nil)⟩) rfl))
 (kl_ok (ok_aP (ok_iload_n dX7_clear_88 rfl rfl))))))))
 (kn_ok
 (kn_ok
 (kn_ok
 (kn_ok
 (kl_ok (ok_aP (ok_iconst dX7_clear_89 rfl rfl)))
 (kl_ok (ok_aP (ok_icmp_ne dX7_clear_90 rfl rfl))))
 (kn_ok
 (kl_ok (ok_aP (ok_aload_n dX7_clear_93 rfl rfl)))
 (kl_ok (ok_aP (ok_getf fo_76 fs_rf (Or.inl q1864) dX7_clear_94 rfl)))))
 (kn_ok
 (kn_ok
 (kl_ok (ok_aP (ok_goto dX7_clear_97 rfl)))
 (kl_ok (ok_aP (ok_iload_n dX7_clear_100 rfl rfl))))
 (kn_ok
 (kl_ok (ok_aP (ok_aload_n dX7_clear_101 rfl rfl)))
 (kn_ok
 (kl_ok (ok_aP (ok_getf fo_54 fs_rf (Or.inl q1840) dX7_clear_102 rfl)))
 (kl_ok (ok_aP (ok_iconst dX7_clear_105 rfl rfl)))))))
 (kn_ok
 (kn_ok
 (kn_ok
 (kl_ok (ok_aP (ok_iald dX7_clear_106 rfl)))
 (kl_ok (ok_aP (ok_icmp_ge dX7_clear_107 rfl rfl))))
 (kn_ok
 (kl_ok (ok_aP (ok_aload_n dX7_clear_110 rfl rfl)))
 (kl_ok (ok_aP (ok_getf fo_77 fs_rf (Or.inl q1863) dX7_clear_111 rfl)))))
 (kn_ok
 (kn_ok
 (kl_ok (ok_aP (ok_iload_n dX7_clear_114 rfl rfl)))
 (kl_ok (ok_aP (ok_iald dX7_clear_115 rfl))))
 (kn_ok
 (kl_ok (ok_aP (ok_goto dX7_clear_116 rfl)))
 (kn_ok
 (kl_ok (ok_aP (ok_iconst dX7_clear_119 rfl rfl)))
 (kl_ok (ok_iret rfl dX7_clear_120))))))))
/-- 228: FavourTownModel.orders(III)V -/
noncomputable def k_X7_orders : Nat → Option AOp :=
 tn 73 (tn 37 (tn 18 (tn 7 (tn 2 (tn 1 (tl 0 (aP (f_iload 1 1)))
  (tl 1 (aP (f_aload 0 2))))
  (tn 5 (tl 2 (aP (f_getf [18] 1 5)))
  (tn 6 (tl 5 (aP (f_const (.int (nI 5)) 6)))
  (tl 6 (aP (f_iald 0 7))))))
  (tn 11 (tn 10 (tl 7 (aP (f_icmp (fun x y => decide (¬ x = y)) 54 10)))
  (tl 10 (aP (f_iload 3 11))))
  (tn 12 (tl 11 (aP (f_aload 0 12)))
  (tn 15 (tl 12 (aP (f_getf [18] 25 15)))
  (tl 15 (aP (f_icmp (fun x y => decide (y < x)) 19 18)))))))
  (tn 25 (tn 20 (tn 19 (tl 18 (o_vret))
  (tl 19 (aP (f_aload 0 20))))
  (tn 21 (tl 20 (aP (f_iload 3 21)))
  (tn 24 (tl 21 (o_putf [18] 25 vI 24))
  (tl 24 (aP (f_const (.int (nI 0)) 25))))))
  (tn 30 (tn 27 (tl 25 (aP (f_istore 4 27)))
  (tn 29 (tl 27 (aP (f_iload 4 29)))
  (tl 29 (aP (f_iload 1 30)))))
  (tn 33 (tl 30 (aP (f_icmp (fun x y => decide (y ≤ x)) 53 33)))
  (tn 34 (tl 33 (aP (f_aload 0 34)))
  (tl 34 (aP (f_getf [18] 24 37))))))))
  (tn 55 (tn 46 (tn 40 (tn 39 (tl 37 (aP (f_iload 4 39)))
  (tl 39 (aP (f_aload 0 40))))
  (tn 43 (tl 40 (aP (f_getf [18] 23 43)))
  (tn 45 (tl 43 (aP (f_iload 4 45)))
  (tl 45 (aP (f_iald 0 46))))))
  (tn 50 (tn 47 (tl 46 (o_iast 0 (fun y => y) 47))
  (tl 47 (aP (f_iinc 4 (nI 1) 50))))
  (tn 53 (tl 50 (aP (f_goto 27)))
  (tn 54 (tl 53 (o_vret))
  (tl 54 (aP (f_const (.int (nI 0)) 55)))))))
  (tn 64 (tn 59 (tn 57 (tl 55 (aP (f_istore 4 57)))
  (tl 57 (aP (f_iload 4 59))))
  (tn 60 (tl 59 (aP (f_aload 0 60)))
  (tn 63 (tl 60 (aP (f_getf [18] 1 63)))
  (tl 63 (aP (f_const (.int (nI 5)) 64))))))
  (tn 69 (tn 65 (tl 64 (aP (f_iald 0 65)))
  (tn 68 (tl 65 (aP (f_icmp (fun x y => decide (y ≤ x)) 142 68)))
  (tl 68 (aP (f_iload 2 69)))))
  (tn 71 (tl 69 (aP (f_iload 4 71)))
  (tn 72 (tl 71 (aP (f_bin (fun x y => x >>> (y &&& 31)) 72)))
  (tl 72 (aP (f_const (.int (nI 1)) 73)))))))))
  (tn 106 (tn 90 (tn 82 (tn 75 (tn 74 (tl 73 (aP (f_bin (fun x y => x &&& y) 74)))
  (tl 74 (aP (f_const (.int (nI 1)) 75))))
  (tn 78 (tl 75 (aP (f_icmp (fun x y => decide (¬ x = y)) 81 78)))
  (tn 81 (tl 78 (aP (f_goto 136)))
  (tl 81 (aP (f_aload 0 82))))))
  (tn 86 (tn 85 (tl 82 (aP (f_getf [18] 23 85)))
  (tl 85 (aP (f_iload 1 86))))
  (tn 88 (tl 86 (aP (f_iload 4 88)))
  (tn 89 (tl 88 (o_iast 0 (fun y => y) 89))
  (tl 89 (aP (f_aload 0 90)))))))
  (tn 99 (tn 95 (tn 92 (tl 90 (aP (f_iload 4 92)))
  (tl 92 (o_callV (lkN [(18, 229)]) 1 95)))
  (tn 97 (tl 95 (aP (f_istore 5 97)))
  (tn 98 (tl 97 (aP (f_aload 0 98)))
  (tl 98 (aP (f_iload 1 99))))))
  (tn 102 (tn 100 (tl 99 (aP (f_const (.int (nI 1)) 100)))
  (tn 101 (tl 100 (aP (f_bin (fun x y => x + y) 101)))
  (tl 101 (aP (f_iload 2 102)))))
  (tn 103 (tl 102 (aP (f_const (.int (nI 1)) 103)))
  (tn 105 (tl 103 (aP (f_iload 4 105)))
  (tl 105 (aP (f_bin (fun x y => x <<< (y &&& 31)) 106))))))))
  (tn 122 (tn 114 (tn 108 (tn 107 (tl 106 (aP (f_bin (fun x y => x ||| y) 107)))
  (tl 107 (aP (f_iload 3 108))))
  (tn 110 (tl 108 (aP (f_iload 5 110)))
  (tn 111 (tl 110 (aP (f_aload 0 111)))
  (tl 111 (aP (f_getf [18] 1 114))))))
  (tn 118 (tn 116 (tl 114 (aP (f_const (.int (nI 82)) 116)))
  (tl 116 (aP (f_const (.int (nI 7)) 118))))
  (tn 120 (tl 118 (aP (f_iload 4 120)))
  (tn 121 (tl 120 (aP (f_bin (fun x y => x * y) 121)))
  (tl 121 (aP (f_bin (fun x y => x + y) 122)))))))
  (tn 129 (tn 124 (tn 123 (tl 122 (aP (f_iald 0 123)))
  (tl 123 (aP (f_bin (fun x y => x * y) 124))))
  (tn 125 (tl 124 (aP (f_bin (fun x y => x + y) 125)))
  (tn 128 (tl 125 (o_callV (lkN [(18, 228)]) 3 128))
  (tl 128 (aP (f_aload 0 129))))))
  (tn 136 (tn 131 (tl 129 (aP (f_iload 4 131)))
  (tn 133 (tl 131 (aP (f_iload 5 133)))
  (tl 133 (o_callV (lkN [(18, 230)]) 2 136))))
  (tn 139 (tl 136 (aP (f_iinc 4 (nI 1) 139)))
  (tn 142 (tl 139 (aP (f_goto 57)))
  (tl 142 (o_vret))))))))
theorem kok_X7_orders {γ : AG} (hm : γ.2.2.2.2.1 = mTab) (hk : γ.2.2.2.2.2 = kTab) : KOK γ m_X7_orders k_X7_orders :=
 kn_ok
 (kn_ok
 (kn_ok
 (kn_ok
 (kn_ok
 (kn_ok
 (kl_ok (ok_aP (ok_iload_n dX7_orders_0 rfl rfl)))
 (kl_ok (ok_aP (ok_aload_n dX7_orders_1 rfl rfl))))
 (kn_ok
 (kl_ok (ok_aP (ok_getf fo_54 fs_rf (Or.inl q1840) dX7_orders_2 rfl)))
 (kn_ok
 (kl_ok (ok_aP (ok_iconst dX7_orders_5 rfl rfl)))
 (kl_ok (ok_aP (ok_iald dX7_orders_6 rfl))))))
 (kn_ok
 (kn_ok
 (kl_ok (ok_aP (ok_icmp_ne dX7_orders_7 rfl rfl)))
 (kl_ok (ok_aP (ok_iload_n dX7_orders_10 rfl rfl))))
 (kn_ok
 (kl_ok (ok_aP (ok_aload_n dX7_orders_11 rfl rfl)))
 (kn_ok
 (kl_ok (ok_aP (ok_getf fo_76 fs_rf (Or.inl q1864) dX7_orders_12 rfl)))
 (kl_ok (ok_aP (ok_icmp_gt dX7_orders_15 rfl rfl)))))))
 (kn_ok
 (kn_ok
 (kn_ok
 (kl_ok (ok_vret rfl dX7_orders_18))
 (kl_ok (ok_aP (ok_aload_n dX7_orders_19 rfl rfl))))
 (kn_ok
 (kl_ok (ok_aP (ok_iload_n dX7_orders_20 rfl rfl)))
 (kn_ok
 (kl_ok (ok_hp (ok_putf fo_76 fs_rf fn_51 (Or.inl q1864) pd_0 vI_ok dX7_orders_21 rfl) le_putf))
 (kl_ok (ok_aP (ok_iconst dX7_orders_24 rfl rfl))))))
 (kn_ok
 (kn_ok
 (kl_ok (ok_aP (ok_istore dX7_orders_25 rfl)))
 (kn_ok
 (kl_ok (ok_aP (ok_iload dX7_orders_27 rfl)))
 (kl_ok (ok_aP (ok_iload_n dX7_orders_29 rfl rfl)))))
 (kn_ok
 (kl_ok (ok_aP (ok_icmp_ge dX7_orders_30 rfl rfl)))
 (kn_ok
 (kl_ok (ok_aP (ok_aload_n dX7_orders_33 rfl rfl)))
 (kl_ok (ok_aP (ok_getf fo_77 fs_rf (Or.inl q1863) dX7_orders_34 rfl))))))))
 (kn_ok
 (kn_ok
 (kn_ok
 (kn_ok
 (kl_ok (ok_aP (ok_iload dX7_orders_37 rfl)))
 (kl_ok (ok_aP (ok_aload_n dX7_orders_39 rfl rfl))))
 (kn_ok
 (kl_ok (ok_aP (ok_getf fo_78 fs_rf (Or.inl q1862) dX7_orders_40 rfl)))
 (kn_ok
 (kl_ok (ok_aP (ok_iload dX7_orders_43 rfl)))
 (kl_ok (ok_aP (ok_iald dX7_orders_45 rfl))))))
 (kn_ok
 (kn_ok
 (kl_ok (ok_hp (ok_iast dX7_orders_46 rfl) le_iast))
 (kl_ok (ok_aP (ok_iinc dX7_orders_47 (by decide +kernel) rfl))))
 (kn_ok
 (kl_ok (ok_aP (ok_goto dX7_orders_50 rfl)))
 (kn_ok
 (kl_ok (ok_vret rfl dX7_orders_53))
 (kl_ok (ok_aP (ok_iconst dX7_orders_54 rfl rfl)))))))
 (kn_ok
 (kn_ok
 (kn_ok
 (kl_ok (ok_aP (ok_istore dX7_orders_55 rfl)))
 (kl_ok (ok_aP (ok_iload dX7_orders_57 rfl))))
 (kn_ok
 (kl_ok (ok_aP (ok_aload_n dX7_orders_59 rfl rfl)))
 (kn_ok
 (kl_ok (ok_aP (ok_getf fo_54 fs_rf (Or.inl q1840) dX7_orders_60 rfl)))
 (kl_ok (ok_aP (ok_iconst dX7_orders_63 rfl rfl))))))
 (kn_ok
 (kn_ok
 (kl_ok (ok_aP (ok_iald dX7_orders_64 rfl)))
 (kn_ok
 (kl_ok (ok_aP (ok_icmp_ge dX7_orders_65 rfl rfl)))
 (kl_ok (ok_aP (ok_iload_n dX7_orders_68 rfl rfl)))))
 (kn_ok
 (kl_ok (ok_aP (ok_iload dX7_orders_69 rfl)))
 (kn_ok
 (kl_ok (ok_aP (ok_ishr dX7_orders_71 rfl)))
 (kl_ok (ok_aP (ok_iconst dX7_orders_72 rfl rfl)))))))))
 (kn_ok
 (kn_ok
 (kn_ok
 (kn_ok
 (kn_ok
 (kl_ok (ok_aP (ok_iand dX7_orders_73 rfl)))
 (kl_ok (ok_aP (ok_iconst dX7_orders_74 rfl rfl))))
 (kn_ok
 (kl_ok (ok_aP (ok_icmp_ne dX7_orders_75 rfl rfl)))
 (kn_ok
 (kl_ok (ok_aP (ok_goto dX7_orders_78 rfl)))
 (kl_ok (ok_aP (ok_aload_n dX7_orders_81 rfl rfl))))))
 (kn_ok
 (kn_ok
 (kl_ok (ok_aP (ok_getf fo_78 fs_rf (Or.inl q1862) dX7_orders_82 rfl)))
 (kl_ok (ok_aP (ok_iload_n dX7_orders_85 rfl rfl))))
 (kn_ok
 (kl_ok (ok_aP (ok_iload dX7_orders_86 rfl)))
 (kn_ok
 (kl_ok (ok_hp (ok_iast dX7_orders_88 rfl) le_iast))
 (kl_ok (ok_aP (ok_aload_n dX7_orders_89 rfl rfl)))))))
 (kn_ok
 (kn_ok
 (kn_ok
 (kl_ok (ok_aP (ok_iload dX7_orders_90 rfl)))
 (kl_ok (ok_callV (List.forall_mem_cons.mpr ⟨run_V (C0 := "FavourTownModel") rfl rfl (by rw [hm]; rfl) q2278 q2280 qs78 q92 q2281 ⟨nh_1, dl_10⟩ (by decide) dX7_orders_92, (fun _ h => absurd h List.not_mem_nil)⟩) rfl)))
 (kn_ok
 (kl_ok (ok_aP (ok_istore dX7_orders_95 rfl)))
 (kn_ok
 (kl_ok (ok_aP (ok_aload_n dX7_orders_97 rfl rfl)))
 (kl_ok (ok_aP (ok_iload_n dX7_orders_98 rfl rfl))))))
 (kn_ok
 (kn_ok
 (kl_ok (ok_aP (ok_iconst dX7_orders_99 rfl rfl)))
 (kn_ok
 (kl_ok (ok_aP (ok_iadd dX7_orders_100 rfl)))
 (kl_ok (ok_aP (ok_iload_n dX7_orders_101 rfl rfl)))))
 (kn_ok
 (kl_ok (ok_aP (ok_iconst dX7_orders_102 rfl rfl)))
 (kn_ok
 (kl_ok (ok_aP (ok_iload dX7_orders_103 rfl)))
 (kl_ok (ok_aP (ok_ishl dX7_orders_105 rfl))))))))
 (kn_ok
 (kn_ok
 (kn_ok
 (kn_ok
 (kl_ok (ok_aP (ok_ior dX7_orders_106 rfl)))
 (kl_ok (ok_aP (ok_iload_n dX7_orders_107 rfl rfl))))
 (kn_ok
 (kl_ok (ok_aP (ok_iload dX7_orders_108 rfl)))
 (kn_ok
 (kl_ok (ok_aP (ok_aload_n dX7_orders_110 rfl rfl)))
 (kl_ok (ok_aP (ok_getf fo_54 fs_rf (Or.inl q1840) dX7_orders_111 rfl))))))
 (kn_ok
 (kn_ok
 (kl_ok (ok_aP (ok_bipush dX7_orders_114 (by decide +kernel) rfl)))
 (kl_ok (ok_aP (ok_bipush dX7_orders_116 (by decide +kernel) rfl))))
 (kn_ok
 (kl_ok (ok_aP (ok_iload dX7_orders_118 rfl)))
 (kn_ok
 (kl_ok (ok_aP (ok_imul dX7_orders_120 rfl)))
 (kl_ok (ok_aP (ok_iadd dX7_orders_121 rfl)))))))
 (kn_ok
 (kn_ok
 (kn_ok
 (kl_ok (ok_aP (ok_iald dX7_orders_122 rfl)))
 (kl_ok (ok_aP (ok_imul dX7_orders_123 rfl))))
 (kn_ok
 (kl_ok (ok_aP (ok_iadd dX7_orders_124 rfl)))
 (kn_ok
 (kl_ok (ok_callV (List.forall_mem_cons.mpr ⟨run_V (C0 := "FavourTownModel") rfl rfl (by rw [hm]; rfl) q2274 q2276 qs77 q92 q2277 ⟨nh_1, dl_46⟩ (by decide) dX7_orders_125, (fun _ h => absurd h List.not_mem_nil)⟩) rfl))
 (kl_ok (ok_aP (ok_aload_n dX7_orders_128 rfl rfl))))))
 (kn_ok
 (kn_ok
 (kl_ok (ok_aP (ok_iload dX7_orders_129 rfl)))
 (kn_ok
 (kl_ok (ok_aP (ok_iload dX7_orders_131 rfl)))
 (kl_ok (ok_callV (List.forall_mem_cons.mpr ⟨run_V (C0 := "FavourTownModel") rfl rfl (by rw [hm]; rfl) q2282 q2284 qs79 q92 q2285 ⟨nh_1, dl_19⟩ (by decide) dX7_orders_133, (fun _ h => absurd h List.not_mem_nil)⟩) rfl))))
 (kn_ok
 (kl_ok (ok_aP (ok_iinc dX7_orders_136 (by decide +kernel) rfl)))
 (kn_ok
 (kl_ok (ok_aP (ok_goto dX7_orders_139 rfl)))
 (kl_ok (ok_vret rfl dX7_orders_142))))))))
/-- 229: FavourTownModel.ringOf(I)I -/
noncomputable def k_X7_ringOf : Nat → Option AOp :=
 tn 48 (tn 23 (tn 12 (tn 6 (tn 4 (tn 2 (tl 0 (aP (f_const (.int (nI 82)) 2)))
  (tl 2 (aP (f_const (.int (nI 7)) 4))))
  (tn 5 (tl 4 (aP (f_iload 1 5)))
  (tl 5 (aP (f_bin (fun x y => x * y) 6)))))
  (tn 8 (tn 7 (tl 6 (aP (f_bin (fun x y => x + y) 7)))
  (tl 7 (aP (f_istore 2 8))))
  (tn 9 (tl 8 (aP (f_aload 0 9)))
  (tl 9 (aP (f_getf [18] 1 12))))))
  (tn 16 (tn 14 (tn 13 (tl 12 (aP (f_iload 2 13)))
  (tl 13 (aP (f_iald 0 14))))
  (tn 15 (tl 14 (aP (f_istore 3 15)))
  (tl 15 (aP (f_const (.int (-1)) 16)))))
  (tn 19 (tn 18 (tl 16 (aP (f_istore 4 18)))
  (tl 18 (aP (f_const (.int (nI 0)) 19))))
  (tn 21 (tl 19 (aP (f_istore 5 21)))
  (tl 21 (aP (f_iload 5 23)))))))
  (tn 36 (tn 30 (tn 27 (tn 24 (tl 23 (aP (f_iload 3 24)))
  (tl 24 (aP (f_icmp (fun x y => decide (y ≤ x)) 97 27))))
  (tn 29 (tl 27 (aP (f_const (.int (nI 12)) 29)))
  (tl 29 (aP (f_aload 0 30)))))
  (tn 34 (tn 33 (tl 30 (aP (f_getf [18] 1 33)))
  (tl 33 (aP (f_iload 2 34))))
  (tn 35 (tl 34 (aP (f_const (.int (nI 1)) 35)))
  (tl 35 (aP (f_bin (fun x y => x + y) 36))))))
  (tn 41 (tn 39 (tn 38 (tl 36 (aP (f_iload 5 38)))
  (tl 38 (aP (f_bin (fun x y => x + y) 39))))
  (tn 40 (tl 39 (aP (f_iald 0 40)))
  (tl 40 (aP (f_bin (fun x y => x * y) 41)))))
  (tn 45 (tn 42 (tl 41 (aP (f_aload 0 42)))
  (tl 42 (aP (f_getf [18] 1 45))))
  (tn 46 (tl 45 (aP (f_iload 2 46)))
  (tn 47 (tl 46 (aP (f_const (.int (nI 1)) 47)))
  (tl 47 (aP (f_bin (fun x y => x + y) 48)))))))))
  (tn 74 (tn 57 (tn 53 (tn 51 (tn 50 (tl 48 (aP (f_iload 5 50)))
  (tl 50 (aP (f_const (.int (nI 1)) 51))))
  (tn 52 (tl 51 (aP (f_bin (fun x y => x + y) 52)))
  (tl 52 (aP (f_iload 3 53)))))
  (tn 55 (tn 54 (tl 53 (aP (f_div (fun x y => x - x / y * y) 54)))
  (tl 54 (aP (f_bin (fun x y => x + y) 55))))
  (tn 56 (tl 55 (aP (f_iald 0 56)))
  (tl 56 (aP (f_bin (fun x y => x + y) 57))))))
  (tn 65 (tn 61 (tn 59 (tl 57 (aP (f_istore 6 59)))
  (tl 59 (aP (f_iload 4 61))))
  (tn 62 (tl 61 (aP (f_const (.int (-1)) 62)))
  (tl 62 (aP (f_icmp (fun x y => decide (x = y)) 77 65)))))
  (tn 69 (tn 66 (tl 65 (aP (f_aload 0 66)))
  (tl 66 (aP (f_getf [18] 22 69))))
  (tn 71 (tl 69 (aP (f_iload 6 71)))
  (tn 72 (tl 71 (aP (f_iald 0 72)))
  (tl 72 (aP (f_iload 4 74))))))))
  (tn 91 (tn 83 (tn 78 (tn 77 (tl 74 (aP (f_icmp (fun x y => decide (y ≤ x)) 87 77)))
  (tl 77 (aP (f_aload 0 78))))
  (tn 81 (tl 78 (aP (f_getf [18] 22 81)))
  (tl 81 (aP (f_iload 6 83)))))
  (tn 87 (tn 84 (tl 83 (aP (f_iald 0 84)))
  (tl 84 (aP (f_goto 89))))
  (tn 89 (tl 87 (aP (f_iload 4 89)))
  (tl 89 (aP (f_istore 4 91))))))
  (tn 99 (tn 97 (tn 94 (tl 91 (aP (f_iinc 5 (nI 1) 94)))
  (tl 94 (aP (f_goto 21))))
  (tn 98 (tl 97 (aP (f_aload 0 98)))
  (tl 98 (aP (f_iload 1 99)))))
  (tn 102 (tn 101 (tl 99 (aP (f_iload 4 101)))
  (tl 101 (aP (f_un (fun x => -x) 102))))
  (tn 105 (tl 102 (o_callV (lkN [(18, 230)]) 2 105))
  (tn 107 (tl 105 (aP (f_iload 4 107)))
  (tl 107 (o_iret (fun _ => true)))))))))
theorem kok_X7_ringOf {γ : AG} (hm : γ.2.2.2.2.1 = mTab) (hk : γ.2.2.2.2.2 = kTab) : KOK γ m_X7_ringOf k_X7_ringOf :=
 kn_ok
 (kn_ok
 (kn_ok
 (kn_ok
 (kn_ok
 (kn_ok
 (kl_ok (ok_aP (ok_bipush dX7_ringOf_0 (by decide +kernel) rfl)))
 (kl_ok (ok_aP (ok_bipush dX7_ringOf_2 (by decide +kernel) rfl))))
 (kn_ok
 (kl_ok (ok_aP (ok_iload_n dX7_ringOf_4 rfl rfl)))
 (kl_ok (ok_aP (ok_imul dX7_ringOf_5 rfl)))))
 (kn_ok
 (kn_ok
 (kl_ok (ok_aP (ok_iadd dX7_ringOf_6 rfl)))
 (kl_ok (ok_aP (ok_istore_n dX7_ringOf_7 rfl rfl))))
 (kn_ok
 (kl_ok (ok_aP (ok_aload_n dX7_ringOf_8 rfl rfl)))
 (kl_ok (ok_aP (ok_getf fo_54 fs_rf (Or.inl q1840) dX7_ringOf_9 rfl))))))
 (kn_ok
 (kn_ok
 (kn_ok
 (kl_ok (ok_aP (ok_iload_n dX7_ringOf_12 rfl rfl)))
 (kl_ok (ok_aP (ok_iald dX7_ringOf_13 rfl))))
 (kn_ok
 (kl_ok (ok_aP (ok_istore_n dX7_ringOf_14 rfl rfl)))
 (kl_ok (ok_aP (ok_iconst dX7_ringOf_15 rfl rfl)))))
 (kn_ok
 (kn_ok
 (kl_ok (ok_aP (ok_istore dX7_ringOf_16 rfl)))
 (kl_ok (ok_aP (ok_iconst dX7_ringOf_18 rfl rfl))))
 (kn_ok
 (kl_ok (ok_aP (ok_istore dX7_ringOf_19 rfl)))
 (kl_ok (ok_aP (ok_iload dX7_ringOf_21 rfl)))))))
 (kn_ok
 (kn_ok
 (kn_ok
 (kn_ok
 (kl_ok (ok_aP (ok_iload_n dX7_ringOf_23 rfl rfl)))
 (kl_ok (ok_aP (ok_icmp_ge dX7_ringOf_24 rfl rfl))))
 (kn_ok
 (kl_ok (ok_aP (ok_bipush dX7_ringOf_27 (by decide +kernel) rfl)))
 (kl_ok (ok_aP (ok_aload_n dX7_ringOf_29 rfl rfl)))))
 (kn_ok
 (kn_ok
 (kl_ok (ok_aP (ok_getf fo_54 fs_rf (Or.inl q1840) dX7_ringOf_30 rfl)))
 (kl_ok (ok_aP (ok_iload_n dX7_ringOf_33 rfl rfl))))
 (kn_ok
 (kl_ok (ok_aP (ok_iconst dX7_ringOf_34 rfl rfl)))
 (kl_ok (ok_aP (ok_iadd dX7_ringOf_35 rfl))))))
 (kn_ok
 (kn_ok
 (kn_ok
 (kl_ok (ok_aP (ok_iload dX7_ringOf_36 rfl)))
 (kl_ok (ok_aP (ok_iadd dX7_ringOf_38 rfl))))
 (kn_ok
 (kl_ok (ok_aP (ok_iald dX7_ringOf_39 rfl)))
 (kl_ok (ok_aP (ok_imul dX7_ringOf_40 rfl)))))
 (kn_ok
 (kn_ok
 (kl_ok (ok_aP (ok_aload_n dX7_ringOf_41 rfl rfl)))
 (kl_ok (ok_aP (ok_getf fo_54 fs_rf (Or.inl q1840) dX7_ringOf_42 rfl))))
 (kn_ok
 (kl_ok (ok_aP (ok_iload_n dX7_ringOf_45 rfl rfl)))
 (kn_ok
 (kl_ok (ok_aP (ok_iconst dX7_ringOf_46 rfl rfl)))
 (kl_ok (ok_aP (ok_iadd dX7_ringOf_47 rfl)))))))))
 (kn_ok
 (kn_ok
 (kn_ok
 (kn_ok
 (kn_ok
 (kl_ok (ok_aP (ok_iload dX7_ringOf_48 rfl)))
 (kl_ok (ok_aP (ok_iconst dX7_ringOf_50 rfl rfl))))
 (kn_ok
 (kl_ok (ok_aP (ok_iadd dX7_ringOf_51 rfl)))
 (kl_ok (ok_aP (ok_iload_n dX7_ringOf_52 rfl rfl)))))
 (kn_ok
 (kn_ok
 (kl_ok (ok_aP (ok_irem dX7_ringOf_53 rfl)))
 (kl_ok (ok_aP (ok_iadd dX7_ringOf_54 rfl))))
 (kn_ok
 (kl_ok (ok_aP (ok_iald dX7_ringOf_55 rfl)))
 (kl_ok (ok_aP (ok_iadd dX7_ringOf_56 rfl))))))
 (kn_ok
 (kn_ok
 (kn_ok
 (kl_ok (ok_aP (ok_istore dX7_ringOf_57 rfl)))
 (kl_ok (ok_aP (ok_iload dX7_ringOf_59 rfl))))
 (kn_ok
 (kl_ok (ok_aP (ok_iconst dX7_ringOf_61 rfl rfl)))
 (kl_ok (ok_aP (ok_icmp_eq dX7_ringOf_62 rfl rfl)))))
 (kn_ok
 (kn_ok
 (kl_ok (ok_aP (ok_aload_n dX7_ringOf_65 rfl rfl)))
 (kl_ok (ok_aP (ok_getf fo_75 fs_rf (Or.inl q1861) dX7_ringOf_66 rfl))))
 (kn_ok
 (kl_ok (ok_aP (ok_iload dX7_ringOf_69 rfl)))
 (kn_ok
 (kl_ok (ok_aP (ok_iald dX7_ringOf_71 rfl)))
 (kl_ok (ok_aP (ok_iload dX7_ringOf_72 rfl))))))))
 (kn_ok
 (kn_ok
 (kn_ok
 (kn_ok
 (kl_ok (ok_aP (ok_icmp_ge dX7_ringOf_74 rfl rfl)))
 (kl_ok (ok_aP (ok_aload_n dX7_ringOf_77 rfl rfl))))
 (kn_ok
 (kl_ok (ok_aP (ok_getf fo_75 fs_rf (Or.inl q1861) dX7_ringOf_78 rfl)))
 (kl_ok (ok_aP (ok_iload dX7_ringOf_81 rfl)))))
 (kn_ok
 (kn_ok
 (kl_ok (ok_aP (ok_iald dX7_ringOf_83 rfl)))
 (kl_ok (ok_aP (ok_goto dX7_ringOf_84 rfl))))
 (kn_ok
 (kl_ok (ok_aP (ok_iload dX7_ringOf_87 rfl)))
 (kl_ok (ok_aP (ok_istore dX7_ringOf_89 rfl))))))
 (kn_ok
 (kn_ok
 (kn_ok
 (kl_ok (ok_aP (ok_iinc dX7_ringOf_91 (by decide +kernel) rfl)))
 (kl_ok (ok_aP (ok_goto dX7_ringOf_94 rfl))))
 (kn_ok
 (kl_ok (ok_aP (ok_aload_n dX7_ringOf_97 rfl rfl)))
 (kl_ok (ok_aP (ok_iload_n dX7_ringOf_98 rfl rfl)))))
 (kn_ok
 (kn_ok
 (kl_ok (ok_aP (ok_iload dX7_ringOf_99 rfl)))
 (kl_ok (ok_aP (ok_ineg dX7_ringOf_101 rfl))))
 (kn_ok
 (kl_ok (ok_callV (List.forall_mem_cons.mpr ⟨run_V (C0 := "FavourTownModel") rfl rfl (by rw [hm]; rfl) q2282 q2284 qs79 q92 q2285 ⟨nh_1, dl_19⟩ (by decide) dX7_ringOf_102, (fun _ h => absurd h List.not_mem_nil)⟩) rfl))
 (kn_ok
 (kl_ok (ok_aP (ok_iload dX7_ringOf_105 rfl)))
 (kl_ok (ok_iret rfl dX7_ringOf_107))))))))
/-- 230: FavourTownModel.putsBack(II)V -/
noncomputable def k_X7_putsBack : Nat → Option AOp :=
 tn 39 (tn 18 (tn 8 (tn 5 (tn 2 (tl 0 (aP (f_const (.int (nI 82)) 2)))
  (tn 4 (tl 2 (aP (f_const (.int (nI 7)) 4)))
  (tl 4 (aP (f_iload 1 5)))))
  (tn 6 (tl 5 (aP (f_bin (fun x y => x * y) 6)))
  (tn 7 (tl 6 (aP (f_bin (fun x y => x + y) 7)))
  (tl 7 (aP (f_istore 3 8))))))
  (tn 13 (tn 9 (tl 8 (aP (f_const (.int (nI 0)) 9)))
  (tn 11 (tl 9 (aP (f_istore 4 11)))
  (tl 11 (aP (f_iload 4 13)))))
  (tn 14 (tl 13 (aP (f_aload 0 14)))
  (tn 17 (tl 14 (aP (f_getf [18] 1 17)))
  (tl 17 (aP (f_iload 3 18)))))))
  (tn 29 (tn 23 (tn 19 (tl 18 (aP (f_iald 0 19)))
  (tn 22 (tl 19 (aP (f_icmp (fun x y => decide (y ≤ x)) 72 22)))
  (tl 22 (aP (f_aload 0 23)))))
  (tn 26 (tl 23 (aP (f_getf [18] 22 26)))
  (tn 28 (tl 26 (aP (f_const (.int (nI 12)) 28)))
  (tl 28 (aP (f_aload 0 29))))))
  (tn 34 (tn 32 (tl 29 (aP (f_getf [18] 1 32)))
  (tn 33 (tl 32 (aP (f_iload 3 33)))
  (tl 33 (aP (f_const (.int (nI 1)) 34)))))
  (tn 37 (tn 35 (tl 34 (aP (f_bin (fun x y => x + y) 35)))
  (tl 35 (aP (f_iload 4 37))))
  (tn 38 (tl 37 (aP (f_bin (fun x y => x + y) 38)))
  (tl 38 (aP (f_iald 0 39))))))))
  (tn 56 (tn 47 (tn 44 (tn 40 (tl 39 (aP (f_bin (fun x y => x * y) 40)))
  (tn 41 (tl 40 (aP (f_aload 0 41)))
  (tl 41 (aP (f_getf [18] 1 44)))))
  (tn 45 (tl 44 (aP (f_iload 3 45)))
  (tn 46 (tl 45 (aP (f_const (.int (nI 1)) 46)))
  (tl 46 (aP (f_bin (fun x y => x + y) 47))))))
  (tn 51 (tn 49 (tl 47 (aP (f_iload 4 49)))
  (tn 50 (tl 49 (aP (f_const (.int (nI 1)) 50)))
  (tl 50 (aP (f_bin (fun x y => x + y) 51)))))
  (tn 52 (tl 51 (aP (f_aload 0 52)))
  (tn 55 (tl 52 (aP (f_getf [18] 1 55)))
  (tl 55 (aP (f_iload 3 56)))))))
  (tn 62 (tn 59 (tn 57 (tl 56 (aP (f_iald 0 57)))
  (tn 58 (tl 57 (aP (f_div (fun x y => x - x / y * y) 58)))
  (tl 58 (aP (f_bin (fun x y => x + y) 59)))))
  (tn 60 (tl 59 (aP (f_iald 0 60)))
  (tn 61 (tl 60 (aP (f_bin (fun x y => x + y) 61)))
  (tl 61 (aP (f_dup2 62))))))
  (tn 65 (tn 63 (tl 62 (aP (f_iald 0 63)))
  (tn 64 (tl 63 (aP (f_iload 2 64)))
  (tl 64 (aP (f_bin (fun x y => x + y) 65)))))
  (tn 69 (tn 66 (tl 65 (o_iast 0 (fun y => y) 66))
  (tl 66 (aP (f_iinc 4 (nI 1) 69))))
  (tn 72 (tl 69 (aP (f_goto 11)))
  (tl 72 (o_vret)))))))
theorem kok_X7_putsBack {γ : AG} (hm : γ.2.2.2.2.1 = mTab) (hk : γ.2.2.2.2.2 = kTab) : KOK γ m_X7_putsBack k_X7_putsBack :=
 kn_ok
 (kn_ok
 (kn_ok
 (kn_ok
 (kn_ok
 (kl_ok (ok_aP (ok_bipush dX7_putsBack_0 (by decide +kernel) rfl)))
 (kn_ok
 (kl_ok (ok_aP (ok_bipush dX7_putsBack_2 (by decide +kernel) rfl)))
 (kl_ok (ok_aP (ok_iload_n dX7_putsBack_4 rfl rfl)))))
 (kn_ok
 (kl_ok (ok_aP (ok_imul dX7_putsBack_5 rfl)))
 (kn_ok
 (kl_ok (ok_aP (ok_iadd dX7_putsBack_6 rfl)))
 (kl_ok (ok_aP (ok_istore_n dX7_putsBack_7 rfl rfl))))))
 (kn_ok
 (kn_ok
 (kl_ok (ok_aP (ok_iconst dX7_putsBack_8 rfl rfl)))
 (kn_ok
 (kl_ok (ok_aP (ok_istore dX7_putsBack_9 rfl)))
 (kl_ok (ok_aP (ok_iload dX7_putsBack_11 rfl)))))
 (kn_ok
 (kl_ok (ok_aP (ok_aload_n dX7_putsBack_13 rfl rfl)))
 (kn_ok
 (kl_ok (ok_aP (ok_getf fo_54 fs_rf (Or.inl q1840) dX7_putsBack_14 rfl)))
 (kl_ok (ok_aP (ok_iload_n dX7_putsBack_17 rfl rfl)))))))
 (kn_ok
 (kn_ok
 (kn_ok
 (kl_ok (ok_aP (ok_iald dX7_putsBack_18 rfl)))
 (kn_ok
 (kl_ok (ok_aP (ok_icmp_ge dX7_putsBack_19 rfl rfl)))
 (kl_ok (ok_aP (ok_aload_n dX7_putsBack_22 rfl rfl)))))
 (kn_ok
 (kl_ok (ok_aP (ok_getf fo_75 fs_rf (Or.inl q1861) dX7_putsBack_23 rfl)))
 (kn_ok
 (kl_ok (ok_aP (ok_bipush dX7_putsBack_26 (by decide +kernel) rfl)))
 (kl_ok (ok_aP (ok_aload_n dX7_putsBack_28 rfl rfl))))))
 (kn_ok
 (kn_ok
 (kl_ok (ok_aP (ok_getf fo_54 fs_rf (Or.inl q1840) dX7_putsBack_29 rfl)))
 (kn_ok
 (kl_ok (ok_aP (ok_iload_n dX7_putsBack_32 rfl rfl)))
 (kl_ok (ok_aP (ok_iconst dX7_putsBack_33 rfl rfl)))))
 (kn_ok
 (kn_ok
 (kl_ok (ok_aP (ok_iadd dX7_putsBack_34 rfl)))
 (kl_ok (ok_aP (ok_iload dX7_putsBack_35 rfl))))
 (kn_ok
 (kl_ok (ok_aP (ok_iadd dX7_putsBack_37 rfl)))
 (kl_ok (ok_aP (ok_iald dX7_putsBack_38 rfl))))))))
 (kn_ok
 (kn_ok
 (kn_ok
 (kn_ok
 (kl_ok (ok_aP (ok_imul dX7_putsBack_39 rfl)))
 (kn_ok
 (kl_ok (ok_aP (ok_aload_n dX7_putsBack_40 rfl rfl)))
 (kl_ok (ok_aP (ok_getf fo_54 fs_rf (Or.inl q1840) dX7_putsBack_41 rfl)))))
 (kn_ok
 (kl_ok (ok_aP (ok_iload_n dX7_putsBack_44 rfl rfl)))
 (kn_ok
 (kl_ok (ok_aP (ok_iconst dX7_putsBack_45 rfl rfl)))
 (kl_ok (ok_aP (ok_iadd dX7_putsBack_46 rfl))))))
 (kn_ok
 (kn_ok
 (kl_ok (ok_aP (ok_iload dX7_putsBack_47 rfl)))
 (kn_ok
 (kl_ok (ok_aP (ok_iconst dX7_putsBack_49 rfl rfl)))
 (kl_ok (ok_aP (ok_iadd dX7_putsBack_50 rfl)))))
 (kn_ok
 (kl_ok (ok_aP (ok_aload_n dX7_putsBack_51 rfl rfl)))
 (kn_ok
 (kl_ok (ok_aP (ok_getf fo_54 fs_rf (Or.inl q1840) dX7_putsBack_52 rfl)))
 (kl_ok (ok_aP (ok_iload_n dX7_putsBack_55 rfl rfl)))))))
 (kn_ok
 (kn_ok
 (kn_ok
 (kl_ok (ok_aP (ok_iald dX7_putsBack_56 rfl)))
 (kn_ok
 (kl_ok (ok_aP (ok_irem dX7_putsBack_57 rfl)))
 (kl_ok (ok_aP (ok_iadd dX7_putsBack_58 rfl)))))
 (kn_ok
 (kl_ok (ok_aP (ok_iald dX7_putsBack_59 rfl)))
 (kn_ok
 (kl_ok (ok_aP (ok_iadd dX7_putsBack_60 rfl)))
 (kl_ok (ok_aP (ok_dup2 dX7_putsBack_61 rfl))))))
 (kn_ok
 (kn_ok
 (kl_ok (ok_aP (ok_iald dX7_putsBack_62 rfl)))
 (kn_ok
 (kl_ok (ok_aP (ok_iload_n dX7_putsBack_63 rfl rfl)))
 (kl_ok (ok_aP (ok_iadd dX7_putsBack_64 rfl)))))
 (kn_ok
 (kn_ok
 (kl_ok (ok_hp (ok_iast dX7_putsBack_65 rfl) le_iast))
 (kl_ok (ok_aP (ok_iinc dX7_putsBack_66 (by decide +kernel) rfl))))
 (kn_ok
 (kl_ok (ok_aP (ok_goto dX7_putsBack_69 rfl)))
 (kl_ok (ok_vret rfl dX7_putsBack_72)))))))
/-- 231: FavourTownModel.loss(II)I -/
noncomputable def k_X7_loss : Nat → Option AOp :=
 tn 21 (tn 9 (tn 2 (tn 1 (tl 0 (aP (f_aload 0 1)))
  (tl 1 (aP (f_aload 0 2))))
  (tn 3 (tl 2 (aP (f_iload 1 3)))
  (tn 6 (tl 3 (o_callV (lkN [(18, 188)]) 1 6))
  (tl 6 (aP (f_if (fun x => decide (x = 0)) 17 9))))))
  (tn 14 (tn 10 (tl 9 (aP (f_aload 0 10)))
  (tn 11 (tl 10 (aP (f_iload 2 11)))
  (tl 11 (o_callV (lkN [(18, 188)]) 1 14))))
  (tn 17 (tl 14 (aP (f_if (fun x => decide (¬ x = 0)) 21 17)))
  (tn 18 (tl 17 (aP (f_const (.int (nI 1)) 18)))
  (tl 18 (aP (f_goto 22)))))))
  (tn 33 (tn 26 (tn 22 (tl 21 (aP (f_const (.int (nI 0)) 22)))
  (tn 25 (tl 22 (o_putf [18] 0 vI 25))
  (tl 25 (aP (f_aload 0 26)))))
  (tn 29 (tl 26 (aP (f_getf [18] 0 29)))
  (tn 32 (tl 29 (aP (f_if (fun x => decide (x ≤ 0)) 34 32)))
  (tl 32 (aP (f_const (.int (nI 0)) 33))))))
  (tn 36 (tn 34 (tl 33 (o_iret (fun _ => true)))
  (tn 35 (tl 34 (aP (f_aload 0 35)))
  (tl 35 (aP (f_iload 1 36)))))
  (tn 37 (tl 36 (aP (f_iload 2 37)))
  (tn 40 (tl 37 (o_callV (lkN [(18, 232)]) 2 40))
  (tl 40 (o_iret (fun _ => true)))))))
theorem kok_X7_loss {γ : AG} (hm : γ.2.2.2.2.1 = mTab) (hk : γ.2.2.2.2.2 = kTab) : KOK γ m_X7_loss k_X7_loss :=
 kn_ok
 (kn_ok
 (kn_ok
 (kn_ok
 (kl_ok (ok_aP (ok_aload_n dX7_loss_0 rfl rfl)))
 (kl_ok (ok_aP (ok_aload_n dX7_loss_1 rfl rfl))))
 (kn_ok
 (kl_ok (ok_aP (ok_iload_n dX7_loss_2 rfl rfl)))
 (kn_ok
 (kl_ok (ok_callV (List.forall_mem_cons.mpr ⟨run_V (C0 := "FavourTownModel") rfl rfl (by rw [hm]; rfl) q2115 q2117 qs61 q92 q2118 ⟨nh_1, dl_2⟩ (by decide) dX7_loss_3, (fun _ h => absurd h List.not_mem_nil)⟩) rfl))
 (kl_ok (ok_aP (ok_if_eq dX7_loss_6 rfl rfl))))))
 (kn_ok
 (kn_ok
 (kl_ok (ok_aP (ok_aload_n dX7_loss_9 rfl rfl)))
 (kn_ok
 (kl_ok (ok_aP (ok_iload_n dX7_loss_10 rfl rfl)))
 (kl_ok (ok_callV (List.forall_mem_cons.mpr ⟨run_V (C0 := "FavourTownModel") rfl rfl (by rw [hm]; rfl) q2115 q2117 qs61 q92 q2118 ⟨nh_1, dl_2⟩ (by decide) dX7_loss_11, (fun _ h => absurd h List.not_mem_nil)⟩) rfl))))
 (kn_ok
 (kl_ok (ok_aP (ok_if_ne dX7_loss_14 rfl rfl)))
 (kn_ok
 (kl_ok (ok_aP (ok_iconst dX7_loss_17 rfl rfl)))
 (kl_ok (ok_aP (ok_goto dX7_loss_18 rfl)))))))
 (kn_ok
 (kn_ok
 (kn_ok
 (kl_ok (ok_aP (ok_iconst dX7_loss_21 rfl rfl)))
 (kn_ok
 (kl_ok (ok_hp (ok_putf fo_53 fs_rf fn_36 (Or.inl q1839) pd_0 vI_ok dX7_loss_22 rfl) le_putf))
 (kl_ok (ok_aP (ok_aload_n dX7_loss_25 rfl rfl)))))
 (kn_ok
 (kl_ok (ok_aP (ok_getf fo_53 fs_rf (Or.inl q1839) dX7_loss_26 rfl)))
 (kn_ok
 (kl_ok (ok_aP (ok_if_le dX7_loss_29 rfl rfl)))
 (kl_ok (ok_aP (ok_iconst dX7_loss_32 rfl rfl))))))
 (kn_ok
 (kn_ok
 (kl_ok (ok_iret rfl dX7_loss_33))
 (kn_ok
 (kl_ok (ok_aP (ok_aload_n dX7_loss_34 rfl rfl)))
 (kl_ok (ok_aP (ok_iload_n dX7_loss_35 rfl rfl)))))
 (kn_ok
 (kl_ok (ok_aP (ok_iload_n dX7_loss_36 rfl rfl)))
 (kn_ok
 (kl_ok (ok_callV (List.forall_mem_cons.mpr ⟨run_V (C0 := "FavourTownModel") rfl rfl (by rw [hm]; rfl) q2290 q2292 qs80 q92 q2293 ⟨nh_1, dl_6⟩ (by decide) dX7_loss_37, (fun _ h => absurd h List.not_mem_nil)⟩) rfl))
 (kl_ok (ok_iret rfl dX7_loss_40))))))
/-- 232: FavourTownModel.lossOf(II)I -/
noncomputable def k_X7_lossOf : Nat → Option AOp :=
 tn 60 (tn 29 (tn 12 (tn 5 (tn 2 (tn 1 (tl 0 (aP (f_const (.int (nI 0)) 1)))
  (tl 1 (aP (f_istore 3 2))))
  (tn 3 (tl 2 (aP (f_const (.int (nI 0)) 3)))
  (tl 3 (aP (f_istore 4 5)))))
  (tn 8 (tn 7 (tl 5 (aP (f_iload 4 7)))
  (tl 7 (aP (f_aload 0 8))))
  (tn 11 (tl 8 (aP (f_getf [18] 1 11)))
  (tl 11 (aP (f_const (.int (nI 3)) 12))))))
  (tn 19 (tn 16 (tn 13 (tl 12 (aP (f_iald 0 13)))
  (tl 13 (aP (f_icmp (fun x y => decide (y ≤ x)) 122 16))))
  (tn 17 (tl 16 (aP (f_const (.int (nI 2)) 17)))
  (tl 17 (aP (f_istore 5 19)))))
  (tn 22 (tn 21 (tl 19 (aP (f_iload 5 21)))
  (tl 21 (aP (f_aload 0 22))))
  (tn 24 (tl 22 (aP (f_iload 4 24)))
  (tn 26 (tl 24 (aP (f_const (.int (nI 6)) 26)))
  (tl 26 (o_callV (lkN [(18, 175)]) 2 29)))))))
  (tn 44 (tn 37 (tn 33 (tn 32 (tl 29 (aP (f_icmp (fun x y => decide (y ≤ x)) 116 32)))
  (tl 32 (aP (f_aload 0 33))))
  (tn 35 (tl 33 (aP (f_iload 4 35)))
  (tl 35 (aP (f_const (.int (nI 7)) 37)))))
  (tn 40 (tn 39 (tl 37 (aP (f_iload 5 39)))
  (tl 39 (aP (f_bin (fun x y => x + y) 40))))
  (tn 43 (tl 40 (o_callV (lkN [(18, 175)]) 2 43))
  (tl 43 (aP (f_iload 1 44))))))
  (tn 52 (tn 48 (tn 47 (tl 44 (aP (f_icmp (fun x y => decide (¬ x = y)) 110 47)))
  (tl 47 (aP (f_aload 0 48))))
  (tn 50 (tl 48 (aP (f_iload 4 50)))
  (tl 50 (aP (f_const (.int (nI 7)) 52)))))
  (tn 55 (tn 54 (tl 52 (aP (f_iload 5 54)))
  (tl 54 (aP (f_bin (fun x y => x + y) 55))))
  (tn 56 (tl 55 (aP (f_const (.int (nI 1)) 56)))
  (tn 57 (tl 56 (aP (f_bin (fun x y => x - y) 57)))
  (tl 57 (o_callV (lkN [(18, 175)]) 2 60))))))))
  (tn 90 (tn 75 (tn 66 (tn 64 (tn 61 (tl 60 (aP (f_iload 2 61)))
  (tl 61 (aP (f_icmp (fun x y => decide (¬ x = y)) 110 64))))
  (tn 65 (tl 64 (aP (f_iload 1 65)))
  (tl 65 (aP (f_aload 0 66)))))
  (tn 69 (tn 68 (tl 66 (aP (f_iload 4 68)))
  (tl 68 (aP (f_const (.int (nI 0)) 69))))
  (tn 72 (tl 69 (o_callV (lkN [(18, 175)]) 2 72))
  (tl 72 (aP (f_icmp (fun x y => decide (¬ x = y)) 78 75))))))
  (tn 82 (tn 79 (tn 78 (tl 75 (aP (f_goto 110)))
  (tl 78 (aP (f_iload 3 79))))
  (tn 80 (tl 79 (aP (f_aload 0 80)))
  (tl 80 (aP (f_iload 4 82)))))
  (tn 86 (tn 83 (tl 82 (aP (f_const (.int (nI 1)) 83)))
  (tl 83 (o_callV (lkN [(18, 175)]) 2 86)))
  (tn 88 (tl 86 (aP (f_iload 5 88)))
  (tn 89 (tl 88 (aP (f_const (.int (nI 2)) 89)))
  (tl 89 (aP (f_bin (fun x y => x - y) 90))))))))
  (tn 107 (tn 97 (tn 94 (tn 93 (tl 90 (o_callS 177 2 93))
  (tl 93 (aP (f_aload 0 94))))
  (tn 96 (tl 94 (aP (f_iload 4 96)))
  (tl 96 (aP (f_const (.int (nI 1)) 97)))))
  (tn 102 (tn 100 (tl 97 (o_callV (lkN [(18, 175)]) 2 100))
  (tl 100 (aP (f_iload 5 102))))
  (tn 103 (tl 102 (aP (f_const (.int (nI 1)) 103)))
  (tn 104 (tl 103 (aP (f_bin (fun x y => x - y) 104)))
  (tl 104 (o_callS 177 2 107))))))
  (tn 113 (tn 109 (tn 108 (tl 107 (aP (f_bin (fun x y => x - y) 108)))
  (tl 108 (aP (f_bin (fun x y => x + y) 109))))
  (tn 110 (tl 109 (aP (f_istore 3 110)))
  (tl 110 (aP (f_iinc 5 (nI 1) 113)))))
  (tn 119 (tn 116 (tl 113 (aP (f_goto 19)))
  (tl 116 (aP (f_iinc 4 (nI 1) 119))))
  (tn 122 (tl 119 (aP (f_goto 5)))
  (tn 123 (tl 122 (aP (f_iload 3 123)))
  (tl 123 (o_iret (fun _ => true)))))))))
theorem kok_X7_lossOf {γ : AG} (hm : γ.2.2.2.2.1 = mTab) (hk : γ.2.2.2.2.2 = kTab) : KOK γ m_X7_lossOf k_X7_lossOf :=
 kn_ok
 (kn_ok
 (kn_ok
 (kn_ok
 (kn_ok
 (kn_ok
 (kl_ok (ok_aP (ok_iconst dX7_lossOf_0 rfl rfl)))
 (kl_ok (ok_aP (ok_istore_n dX7_lossOf_1 rfl rfl))))
 (kn_ok
 (kl_ok (ok_aP (ok_iconst dX7_lossOf_2 rfl rfl)))
 (kl_ok (ok_aP (ok_istore dX7_lossOf_3 rfl)))))
 (kn_ok
 (kn_ok
 (kl_ok (ok_aP (ok_iload dX7_lossOf_5 rfl)))
 (kl_ok (ok_aP (ok_aload_n dX7_lossOf_7 rfl rfl))))
 (kn_ok
 (kl_ok (ok_aP (ok_getf fo_54 fs_rf (Or.inl q1840) dX7_lossOf_8 rfl)))
 (kl_ok (ok_aP (ok_iconst dX7_lossOf_11 rfl rfl))))))
 (kn_ok
 (kn_ok
 (kn_ok
 (kl_ok (ok_aP (ok_iald dX7_lossOf_12 rfl)))
 (kl_ok (ok_aP (ok_icmp_ge dX7_lossOf_13 rfl rfl))))
 (kn_ok
 (kl_ok (ok_aP (ok_iconst dX7_lossOf_16 rfl rfl)))
 (kl_ok (ok_aP (ok_istore dX7_lossOf_17 rfl)))))
 (kn_ok
 (kn_ok
 (kl_ok (ok_aP (ok_iload dX7_lossOf_19 rfl)))
 (kl_ok (ok_aP (ok_aload_n dX7_lossOf_21 rfl rfl))))
 (kn_ok
 (kl_ok (ok_aP (ok_iload dX7_lossOf_22 rfl)))
 (kn_ok
 (kl_ok (ok_aP (ok_bipush dX7_lossOf_24 (by decide +kernel) rfl)))
 (kl_ok (ok_callV (List.forall_mem_cons.mpr ⟨run_V (C0 := "FavourTownModel") rfl rfl (by rw [hm]; rfl) q2059 q2061 qs52 q92 q2062 ⟨nh_1, dl_6⟩ (by decide) dX7_lossOf_26, (fun _ h => absurd h List.not_mem_nil)⟩) rfl)))))))
 (kn_ok
 (kn_ok
 (kn_ok
 (kn_ok
 (kl_ok (ok_aP (ok_icmp_ge dX7_lossOf_29 rfl rfl)))
 (kl_ok (ok_aP (ok_aload_n dX7_lossOf_32 rfl rfl))))
 (kn_ok
 (kl_ok (ok_aP (ok_iload dX7_lossOf_33 rfl)))
 (kl_ok (ok_aP (ok_bipush dX7_lossOf_35 (by decide +kernel) rfl)))))
 (kn_ok
 (kn_ok
 (kl_ok (ok_aP (ok_iload dX7_lossOf_37 rfl)))
 (kl_ok (ok_aP (ok_iadd dX7_lossOf_39 rfl))))
 (kn_ok
 (kl_ok (ok_callV (List.forall_mem_cons.mpr ⟨run_V (C0 := "FavourTownModel") rfl rfl (by rw [hm]; rfl) q2059 q2061 qs52 q92 q2062 ⟨nh_1, dl_6⟩ (by decide) dX7_lossOf_40, (fun _ h => absurd h List.not_mem_nil)⟩) rfl))
 (kl_ok (ok_aP (ok_iload_n dX7_lossOf_43 rfl rfl))))))
 (kn_ok
 (kn_ok
 (kn_ok
 (kl_ok (ok_aP (ok_icmp_ne dX7_lossOf_44 rfl rfl)))
 (kl_ok (ok_aP (ok_aload_n dX7_lossOf_47 rfl rfl))))
 (kn_ok
 (kl_ok (ok_aP (ok_iload dX7_lossOf_48 rfl)))
 (kl_ok (ok_aP (ok_bipush dX7_lossOf_50 (by decide +kernel) rfl)))))
 (kn_ok
 (kn_ok
 (kl_ok (ok_aP (ok_iload dX7_lossOf_52 rfl)))
 (kl_ok (ok_aP (ok_iadd dX7_lossOf_54 rfl))))
 (kn_ok
 (kl_ok (ok_aP (ok_iconst dX7_lossOf_55 rfl rfl)))
 (kn_ok
 (kl_ok (ok_aP (ok_isub dX7_lossOf_56 rfl)))
 (kl_ok (ok_callV (List.forall_mem_cons.mpr ⟨run_V (C0 := "FavourTownModel") rfl rfl (by rw [hm]; rfl) q2059 q2061 qs52 q92 q2062 ⟨nh_1, dl_6⟩ (by decide) dX7_lossOf_57, (fun _ h => absurd h List.not_mem_nil)⟩) rfl))))))))
 (kn_ok
 (kn_ok
 (kn_ok
 (kn_ok
 (kn_ok
 (kl_ok (ok_aP (ok_iload_n dX7_lossOf_60 rfl rfl)))
 (kl_ok (ok_aP (ok_icmp_ne dX7_lossOf_61 rfl rfl))))
 (kn_ok
 (kl_ok (ok_aP (ok_iload_n dX7_lossOf_64 rfl rfl)))
 (kl_ok (ok_aP (ok_aload_n dX7_lossOf_65 rfl rfl)))))
 (kn_ok
 (kn_ok
 (kl_ok (ok_aP (ok_iload dX7_lossOf_66 rfl)))
 (kl_ok (ok_aP (ok_iconst dX7_lossOf_68 rfl rfl))))
 (kn_ok
 (kl_ok (ok_callV (List.forall_mem_cons.mpr ⟨run_V (C0 := "FavourTownModel") rfl rfl (by rw [hm]; rfl) q2059 q2061 qs52 q92 q2062 ⟨nh_1, dl_6⟩ (by decide) dX7_lossOf_69, (fun _ h => absurd h List.not_mem_nil)⟩) rfl))
 (kl_ok (ok_aP (ok_icmp_ne dX7_lossOf_72 rfl rfl))))))
 (kn_ok
 (kn_ok
 (kn_ok
 (kl_ok (ok_aP (ok_goto dX7_lossOf_75 rfl)))
 (kl_ok (ok_aP (ok_iload_n dX7_lossOf_78 rfl rfl))))
 (kn_ok
 (kl_ok (ok_aP (ok_aload_n dX7_lossOf_79 rfl rfl)))
 (kl_ok (ok_aP (ok_iload dX7_lossOf_80 rfl)))))
 (kn_ok
 (kn_ok
 (kl_ok (ok_aP (ok_iconst dX7_lossOf_82 rfl rfl)))
 (kl_ok (ok_callV (List.forall_mem_cons.mpr ⟨run_V (C0 := "FavourTownModel") rfl rfl (by rw [hm]; rfl) q2059 q2061 qs52 q92 q2062 ⟨nh_1, dl_6⟩ (by decide) dX7_lossOf_83, (fun _ h => absurd h List.not_mem_nil)⟩) rfl)))
 (kn_ok
 (kl_ok (ok_aP (ok_iload dX7_lossOf_86 rfl)))
 (kn_ok
 (kl_ok (ok_aP (ok_iconst dX7_lossOf_88 rfl rfl)))
 (kl_ok (ok_aP (ok_isub dX7_lossOf_89 rfl))))))))
 (kn_ok
 (kn_ok
 (kn_ok
 (kn_ok
 (kl_ok (ok_callS (run_S (by rw [hm]; rfl) q2067 q2068 q92 q2069 ⟨nh_1, dl_6⟩ (by decide) dX7_lossOf_90) rfl))
 (kl_ok (ok_aP (ok_aload_n dX7_lossOf_93 rfl rfl))))
 (kn_ok
 (kl_ok (ok_aP (ok_iload dX7_lossOf_94 rfl)))
 (kl_ok (ok_aP (ok_iconst dX7_lossOf_96 rfl rfl)))))
 (kn_ok
 (kn_ok
 (kl_ok (ok_callV (List.forall_mem_cons.mpr ⟨run_V (C0 := "FavourTownModel") rfl rfl (by rw [hm]; rfl) q2059 q2061 qs52 q92 q2062 ⟨nh_1, dl_6⟩ (by decide) dX7_lossOf_97, (fun _ h => absurd h List.not_mem_nil)⟩) rfl))
 (kl_ok (ok_aP (ok_iload dX7_lossOf_100 rfl))))
 (kn_ok
 (kl_ok (ok_aP (ok_iconst dX7_lossOf_102 rfl rfl)))
 (kn_ok
 (kl_ok (ok_aP (ok_isub dX7_lossOf_103 rfl)))
 (kl_ok (ok_callS (run_S (by rw [hm]; rfl) q2067 q2068 q92 q2069 ⟨nh_1, dl_6⟩ (by decide) dX7_lossOf_104) rfl))))))
 (kn_ok
 (kn_ok
 (kn_ok
 (kl_ok (ok_aP (ok_isub dX7_lossOf_107 rfl)))
 (kl_ok (ok_aP (ok_iadd dX7_lossOf_108 rfl))))
 (kn_ok
 (kl_ok (ok_aP (ok_istore_n dX7_lossOf_109 rfl rfl)))
 (kl_ok (ok_aP (ok_iinc dX7_lossOf_110 (by decide +kernel) rfl)))))
 (kn_ok
 (kn_ok
 (kl_ok (ok_aP (ok_goto dX7_lossOf_113 rfl)))
 (kl_ok (ok_aP (ok_iinc dX7_lossOf_116 (by decide +kernel) rfl))))
 (kn_ok
 (kl_ok (ok_aP (ok_goto dX7_lossOf_119 rfl)))
 (kn_ok
 (kl_ok (ok_aP (ok_iload_n dX7_lossOf_122 rfl rfl)))
 (kl_ok (ok_iret rfl dX7_lossOf_123))))))))
/-- 233: FavourTownModel.ruined(I)I -/
noncomputable def k_X7_ruined : Nat → Option AOp :=
 tn 35 (tn 18 (tn 9 (tn 2 (tn 1 (tl 0 (aP (f_aload 0 1)))
  (tl 1 (aP (f_aload 0 2))))
  (tn 3 (tl 2 (aP (f_iload 1 3)))
  (tn 6 (tl 3 (o_callV (lkN [(18, 188)]) 1 6))
  (tl 6 (aP (f_if (fun x => decide (¬ x = 0)) 13 9))))))
  (tn 13 (tn 10 (tl 9 (aP (f_const (.int (nI 1)) 10)))
  (tl 10 (aP (f_goto 14))))
  (tn 14 (tl 13 (aP (f_const (.int (nI 0)) 14)))
  (tn 17 (tl 14 (o_putf [18] 0 vI 17))
  (tl 17 (aP (f_aload 0 18)))))))
  (tn 27 (tn 24 (tn 21 (tl 18 (aP (f_getf [18] 0 21)))
  (tl 21 (aP (f_if (fun x => decide (x ≤ 0)) 26 24))))
  (tn 25 (tl 24 (aP (f_const (.int (nI 0)) 25)))
  (tn 26 (tl 25 (o_iret (fun _ => true)))
  (tl 26 (aP (f_const (.int (-1)) 27))))))
  (tn 30 (tn 28 (tl 27 (aP (f_istore 2 28)))
  (tn 29 (tl 28 (aP (f_const (.int (nI 0)) 29)))
  (tl 29 (aP (f_istore 3 30)))))
  (tn 31 (tl 30 (aP (f_const (.int (nI 0)) 31)))
  (tn 33 (tl 31 (aP (f_istore 4 33)))
  (tl 33 (aP (f_iload 4 35))))))))
  (tn 55 (tn 44 (tn 39 (tn 36 (tl 35 (aP (f_aload 0 36)))
  (tl 36 (aP (f_getf [18] 1 39))))
  (tn 40 (tl 39 (aP (f_const (.int (nI 1)) 40)))
  (tn 41 (tl 40 (aP (f_iald 0 41)))
  (tl 41 (aP (f_icmp (fun x y => decide (y ≤ x)) 74 44))))))
  (tn 48 (tn 45 (tl 44 (aP (f_aload 0 45)))
  (tn 46 (tl 45 (aP (f_iload 1 46)))
  (tl 46 (aP (f_iload 4 48)))))
  (tn 51 (tl 48 (o_callV (lkN [(18, 232)]) 2 51))
  (tn 53 (tl 51 (aP (f_istore 5 53)))
  (tl 53 (aP (f_iload 5 55)))))))
  (tn 65 (tn 59 (tn 56 (tl 55 (aP (f_iload 3 56)))
  (tl 56 (aP (f_icmp (fun x y => decide (y < x)) 62 59))))
  (tn 62 (tl 59 (aP (f_goto 68)))
  (tn 64 (tl 62 (aP (f_iload 4 64)))
  (tl 64 (aP (f_istore 2 65))))))
  (tn 71 (tn 67 (tl 65 (aP (f_iload 5 67)))
  (tn 68 (tl 67 (aP (f_istore 3 68)))
  (tl 68 (aP (f_iinc 4 (nI 1) 71)))))
  (tn 74 (tl 71 (aP (f_goto 33)))
  (tn 75 (tl 74 (aP (f_iload 2 75)))
  (tl 75 (o_iret (fun _ => true))))))))
theorem kok_X7_ruined {γ : AG} (hm : γ.2.2.2.2.1 = mTab) (hk : γ.2.2.2.2.2 = kTab) : KOK γ m_X7_ruined k_X7_ruined :=
 kn_ok
 (kn_ok
 (kn_ok
 (kn_ok
 (kn_ok
 (kl_ok (ok_aP (ok_aload_n dX7_ruined_0 rfl rfl)))
 (kl_ok (ok_aP (ok_aload_n dX7_ruined_1 rfl rfl))))
 (kn_ok
 (kl_ok (ok_aP (ok_iload_n dX7_ruined_2 rfl rfl)))
 (kn_ok
 (kl_ok (ok_callV (List.forall_mem_cons.mpr ⟨run_V (C0 := "FavourTownModel") rfl rfl (by rw [hm]; rfl) q2115 q2117 qs61 q92 q2118 ⟨nh_1, dl_2⟩ (by decide) dX7_ruined_3, (fun _ h => absurd h List.not_mem_nil)⟩) rfl))
 (kl_ok (ok_aP (ok_if_ne dX7_ruined_6 rfl rfl))))))
 (kn_ok
 (kn_ok
 (kl_ok (ok_aP (ok_iconst dX7_ruined_9 rfl rfl)))
 (kl_ok (ok_aP (ok_goto dX7_ruined_10 rfl))))
 (kn_ok
 (kl_ok (ok_aP (ok_iconst dX7_ruined_13 rfl rfl)))
 (kn_ok
 (kl_ok (ok_hp (ok_putf fo_53 fs_rf fn_36 (Or.inl q1839) pd_0 vI_ok dX7_ruined_14 rfl) le_putf))
 (kl_ok (ok_aP (ok_aload_n dX7_ruined_17 rfl rfl)))))))
 (kn_ok
 (kn_ok
 (kn_ok
 (kl_ok (ok_aP (ok_getf fo_53 fs_rf (Or.inl q1839) dX7_ruined_18 rfl)))
 (kl_ok (ok_aP (ok_if_le dX7_ruined_21 rfl rfl))))
 (kn_ok
 (kl_ok (ok_aP (ok_iconst dX7_ruined_24 rfl rfl)))
 (kn_ok
 (kl_ok (ok_iret rfl dX7_ruined_25))
 (kl_ok (ok_aP (ok_iconst dX7_ruined_26 rfl rfl))))))
 (kn_ok
 (kn_ok
 (kl_ok (ok_aP (ok_istore_n dX7_ruined_27 rfl rfl)))
 (kn_ok
 (kl_ok (ok_aP (ok_iconst dX7_ruined_28 rfl rfl)))
 (kl_ok (ok_aP (ok_istore_n dX7_ruined_29 rfl rfl)))))
 (kn_ok
 (kl_ok (ok_aP (ok_iconst dX7_ruined_30 rfl rfl)))
 (kn_ok
 (kl_ok (ok_aP (ok_istore dX7_ruined_31 rfl)))
 (kl_ok (ok_aP (ok_iload dX7_ruined_33 rfl))))))))
 (kn_ok
 (kn_ok
 (kn_ok
 (kn_ok
 (kl_ok (ok_aP (ok_aload_n dX7_ruined_35 rfl rfl)))
 (kl_ok (ok_aP (ok_getf fo_54 fs_rf (Or.inl q1840) dX7_ruined_36 rfl))))
 (kn_ok
 (kl_ok (ok_aP (ok_iconst dX7_ruined_39 rfl rfl)))
 (kn_ok
 (kl_ok (ok_aP (ok_iald dX7_ruined_40 rfl)))
 (kl_ok (ok_aP (ok_icmp_ge dX7_ruined_41 rfl rfl))))))
 (kn_ok
 (kn_ok
 (kl_ok (ok_aP (ok_aload_n dX7_ruined_44 rfl rfl)))
 (kn_ok
 (kl_ok (ok_aP (ok_iload_n dX7_ruined_45 rfl rfl)))
 (kl_ok (ok_aP (ok_iload dX7_ruined_46 rfl)))))
 (kn_ok
 (kl_ok (ok_callV (List.forall_mem_cons.mpr ⟨run_V (C0 := "FavourTownModel") rfl rfl (by rw [hm]; rfl) q2290 q2292 qs80 q92 q2293 ⟨nh_1, dl_6⟩ (by decide) dX7_ruined_48, (fun _ h => absurd h List.not_mem_nil)⟩) rfl))
 (kn_ok
 (kl_ok (ok_aP (ok_istore dX7_ruined_51 rfl)))
 (kl_ok (ok_aP (ok_iload dX7_ruined_53 rfl)))))))
 (kn_ok
 (kn_ok
 (kn_ok
 (kl_ok (ok_aP (ok_iload_n dX7_ruined_55 rfl rfl)))
 (kl_ok (ok_aP (ok_icmp_gt dX7_ruined_56 rfl rfl))))
 (kn_ok
 (kl_ok (ok_aP (ok_goto dX7_ruined_59 rfl)))
 (kn_ok
 (kl_ok (ok_aP (ok_iload dX7_ruined_62 rfl)))
 (kl_ok (ok_aP (ok_istore_n dX7_ruined_64 rfl rfl))))))
 (kn_ok
 (kn_ok
 (kl_ok (ok_aP (ok_iload dX7_ruined_65 rfl)))
 (kn_ok
 (kl_ok (ok_aP (ok_istore_n dX7_ruined_67 rfl rfl)))
 (kl_ok (ok_aP (ok_iinc dX7_ruined_68 (by decide +kernel) rfl)))))
 (kn_ok
 (kl_ok (ok_aP (ok_goto dX7_ruined_71 rfl)))
 (kn_ok
 (kl_ok (ok_aP (ok_iload_n dX7_ruined_74 rfl rfl)))
 (kl_ok (ok_iret rfl dX7_ruined_75)))))))
/-- 234: FavourTownModel.fits(I)I -/
noncomputable def k_X7_fits : Nat → Option AOp :=
 tn 48 (tn 24 (tn 11 (tn 5 (tn 1 (tl 0 (aP (f_aload 0 1)))
  (tn 4 (tl 1 (aP (f_getf [18] 6 4)))
  (tl 4 (aP (f_istore 2 5)))))
  (tn 7 (tn 6 (tl 5 (aP (f_aload 0 6)))
  (tl 6 (aP (f_const (.int (nI 0)) 7))))
  (tn 10 (tl 7 (o_putf [18] 6 vI 10))
  (tl 10 (aP (f_aload 0 11))))))
  (tn 16 (tn 12 (tl 11 (aP (f_aload 0 12)))
  (tn 13 (tl 12 (aP (f_iload 1 13)))
  (tl 13 (o_callV (lkN [(18, 191)]) 1 16))))
  (tn 20 (tn 19 (tl 16 (aP (f_if (fun x => decide (¬ x = 0)) 23 19)))
  (tl 19 (aP (f_const (.int (nI 1)) 20))))
  (tn 23 (tl 20 (aP (f_goto 24)))
  (tl 23 (aP (f_const (.int (nI 0)) 24)))))))
  (tn 37 (tn 31 (tn 27 (tl 24 (o_putf [18] 0 vI 27))
  (tn 28 (tl 27 (aP (f_aload 0 28)))
  (tl 28 (aP (f_getf [18] 0 31)))))
  (tn 35 (tn 34 (tl 31 (aP (f_if (fun x => decide (x ≤ 0)) 36 34)))
  (tl 34 (aP (f_const (.int (nI 0)) 35))))
  (tn 36 (tl 35 (o_iret (fun _ => true)))
  (tl 36 (aP (f_const (.int (nI 0)) 37))))))
  (tn 43 (tn 39 (tn 38 (tl 37 (aP (f_istore 3 38)))
  (tl 38 (aP (f_iload 3 39))))
  (tn 40 (tl 39 (aP (f_iload 2 40)))
  (tl 40 (aP (f_icmp (fun x y => decide (y ≤ x)) 81 43)))))
  (tn 45 (tn 44 (tl 43 (aP (f_iload 3 44)))
  (tl 44 (aP (f_aload 0 45))))
  (tn 46 (tl 45 (aP (f_iload 1 46)))
  (tl 46 (aP (f_const (.int (nI 6)) 48))))))))
  (tn 75 (tn 62 (tn 55 (tn 51 (tl 48 (o_callV (lkN [(18, 175)]) 2 51))
  (tn 54 (tl 51 (aP (f_icmp (fun x y => decide (y ≤ x)) 81 54)))
  (tl 54 (aP (f_aload 0 55)))))
  (tn 59 (tn 58 (tl 55 (aP (f_getf [18] 5 58)))
  (tl 58 (aP (f_iload 3 59))))
  (tn 60 (tl 59 (aP (f_iald 0 60)))
  (tl 60 (aP (f_const (.int (nI 97)) 62))))))
  (tn 67 (tn 64 (tn 63 (tl 62 (aP (f_bin (fun x y => x - y) 63)))
  (tl 63 (aP (f_aload 0 64))))
  (tn 65 (tl 64 (aP (f_iload 1 65)))
  (tl 65 (aP (f_const (.int (nI 7)) 67)))))
  (tn 69 (tn 68 (tl 67 (aP (f_iload 3 68)))
  (tl 68 (aP (f_bin (fun x y => x + y) 69))))
  (tn 72 (tl 69 (o_callV (lkN [(18, 175)]) 2 72))
  (tl 72 (aP (f_icmp (fun x y => decide (¬ x = y)) 81 75)))))))
  (tn 88 (tn 82 (tn 78 (tl 75 (aP (f_iinc 3 (nI 1) 78)))
  (tn 81 (tl 78 (aP (f_goto 38)))
  (tl 81 (aP (f_iload 3 82)))))
  (tn 86 (tn 83 (tl 82 (aP (f_iload 2 83)))
  (tl 83 (aP (f_icmp (fun x y => decide (¬ x = y)) 101 86))))
  (tn 87 (tl 86 (aP (f_iload 3 87)))
  (tl 87 (aP (f_aload 0 88))))))
  (tn 97 (tn 91 (tn 89 (tl 88 (aP (f_iload 1 89)))
  (tl 89 (aP (f_const (.int (nI 6)) 91))))
  (tn 94 (tl 91 (o_callV (lkN [(18, 175)]) 2 94))
  (tl 94 (aP (f_icmp (fun x y => decide (¬ x = y)) 101 97)))))
  (tn 101 (tn 98 (tl 97 (aP (f_const (.int (-1)) 98)))
  (tl 98 (aP (f_goto 102))))
  (tn 102 (tl 101 (aP (f_iload 3 102)))
  (tl 102 (o_iret (fun _ => true))))))))
theorem kok_X7_fits {γ : AG} (hm : γ.2.2.2.2.1 = mTab) (hk : γ.2.2.2.2.2 = kTab) : KOK γ m_X7_fits k_X7_fits :=
 kn_ok
 (kn_ok
 (kn_ok
 (kn_ok
 (kn_ok
 (kl_ok (ok_aP (ok_aload_n dX7_fits_0 rfl rfl)))
 (kn_ok
 (kl_ok (ok_aP (ok_getf fo_74 fs_rf (Or.inl q1845) dX7_fits_1 rfl)))
 (kl_ok (ok_aP (ok_istore_n dX7_fits_4 rfl rfl)))))
 (kn_ok
 (kn_ok
 (kl_ok (ok_aP (ok_aload_n dX7_fits_5 rfl rfl)))
 (kl_ok (ok_aP (ok_iconst dX7_fits_6 rfl rfl))))
 (kn_ok
 (kl_ok (ok_hp (ok_putf fo_74 fs_rf fn_50 (Or.inl q1845) pd_0 vI_ok dX7_fits_7 rfl) le_putf))
 (kl_ok (ok_aP (ok_aload_n dX7_fits_10 rfl rfl))))))
 (kn_ok
 (kn_ok
 (kl_ok (ok_aP (ok_aload_n dX7_fits_11 rfl rfl)))
 (kn_ok
 (kl_ok (ok_aP (ok_iload_n dX7_fits_12 rfl rfl)))
 (kl_ok (ok_callV (List.forall_mem_cons.mpr ⟨run_V (C0 := "FavourTownModel") rfl rfl (by rw [hm]; rfl) q2127 q2129 qs62 q92 q2130 ⟨nh_1, dl_2⟩ (by decide) dX7_fits_13, (fun _ h => absurd h List.not_mem_nil)⟩) rfl))))
 (kn_ok
 (kn_ok
 (kl_ok (ok_aP (ok_if_ne dX7_fits_16 rfl rfl)))
 (kl_ok (ok_aP (ok_iconst dX7_fits_19 rfl rfl))))
 (kn_ok
 (kl_ok (ok_aP (ok_goto dX7_fits_20 rfl)))
 (kl_ok (ok_aP (ok_iconst dX7_fits_23 rfl rfl)))))))
 (kn_ok
 (kn_ok
 (kn_ok
 (kl_ok (ok_hp (ok_putf fo_53 fs_rf fn_36 (Or.inl q1839) pd_0 vI_ok dX7_fits_24 rfl) le_putf))
 (kn_ok
 (kl_ok (ok_aP (ok_aload_n dX7_fits_27 rfl rfl)))
 (kl_ok (ok_aP (ok_getf fo_53 fs_rf (Or.inl q1839) dX7_fits_28 rfl)))))
 (kn_ok
 (kn_ok
 (kl_ok (ok_aP (ok_if_le dX7_fits_31 rfl rfl)))
 (kl_ok (ok_aP (ok_iconst dX7_fits_34 rfl rfl))))
 (kn_ok
 (kl_ok (ok_iret rfl dX7_fits_35))
 (kl_ok (ok_aP (ok_iconst dX7_fits_36 rfl rfl))))))
 (kn_ok
 (kn_ok
 (kn_ok
 (kl_ok (ok_aP (ok_istore_n dX7_fits_37 rfl rfl)))
 (kl_ok (ok_aP (ok_iload_n dX7_fits_38 rfl rfl))))
 (kn_ok
 (kl_ok (ok_aP (ok_iload_n dX7_fits_39 rfl rfl)))
 (kl_ok (ok_aP (ok_icmp_ge dX7_fits_40 rfl rfl)))))
 (kn_ok
 (kn_ok
 (kl_ok (ok_aP (ok_iload_n dX7_fits_43 rfl rfl)))
 (kl_ok (ok_aP (ok_aload_n dX7_fits_44 rfl rfl))))
 (kn_ok
 (kl_ok (ok_aP (ok_iload_n dX7_fits_45 rfl rfl)))
 (kl_ok (ok_aP (ok_bipush dX7_fits_46 (by decide +kernel) rfl))))))))
 (kn_ok
 (kn_ok
 (kn_ok
 (kn_ok
 (kl_ok (ok_callV (List.forall_mem_cons.mpr ⟨run_V (C0 := "FavourTownModel") rfl rfl (by rw [hm]; rfl) q2059 q2061 qs52 q92 q2062 ⟨nh_1, dl_6⟩ (by decide) dX7_fits_48, (fun _ h => absurd h List.not_mem_nil)⟩) rfl))
 (kn_ok
 (kl_ok (ok_aP (ok_icmp_ge dX7_fits_51 rfl rfl)))
 (kl_ok (ok_aP (ok_aload_n dX7_fits_54 rfl rfl)))))
 (kn_ok
 (kn_ok
 (kl_ok (ok_aP (ok_getf fo_71 fs_rf (Or.inl q1844) dX7_fits_55 rfl)))
 (kl_ok (ok_aP (ok_iload_n dX7_fits_58 rfl rfl))))
 (kn_ok
 (kl_ok (ok_aP (ok_iald dX7_fits_59 rfl)))
 (kl_ok (ok_aP (ok_bipush dX7_fits_60 (by decide +kernel) rfl))))))
 (kn_ok
 (kn_ok
 (kn_ok
 (kl_ok (ok_aP (ok_isub dX7_fits_62 rfl)))
 (kl_ok (ok_aP (ok_aload_n dX7_fits_63 rfl rfl))))
 (kn_ok
 (kl_ok (ok_aP (ok_iload_n dX7_fits_64 rfl rfl)))
 (kl_ok (ok_aP (ok_bipush dX7_fits_65 (by decide +kernel) rfl)))))
 (kn_ok
 (kn_ok
 (kl_ok (ok_aP (ok_iload_n dX7_fits_67 rfl rfl)))
 (kl_ok (ok_aP (ok_iadd dX7_fits_68 rfl))))
 (kn_ok
 (kl_ok (ok_callV (List.forall_mem_cons.mpr ⟨run_V (C0 := "FavourTownModel") rfl rfl (by rw [hm]; rfl) q2059 q2061 qs52 q92 q2062 ⟨nh_1, dl_6⟩ (by decide) dX7_fits_69, (fun _ h => absurd h List.not_mem_nil)⟩) rfl))
 (kl_ok (ok_aP (ok_icmp_ne dX7_fits_72 rfl rfl)))))))
 (kn_ok
 (kn_ok
 (kn_ok
 (kl_ok (ok_aP (ok_iinc dX7_fits_75 (by decide +kernel) rfl)))
 (kn_ok
 (kl_ok (ok_aP (ok_goto dX7_fits_78 rfl)))
 (kl_ok (ok_aP (ok_iload_n dX7_fits_81 rfl rfl)))))
 (kn_ok
 (kn_ok
 (kl_ok (ok_aP (ok_iload_n dX7_fits_82 rfl rfl)))
 (kl_ok (ok_aP (ok_icmp_ne dX7_fits_83 rfl rfl))))
 (kn_ok
 (kl_ok (ok_aP (ok_iload_n dX7_fits_86 rfl rfl)))
 (kl_ok (ok_aP (ok_aload_n dX7_fits_87 rfl rfl))))))
 (kn_ok
 (kn_ok
 (kn_ok
 (kl_ok (ok_aP (ok_iload_n dX7_fits_88 rfl rfl)))
 (kl_ok (ok_aP (ok_bipush dX7_fits_89 (by decide +kernel) rfl))))
 (kn_ok
 (kl_ok (ok_callV (List.forall_mem_cons.mpr ⟨run_V (C0 := "FavourTownModel") rfl rfl (by rw [hm]; rfl) q2059 q2061 qs52 q92 q2062 ⟨nh_1, dl_6⟩ (by decide) dX7_fits_91, (fun _ h => absurd h List.not_mem_nil)⟩) rfl))
 (kl_ok (ok_aP (ok_icmp_ne dX7_fits_94 rfl rfl)))))
 (kn_ok
 (kn_ok
 (kl_ok (ok_aP (ok_iconst dX7_fits_97 rfl rfl)))
 (kl_ok (ok_aP (ok_goto dX7_fits_98 rfl))))
 (kn_ok
 (kl_ok (ok_aP (ok_iload_n dX7_fits_101 rfl rfl)))
 (kl_ok (ok_iret rfl dX7_fits_102)))))))
/-- 235: FavourTownModel.play(III)I -/
noncomputable def k_X7_play : Nat → Option AOp :=
 tn 208 (tn 101 (tn 52 (tn 24 (tn 11 (tn 3 (tn 1 (tl 0 (aP (f_aload 0 1)))
  (tn 2 (tl 1 (aP (f_iload 2 2)))
  (tl 2 (aP (f_const (.int (nI 0)) 3)))))
  (tn 5 (tl 3 (aP (f_const (.int (nI 60)) 5)))
  (tn 8 (tl 5 (o_callS 153 3 8))
  (tl 8 (aP (f_if (fun x => decide (¬ x = 0)) 15 11))))))
  (tn 16 (tn 12 (tl 11 (aP (f_const (.int (nI 1)) 12)))
  (tn 15 (tl 12 (aP (f_goto 29)))
  (tl 15 (aP (f_iload 3 16)))))
  (tn 18 (tn 17 (tl 16 (aP (f_const (.int (nI 0)) 17)))
  (tl 17 (aP (f_const (.int (nI 5)) 18))))
  (tn 21 (tl 18 (o_callS 153 3 21))
  (tl 21 (aP (f_if (fun x => decide (¬ x = 0)) 28 24)))))))
  (tn 39 (tn 29 (tn 25 (tl 24 (aP (f_const (.int (nI 2)) 25)))
  (tn 28 (tl 25 (aP (f_goto 29)))
  (tl 28 (aP (f_const (.int (nI 0)) 29)))))
  (tn 33 (tn 32 (tl 29 (o_putf [18] 0 vI 32))
  (tl 32 (aP (f_aload 0 33))))
  (tn 36 (tl 33 (aP (f_getf [18] 0 36)))
  (tl 36 (aP (f_if (fun x => decide (x ≤ 0)) 41 39))))))
  (tn 42 (tn 40 (tl 39 (aP (f_const (.int (nI 0)) 40)))
  (tn 41 (tl 40 (o_iret (fun _ => true)))
  (tl 41 (aP (f_const (.int (nI 0)) 42)))))
  (tn 46 (tn 44 (tl 42 (aP (f_istore 4 44)))
  (tl 44 (aP (f_iload 4 46))))
  (tn 49 (tl 46 (aP (f_const (.int (nI 940)) 49)))
  (tl 49 (aP (f_icmp (fun x y => decide (y ≤ x)) 72 52))))))))
  (tn 78 (tn 65 (tn 58 (tn 53 (tl 52 (aP (f_aload 0 53)))
  (tn 56 (tl 53 (aP (f_getf [18] 4 56)))
  (tl 56 (aP (f_iload 4 58)))))
  (tn 62 (tn 59 (tl 58 (aP (f_aload 0 59)))
  (tl 59 (aP (f_getf [18] 1 62))))
  (tn 64 (tl 62 (aP (f_iload 4 64)))
  (tl 64 (aP (f_iald 0 65))))))
  (tn 72 (tn 66 (tl 65 (o_iast 0 (fun y => y) 66))
  (tn 69 (tl 66 (aP (f_iinc 4 (nI 1) 69)))
  (tl 69 (aP (f_goto 44)))))
  (tn 74 (tn 73 (tl 72 (aP (f_aload 0 73)))
  (tl 73 (aP (f_iload 1 74))))
  (tn 77 (tl 74 (o_putf [18] 28 vI 77))
  (tl 77 (aP (f_const (.int (nI 0)) 78)))))))
  (tn 89 (tn 83 (tn 80 (tl 78 (aP (f_istore 4 80)))
  (tn 81 (tl 80 (aP (f_const (.int (nI 0)) 81)))
  (tl 81 (aP (f_istore 5 83)))))
  (tn 86 (tn 84 (tl 83 (aP (f_const (.int (nI 0)) 84)))
  (tl 84 (aP (f_istore 6 86))))
  (tn 87 (tl 86 (aP (f_const (.int (nI 0)) 87)))
  (tl 87 (aP (f_istore 7 89))))))
  (tn 95 (tn 91 (tl 89 (aP (f_iload 7 91)))
  (tn 92 (tl 91 (aP (f_iload 2 92)))
  (tl 92 (aP (f_icmp (fun x y => decide (y ≤ x)) 233 95)))))
  (tn 98 (tn 96 (tl 95 (aP (f_const (.int (nI 0)) 96)))
  (tl 96 (aP (f_istore 8 98))))
  (tn 100 (tl 98 (aP (f_iload 8 100)))
  (tl 100 (aP (f_aload 0 101)))))))))
  (tn 155 (tn 128 (tn 114 (tn 106 (tn 104 (tl 101 (aP (f_getf [18] 1 104)))
  (tn 105 (tl 104 (aP (f_const (.int (nI 1)) 105)))
  (tl 105 (aP (f_iald 0 106)))))
  (tn 110 (tn 109 (tl 106 (aP (f_icmp (fun x y => decide (y ≤ x)) 221 109)))
  (tl 109 (aP (f_aload 0 110))))
  (tn 111 (tl 110 (aP (f_aload 0 111)))
  (tl 111 (aP (f_getf [18] 1 114))))))
  (tn 119 (tn 115 (tl 114 (aP (f_const (.int (nI 1)) 115)))
  (tn 116 (tl 115 (aP (f_iald 0 116)))
  (tl 116 (o_callV (lkN [(18, 236)]) 1 119))))
  (tn 123 (tn 121 (tl 119 (aP (f_istore 9 121)))
  (tl 121 (aP (f_iload 9 123))))
  (tn 125 (tl 123 (aP (f_iload 8 125)))
  (tl 125 (aP (f_icmp (fun x y => decide (¬ x = y)) 131 128)))))))
  (tn 141 (tn 134 (tn 131 (tl 128 (aP (f_goto 215)))
  (tn 132 (tl 131 (aP (f_aload 0 132)))
  (tl 132 (aP (f_const (.int (nI 9)) 134)))))
  (tn 138 (tn 137 (tl 134 (o_callV (lkN [(18, 236)]) 1 137))
  (tl 137 (aP (f_const (.int (nI 1)) 138))))
  (tn 139 (tl 138 (aP (f_bin (fun x y => x + y) 139)))
  (tl 139 (aP (f_istore 10 141))))))
  (tn 146 (tn 142 (tl 141 (aP (f_aload 0 142)))
  (tn 144 (tl 142 (aP (f_iload 8 144)))
  (tl 144 (aP (f_iload 9 146)))))
  (tn 151 (tn 148 (tl 146 (aP (f_iload 10 148)))
  (tl 148 (o_callV (lkN [(18, 209)]) 3 151)))
  (tn 153 (tl 151 (aP (f_istore 11 153)))
  (tl 153 (aP (f_iload 6 155))))))))
  (tn 181 (tn 167 (tn 161 (tn 157 (tl 155 (aP (f_iload 11 157)))
  (tn 158 (tl 157 (aP (f_const (.int (-1)) 158)))
  (tl 158 (aP (f_icmp (fun x y => decide (¬ x = y)) 165 161)))))
  (tn 165 (tn 162 (tl 161 (aP (f_const (.int (nI 1)) 162)))
  (tl 162 (aP (f_goto 166))))
  (tn 166 (tl 165 (aP (f_const (.int (nI 0)) 166)))
  (tl 166 (aP (f_bin (fun x y => x + y) 167))))))
  (tn 173 (tn 169 (tl 167 (aP (f_istore 6 169)))
  (tn 171 (tl 169 (aP (f_iload 4 171)))
  (tl 171 (aP (f_iload 11 173)))))
  (tn 177 (tn 174 (tl 173 (aP (f_const (.int (-1)) 174)))
  (tl 174 (aP (f_icmp (fun x y => decide (x = y)) 188 177))))
  (tn 178 (tl 177 (aP (f_aload 0 178)))
  (tl 178 (aP (f_getf [18] 26 181)))))))
  (tn 194 (tn 188 (tn 184 (tl 181 (aP (f_if (fun x => decide (x = 0)) 188 184)))
  (tn 185 (tl 184 (aP (f_const (.int (nI 1)) 185)))
  (tl 185 (aP (f_goto 189)))))
  (tn 190 (tn 189 (tl 188 (aP (f_const (.int (nI 0)) 189)))
  (tl 189 (aP (f_bin (fun x y => x + y) 190))))
  (tn 192 (tl 190 (aP (f_istore 4 192)))
  (tl 192 (aP (f_iload 5 194))))))
  (tn 200 (tn 196 (tl 194 (aP (f_iload 11 196)))
  (tn 197 (tl 196 (aP (f_const (.int (-1)) 197)))
  (tl 197 (aP (f_icmp (fun x y => decide (x = y)) 211 200)))))
  (tn 204 (tn 201 (tl 200 (aP (f_aload 0 201)))
  (tl 201 (aP (f_getf [18] 26 204))))
  (tn 207 (tl 204 (aP (f_if (fun x => decide (¬ x = 0)) 211 207)))
  (tl 207 (aP (f_const (.int (nI 1)) 208))))))))))
  (tn 310 (tn 258 (tn 234 (tn 221 (tn 213 (tn 211 (tl 208 (aP (f_goto 212)))
  (tn 212 (tl 211 (aP (f_const (.int (nI 0)) 212)))
  (tl 212 (aP (f_bin (fun x y => x + y) 213)))))
  (tn 215 (tl 213 (aP (f_istore 5 215)))
  (tn 218 (tl 215 (aP (f_iinc 8 (nI 1) 218)))
  (tl 218 (aP (f_goto 98))))))
  (tn 226 (tn 222 (tl 221 (aP (f_aload 0 222)))
  (tn 223 (tl 222 (aP (f_const (.int (nI 1)) 223)))
  (tl 223 (o_callV (lkN [(18, 184)]) 1 226))))
  (tn 230 (tn 227 (tl 226 (aP (f_pop 227)))
  (tl 227 (aP (f_iinc 7 (nI 1) 230))))
  (tn 233 (tl 230 (aP (f_goto 89)))
  (tl 233 (aP (f_const (.int (nI 0)) 234)))))))
  (tn 245 (tn 239 (tn 236 (tl 234 (aP (f_istore 7 236)))
  (tn 237 (tl 236 (aP (f_const (.int (nI 0)) 237)))
  (tl 237 (aP (f_istore 8 239)))))
  (tn 242 (tn 240 (tl 239 (aP (f_const (.int (-1)) 240)))
  (tl 240 (aP (f_istore 9 242))))
  (tn 243 (tl 242 (aP (f_const (.int (nI 0)) 243)))
  (tl 243 (aP (f_istore 10 245))))))
  (tn 251 (tn 247 (tl 245 (aP (f_iload 10 247)))
  (tn 248 (tl 247 (aP (f_aload 0 248)))
  (tl 248 (aP (f_getf [18] 1 251)))))
  (tn 253 (tn 252 (tl 251 (aP (f_const (.int (nI 3)) 252)))
  (tl 252 (aP (f_iald 0 253))))
  (tn 256 (tl 253 (aP (f_icmp (fun x y => decide (y ≤ x)) 283 256)))
  (tl 256 (aP (f_iload 7 258))))))))
  (tn 284 (tn 270 (tn 262 (tn 259 (tl 258 (aP (f_aload 0 259)))
  (tn 261 (tl 259 (aP (f_iload 10 261)))
  (tl 261 (aP (f_const (.int (nI 2)) 262)))))
  (tn 266 (tn 265 (tl 262 (o_callV (lkN [(18, 175)]) 2 265))
  (tl 265 (aP (f_const (.int (-1)) 266))))
  (tn 269 (tl 266 (aP (f_icmp (fun x y => decide (¬ x = y)) 273 269)))
  (tl 269 (aP (f_const (.int (nI 0)) 270))))))
  (tn 275 (tn 273 (tl 270 (aP (f_goto 274)))
  (tn 274 (tl 273 (aP (f_const (.int (nI 1)) 274)))
  (tl 274 (aP (f_bin (fun x y => x + y) 275)))))
  (tn 280 (tn 277 (tl 275 (aP (f_istore 7 277)))
  (tl 277 (aP (f_iinc 10 (nI 1) 280))))
  (tn 283 (tl 280 (aP (f_goto 245)))
  (tl 283 (aP (f_const (.int (nI 0)) 284)))))))
  (tn 297 (tn 289 (tn 286 (tl 284 (aP (f_istore 10 286)))
  (tn 288 (tl 286 (aP (f_iload 10 288)))
  (tl 288 (aP (f_aload 0 289)))))
  (tn 293 (tn 292 (tl 289 (aP (f_getf [18] 1 292)))
  (tl 292 (aP (f_const (.int (nI 1)) 293))))
  (tn 294 (tl 293 (aP (f_iald 0 294)))
  (tl 294 (aP (f_icmp (fun x y => decide (y ≤ x)) 344 297))))))
  (tn 302 (tn 299 (tl 297 (aP (f_iload 8 299)))
  (tn 300 (tl 299 (aP (f_aload 0 300)))
  (tl 300 (aP (f_iload 10 302)))))
  (tn 306 (tn 305 (tl 302 (o_callV (lkN [(18, 178)]) 1 305))
  (tl 305 (aP (f_bin (fun x y => x + y) 306))))
  (tn 308 (tl 306 (aP (f_istore 8 308)))
  (tl 308 (aP (f_iload 9 310)))))))))
  (tn 369 (tn 341 (tn 323 (tn 315 (tn 311 (tl 310 (aP (f_const (.int (-1)) 311)))
  (tn 314 (tl 311 (aP (f_icmp (fun x y => decide (x = y)) 329 314)))
  (tl 314 (aP (f_aload 0 315)))))
  (tn 320 (tn 317 (tl 315 (aP (f_iload 10 317)))
  (tl 317 (o_callV (lkN [(18, 178)]) 1 320)))
  (tn 321 (tl 320 (aP (f_aload 0 321)))
  (tl 321 (aP (f_iload 9 323))))))
  (tn 331 (tn 326 (tl 323 (o_callV (lkN [(18, 178)]) 1 326))
  (tn 329 (tl 326 (aP (f_icmp (fun x y => decide (x ≤ y)) 334 329)))
  (tl 329 (aP (f_iload 10 331)))))
  (tn 336 (tn 334 (tl 331 (aP (f_goto 336)))
  (tl 334 (aP (f_iload 9 336))))
  (tn 338 (tl 336 (aP (f_istore 9 338)))
  (tl 338 (aP (f_iinc 10 (nI 1) 341)))))))
  (tn 356 (tn 347 (tn 344 (tl 341 (aP (f_goto 286)))
  (tn 345 (tl 344 (aP (f_const (.int (nI 0)) 345)))
  (tl 345 (aP (f_istore 10 347)))))
  (tn 352 (tn 349 (tl 347 (aP (f_iload 10 349)))
  (tl 349 (aP (f_const (.int (nI 940)) 352))))
  (tn 355 (tl 352 (aP (f_icmp (fun x y => decide (y ≤ x)) 375 355)))
  (tl 355 (aP (f_aload 0 356))))))
  (tn 362 (tn 359 (tl 356 (aP (f_getf [18] 1 359)))
  (tn 361 (tl 359 (aP (f_iload 10 361)))
  (tl 361 (aP (f_aload 0 362)))))
  (tn 367 (tn 365 (tl 362 (aP (f_getf [18] 4 365)))
  (tl 365 (aP (f_iload 10 367))))
  (tn 368 (tl 367 (aP (f_iald 0 368)))
  (tl 368 (o_iast 0 (fun y => y) 369)))))))
  (tn 399 (tn 385 (tn 376 (tn 372 (tl 369 (aP (f_iinc 10 (nI 1) 372)))
  (tn 375 (tl 372 (aP (f_goto 347)))
  (tl 375 (aP (f_iload 3 376)))))
  (tn 381 (tn 379 (tl 376 (aP (f_if (fun x => decide (¬ x = 0)) 384 379)))
  (tl 379 (aP (f_iload 4 381))))
  (tn 384 (tl 381 (aP (f_goto 426)))
  (tl 384 (aP (f_iload 3 385))))))
  (tn 391 (tn 386 (tl 385 (aP (f_const (.int (nI 1)) 386)))
  (tn 389 (tl 386 (aP (f_icmp (fun x y => decide (¬ x = y)) 394 389)))
  (tl 389 (aP (f_iload 5 391)))))
  (tn 395 (tn 394 (tl 391 (aP (f_goto 426)))
  (tl 394 (aP (f_iload 3 395))))
  (tn 396 (tl 395 (aP (f_const (.int (nI 2)) 396)))
  (tl 396 (aP (f_icmp (fun x y => decide (¬ x = y)) 404 399)))))))
  (tn 414 (tn 405 (tn 401 (tl 399 (aP (f_iload 6 401)))
  (tn 404 (tl 401 (aP (f_goto 426)))
  (tl 404 (aP (f_iload 3 405)))))
  (tn 409 (tn 406 (tl 405 (aP (f_const (.int (nI 3)) 406)))
  (tl 406 (aP (f_icmp (fun x y => decide (¬ x = y)) 414 409))))
  (tn 411 (tl 409 (aP (f_iload 7 411)))
  (tl 411 (aP (f_goto 426))))))
  (tn 419 (tn 415 (tl 414 (aP (f_iload 3 415)))
  (tn 416 (tl 415 (aP (f_const (.int (nI 4)) 416)))
  (tl 416 (aP (f_icmp (fun x y => decide (¬ x = y)) 424 419)))))
  (tn 424 (tn 421 (tl 419 (aP (f_iload 8 421)))
  (tl 421 (aP (f_goto 426))))
  (tn 426 (tl 424 (aP (f_iload 9 426)))
  (tl 426 (o_iret (fun _ => true))))))))))
theorem kok_X7_play {γ : AG} (hm : γ.2.2.2.2.1 = mTab) (hk : γ.2.2.2.2.2 = kTab) : KOK γ m_X7_play k_X7_play :=
 kn_ok
 (kn_ok
 (kn_ok
 (kn_ok
 (kn_ok
 (kn_ok
 (kn_ok
 (kl_ok (ok_aP (ok_aload_n dX7_play_0 rfl rfl)))
 (kn_ok
 (kl_ok (ok_aP (ok_iload_n dX7_play_1 rfl rfl)))
 (kl_ok (ok_aP (ok_iconst dX7_play_2 rfl rfl)))))
 (kn_ok
 (kl_ok (ok_aP (ok_bipush dX7_play_3 (by decide +kernel) rfl)))
 (kn_ok
 (kl_ok (ok_callS (run_S (by rw [hm]; rfl) q1939 q1940 q92 q1941 ⟨nh_1, dl_17⟩ (by decide) dX7_play_5) rfl))
 (kl_ok (ok_aP (ok_if_ne dX7_play_8 rfl rfl))))))
 (kn_ok
 (kn_ok
 (kl_ok (ok_aP (ok_iconst dX7_play_11 rfl rfl)))
 (kn_ok
 (kl_ok (ok_aP (ok_goto dX7_play_12 rfl)))
 (kl_ok (ok_aP (ok_iload_n dX7_play_15 rfl rfl)))))
 (kn_ok
 (kn_ok
 (kl_ok (ok_aP (ok_iconst dX7_play_16 rfl rfl)))
 (kl_ok (ok_aP (ok_iconst dX7_play_17 rfl rfl))))
 (kn_ok
 (kl_ok (ok_callS (run_S (by rw [hm]; rfl) q1939 q1940 q92 q1941 ⟨nh_1, dl_17⟩ (by decide) dX7_play_18) rfl))
 (kl_ok (ok_aP (ok_if_ne dX7_play_21 rfl rfl)))))))
 (kn_ok
 (kn_ok
 (kn_ok
 (kl_ok (ok_aP (ok_iconst dX7_play_24 rfl rfl)))
 (kn_ok
 (kl_ok (ok_aP (ok_goto dX7_play_25 rfl)))
 (kl_ok (ok_aP (ok_iconst dX7_play_28 rfl rfl)))))
 (kn_ok
 (kn_ok
 (kl_ok (ok_hp (ok_putf fo_53 fs_rf fn_36 (Or.inl q1839) pd_0 vI_ok dX7_play_29 rfl) le_putf))
 (kl_ok (ok_aP (ok_aload_n dX7_play_32 rfl rfl))))
 (kn_ok
 (kl_ok (ok_aP (ok_getf fo_53 fs_rf (Or.inl q1839) dX7_play_33 rfl)))
 (kl_ok (ok_aP (ok_if_le dX7_play_36 rfl rfl))))))
 (kn_ok
 (kn_ok
 (kl_ok (ok_aP (ok_iconst dX7_play_39 rfl rfl)))
 (kn_ok
 (kl_ok (ok_iret rfl dX7_play_40))
 (kl_ok (ok_aP (ok_iconst dX7_play_41 rfl rfl)))))
 (kn_ok
 (kn_ok
 (kl_ok (ok_aP (ok_istore dX7_play_42 rfl)))
 (kl_ok (ok_aP (ok_iload dX7_play_44 rfl))))
 (kn_ok
 (kl_ok (ok_aP (ok_sipush dX7_play_46 (by decide +kernel) rfl)))
 (kl_ok (ok_aP (ok_icmp_ge dX7_play_49 rfl rfl))))))))
 (kn_ok
 (kn_ok
 (kn_ok
 (kn_ok
 (kl_ok (ok_aP (ok_aload_n dX7_play_52 rfl rfl)))
 (kn_ok
 (kl_ok (ok_aP (ok_getf fo_57 fs_rf (Or.inl q1843) dX7_play_53 rfl)))
 (kl_ok (ok_aP (ok_iload dX7_play_56 rfl)))))
 (kn_ok
 (kn_ok
 (kl_ok (ok_aP (ok_aload_n dX7_play_58 rfl rfl)))
 (kl_ok (ok_aP (ok_getf fo_54 fs_rf (Or.inl q1840) dX7_play_59 rfl))))
 (kn_ok
 (kl_ok (ok_aP (ok_iload dX7_play_62 rfl)))
 (kl_ok (ok_aP (ok_iald dX7_play_64 rfl))))))
 (kn_ok
 (kn_ok
 (kl_ok (ok_hp (ok_iast dX7_play_65 rfl) le_iast))
 (kn_ok
 (kl_ok (ok_aP (ok_iinc dX7_play_66 (by decide +kernel) rfl)))
 (kl_ok (ok_aP (ok_goto dX7_play_69 rfl)))))
 (kn_ok
 (kn_ok
 (kl_ok (ok_aP (ok_aload_n dX7_play_72 rfl rfl)))
 (kl_ok (ok_aP (ok_iload_n dX7_play_73 rfl rfl))))
 (kn_ok
 (kl_ok (ok_hp (ok_putf fo_58 fs_rf fn_38 (Or.inl q1867) pd_0 vI_ok dX7_play_74 rfl) le_putf))
 (kl_ok (ok_aP (ok_iconst dX7_play_77 rfl rfl)))))))
 (kn_ok
 (kn_ok
 (kn_ok
 (kl_ok (ok_aP (ok_istore dX7_play_78 rfl)))
 (kn_ok
 (kl_ok (ok_aP (ok_iconst dX7_play_80 rfl rfl)))
 (kl_ok (ok_aP (ok_istore dX7_play_81 rfl)))))
 (kn_ok
 (kn_ok
 (kl_ok (ok_aP (ok_iconst dX7_play_83 rfl rfl)))
 (kl_ok (ok_aP (ok_istore dX7_play_84 rfl))))
 (kn_ok
 (kl_ok (ok_aP (ok_iconst dX7_play_86 rfl rfl)))
 (kl_ok (ok_aP (ok_istore dX7_play_87 rfl))))))
 (kn_ok
 (kn_ok
 (kl_ok (ok_aP (ok_iload dX7_play_89 rfl)))
 (kn_ok
 (kl_ok (ok_aP (ok_iload_n dX7_play_91 rfl rfl)))
 (kl_ok (ok_aP (ok_icmp_ge dX7_play_92 rfl rfl)))))
 (kn_ok
 (kn_ok
 (kl_ok (ok_aP (ok_iconst dX7_play_95 rfl rfl)))
 (kl_ok (ok_aP (ok_istore dX7_play_96 rfl))))
 (kn_ok
 (kl_ok (ok_aP (ok_iload dX7_play_98 rfl)))
 (kl_ok (ok_aP (ok_aload_n dX7_play_100 rfl rfl)))))))))
 (kn_ok
 (kn_ok
 (kn_ok
 (kn_ok
 (kn_ok
 (kl_ok (ok_aP (ok_getf fo_54 fs_rf (Or.inl q1840) dX7_play_101 rfl)))
 (kn_ok
 (kl_ok (ok_aP (ok_iconst dX7_play_104 rfl rfl)))
 (kl_ok (ok_aP (ok_iald dX7_play_105 rfl)))))
 (kn_ok
 (kn_ok
 (kl_ok (ok_aP (ok_icmp_ge dX7_play_106 rfl rfl)))
 (kl_ok (ok_aP (ok_aload_n dX7_play_109 rfl rfl))))
 (kn_ok
 (kl_ok (ok_aP (ok_aload_n dX7_play_110 rfl rfl)))
 (kl_ok (ok_aP (ok_getf fo_54 fs_rf (Or.inl q1840) dX7_play_111 rfl))))))
 (kn_ok
 (kn_ok
 (kl_ok (ok_aP (ok_iconst dX7_play_114 rfl rfl)))
 (kn_ok
 (kl_ok (ok_aP (ok_iald dX7_play_115 rfl)))
 (kl_ok (ok_callV (List.forall_mem_cons.mpr ⟨run_V (C0 := "FavourTownModel") rfl rfl (by rw [hm]; rfl) q2306 q2308 qs81 q92 q2309 ⟨nh_1, dl_10⟩ (by decide) dX7_play_116, (fun _ h => absurd h List.not_mem_nil)⟩) rfl))))
 (kn_ok
 (kn_ok
 (kl_ok (ok_aP (ok_istore dX7_play_119 rfl)))
 (kl_ok (ok_aP (ok_iload dX7_play_121 rfl))))
 (kn_ok
 (kl_ok (ok_aP (ok_iload dX7_play_123 rfl)))
 (kl_ok (ok_aP (ok_icmp_ne dX7_play_125 rfl rfl)))))))
 (kn_ok
 (kn_ok
 (kn_ok
 (kl_ok (ok_aP (ok_goto dX7_play_128 rfl)))
 (kn_ok
 (kl_ok (ok_aP (ok_aload_n dX7_play_131 rfl rfl)))
 (kl_ok (ok_aP (ok_bipush dX7_play_132 (by decide +kernel) rfl)))))
 (kn_ok
 (kn_ok
 (kl_ok (ok_callV (List.forall_mem_cons.mpr ⟨run_V (C0 := "FavourTownModel") rfl rfl (by rw [hm]; rfl) q2306 q2308 qs81 q92 q2309 ⟨nh_1, dl_10⟩ (by decide) dX7_play_134, (fun _ h => absurd h List.not_mem_nil)⟩) rfl))
 (kl_ok (ok_aP (ok_iconst dX7_play_137 rfl rfl))))
 (kn_ok
 (kl_ok (ok_aP (ok_iadd dX7_play_138 rfl)))
 (kl_ok (ok_aP (ok_istore dX7_play_139 rfl))))))
 (kn_ok
 (kn_ok
 (kl_ok (ok_aP (ok_aload_n dX7_play_141 rfl rfl)))
 (kn_ok
 (kl_ok (ok_aP (ok_iload dX7_play_142 rfl)))
 (kl_ok (ok_aP (ok_iload dX7_play_144 rfl)))))
 (kn_ok
 (kn_ok
 (kl_ok (ok_aP (ok_iload dX7_play_146 rfl)))
 (kl_ok (ok_callV (List.forall_mem_cons.mpr ⟨run_V (C0 := "FavourTownModel") rfl rfl (by rw [hm]; rfl) q2199 q2201 qs69 q92 q2202 ⟨nh_1, dl_13⟩ (by decide) dX7_play_148, (fun _ h => absurd h List.not_mem_nil)⟩) rfl)))
 (kn_ok
 (kl_ok (ok_aP (ok_istore dX7_play_151 rfl)))
 (kl_ok (ok_aP (ok_iload dX7_play_153 rfl))))))))
 (kn_ok
 (kn_ok
 (kn_ok
 (kn_ok
 (kl_ok (ok_aP (ok_iload dX7_play_155 rfl)))
 (kn_ok
 (kl_ok (ok_aP (ok_iconst dX7_play_157 rfl rfl)))
 (kl_ok (ok_aP (ok_icmp_ne dX7_play_158 rfl rfl)))))
 (kn_ok
 (kn_ok
 (kl_ok (ok_aP (ok_iconst dX7_play_161 rfl rfl)))
 (kl_ok (ok_aP (ok_goto dX7_play_162 rfl))))
 (kn_ok
 (kl_ok (ok_aP (ok_iconst dX7_play_165 rfl rfl)))
 (kl_ok (ok_aP (ok_iadd dX7_play_166 rfl))))))
 (kn_ok
 (kn_ok
 (kl_ok (ok_aP (ok_istore dX7_play_167 rfl)))
 (kn_ok
 (kl_ok (ok_aP (ok_iload dX7_play_169 rfl)))
 (kl_ok (ok_aP (ok_iload dX7_play_171 rfl)))))
 (kn_ok
 (kn_ok
 (kl_ok (ok_aP (ok_iconst dX7_play_173 rfl rfl)))
 (kl_ok (ok_aP (ok_icmp_eq dX7_play_174 rfl rfl))))
 (kn_ok
 (kl_ok (ok_aP (ok_aload_n dX7_play_177 rfl rfl)))
 (kl_ok (ok_aP (ok_getf fo_59 fs_rf (Or.inl q1865) dX7_play_178 rfl)))))))
 (kn_ok
 (kn_ok
 (kn_ok
 (kl_ok (ok_aP (ok_if_eq dX7_play_181 rfl rfl)))
 (kn_ok
 (kl_ok (ok_aP (ok_iconst dX7_play_184 rfl rfl)))
 (kl_ok (ok_aP (ok_goto dX7_play_185 rfl)))))
 (kn_ok
 (kn_ok
 (kl_ok (ok_aP (ok_iconst dX7_play_188 rfl rfl)))
 (kl_ok (ok_aP (ok_iadd dX7_play_189 rfl))))
 (kn_ok
 (kl_ok (ok_aP (ok_istore dX7_play_190 rfl)))
 (kl_ok (ok_aP (ok_iload dX7_play_192 rfl))))))
 (kn_ok
 (kn_ok
 (kl_ok (ok_aP (ok_iload dX7_play_194 rfl)))
 (kn_ok
 (kl_ok (ok_aP (ok_iconst dX7_play_196 rfl rfl)))
 (kl_ok (ok_aP (ok_icmp_eq dX7_play_197 rfl rfl)))))
 (kn_ok
 (kn_ok
 (kl_ok (ok_aP (ok_aload_n dX7_play_200 rfl rfl)))
 (kl_ok (ok_aP (ok_getf fo_59 fs_rf (Or.inl q1865) dX7_play_201 rfl))))
 (kn_ok
 (kl_ok (ok_aP (ok_if_ne dX7_play_204 rfl rfl)))
 (kl_ok (ok_aP (ok_iconst dX7_play_207 rfl rfl))))))))))
 (kn_ok
 (kn_ok
 (kn_ok
 (kn_ok
 (kn_ok
 (kn_ok
 (kl_ok (ok_aP (ok_goto dX7_play_208 rfl)))
 (kn_ok
 (kl_ok (ok_aP (ok_iconst dX7_play_211 rfl rfl)))
 (kl_ok (ok_aP (ok_iadd dX7_play_212 rfl)))))
 (kn_ok
 (kl_ok (ok_aP (ok_istore dX7_play_213 rfl)))
 (kn_ok
 (kl_ok (ok_aP (ok_iinc dX7_play_215 (by decide +kernel) rfl)))
 (kl_ok (ok_aP (ok_goto dX7_play_218 rfl))))))
 (kn_ok
 (kn_ok
 (kl_ok (ok_aP (ok_aload_n dX7_play_221 rfl rfl)))
 (kn_ok
 (kl_ok (ok_aP (ok_iconst dX7_play_222 rfl rfl)))
 (kl_ok (ok_callV (List.forall_mem_cons.mpr ⟨run_V (C0 := "FavourTownModel") rfl rfl (by rw [hm]; rfl) q2097 q2099 qs60 q92 q2100 ⟨nh_1, dl_10⟩ (by decide) dX7_play_223, (fun _ h => absurd h List.not_mem_nil)⟩) rfl))))
 (kn_ok
 (kn_ok
 (kl_ok (ok_aP (ok_pop dX7_play_226 rfl)))
 (kl_ok (ok_aP (ok_iinc dX7_play_227 (by decide +kernel) rfl))))
 (kn_ok
 (kl_ok (ok_aP (ok_goto dX7_play_230 rfl)))
 (kl_ok (ok_aP (ok_iconst dX7_play_233 rfl rfl)))))))
 (kn_ok
 (kn_ok
 (kn_ok
 (kl_ok (ok_aP (ok_istore dX7_play_234 rfl)))
 (kn_ok
 (kl_ok (ok_aP (ok_iconst dX7_play_236 rfl rfl)))
 (kl_ok (ok_aP (ok_istore dX7_play_237 rfl)))))
 (kn_ok
 (kn_ok
 (kl_ok (ok_aP (ok_iconst dX7_play_239 rfl rfl)))
 (kl_ok (ok_aP (ok_istore dX7_play_240 rfl))))
 (kn_ok
 (kl_ok (ok_aP (ok_iconst dX7_play_242 rfl rfl)))
 (kl_ok (ok_aP (ok_istore dX7_play_243 rfl))))))
 (kn_ok
 (kn_ok
 (kl_ok (ok_aP (ok_iload dX7_play_245 rfl)))
 (kn_ok
 (kl_ok (ok_aP (ok_aload_n dX7_play_247 rfl rfl)))
 (kl_ok (ok_aP (ok_getf fo_54 fs_rf (Or.inl q1840) dX7_play_248 rfl)))))
 (kn_ok
 (kn_ok
 (kl_ok (ok_aP (ok_iconst dX7_play_251 rfl rfl)))
 (kl_ok (ok_aP (ok_iald dX7_play_252 rfl))))
 (kn_ok
 (kl_ok (ok_aP (ok_icmp_ge dX7_play_253 rfl rfl)))
 (kl_ok (ok_aP (ok_iload dX7_play_256 rfl))))))))
 (kn_ok
 (kn_ok
 (kn_ok
 (kn_ok
 (kl_ok (ok_aP (ok_aload_n dX7_play_258 rfl rfl)))
 (kn_ok
 (kl_ok (ok_aP (ok_iload dX7_play_259 rfl)))
 (kl_ok (ok_aP (ok_iconst dX7_play_261 rfl rfl)))))
 (kn_ok
 (kn_ok
 (kl_ok (ok_callV (List.forall_mem_cons.mpr ⟨run_V (C0 := "FavourTownModel") rfl rfl (by rw [hm]; rfl) q2059 q2061 qs52 q92 q2062 ⟨nh_1, dl_6⟩ (by decide) dX7_play_262, (fun _ h => absurd h List.not_mem_nil)⟩) rfl))
 (kl_ok (ok_aP (ok_iconst dX7_play_265 rfl rfl))))
 (kn_ok
 (kl_ok (ok_aP (ok_icmp_ne dX7_play_266 rfl rfl)))
 (kl_ok (ok_aP (ok_iconst dX7_play_269 rfl rfl))))))
 (kn_ok
 (kn_ok
 (kl_ok (ok_aP (ok_goto dX7_play_270 rfl)))
 (kn_ok
 (kl_ok (ok_aP (ok_iconst dX7_play_273 rfl rfl)))
 (kl_ok (ok_aP (ok_iadd dX7_play_274 rfl)))))
 (kn_ok
 (kn_ok
 (kl_ok (ok_aP (ok_istore dX7_play_275 rfl)))
 (kl_ok (ok_aP (ok_iinc dX7_play_277 (by decide +kernel) rfl))))
 (kn_ok
 (kl_ok (ok_aP (ok_goto dX7_play_280 rfl)))
 (kl_ok (ok_aP (ok_iconst dX7_play_283 rfl rfl)))))))
 (kn_ok
 (kn_ok
 (kn_ok
 (kl_ok (ok_aP (ok_istore dX7_play_284 rfl)))
 (kn_ok
 (kl_ok (ok_aP (ok_iload dX7_play_286 rfl)))
 (kl_ok (ok_aP (ok_aload_n dX7_play_288 rfl rfl)))))
 (kn_ok
 (kn_ok
 (kl_ok (ok_aP (ok_getf fo_54 fs_rf (Or.inl q1840) dX7_play_289 rfl)))
 (kl_ok (ok_aP (ok_iconst dX7_play_292 rfl rfl))))
 (kn_ok
 (kl_ok (ok_aP (ok_iald dX7_play_293 rfl)))
 (kl_ok (ok_aP (ok_icmp_ge dX7_play_294 rfl rfl))))))
 (kn_ok
 (kn_ok
 (kl_ok (ok_aP (ok_iload dX7_play_297 rfl)))
 (kn_ok
 (kl_ok (ok_aP (ok_aload_n dX7_play_299 rfl rfl)))
 (kl_ok (ok_aP (ok_iload dX7_play_300 rfl)))))
 (kn_ok
 (kn_ok
 (kl_ok (ok_callV (List.forall_mem_cons.mpr ⟨run_V (C0 := "FavourTownModel") rfl rfl (by rw [hm]; rfl) q2070 q2072 qs54 q92 q2073 ⟨nh_1, dl_10⟩ (by decide) dX7_play_302, (fun _ h => absurd h List.not_mem_nil)⟩) rfl))
 (kl_ok (ok_aP (ok_iadd dX7_play_305 rfl))))
 (kn_ok
 (kl_ok (ok_aP (ok_istore dX7_play_306 rfl)))
 (kl_ok (ok_aP (ok_iload dX7_play_308 rfl)))))))))
 (kn_ok
 (kn_ok
 (kn_ok
 (kn_ok
 (kn_ok
 (kl_ok (ok_aP (ok_iconst dX7_play_310 rfl rfl)))
 (kn_ok
 (kl_ok (ok_aP (ok_icmp_eq dX7_play_311 rfl rfl)))
 (kl_ok (ok_aP (ok_aload_n dX7_play_314 rfl rfl)))))
 (kn_ok
 (kn_ok
 (kl_ok (ok_aP (ok_iload dX7_play_315 rfl)))
 (kl_ok (ok_callV (List.forall_mem_cons.mpr ⟨run_V (C0 := "FavourTownModel") rfl rfl (by rw [hm]; rfl) q2070 q2072 qs54 q92 q2073 ⟨nh_1, dl_10⟩ (by decide) dX7_play_317, (fun _ h => absurd h List.not_mem_nil)⟩) rfl)))
 (kn_ok
 (kl_ok (ok_aP (ok_aload_n dX7_play_320 rfl rfl)))
 (kl_ok (ok_aP (ok_iload dX7_play_321 rfl))))))
 (kn_ok
 (kn_ok
 (kl_ok (ok_callV (List.forall_mem_cons.mpr ⟨run_V (C0 := "FavourTownModel") rfl rfl (by rw [hm]; rfl) q2070 q2072 qs54 q92 q2073 ⟨nh_1, dl_10⟩ (by decide) dX7_play_323, (fun _ h => absurd h List.not_mem_nil)⟩) rfl))
 (kn_ok
 (kl_ok (ok_aP (ok_icmp_le dX7_play_326 rfl rfl)))
 (kl_ok (ok_aP (ok_iload dX7_play_329 rfl)))))
 (kn_ok
 (kn_ok
 (kl_ok (ok_aP (ok_goto dX7_play_331 rfl)))
 (kl_ok (ok_aP (ok_iload dX7_play_334 rfl))))
 (kn_ok
 (kl_ok (ok_aP (ok_istore dX7_play_336 rfl)))
 (kl_ok (ok_aP (ok_iinc dX7_play_338 (by decide +kernel) rfl)))))))
 (kn_ok
 (kn_ok
 (kn_ok
 (kl_ok (ok_aP (ok_goto dX7_play_341 rfl)))
 (kn_ok
 (kl_ok (ok_aP (ok_iconst dX7_play_344 rfl rfl)))
 (kl_ok (ok_aP (ok_istore dX7_play_345 rfl)))))
 (kn_ok
 (kn_ok
 (kl_ok (ok_aP (ok_iload dX7_play_347 rfl)))
 (kl_ok (ok_aP (ok_sipush dX7_play_349 (by decide +kernel) rfl))))
 (kn_ok
 (kl_ok (ok_aP (ok_icmp_ge dX7_play_352 rfl rfl)))
 (kl_ok (ok_aP (ok_aload_n dX7_play_355 rfl rfl))))))
 (kn_ok
 (kn_ok
 (kl_ok (ok_aP (ok_getf fo_54 fs_rf (Or.inl q1840) dX7_play_356 rfl)))
 (kn_ok
 (kl_ok (ok_aP (ok_iload dX7_play_359 rfl)))
 (kl_ok (ok_aP (ok_aload_n dX7_play_361 rfl rfl)))))
 (kn_ok
 (kn_ok
 (kl_ok (ok_aP (ok_getf fo_57 fs_rf (Or.inl q1843) dX7_play_362 rfl)))
 (kl_ok (ok_aP (ok_iload dX7_play_365 rfl))))
 (kn_ok
 (kl_ok (ok_aP (ok_iald dX7_play_367 rfl)))
 (kl_ok (ok_hp (ok_iast dX7_play_368 rfl) le_iast)))))))
 (kn_ok
 (kn_ok
 (kn_ok
 (kn_ok
 (kl_ok (ok_aP (ok_iinc dX7_play_369 (by decide +kernel) rfl)))
 (kn_ok
 (kl_ok (ok_aP (ok_goto dX7_play_372 rfl)))
 (kl_ok (ok_aP (ok_iload_n dX7_play_375 rfl rfl)))))
 (kn_ok
 (kn_ok
 (kl_ok (ok_aP (ok_if_ne dX7_play_376 rfl rfl)))
 (kl_ok (ok_aP (ok_iload dX7_play_379 rfl))))
 (kn_ok
 (kl_ok (ok_aP (ok_goto dX7_play_381 rfl)))
 (kl_ok (ok_aP (ok_iload_n dX7_play_384 rfl rfl))))))
 (kn_ok
 (kn_ok
 (kl_ok (ok_aP (ok_iconst dX7_play_385 rfl rfl)))
 (kn_ok
 (kl_ok (ok_aP (ok_icmp_ne dX7_play_386 rfl rfl)))
 (kl_ok (ok_aP (ok_iload dX7_play_389 rfl)))))
 (kn_ok
 (kn_ok
 (kl_ok (ok_aP (ok_goto dX7_play_391 rfl)))
 (kl_ok (ok_aP (ok_iload_n dX7_play_394 rfl rfl))))
 (kn_ok
 (kl_ok (ok_aP (ok_iconst dX7_play_395 rfl rfl)))
 (kl_ok (ok_aP (ok_icmp_ne dX7_play_396 rfl rfl)))))))
 (kn_ok
 (kn_ok
 (kn_ok
 (kl_ok (ok_aP (ok_iload dX7_play_399 rfl)))
 (kn_ok
 (kl_ok (ok_aP (ok_goto dX7_play_401 rfl)))
 (kl_ok (ok_aP (ok_iload_n dX7_play_404 rfl rfl)))))
 (kn_ok
 (kn_ok
 (kl_ok (ok_aP (ok_iconst dX7_play_405 rfl rfl)))
 (kl_ok (ok_aP (ok_icmp_ne dX7_play_406 rfl rfl))))
 (kn_ok
 (kl_ok (ok_aP (ok_iload dX7_play_409 rfl)))
 (kl_ok (ok_aP (ok_goto dX7_play_411 rfl))))))
 (kn_ok
 (kn_ok
 (kl_ok (ok_aP (ok_iload_n dX7_play_414 rfl rfl)))
 (kn_ok
 (kl_ok (ok_aP (ok_iconst dX7_play_415 rfl rfl)))
 (kl_ok (ok_aP (ok_icmp_ne dX7_play_416 rfl rfl)))))
 (kn_ok
 (kn_ok
 (kl_ok (ok_aP (ok_iload dX7_play_419 rfl)))
 (kl_ok (ok_aP (ok_goto dX7_play_421 rfl))))
 (kn_ok
 (kl_ok (ok_aP (ok_iload dX7_play_424 rfl)))
 (kl_ok (ok_iret rfl dX7_play_426)))))))))
/-- 236: FavourTownModel.draws(I)I -/
noncomputable def k_X7_draws : Nat → Option AOp :=
 tn 16 (tn 8 (tn 4 (tn 1 (tl 0 (aP (f_aload 0 1)))
  (tl 1 (aP (f_const (.int (1103515245 : Int32)) 4))))
  (tn 5 (tl 4 (aP (f_aload 0 5)))
  (tl 5 (aP (f_getf [18] 28 8)))))
  (tn 12 (tn 9 (tl 8 (aP (f_bin (fun x y => x * y) 9)))
  (tl 9 (aP (f_const (.int (nI 12345)) 12))))
  (tn 13 (tl 12 (aP (f_bin (fun x y => x + y) 13)))
  (tl 13 (o_putf [18] 28 vI 16)))))
  (tn 23 (tn 20 (tn 17 (tl 16 (aP (f_aload 0 17)))
  (tl 17 (aP (f_getf [18] 28 20))))
  (tn 22 (tl 20 (aP (f_const (.int (nI 16)) 22)))
  (tl 22 (aP (f_bin (fun x y => (x.toUInt32 >>> (y.toUInt32 &&& Int32.toUInt32 31)).toInt32) 23)))))
  (tn 27 (tn 26 (tl 23 (aP (f_const (.int (nI 32767)) 26)))
  (tl 26 (aP (f_bin (fun x y => x &&& y) 27))))
  (tn 28 (tl 27 (aP (f_iload 1 28)))
  (tn 29 (tl 28 (aP (f_div (fun x y => x - x / y * y) 29)))
  (tl 29 (o_iret (fun _ => true)))))))
theorem kok_X7_draws {γ : AG} (hm : γ.2.2.2.2.1 = mTab) (hk : γ.2.2.2.2.2 = kTab) : KOK γ m_X7_draws k_X7_draws :=
 kn_ok
 (kn_ok
 (kn_ok
 (kn_ok
 (kl_ok (ok_aP (ok_aload_n dX7_draws_0 rfl rfl)))
 (kl_ok (ok_aP (ok_ldcw q2310 dX7_draws_1 rfl))))
 (kn_ok
 (kl_ok (ok_aP (ok_aload_n dX7_draws_4 rfl rfl)))
 (kl_ok (ok_aP (ok_getf fo_58 fs_rf (Or.inl q1867) dX7_draws_5 rfl)))))
 (kn_ok
 (kn_ok
 (kl_ok (ok_aP (ok_imul dX7_draws_8 rfl)))
 (kl_ok (ok_aP (ok_sipush dX7_draws_9 (by decide +kernel) rfl))))
 (kn_ok
 (kl_ok (ok_aP (ok_iadd dX7_draws_12 rfl)))
 (kl_ok (ok_hp (ok_putf fo_58 fs_rf fn_38 (Or.inl q1867) pd_0 vI_ok dX7_draws_13 rfl) le_putf)))))
 (kn_ok
 (kn_ok
 (kn_ok
 (kl_ok (ok_aP (ok_aload_n dX7_draws_16 rfl rfl)))
 (kl_ok (ok_aP (ok_getf fo_58 fs_rf (Or.inl q1867) dX7_draws_17 rfl))))
 (kn_ok
 (kl_ok (ok_aP (ok_bipush dX7_draws_20 (by decide +kernel) rfl)))
 (kl_ok (ok_aP (ok_iushr dX7_draws_22 rfl)))))
 (kn_ok
 (kn_ok
 (kl_ok (ok_aP (ok_sipush dX7_draws_23 (by decide +kernel) rfl)))
 (kl_ok (ok_aP (ok_iand dX7_draws_26 rfl))))
 (kn_ok
 (kl_ok (ok_aP (ok_iload_n dX7_draws_27 rfl rfl)))
 (kn_ok
 (kl_ok (ok_aP (ok_irem dX7_draws_28 rfl)))
 (kl_ok (ok_iret rfl dX7_draws_29))))))
/-- 237: FavourTownModel.image()V -/
noncomputable def k_X7_image : Nat → Option AOp :=
 tn 19 (tn 7 (tn 2 (tn 1 (tl 0 (aP (f_aload 0 1)))
  (tl 1 (aP (f_const (.int (nI 0)) 2))))
  (tn 5 (tl 2 (o_putf [18] 0 vI 5))
  (tn 6 (tl 5 (aP (f_const (.int (nI 0)) 6)))
  (tl 6 (aP (f_istore 1 7))))))
  (tn 14 (tn 8 (tl 7 (aP (f_iload 1 8)))
  (tn 11 (tl 8 (aP (f_const (.int (nI 3346)) 11)))
  (tl 11 (aP (f_icmp (fun x y => decide (y ≤ x)) 32 14)))))
  (tn 15 (tl 14 (aP (f_aload 0 15)))
  (tn 18 (tl 15 (aP (f_getf [18] 2 18)))
  (tl 18 (aP (f_iload 1 19)))))))
  (tn 26 (tn 23 (tn 20 (tl 19 (aP (f_aload 0 20)))
  (tl 20 (aP (f_getf [18] 1 23))))
  (tn 24 (tl 23 (aP (f_iload 1 24)))
  (tn 25 (tl 24 (aP (f_iald 0 25)))
  (tl 25 (o_iast 0 (fun y => y) 26)))))
  (tn 33 (tn 29 (tl 26 (aP (f_iinc 1 (nI 1) 29)))
  (tn 32 (tl 29 (aP (f_goto 7)))
  (tl 32 (aP (f_aload 0 33)))))
  (tn 34 (tl 33 (aP (f_const (.int (nI 1)) 34)))
  (tn 37 (tl 34 (o_putf [18] 3 vZ 37))
  (tl 37 (o_vret))))))
theorem kok_X7_image {γ : AG} (hm : γ.2.2.2.2.1 = mTab) (hk : γ.2.2.2.2.2 = kTab) : KOK γ m_X7_image k_X7_image :=
 kn_ok
 (kn_ok
 (kn_ok
 (kn_ok
 (kl_ok (ok_aP (ok_aload_n dX7_image_0 rfl rfl)))
 (kl_ok (ok_aP (ok_iconst dX7_image_1 rfl rfl))))
 (kn_ok
 (kl_ok (ok_hp (ok_putf fo_53 fs_rf fn_36 (Or.inl q1839) pd_0 vI_ok dX7_image_2 rfl) le_putf))
 (kn_ok
 (kl_ok (ok_aP (ok_iconst dX7_image_5 rfl rfl)))
 (kl_ok (ok_aP (ok_istore_n dX7_image_6 rfl rfl))))))
 (kn_ok
 (kn_ok
 (kl_ok (ok_aP (ok_iload_n dX7_image_7 rfl rfl)))
 (kn_ok
 (kl_ok (ok_aP (ok_sipush dX7_image_8 (by decide +kernel) rfl)))
 (kl_ok (ok_aP (ok_icmp_ge dX7_image_11 rfl rfl)))))
 (kn_ok
 (kl_ok (ok_aP (ok_aload_n dX7_image_14 rfl rfl)))
 (kn_ok
 (kl_ok (ok_aP (ok_getf fo_56 fs_rf (Or.inl q1841) dX7_image_15 rfl)))
 (kl_ok (ok_aP (ok_iload_n dX7_image_18 rfl rfl)))))))
 (kn_ok
 (kn_ok
 (kn_ok
 (kl_ok (ok_aP (ok_aload_n dX7_image_19 rfl rfl)))
 (kl_ok (ok_aP (ok_getf fo_54 fs_rf (Or.inl q1840) dX7_image_20 rfl))))
 (kn_ok
 (kl_ok (ok_aP (ok_iload_n dX7_image_23 rfl rfl)))
 (kn_ok
 (kl_ok (ok_aP (ok_iald dX7_image_24 rfl)))
 (kl_ok (ok_hp (ok_iast dX7_image_25 rfl) le_iast)))))
 (kn_ok
 (kn_ok
 (kl_ok (ok_aP (ok_iinc dX7_image_26 (by decide +kernel) rfl)))
 (kn_ok
 (kl_ok (ok_aP (ok_goto dX7_image_29 rfl)))
 (kl_ok (ok_aP (ok_aload_n dX7_image_32 rfl rfl)))))
 (kn_ok
 (kl_ok (ok_aP (ok_iconst dX7_image_33 rfl rfl)))
 (kn_ok
 (kl_ok (ok_hp (ok_putf fo_55 fs_rf fn_37 (Or.inl q1842) pd_1 vZ_ok dX7_image_34 rfl) le_putf))
 (kl_ok (ok_vret rfl dX7_image_37))))))
/-- 238: FavourTownModel.back()Z -/
noncomputable def k_X7_back : Nat → Option AOp :=
 tn 20 (tn 12 (tn 5 (tn 1 (tl 0 (aP (f_aload 0 1)))
  (tn 2 (tl 1 (aP (f_const (.int (nI 0)) 2)))
  (tl 2 (o_putf [18] 0 vI 5))))
  (tn 6 (tl 5 (aP (f_aload 0 6)))
  (tn 9 (tl 6 (aP (f_getf [18] 3 9)))
  (tl 9 (aP (f_if (fun x => decide (¬ x = 0)) 14 12))))))
  (tn 15 (tn 13 (tl 12 (aP (f_const (.int (nI 0)) 13)))
  (tn 14 (tl 13 (o_iret (fun x => x == 0 || x == 1)))
  (tl 14 (aP (f_const (.int (nI 0)) 15)))))
  (tn 16 (tl 15 (aP (f_istore 1 16)))
  (tn 17 (tl 16 (aP (f_iload 1 17)))
  (tl 17 (aP (f_const (.int (nI 3346)) 20)))))))
  (tn 32 (tn 27 (tn 23 (tl 20 (aP (f_icmp (fun x y => decide (y ≤ x)) 41 23)))
  (tn 24 (tl 23 (aP (f_aload 0 24)))
  (tl 24 (aP (f_getf [18] 1 27)))))
  (tn 28 (tl 27 (aP (f_iload 1 28)))
  (tn 29 (tl 28 (aP (f_aload 0 29)))
  (tl 29 (aP (f_getf [18] 2 32))))))
  (tn 35 (tn 33 (tl 32 (aP (f_iload 1 33)))
  (tn 34 (tl 33 (aP (f_iald 0 34)))
  (tl 34 (o_iast 0 (fun y => y) 35))))
  (tn 41 (tn 38 (tl 35 (aP (f_iinc 1 (nI 1) 38)))
  (tl 38 (aP (f_goto 16))))
  (tn 42 (tl 41 (aP (f_const (.int (nI 1)) 42)))
  (tl 42 (o_iret (fun x => x == 0 || x == 1)))))))
theorem kok_X7_back {γ : AG} (hm : γ.2.2.2.2.1 = mTab) (hk : γ.2.2.2.2.2 = kTab) : KOK γ m_X7_back k_X7_back :=
 kn_ok
 (kn_ok
 (kn_ok
 (kn_ok
 (kl_ok (ok_aP (ok_aload_n dX7_back_0 rfl rfl)))
 (kn_ok
 (kl_ok (ok_aP (ok_iconst dX7_back_1 rfl rfl)))
 (kl_ok (ok_hp (ok_putf fo_53 fs_rf fn_36 (Or.inl q1839) pd_0 vI_ok dX7_back_2 rfl) le_putf))))
 (kn_ok
 (kl_ok (ok_aP (ok_aload_n dX7_back_5 rfl rfl)))
 (kn_ok
 (kl_ok (ok_aP (ok_getf fo_55 fs_rf (Or.inl q1842) dX7_back_6 rfl)))
 (kl_ok (ok_aP (ok_if_ne dX7_back_9 rfl rfl))))))
 (kn_ok
 (kn_ok
 (kl_ok (ok_aP (ok_iconst dX7_back_12 rfl rfl)))
 (kn_ok
 (kl_ok (ok_zret rfl z_boolean dX7_back_13))
 (kl_ok (ok_aP (ok_iconst dX7_back_14 rfl rfl)))))
 (kn_ok
 (kl_ok (ok_aP (ok_istore_n dX7_back_15 rfl rfl)))
 (kn_ok
 (kl_ok (ok_aP (ok_iload_n dX7_back_16 rfl rfl)))
 (kl_ok (ok_aP (ok_sipush dX7_back_17 (by decide +kernel) rfl)))))))
 (kn_ok
 (kn_ok
 (kn_ok
 (kl_ok (ok_aP (ok_icmp_ge dX7_back_20 rfl rfl)))
 (kn_ok
 (kl_ok (ok_aP (ok_aload_n dX7_back_23 rfl rfl)))
 (kl_ok (ok_aP (ok_getf fo_54 fs_rf (Or.inl q1840) dX7_back_24 rfl)))))
 (kn_ok
 (kl_ok (ok_aP (ok_iload_n dX7_back_27 rfl rfl)))
 (kn_ok
 (kl_ok (ok_aP (ok_aload_n dX7_back_28 rfl rfl)))
 (kl_ok (ok_aP (ok_getf fo_56 fs_rf (Or.inl q1841) dX7_back_29 rfl))))))
 (kn_ok
 (kn_ok
 (kl_ok (ok_aP (ok_iload_n dX7_back_32 rfl rfl)))
 (kn_ok
 (kl_ok (ok_aP (ok_iald dX7_back_33 rfl)))
 (kl_ok (ok_hp (ok_iast dX7_back_34 rfl) le_iast))))
 (kn_ok
 (kn_ok
 (kl_ok (ok_aP (ok_iinc dX7_back_35 (by decide +kernel) rfl)))
 (kl_ok (ok_aP (ok_goto dX7_back_38 rfl))))
 (kn_ok
 (kl_ok (ok_aP (ok_iconst dX7_back_41 rfl rfl)))
 (kl_ok (ok_zret rfl z_boolean dX7_back_42))))))
/-- 239: FavourTownModel.count(I)I -/
noncomputable def k_X7_count : Nat → Option AOp :=
 tn 110 (tn 53 (tn 24 (tn 10 (tn 6 (tn 2 (tn 1 (tl 0 (aP (f_aload 0 1)))
  (tl 1 (aP (f_const (.int (nI 0)) 2))))
  (tn 5 (tl 2 (o_putf [18] 0 vI 5))
  (tl 5 (aP (f_const (.int (nI 0)) 6)))))
  (tn 8 (tn 7 (tl 6 (aP (f_istore 2 7)))
  (tl 7 (aP (f_const (.int (nI 0)) 8))))
  (tn 9 (tl 8 (aP (f_istore 3 9)))
  (tl 9 (aP (f_const (.int (nI 0)) 10))))))
  (tn 18 (tn 14 (tn 12 (tl 10 (aP (f_istore 4 12)))
  (tl 12 (aP (f_iload 4 14))))
  (tn 15 (tl 14 (aP (f_aload 0 15)))
  (tl 15 (aP (f_getf [18] 1 18)))))
  (tn 20 (tn 19 (tl 18 (aP (f_const (.int (nI 3)) 19)))
  (tl 19 (aP (f_iald 0 20))))
  (tn 23 (tl 20 (aP (f_icmp (fun x y => decide (y ≤ x)) 48 23)))
  (tl 23 (aP (f_iload 2 24)))))))
  (tn 39 (tn 31 (tn 27 (tn 25 (tl 24 (aP (f_aload 0 25)))
  (tl 25 (aP (f_iload 4 27))))
  (tn 28 (tl 27 (aP (f_const (.int (nI 2)) 28)))
  (tl 28 (o_callV (lkN [(18, 175)]) 2 31))))
  (tn 35 (tn 32 (tl 31 (aP (f_const (.int (-1)) 32)))
  (tl 32 (aP (f_icmp (fun x y => decide (¬ x = y)) 39 35))))
  (tn 36 (tl 35 (aP (f_const (.int (nI 0)) 36)))
  (tl 36 (aP (f_goto 40))))))
  (tn 45 (tn 41 (tn 40 (tl 39 (aP (f_const (.int (nI 1)) 40)))
  (tl 40 (aP (f_bin (fun x y => x + y) 41))))
  (tn 42 (tl 41 (aP (f_istore 2 42)))
  (tl 42 (aP (f_iinc 4 (nI 1) 45)))))
  (tn 49 (tn 48 (tl 45 (aP (f_goto 12)))
  (tl 48 (aP (f_const (.int (nI 0)) 49))))
  (tn 51 (tl 49 (aP (f_istore 4 51)))
  (tl 51 (aP (f_iload 4 53))))))))
  (tn 77 (tn 67 (tn 59 (tn 57 (tn 54 (tl 53 (aP (f_aload 0 54)))
  (tl 54 (aP (f_getf [18] 1 57))))
  (tn 58 (tl 57 (aP (f_const (.int (nI 1)) 58)))
  (tl 58 (aP (f_iald 0 59)))))
  (tn 63 (tn 62 (tl 59 (aP (f_icmp (fun x y => decide (y ≤ x)) 88 62)))
  (tl 62 (aP (f_iload 3 63))))
  (tn 64 (tl 63 (aP (f_aload 0 64)))
  (tl 64 (aP (f_getf [18] 1 67))))))
  (tn 73 (tn 70 (tn 69 (tl 67 (aP (f_const (.int (nI 10)) 69)))
  (tl 69 (aP (f_const (.int (nI 3)) 70))))
  (tn 72 (tl 70 (aP (f_iload 4 72)))
  (tl 72 (aP (f_bin (fun x y => x * y) 73)))))
  (tn 75 (tn 74 (tl 73 (aP (f_bin (fun x y => x + y) 74)))
  (tl 74 (aP (f_const (.int (nI 2)) 75))))
  (tn 76 (tl 75 (aP (f_bin (fun x y => x + y) 76)))
  (tl 76 (aP (f_iald 0 77)))))))
  (tn 93 (tn 85 (tn 81 (tn 80 (tl 77 (o_callS 215 1 80))
  (tl 80 (aP (f_bin (fun x y => x + y) 81))))
  (tn 82 (tl 81 (aP (f_istore 3 82)))
  (tl 82 (aP (f_iinc 4 (nI 1) 85)))))
  (tn 89 (tn 88 (tl 85 (aP (f_goto 51)))
  (tl 88 (aP (f_iload 1 89))))
  (tn 92 (tl 89 (aP (f_if (fun x => decide (¬ x = 0)) 101 92)))
  (tl 92 (aP (f_aload 0 93))))))
  (tn 101 (tn 97 (tn 96 (tl 93 (aP (f_getf [18] 1 96)))
  (tl 96 (aP (f_const (.int (nI 1)) 97))))
  (tn 98 (tl 97 (aP (f_iald 0 98)))
  (tl 98 (aP (f_goto 226)))))
  (tn 103 (tn 102 (tl 101 (aP (f_iload 1 102)))
  (tl 102 (aP (f_const (.int (nI 1)) 103))))
  (tn 106 (tl 103 (aP (f_icmp (fun x y => decide (¬ x = y)) 115 106)))
  (tn 107 (tl 106 (aP (f_aload 0 107)))
  (tl 107 (aP (f_getf [18] 1 110))))))))))
  (tn 166 (tn 138 (tn 124 (tn 116 (tn 112 (tn 111 (tl 110 (aP (f_const (.int (nI 0)) 111)))
  (tl 111 (aP (f_iald 0 112))))
  (tn 115 (tl 112 (aP (f_goto 226)))
  (tl 115 (aP (f_iload 1 116)))))
  (tn 120 (tn 117 (tl 116 (aP (f_const (.int (nI 2)) 117)))
  (tl 117 (aP (f_icmp (fun x y => decide (¬ x = y)) 129 120))))
  (tn 121 (tl 120 (aP (f_aload 0 121)))
  (tl 121 (aP (f_getf [18] 1 124))))))
  (tn 130 (tn 126 (tn 125 (tl 124 (aP (f_const (.int (nI 2)) 125)))
  (tl 125 (aP (f_iald 0 126))))
  (tn 129 (tl 126 (aP (f_goto 226)))
  (tl 129 (aP (f_iload 1 130)))))
  (tn 134 (tn 131 (tl 130 (aP (f_const (.int (nI 3)) 131)))
  (tl 131 (aP (f_icmp (fun x y => decide (¬ x = y)) 143 134))))
  (tn 135 (tl 134 (aP (f_aload 0 135)))
  (tl 135 (aP (f_getf [18] 1 138)))))))
  (tn 152 (tn 144 (tn 140 (tn 139 (tl 138 (aP (f_const (.int (nI 3)) 139)))
  (tl 139 (aP (f_iald 0 140))))
  (tn 143 (tl 140 (aP (f_goto 226)))
  (tl 143 (aP (f_iload 1 144)))))
  (tn 148 (tn 145 (tl 144 (aP (f_const (.int (nI 4)) 145)))
  (tl 145 (aP (f_icmp (fun x y => decide (¬ x = y)) 152 148))))
  (tn 149 (tl 148 (aP (f_iload 2 149)))
  (tl 149 (aP (f_goto 226))))))
  (tn 158 (tn 154 (tn 153 (tl 152 (aP (f_iload 1 153)))
  (tl 153 (aP (f_const (.int (nI 5)) 154))))
  (tn 157 (tl 154 (aP (f_icmp (fun x y => decide (¬ x = y)) 166 157)))
  (tl 157 (aP (f_aload 0 158)))))
  (tn 162 (tn 161 (tl 158 (aP (f_getf [18] 1 161)))
  (tl 161 (aP (f_const (.int (nI 4)) 162))))
  (tn 163 (tl 162 (aP (f_iald 0 163)))
  (tl 163 (aP (f_goto 226))))))))
  (tn 197 (tn 181 (tn 173 (tn 169 (tn 167 (tl 166 (aP (f_iload 1 167)))
  (tl 167 (aP (f_const (.int (nI 6)) 169))))
  (tn 172 (tl 169 (aP (f_icmp (fun x y => decide (¬ x = y)) 181 172)))
  (tl 172 (aP (f_aload 0 173)))))
  (tn 177 (tn 176 (tl 173 (aP (f_getf [18] 1 176)))
  (tl 176 (aP (f_const (.int (nI 5)) 177))))
  (tn 178 (tl 177 (aP (f_iald 0 178)))
  (tl 178 (aP (f_goto 226))))))
  (tn 188 (tn 184 (tn 182 (tl 181 (aP (f_iload 1 182)))
  (tl 182 (aP (f_const (.int (nI 7)) 184))))
  (tn 187 (tl 184 (aP (f_icmp (fun x y => decide (¬ x = y)) 197 187)))
  (tl 187 (aP (f_aload 0 188)))))
  (tn 193 (tn 191 (tl 188 (aP (f_getf [18] 1 191)))
  (tl 191 (aP (f_const (.int (nI 6)) 193))))
  (tn 194 (tl 193 (aP (f_iald 0 194)))
  (tl 194 (aP (f_goto 226)))))))
  (tn 213 (tn 204 (tn 200 (tn 198 (tl 197 (aP (f_iload 1 198)))
  (tl 198 (aP (f_const (.int (nI 8)) 200))))
  (tn 203 (tl 200 (aP (f_icmp (fun x y => decide (¬ x = y)) 213 203)))
  (tl 203 (aP (f_aload 0 204)))))
  (tn 209 (tn 207 (tl 204 (aP (f_getf [18] 1 207)))
  (tl 207 (aP (f_const (.int (nI 7)) 209))))
  (tn 210 (tl 209 (aP (f_iald 0 210)))
  (tl 210 (aP (f_goto 226))))))
  (tn 220 (tn 216 (tn 214 (tl 213 (aP (f_iload 1 214)))
  (tl 214 (aP (f_const (.int (nI 9)) 216))))
  (tn 219 (tl 216 (aP (f_icmp (fun x y => decide (¬ x = y)) 225 219)))
  (tl 219 (aP (f_iload 3 220)))))
  (tn 222 (tn 221 (tl 220 (aP (f_const (.int (nI 2)) 221)))
  (tl 221 (aP (f_div (fun x y => x / y) 222))))
  (tn 225 (tl 222 (aP (f_goto 226)))
  (tn 226 (tl 225 (aP (f_const (.int (-1)) 226)))
  (tl 226 (o_iret (fun _ => true))))))))))
theorem kok_X7_count {γ : AG} (hm : γ.2.2.2.2.1 = mTab) (hk : γ.2.2.2.2.2 = kTab) : KOK γ m_X7_count k_X7_count :=
 kn_ok
 (kn_ok
 (kn_ok
 (kn_ok
 (kn_ok
 (kn_ok
 (kn_ok
 (kl_ok (ok_aP (ok_aload_n dX7_count_0 rfl rfl)))
 (kl_ok (ok_aP (ok_iconst dX7_count_1 rfl rfl))))
 (kn_ok
 (kl_ok (ok_hp (ok_putf fo_53 fs_rf fn_36 (Or.inl q1839) pd_0 vI_ok dX7_count_2 rfl) le_putf))
 (kl_ok (ok_aP (ok_iconst dX7_count_5 rfl rfl)))))
 (kn_ok
 (kn_ok
 (kl_ok (ok_aP (ok_istore_n dX7_count_6 rfl rfl)))
 (kl_ok (ok_aP (ok_iconst dX7_count_7 rfl rfl))))
 (kn_ok
 (kl_ok (ok_aP (ok_istore_n dX7_count_8 rfl rfl)))
 (kl_ok (ok_aP (ok_iconst dX7_count_9 rfl rfl))))))
 (kn_ok
 (kn_ok
 (kn_ok
 (kl_ok (ok_aP (ok_istore dX7_count_10 rfl)))
 (kl_ok (ok_aP (ok_iload dX7_count_12 rfl))))
 (kn_ok
 (kl_ok (ok_aP (ok_aload_n dX7_count_14 rfl rfl)))
 (kl_ok (ok_aP (ok_getf fo_54 fs_rf (Or.inl q1840) dX7_count_15 rfl)))))
 (kn_ok
 (kn_ok
 (kl_ok (ok_aP (ok_iconst dX7_count_18 rfl rfl)))
 (kl_ok (ok_aP (ok_iald dX7_count_19 rfl))))
 (kn_ok
 (kl_ok (ok_aP (ok_icmp_ge dX7_count_20 rfl rfl)))
 (kl_ok (ok_aP (ok_iload_n dX7_count_23 rfl rfl)))))))
 (kn_ok
 (kn_ok
 (kn_ok
 (kn_ok
 (kl_ok (ok_aP (ok_aload_n dX7_count_24 rfl rfl)))
 (kl_ok (ok_aP (ok_iload dX7_count_25 rfl))))
 (kn_ok
 (kl_ok (ok_aP (ok_iconst dX7_count_27 rfl rfl)))
 (kl_ok (ok_callV (List.forall_mem_cons.mpr ⟨run_V (C0 := "FavourTownModel") rfl rfl (by rw [hm]; rfl) q2059 q2061 qs52 q92 q2062 ⟨nh_1, dl_6⟩ (by decide) dX7_count_28, (fun _ h => absurd h List.not_mem_nil)⟩) rfl))))
 (kn_ok
 (kn_ok
 (kl_ok (ok_aP (ok_iconst dX7_count_31 rfl rfl)))
 (kl_ok (ok_aP (ok_icmp_ne dX7_count_32 rfl rfl))))
 (kn_ok
 (kl_ok (ok_aP (ok_iconst dX7_count_35 rfl rfl)))
 (kl_ok (ok_aP (ok_goto dX7_count_36 rfl))))))
 (kn_ok
 (kn_ok
 (kn_ok
 (kl_ok (ok_aP (ok_iconst dX7_count_39 rfl rfl)))
 (kl_ok (ok_aP (ok_iadd dX7_count_40 rfl))))
 (kn_ok
 (kl_ok (ok_aP (ok_istore_n dX7_count_41 rfl rfl)))
 (kl_ok (ok_aP (ok_iinc dX7_count_42 (by decide +kernel) rfl)))))
 (kn_ok
 (kn_ok
 (kl_ok (ok_aP (ok_goto dX7_count_45 rfl)))
 (kl_ok (ok_aP (ok_iconst dX7_count_48 rfl rfl))))
 (kn_ok
 (kl_ok (ok_aP (ok_istore dX7_count_49 rfl)))
 (kl_ok (ok_aP (ok_iload dX7_count_51 rfl))))))))
 (kn_ok
 (kn_ok
 (kn_ok
 (kn_ok
 (kn_ok
 (kl_ok (ok_aP (ok_aload_n dX7_count_53 rfl rfl)))
 (kl_ok (ok_aP (ok_getf fo_54 fs_rf (Or.inl q1840) dX7_count_54 rfl))))
 (kn_ok
 (kl_ok (ok_aP (ok_iconst dX7_count_57 rfl rfl)))
 (kl_ok (ok_aP (ok_iald dX7_count_58 rfl)))))
 (kn_ok
 (kn_ok
 (kl_ok (ok_aP (ok_icmp_ge dX7_count_59 rfl rfl)))
 (kl_ok (ok_aP (ok_iload_n dX7_count_62 rfl rfl))))
 (kn_ok
 (kl_ok (ok_aP (ok_aload_n dX7_count_63 rfl rfl)))
 (kl_ok (ok_aP (ok_getf fo_54 fs_rf (Or.inl q1840) dX7_count_64 rfl))))))
 (kn_ok
 (kn_ok
 (kn_ok
 (kl_ok (ok_aP (ok_bipush dX7_count_67 (by decide +kernel) rfl)))
 (kl_ok (ok_aP (ok_iconst dX7_count_69 rfl rfl))))
 (kn_ok
 (kl_ok (ok_aP (ok_iload dX7_count_70 rfl)))
 (kl_ok (ok_aP (ok_imul dX7_count_72 rfl)))))
 (kn_ok
 (kn_ok
 (kl_ok (ok_aP (ok_iadd dX7_count_73 rfl)))
 (kl_ok (ok_aP (ok_iconst dX7_count_74 rfl rfl))))
 (kn_ok
 (kl_ok (ok_aP (ok_iadd dX7_count_75 rfl)))
 (kl_ok (ok_aP (ok_iald dX7_count_76 rfl)))))))
 (kn_ok
 (kn_ok
 (kn_ok
 (kn_ok
 (kl_ok (ok_callS (run_S (by rw [hm]; rfl) q2223 q2224 q92 q2225 ⟨nh_1, dl_10⟩ (by decide) dX7_count_77) rfl))
 (kl_ok (ok_aP (ok_iadd dX7_count_80 rfl))))
 (kn_ok
 (kl_ok (ok_aP (ok_istore_n dX7_count_81 rfl rfl)))
 (kl_ok (ok_aP (ok_iinc dX7_count_82 (by decide +kernel) rfl)))))
 (kn_ok
 (kn_ok
 (kl_ok (ok_aP (ok_goto dX7_count_85 rfl)))
 (kl_ok (ok_aP (ok_iload_n dX7_count_88 rfl rfl))))
 (kn_ok
 (kl_ok (ok_aP (ok_if_ne dX7_count_89 rfl rfl)))
 (kl_ok (ok_aP (ok_aload_n dX7_count_92 rfl rfl))))))
 (kn_ok
 (kn_ok
 (kn_ok
 (kl_ok (ok_aP (ok_getf fo_54 fs_rf (Or.inl q1840) dX7_count_93 rfl)))
 (kl_ok (ok_aP (ok_iconst dX7_count_96 rfl rfl))))
 (kn_ok
 (kl_ok (ok_aP (ok_iald dX7_count_97 rfl)))
 (kl_ok (ok_aP (ok_goto dX7_count_98 rfl)))))
 (kn_ok
 (kn_ok
 (kl_ok (ok_aP (ok_iload_n dX7_count_101 rfl rfl)))
 (kl_ok (ok_aP (ok_iconst dX7_count_102 rfl rfl))))
 (kn_ok
 (kl_ok (ok_aP (ok_icmp_ne dX7_count_103 rfl rfl)))
 (kn_ok
 (kl_ok (ok_aP (ok_aload_n dX7_count_106 rfl rfl)))
 (kl_ok (ok_aP (ok_getf fo_54 fs_rf (Or.inl q1840) dX7_count_107 rfl))))))))))
 (kn_ok
 (kn_ok
 (kn_ok
 (kn_ok
 (kn_ok
 (kn_ok
 (kl_ok (ok_aP (ok_iconst dX7_count_110 rfl rfl)))
 (kl_ok (ok_aP (ok_iald dX7_count_111 rfl))))
 (kn_ok
 (kl_ok (ok_aP (ok_goto dX7_count_112 rfl)))
 (kl_ok (ok_aP (ok_iload_n dX7_count_115 rfl rfl)))))
 (kn_ok
 (kn_ok
 (kl_ok (ok_aP (ok_iconst dX7_count_116 rfl rfl)))
 (kl_ok (ok_aP (ok_icmp_ne dX7_count_117 rfl rfl))))
 (kn_ok
 (kl_ok (ok_aP (ok_aload_n dX7_count_120 rfl rfl)))
 (kl_ok (ok_aP (ok_getf fo_54 fs_rf (Or.inl q1840) dX7_count_121 rfl))))))
 (kn_ok
 (kn_ok
 (kn_ok
 (kl_ok (ok_aP (ok_iconst dX7_count_124 rfl rfl)))
 (kl_ok (ok_aP (ok_iald dX7_count_125 rfl))))
 (kn_ok
 (kl_ok (ok_aP (ok_goto dX7_count_126 rfl)))
 (kl_ok (ok_aP (ok_iload_n dX7_count_129 rfl rfl)))))
 (kn_ok
 (kn_ok
 (kl_ok (ok_aP (ok_iconst dX7_count_130 rfl rfl)))
 (kl_ok (ok_aP (ok_icmp_ne dX7_count_131 rfl rfl))))
 (kn_ok
 (kl_ok (ok_aP (ok_aload_n dX7_count_134 rfl rfl)))
 (kl_ok (ok_aP (ok_getf fo_54 fs_rf (Or.inl q1840) dX7_count_135 rfl)))))))
 (kn_ok
 (kn_ok
 (kn_ok
 (kn_ok
 (kl_ok (ok_aP (ok_iconst dX7_count_138 rfl rfl)))
 (kl_ok (ok_aP (ok_iald dX7_count_139 rfl))))
 (kn_ok
 (kl_ok (ok_aP (ok_goto dX7_count_140 rfl)))
 (kl_ok (ok_aP (ok_iload_n dX7_count_143 rfl rfl)))))
 (kn_ok
 (kn_ok
 (kl_ok (ok_aP (ok_iconst dX7_count_144 rfl rfl)))
 (kl_ok (ok_aP (ok_icmp_ne dX7_count_145 rfl rfl))))
 (kn_ok
 (kl_ok (ok_aP (ok_iload_n dX7_count_148 rfl rfl)))
 (kl_ok (ok_aP (ok_goto dX7_count_149 rfl))))))
 (kn_ok
 (kn_ok
 (kn_ok
 (kl_ok (ok_aP (ok_iload_n dX7_count_152 rfl rfl)))
 (kl_ok (ok_aP (ok_iconst dX7_count_153 rfl rfl))))
 (kn_ok
 (kl_ok (ok_aP (ok_icmp_ne dX7_count_154 rfl rfl)))
 (kl_ok (ok_aP (ok_aload_n dX7_count_157 rfl rfl)))))
 (kn_ok
 (kn_ok
 (kl_ok (ok_aP (ok_getf fo_54 fs_rf (Or.inl q1840) dX7_count_158 rfl)))
 (kl_ok (ok_aP (ok_iconst dX7_count_161 rfl rfl))))
 (kn_ok
 (kl_ok (ok_aP (ok_iald dX7_count_162 rfl)))
 (kl_ok (ok_aP (ok_goto dX7_count_163 rfl))))))))
 (kn_ok
 (kn_ok
 (kn_ok
 (kn_ok
 (kn_ok
 (kl_ok (ok_aP (ok_iload_n dX7_count_166 rfl rfl)))
 (kl_ok (ok_aP (ok_bipush dX7_count_167 (by decide +kernel) rfl))))
 (kn_ok
 (kl_ok (ok_aP (ok_icmp_ne dX7_count_169 rfl rfl)))
 (kl_ok (ok_aP (ok_aload_n dX7_count_172 rfl rfl)))))
 (kn_ok
 (kn_ok
 (kl_ok (ok_aP (ok_getf fo_54 fs_rf (Or.inl q1840) dX7_count_173 rfl)))
 (kl_ok (ok_aP (ok_iconst dX7_count_176 rfl rfl))))
 (kn_ok
 (kl_ok (ok_aP (ok_iald dX7_count_177 rfl)))
 (kl_ok (ok_aP (ok_goto dX7_count_178 rfl))))))
 (kn_ok
 (kn_ok
 (kn_ok
 (kl_ok (ok_aP (ok_iload_n dX7_count_181 rfl rfl)))
 (kl_ok (ok_aP (ok_bipush dX7_count_182 (by decide +kernel) rfl))))
 (kn_ok
 (kl_ok (ok_aP (ok_icmp_ne dX7_count_184 rfl rfl)))
 (kl_ok (ok_aP (ok_aload_n dX7_count_187 rfl rfl)))))
 (kn_ok
 (kn_ok
 (kl_ok (ok_aP (ok_getf fo_54 fs_rf (Or.inl q1840) dX7_count_188 rfl)))
 (kl_ok (ok_aP (ok_bipush dX7_count_191 (by decide +kernel) rfl))))
 (kn_ok
 (kl_ok (ok_aP (ok_iald dX7_count_193 rfl)))
 (kl_ok (ok_aP (ok_goto dX7_count_194 rfl)))))))
 (kn_ok
 (kn_ok
 (kn_ok
 (kn_ok
 (kl_ok (ok_aP (ok_iload_n dX7_count_197 rfl rfl)))
 (kl_ok (ok_aP (ok_bipush dX7_count_198 (by decide +kernel) rfl))))
 (kn_ok
 (kl_ok (ok_aP (ok_icmp_ne dX7_count_200 rfl rfl)))
 (kl_ok (ok_aP (ok_aload_n dX7_count_203 rfl rfl)))))
 (kn_ok
 (kn_ok
 (kl_ok (ok_aP (ok_getf fo_54 fs_rf (Or.inl q1840) dX7_count_204 rfl)))
 (kl_ok (ok_aP (ok_bipush dX7_count_207 (by decide +kernel) rfl))))
 (kn_ok
 (kl_ok (ok_aP (ok_iald dX7_count_209 rfl)))
 (kl_ok (ok_aP (ok_goto dX7_count_210 rfl))))))
 (kn_ok
 (kn_ok
 (kn_ok
 (kl_ok (ok_aP (ok_iload_n dX7_count_213 rfl rfl)))
 (kl_ok (ok_aP (ok_bipush dX7_count_214 (by decide +kernel) rfl))))
 (kn_ok
 (kl_ok (ok_aP (ok_icmp_ne dX7_count_216 rfl rfl)))
 (kl_ok (ok_aP (ok_iload_n dX7_count_219 rfl rfl)))))
 (kn_ok
 (kn_ok
 (kl_ok (ok_aP (ok_iconst dX7_count_220 rfl rfl)))
 (kl_ok (ok_aP (ok_idiv dX7_count_221 rfl))))
 (kn_ok
 (kl_ok (ok_aP (ok_goto dX7_count_222 rfl)))
 (kn_ok
 (kl_ok (ok_aP (ok_iconst dX7_count_225 rfl rfl)))
 (kl_ok (ok_iret rfl dX7_count_226)))))))))
