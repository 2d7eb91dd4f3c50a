set_option maxRecDepth 100000
/-- 0: FavourTownLaw.town(LFavourTown;[J)I -/
noncomputable def k_X0_town : Nat → Option AOp :=
 tn 11 (tn 3 (tn 1 (tl 0 (aP (f_aload 1 1)))
  (tn 2 (tl 1 (aP (f_const (.int (nI 0)) 2)))
  (tl 2 (aP (f_aload 0 3)))))
  (tn 7 (tn 6 (tl 3 (o_callV (lkN [(0, 37)]) 0 6))
  (tl 6 (aP (f_i2l 7))))
  (tn 8 (tl 7 (o_last 2 8))
  (tl 8 (aP (f_goto 17))))))
  (tn 15 (tn 13 (tn 12 (tl 11 (aP (f_astore 2 12)))
  (tl 12 (aP (f_const (.int (nI 1)) 13))))
  (tn 14 (tl 13 (o_iret (fun _ => true)))
  (tl 14 (aP (f_astore 2 15)))))
  (tn 17 (tn 16 (tl 15 (aP (f_const (.int (nI 2)) 16)))
  (tl 16 (o_iret (fun _ => true))))
  (tn 18 (tl 17 (aP (f_const (.int (nI 0)) 18)))
  (tl 18 (o_iret (fun _ => true))))))
theorem kok_X0_town {γ : AG} (hm : γ.2.2.2.2.1 = mTab) (hk : γ.2.2.2.2.2 = kTab) : KOK γ m_X0_town k_X0_town :=
 kn_ok
 (kn_ok
 (kn_ok
 (kl_ok (ok_aP (ok_aload_n dX0_town_0 rfl rfl)))
 (kn_ok
 (kl_ok (ok_aP (ok_iconst dX0_town_1 rfl rfl)))
 (kl_ok (ok_aP (ok_aload_n dX0_town_2 rfl rfl)))))
 (kn_ok
 (kn_ok
 (kl_ok (ok_callV (List.forall_mem_cons.mpr ⟨run_VX (C0 := "FavourTown") rfl rfl (by rw [hm]; rfl) q770 q771 q772 q83 q773 ⟨nh_0, dl_4⟩ (by decide) dX0_town_3, (fun _ h => absurd h List.not_mem_nil)⟩) rfl))
 (kl_ok (ok_aP (ok_i2l dX0_town_6 rfl))))
 (kn_ok
 (kl_ok (ok_hp (ok_last dX0_town_7 rfl) le_last))
 (kl_ok (ok_aP (ok_goto dX0_town_8 rfl))))))
 (kn_ok
 (kn_ok
 (kn_ok
 (kl_ok (ok_aP (ok_astore_n dX0_town_11 rfl rfl)))
 (kl_ok (ok_aP (ok_iconst dX0_town_12 rfl rfl))))
 (kn_ok
 (kl_ok (ok_iret rfl dX0_town_13))
 (kl_ok (ok_aP (ok_astore_n dX0_town_14 rfl rfl)))))
 (kn_ok
 (kn_ok
 (kl_ok (ok_aP (ok_iconst dX0_town_15 rfl rfl)))
 (kl_ok (ok_iret rfl dX0_town_16)))
 (kn_ok
 (kl_ok (ok_aP (ok_iconst dX0_town_17 rfl rfl)))
 (kl_ok (ok_iret rfl dX0_town_18)))))
/-- 1: FavourTownLaw.temper(LFavourTown;[J)I -/
noncomputable def k_X0_temper : Nat → Option AOp :=
 tn 11 (tn 3 (tn 1 (tl 0 (aP (f_aload 1 1)))
  (tn 2 (tl 1 (aP (f_const (.int (nI 0)) 2)))
  (tl 2 (aP (f_aload 0 3)))))
  (tn 7 (tn 6 (tl 3 (o_callV (lkN [(0, 49)]) 0 6))
  (tl 6 (aP (f_i2l 7))))
  (tn 8 (tl 7 (o_last 2 8))
  (tl 8 (aP (f_goto 17))))))
  (tn 15 (tn 13 (tn 12 (tl 11 (aP (f_astore 2 12)))
  (tl 12 (aP (f_const (.int (nI 1)) 13))))
  (tn 14 (tl 13 (o_iret (fun _ => true)))
  (tl 14 (aP (f_astore 2 15)))))
  (tn 17 (tn 16 (tl 15 (aP (f_const (.int (nI 2)) 16)))
  (tl 16 (o_iret (fun _ => true))))
  (tn 18 (tl 17 (aP (f_const (.int (nI 0)) 18)))
  (tl 18 (o_iret (fun _ => true))))))
theorem kok_X0_temper {γ : AG} (hm : γ.2.2.2.2.1 = mTab) (hk : γ.2.2.2.2.2 = kTab) : KOK γ m_X0_temper k_X0_temper :=
 kn_ok
 (kn_ok
 (kn_ok
 (kl_ok (ok_aP (ok_aload_n dX0_temper_0 rfl rfl)))
 (kn_ok
 (kl_ok (ok_aP (ok_iconst dX0_temper_1 rfl rfl)))
 (kl_ok (ok_aP (ok_aload_n dX0_temper_2 rfl rfl)))))
 (kn_ok
 (kn_ok
 (kl_ok (ok_callV (List.forall_mem_cons.mpr ⟨run_VX (C0 := "FavourTown") rfl rfl (by rw [hm]; rfl) q1347 q1348 q1349 q83 q1350 ⟨nh_0, dl_4⟩ (by decide) dX0_temper_3, (fun _ h => absurd h List.not_mem_nil)⟩) rfl))
 (kl_ok (ok_aP (ok_i2l dX0_temper_6 rfl))))
 (kn_ok
 (kl_ok (ok_hp (ok_last dX0_temper_7 rfl) le_last))
 (kl_ok (ok_aP (ok_goto dX0_temper_8 rfl))))))
 (kn_ok
 (kn_ok
 (kn_ok
 (kl_ok (ok_aP (ok_astore_n dX0_temper_11 rfl rfl)))
 (kl_ok (ok_aP (ok_iconst dX0_temper_12 rfl rfl))))
 (kn_ok
 (kl_ok (ok_iret rfl dX0_temper_13))
 (kl_ok (ok_aP (ok_astore_n dX0_temper_14 rfl rfl)))))
 (kn_ok
 (kn_ok
 (kl_ok (ok_aP (ok_iconst dX0_temper_15 rfl rfl)))
 (kl_ok (ok_iret rfl dX0_temper_16)))
 (kn_ok
 (kl_ok (ok_aP (ok_iconst dX0_temper_17 rfl rfl)))
 (kl_ok (ok_iret rfl dX0_temper_18)))))
/-- 2: FavourTownLaw.has(LFavourTown;II[J)I -/
noncomputable def k_X0_has : Nat → Option AOp :=
 tn 9 (tn 3 (tn 1 (tl 0 (aP (f_aload 3 1)))
  (tn 2 (tl 1 (aP (f_const (.int (nI 0)) 2)))
  (tl 2 (aP (f_aload 0 3)))))
  (tn 5 (tn 4 (tl 3 (aP (f_iload 1 4)))
  (tl 4 (aP (f_iload 2 5))))
  (tn 8 (tl 5 (o_callV (lkN [(0, 57)]) 2 8))
  (tl 8 (aP (f_i2l 9))))))
  (tn 15 (tn 10 (tl 9 (o_last 2 10))
  (tn 13 (tl 10 (aP (f_goto 17)))
  (tl 13 (aP (f_astore 4 15)))))
  (tn 17 (tn 16 (tl 15 (aP (f_const (.int (nI 1)) 16)))
  (tl 16 (o_iret (fun _ => true))))
  (tn 18 (tl 17 (aP (f_const (.int (nI 0)) 18)))
  (tl 18 (o_iret (fun _ => true))))))
theorem kok_X0_has {γ : AG} (hm : γ.2.2.2.2.1 = mTab) (hk : γ.2.2.2.2.2 = kTab) : KOK γ m_X0_has k_X0_has :=
 kn_ok
 (kn_ok
 (kn_ok
 (kl_ok (ok_aP (ok_aload_n dX0_has_0 rfl rfl)))
 (kn_ok
 (kl_ok (ok_aP (ok_iconst dX0_has_1 rfl rfl)))
 (kl_ok (ok_aP (ok_aload_n dX0_has_2 rfl rfl)))))
 (kn_ok
 (kn_ok
 (kl_ok (ok_aP (ok_iload_n dX0_has_3 rfl rfl)))
 (kl_ok (ok_aP (ok_iload_n dX0_has_4 rfl rfl))))
 (kn_ok
 (kl_ok (ok_callV (List.forall_mem_cons.mpr ⟨run_V (C0 := "FavourTown") rfl rfl (by rw [hm]; rfl) q1543 q1544 q1545 q83 q1546 ⟨nh_0, dl_6⟩ (by decide) dX0_has_5, (fun _ h => absurd h List.not_mem_nil)⟩) rfl))
 (kl_ok (ok_aP (ok_i2l dX0_has_8 rfl))))))
 (kn_ok
 (kn_ok
 (kl_ok (ok_hp (ok_last dX0_has_9 rfl) le_last))
 (kn_ok
 (kl_ok (ok_aP (ok_goto dX0_has_10 rfl)))
 (kl_ok (ok_aP (ok_astore dX0_has_13 rfl)))))
 (kn_ok
 (kn_ok
 (kl_ok (ok_aP (ok_iconst dX0_has_15 rfl rfl)))
 (kl_ok (ok_iret rfl dX0_has_16)))
 (kn_ok
 (kl_ok (ok_aP (ok_iconst dX0_has_17 rfl rfl)))
 (kl_ok (ok_iret rfl dX0_has_18)))))
/-- 3: FavourTownLaw.give(LFavourTown;IIIIZ[J)I -/
noncomputable def k_X0_give : Nat → Option AOp :=
 tn 15 (tn 6 (tn 3 (tn 2 (tl 0 (aP (f_aload 6 2)))
  (tl 2 (aP (f_const (.int (nI 0)) 3))))
  (tn 4 (tl 3 (aP (f_aload 0 4)))
  (tn 5 (tl 4 (aP (f_iload 1 5)))
  (tl 5 (aP (f_iload 2 6))))))
  (tn 9 (tn 7 (tl 6 (aP (f_iload 3 7)))
  (tl 7 (aP (f_iload 4 9))))
  (tn 11 (tl 9 (aP (f_iload 5 11)))
  (tn 14 (tl 11 (o_callV (lkN [(0, 60)]) 5 14))
  (tl 14 (aP (f_i2l 15)))))))
  (tn 23 (tn 19 (tn 16 (tl 15 (o_last 2 16))
  (tl 16 (aP (f_goto 27))))
  (tn 21 (tl 19 (aP (f_astore 7 21)))
  (tn 22 (tl 21 (aP (f_const (.int (nI 1)) 22)))
  (tl 22 (o_iret (fun _ => true))))))
  (tn 26 (tn 25 (tl 23 (aP (f_astore 7 25)))
  (tl 25 (aP (f_const (.int (nI 2)) 26))))
  (tn 27 (tl 26 (o_iret (fun _ => true)))
  (tn 28 (tl 27 (aP (f_const (.int (nI 0)) 28)))
  (tl 28 (o_iret (fun _ => true)))))))
theorem kok_X0_give {γ : AG} (hm : γ.2.2.2.2.1 = mTab) (hk : γ.2.2.2.2.2 = kTab) : KOK γ m_X0_give k_X0_give :=
 kn_ok
 (kn_ok
 (kn_ok
 (kn_ok
 (kl_ok (ok_aP (ok_aload dX0_give_0 rfl)))
 (kl_ok (ok_aP (ok_iconst dX0_give_2 rfl rfl))))
 (kn_ok
 (kl_ok (ok_aP (ok_aload_n dX0_give_3 rfl rfl)))
 (kn_ok
 (kl_ok (ok_aP (ok_iload_n dX0_give_4 rfl rfl)))
 (kl_ok (ok_aP (ok_iload_n dX0_give_5 rfl rfl))))))
 (kn_ok
 (kn_ok
 (kl_ok (ok_aP (ok_iload_n dX0_give_6 rfl rfl)))
 (kl_ok (ok_aP (ok_iload dX0_give_7 rfl))))
 (kn_ok
 (kl_ok (ok_aP (ok_iload dX0_give_9 rfl)))
 (kn_ok
 (kl_ok (ok_callV (List.forall_mem_cons.mpr ⟨run_V (C0 := "FavourTown") rfl rfl (by rw [hm]; rfl) q1573 q1574 q1575 q83 q1576 ⟨nh_0, dl_8⟩ (by decide) dX0_give_11, (fun _ h => absurd h List.not_mem_nil)⟩) rfl))
 (kl_ok (ok_aP (ok_i2l dX0_give_14 rfl)))))))
 (kn_ok
 (kn_ok
 (kn_ok
 (kl_ok (ok_hp (ok_last dX0_give_15 rfl) le_last))
 (kl_ok (ok_aP (ok_goto dX0_give_16 rfl))))
 (kn_ok
 (kl_ok (ok_aP (ok_astore dX0_give_19 rfl)))
 (kn_ok
 (kl_ok (ok_aP (ok_iconst dX0_give_21 rfl rfl)))
 (kl_ok (ok_iret rfl dX0_give_22)))))
 (kn_ok
 (kn_ok
 (kl_ok (ok_aP (ok_astore dX0_give_23 rfl)))
 (kl_ok (ok_aP (ok_iconst dX0_give_25 rfl rfl))))
 (kn_ok
 (kl_ok (ok_iret rfl dX0_give_26))
 (kn_ok
 (kl_ok (ok_aP (ok_iconst dX0_give_27 rfl rfl)))
 (kl_ok (ok_iret rfl dX0_give_28))))))
/-- 4: FavourTownLaw.pass(LFavourTown;II[J)I -/
noncomputable def k_X0_pass : Nat → Option AOp :=
 tn 10 (tn 4 (tn 2 (tn 1 (tl 0 (aP (f_aload 3 1)))
  (tl 1 (aP (f_const (.int (nI 0)) 2))))
  (tn 3 (tl 2 (aP (f_aload 0 3)))
  (tl 3 (aP (f_iload 1 4)))))
  (tn 8 (tn 5 (tl 4 (aP (f_iload 2 5)))
  (tl 5 (o_callV (lkN [(0, 63)]) 2 8)))
  (tn 9 (tl 8 (aP (f_i2l 9)))
  (tl 9 (o_last 2 10)))))
  (tn 17 (tn 15 (tn 13 (tl 10 (aP (f_goto 21)))
  (tl 13 (aP (f_astore 4 15))))
  (tn 16 (tl 15 (aP (f_const (.int (nI 1)) 16)))
  (tl 16 (o_iret (fun _ => true)))))
  (tn 20 (tn 19 (tl 17 (aP (f_astore 4 19)))
  (tl 19 (aP (f_const (.int (nI 2)) 20))))
  (tn 21 (tl 20 (o_iret (fun _ => true)))
  (tn 22 (tl 21 (aP (f_const (.int (nI 0)) 22)))
  (tl 22 (o_iret (fun _ => true)))))))
theorem kok_X0_pass {γ : AG} (hm : γ.2.2.2.2.1 = mTab) (hk : γ.2.2.2.2.2 = kTab) : KOK γ m_X0_pass k_X0_pass :=
 kn_ok
 (kn_ok
 (kn_ok
 (kn_ok
 (kl_ok (ok_aP (ok_aload_n dX0_pass_0 rfl rfl)))
 (kl_ok (ok_aP (ok_iconst dX0_pass_1 rfl rfl))))
 (kn_ok
 (kl_ok (ok_aP (ok_aload_n dX0_pass_2 rfl rfl)))
 (kl_ok (ok_aP (ok_iload_n dX0_pass_3 rfl rfl)))))
 (kn_ok
 (kn_ok
 (kl_ok (ok_aP (ok_iload_n dX0_pass_4 rfl rfl)))
 (kl_ok (ok_callV (List.forall_mem_cons.mpr ⟨run_V (C0 := "FavourTown") rfl rfl (by rw [hm]; rfl) q1587 q1588 q1589 q83 q1590 ⟨nh_0, dl_6⟩ (by decide) dX0_pass_5, (fun _ h => absurd h List.not_mem_nil)⟩) rfl)))
 (kn_ok
 (kl_ok (ok_aP (ok_i2l dX0_pass_8 rfl)))
 (kl_ok (ok_hp (ok_last dX0_pass_9 rfl) le_last)))))
 (kn_ok
 (kn_ok
 (kn_ok
 (kl_ok (ok_aP (ok_goto dX0_pass_10 rfl)))
 (kl_ok (ok_aP (ok_astore dX0_pass_13 rfl))))
 (kn_ok
 (kl_ok (ok_aP (ok_iconst dX0_pass_15 rfl rfl)))
 (kl_ok (ok_iret rfl dX0_pass_16))))
 (kn_ok
 (kn_ok
 (kl_ok (ok_aP (ok_astore dX0_pass_17 rfl)))
 (kl_ok (ok_aP (ok_iconst dX0_pass_19 rfl rfl))))
 (kn_ok
 (kl_ok (ok_iret rfl dX0_pass_20))
 (kn_ok
 (kl_ok (ok_aP (ok_iconst dX0_pass_21 rfl rfl)))
 (kl_ok (ok_iret rfl dX0_pass_22))))))
/-- 5: FavourTownLaw.call(LFavourTown;I[J)I -/
noncomputable def k_X0_call : Nat → Option AOp :=
 tn 8 (tn 3 (tn 1 (tl 0 (aP (f_aload 2 1)))
  (tn 2 (tl 1 (aP (f_const (.int (nI 0)) 2)))
  (tl 2 (aP (f_aload 0 3)))))
  (tn 4 (tl 3 (aP (f_iload 1 4)))
  (tn 7 (tl 4 (o_callV (lkN [(0, 65)]) 1 7))
  (tl 7 (aP (f_i2l 8))))))
  (tn 13 (tn 9 (tl 8 (o_last 2 9))
  (tn 12 (tl 9 (aP (f_goto 15)))
  (tl 12 (aP (f_astore 3 13)))))
  (tn 15 (tn 14 (tl 13 (aP (f_const (.int (nI 1)) 14)))
  (tl 14 (o_iret (fun _ => true))))
  (tn 16 (tl 15 (aP (f_const (.int (nI 0)) 16)))
  (tl 16 (o_iret (fun _ => true))))))
theorem kok_X0_call {γ : AG} (hm : γ.2.2.2.2.1 = mTab) (hk : γ.2.2.2.2.2 = kTab) : KOK γ m_X0_call k_X0_call :=
 kn_ok
 (kn_ok
 (kn_ok
 (kl_ok (ok_aP (ok_aload_n dX0_call_0 rfl rfl)))
 (kn_ok
 (kl_ok (ok_aP (ok_iconst dX0_call_1 rfl rfl)))
 (kl_ok (ok_aP (ok_aload_n dX0_call_2 rfl rfl)))))
 (kn_ok
 (kl_ok (ok_aP (ok_iload_n dX0_call_3 rfl rfl)))
 (kn_ok
 (kl_ok (ok_callV (List.forall_mem_cons.mpr ⟨run_V (C0 := "FavourTown") rfl rfl (by rw [hm]; rfl) q1598 q1599 q1600 q83 q1601 ⟨nh_0, dl_10⟩ (by decide) dX0_call_4, (fun _ h => absurd h List.not_mem_nil)⟩) rfl))
 (kl_ok (ok_aP (ok_i2l dX0_call_7 rfl))))))
 (kn_ok
 (kn_ok
 (kl_ok (ok_hp (ok_last dX0_call_8 rfl) le_last))
 (kn_ok
 (kl_ok (ok_aP (ok_goto dX0_call_9 rfl)))
 (kl_ok (ok_aP (ok_astore_n dX0_call_12 rfl rfl)))))
 (kn_ok
 (kn_ok
 (kl_ok (ok_aP (ok_iconst dX0_call_13 rfl rfl)))
 (kl_ok (ok_iret rfl dX0_call_14)))
 (kn_ok
 (kl_ok (ok_aP (ok_iconst dX0_call_15 rfl rfl)))
 (kl_ok (ok_iret rfl dX0_call_16)))))
/-- 6: FavourTownLaw.days(LFavourTown;I[J)I -/
noncomputable def k_X0_days : Nat → Option AOp :=
 tn 8 (tn 3 (tn 1 (tl 0 (aP (f_aload 2 1)))
  (tn 2 (tl 1 (aP (f_const (.int (nI 0)) 2)))
  (tl 2 (aP (f_aload 0 3)))))
  (tn 4 (tl 3 (aP (f_iload 1 4)))
  (tn 7 (tl 4 (o_callV (lkN [(0, 66)]) 1 7))
  (tl 7 (aP (f_i2l 8))))))
  (tn 13 (tn 9 (tl 8 (o_last 2 9))
  (tn 12 (tl 9 (aP (f_goto 15)))
  (tl 12 (aP (f_astore 3 13)))))
  (tn 15 (tn 14 (tl 13 (aP (f_const (.int (nI 1)) 14)))
  (tl 14 (o_iret (fun _ => true))))
  (tn 16 (tl 15 (aP (f_const (.int (nI 0)) 16)))
  (tl 16 (o_iret (fun _ => true))))))
theorem kok_X0_days {γ : AG} (hm : γ.2.2.2.2.1 = mTab) (hk : γ.2.2.2.2.2 = kTab) : KOK γ m_X0_days k_X0_days :=
 kn_ok
 (kn_ok
 (kn_ok
 (kl_ok (ok_aP (ok_aload_n dX0_days_0 rfl rfl)))
 (kn_ok
 (kl_ok (ok_aP (ok_iconst dX0_days_1 rfl rfl)))
 (kl_ok (ok_aP (ok_aload_n dX0_days_2 rfl rfl)))))
 (kn_ok
 (kl_ok (ok_aP (ok_iload_n dX0_days_3 rfl rfl)))
 (kn_ok
 (kl_ok (ok_callV (List.forall_mem_cons.mpr ⟨run_V (C0 := "FavourTown") rfl rfl (by rw [hm]; rfl) q1606 q1607 q1608 q83 q1609 ⟨nh_0, dl_10⟩ (by decide) dX0_days_4, (fun _ h => absurd h List.not_mem_nil)⟩) rfl))
 (kl_ok (ok_aP (ok_i2l dX0_days_7 rfl))))))
 (kn_ok
 (kn_ok
 (kl_ok (ok_hp (ok_last dX0_days_8 rfl) le_last))
 (kn_ok
 (kl_ok (ok_aP (ok_goto dX0_days_9 rfl)))
 (kl_ok (ok_aP (ok_astore_n dX0_days_12 rfl rfl)))))
 (kn_ok
 (kn_ok
 (kl_ok (ok_aP (ok_iconst dX0_days_13 rfl rfl)))
 (kl_ok (ok_iret rfl dX0_days_14)))
 (kn_ok
 (kl_ok (ok_aP (ok_iconst dX0_days_15 rfl rfl)))
 (kl_ok (ok_iret rfl dX0_days_16)))))
/-- 7: FavourTownLaw.look(LFavourTown;II[J)I -/
noncomputable def k_X0_look : Nat → Option AOp :=
 tn 10 (tn 4 (tn 2 (tn 1 (tl 0 (aP (f_aload 3 1)))
  (tl 1 (aP (f_const (.int (nI 0)) 2))))
  (tn 3 (tl 2 (aP (f_aload 0 3)))
  (tl 3 (aP (f_iload 1 4)))))
  (tn 8 (tn 5 (tl 4 (aP (f_iload 2 5)))
  (tl 5 (o_callV (lkN [(0, 67)]) 2 8)))
  (tn 9 (tl 8 (aP (f_i2l 9)))
  (tl 9 (o_last 2 10)))))
  (tn 17 (tn 15 (tn 13 (tl 10 (aP (f_goto 21)))
  (tl 13 (aP (f_astore 4 15))))
  (tn 16 (tl 15 (aP (f_const (.int (nI 1)) 16)))
  (tl 16 (o_iret (fun _ => true)))))
  (tn 20 (tn 19 (tl 17 (aP (f_astore 4 19)))
  (tl 19 (aP (f_const (.int (nI 2)) 20))))
  (tn 21 (tl 20 (o_iret (fun _ => true)))
  (tn 22 (tl 21 (aP (f_const (.int (nI 0)) 22)))
  (tl 22 (o_iret (fun _ => true)))))))
theorem kok_X0_look {γ : AG} (hm : γ.2.2.2.2.1 = mTab) (hk : γ.2.2.2.2.2 = kTab) : KOK γ m_X0_look k_X0_look :=
 kn_ok
 (kn_ok
 (kn_ok
 (kn_ok
 (kl_ok (ok_aP (ok_aload_n dX0_look_0 rfl rfl)))
 (kl_ok (ok_aP (ok_iconst dX0_look_1 rfl rfl))))
 (kn_ok
 (kl_ok (ok_aP (ok_aload_n dX0_look_2 rfl rfl)))
 (kl_ok (ok_aP (ok_iload_n dX0_look_3 rfl rfl)))))
 (kn_ok
 (kn_ok
 (kl_ok (ok_aP (ok_iload_n dX0_look_4 rfl rfl)))
 (kl_ok (ok_callV (List.forall_mem_cons.mpr ⟨run_V (C0 := "FavourTown") rfl rfl (by rw [hm]; rfl) q1614 q1615 q1616 q83 q1617 ⟨nh_0, dl_6⟩ (by decide) dX0_look_5, (fun _ h => absurd h List.not_mem_nil)⟩) rfl)))
 (kn_ok
 (kl_ok (ok_aP (ok_i2l dX0_look_8 rfl)))
 (kl_ok (ok_hp (ok_last dX0_look_9 rfl) le_last)))))
 (kn_ok
 (kn_ok
 (kn_ok
 (kl_ok (ok_aP (ok_goto dX0_look_10 rfl)))
 (kl_ok (ok_aP (ok_astore dX0_look_13 rfl))))
 (kn_ok
 (kl_ok (ok_aP (ok_iconst dX0_look_15 rfl rfl)))
 (kl_ok (ok_iret rfl dX0_look_16))))
 (kn_ok
 (kn_ok
 (kl_ok (ok_aP (ok_astore dX0_look_17 rfl)))
 (kl_ok (ok_aP (ok_iconst dX0_look_19 rfl rfl))))
 (kn_ok
 (kl_ok (ok_iret rfl dX0_look_20))
 (kn_ok
 (kl_ok (ok_aP (ok_iconst dX0_look_21 rfl rfl)))
 (kl_ok (ok_iret rfl dX0_look_22))))))
/-- 8: FavourTownLaw.hand(LFavourTown;II[J)I -/
noncomputable def k_X0_hand : Nat → Option AOp :=
 tn 9 (tn 3 (tn 1 (tl 0 (aP (f_aload 3 1)))
  (tn 2 (tl 1 (aP (f_const (.int (nI 0)) 2)))
  (tl 2 (aP (f_aload 0 3)))))
  (tn 5 (tn 4 (tl 3 (aP (f_iload 1 4)))
  (tl 4 (aP (f_iload 2 5))))
  (tn 8 (tl 5 (o_callV (lkN [(0, 69)]) 2 8))
  (tl 8 (aP (f_i2l 9))))))
  (tn 15 (tn 10 (tl 9 (o_last 2 10))
  (tn 13 (tl 10 (aP (f_goto 17)))
  (tl 13 (aP (f_astore 4 15)))))
  (tn 17 (tn 16 (tl 15 (aP (f_const (.int (nI 1)) 16)))
  (tl 16 (o_iret (fun _ => true))))
  (tn 18 (tl 17 (aP (f_const (.int (nI 0)) 18)))
  (tl 18 (o_iret (fun _ => true))))))
theorem kok_X0_hand {γ : AG} (hm : γ.2.2.2.2.1 = mTab) (hk : γ.2.2.2.2.2 = kTab) : KOK γ m_X0_hand k_X0_hand :=
 kn_ok
 (kn_ok
 (kn_ok
 (kl_ok (ok_aP (ok_aload_n dX0_hand_0 rfl rfl)))
 (kn_ok
 (kl_ok (ok_aP (ok_iconst dX0_hand_1 rfl rfl)))
 (kl_ok (ok_aP (ok_aload_n dX0_hand_2 rfl rfl)))))
 (kn_ok
 (kn_ok
 (kl_ok (ok_aP (ok_iload_n dX0_hand_3 rfl rfl)))
 (kl_ok (ok_aP (ok_iload_n dX0_hand_4 rfl rfl))))
 (kn_ok
 (kl_ok (ok_callV (List.forall_mem_cons.mpr ⟨run_V (C0 := "FavourTown") rfl rfl (by rw [hm]; rfl) q1640 q1641 q1642 q83 q1643 ⟨nh_0, dl_6⟩ (by decide) dX0_hand_5, (fun _ h => absurd h List.not_mem_nil)⟩) rfl))
 (kl_ok (ok_aP (ok_i2l dX0_hand_8 rfl))))))
 (kn_ok
 (kn_ok
 (kl_ok (ok_hp (ok_last dX0_hand_9 rfl) le_last))
 (kn_ok
 (kl_ok (ok_aP (ok_goto dX0_hand_10 rfl)))
 (kl_ok (ok_aP (ok_astore dX0_hand_13 rfl)))))
 (kn_ok
 (kn_ok
 (kl_ok (ok_aP (ok_iconst dX0_hand_15 rfl rfl)))
 (kl_ok (ok_iret rfl dX0_hand_16)))
 (kn_ok
 (kl_ok (ok_aP (ok_iconst dX0_hand_17 rfl rfl)))
 (kl_ok (ok_iret rfl dX0_hand_18)))))
/-- 9: FavourTownLaw.takes(LFavourTown;II[J)I -/
noncomputable def k_X0_takes : Nat → Option AOp :=
 tn 12 (tn 4 (tn 2 (tn 1 (tl 0 (aP (f_aload 3 1)))
  (tl 1 (aP (f_const (.int (nI 0)) 2))))
  (tn 3 (tl 2 (aP (f_aload 0 3)))
  (tl 3 (aP (f_iload 1 4)))))
  (tn 8 (tn 5 (tl 4 (aP (f_iload 2 5)))
  (tl 5 (o_callV (lkN [(0, 70)]) 2 8)))
  (tn 11 (tl 8 (aP (f_if (fun x => decide (x = 0)) 15 11)))
  (tl 11 (aP (f_const (.long 1) 12))))))
  (tn 20 (tn 16 (tn 15 (tl 12 (aP (f_goto 16)))
  (tl 15 (aP (f_const (.long 0) 16))))
  (tn 17 (tl 16 (o_last 2 17))
  (tl 17 (aP (f_goto 24)))))
  (tn 23 (tn 22 (tl 20 (aP (f_astore 4 22)))
  (tl 22 (aP (f_const (.int (nI 1)) 23))))
  (tn 24 (tl 23 (o_iret (fun _ => true)))
  (tn 25 (tl 24 (aP (f_const (.int (nI 0)) 25)))
  (tl 25 (o_iret (fun _ => true)))))))
theorem kok_X0_takes {γ : AG} (hm : γ.2.2.2.2.1 = mTab) (hk : γ.2.2.2.2.2 = kTab) : KOK γ m_X0_takes k_X0_takes :=
 kn_ok
 (kn_ok
 (kn_ok
 (kn_ok
 (kl_ok (ok_aP (ok_aload_n dX0_takes_0 rfl rfl)))
 (kl_ok (ok_aP (ok_iconst dX0_takes_1 rfl rfl))))
 (kn_ok
 (kl_ok (ok_aP (ok_aload_n dX0_takes_2 rfl rfl)))
 (kl_ok (ok_aP (ok_iload_n dX0_takes_3 rfl rfl)))))
 (kn_ok
 (kn_ok
 (kl_ok (ok_aP (ok_iload_n dX0_takes_4 rfl rfl)))
 (kl_ok (ok_callV (List.forall_mem_cons.mpr ⟨run_V (C0 := "FavourTown") rfl rfl (by rw [hm]; rfl) q1647 q1648 q1649 q83 q1650 ⟨nh_0, dl_11⟩ (by decide) dX0_takes_5, (fun _ h => absurd h List.not_mem_nil)⟩) rfl)))
 (kn_ok
 (kl_ok (ok_aP (ok_if_eq dX0_takes_8 rfl rfl)))
 (kl_ok (ok_aP (ok_lconst dX0_takes_11 (by decide +kernel) rfl))))))
 (kn_ok
 (kn_ok
 (kn_ok
 (kl_ok (ok_aP (ok_goto dX0_takes_12 rfl)))
 (kl_ok (ok_aP (ok_lconst dX0_takes_15 (by decide +kernel) rfl))))
 (kn_ok
 (kl_ok (ok_hp (ok_last dX0_takes_16 rfl) le_last))
 (kl_ok (ok_aP (ok_goto dX0_takes_17 rfl)))))
 (kn_ok
 (kn_ok
 (kl_ok (ok_aP (ok_astore dX0_takes_20 rfl)))
 (kl_ok (ok_aP (ok_iconst dX0_takes_22 rfl rfl))))
 (kn_ok
 (kl_ok (ok_iret rfl dX0_takes_23))
 (kn_ok
 (kl_ok (ok_aP (ok_iconst dX0_takes_24 rfl rfl)))
 (kl_ok (ok_iret rfl dX0_takes_25))))))
/-- 10: FavourTownLaw.rich(LFavourTown;I[J)I -/
noncomputable def k_X0_rich : Nat → Option AOp :=
 tn 8 (tn 3 (tn 1 (tl 0 (aP (f_aload 2 1)))
  (tn 2 (tl 1 (aP (f_const (.int (nI 0)) 2)))
  (tl 2 (aP (f_aload 0 3)))))
  (tn 4 (tl 3 (aP (f_iload 1 4)))
  (tn 7 (tl 4 (o_callV (lkN [(0, 71)]) 1 7))
  (tl 7 (aP (f_i2l 8))))))
  (tn 13 (tn 9 (tl 8 (o_last 2 9))
  (tn 12 (tl 9 (aP (f_goto 15)))
  (tl 12 (aP (f_astore 3 13)))))
  (tn 15 (tn 14 (tl 13 (aP (f_const (.int (nI 1)) 14)))
  (tl 14 (o_iret (fun _ => true))))
  (tn 16 (tl 15 (aP (f_const (.int (nI 0)) 16)))
  (tl 16 (o_iret (fun _ => true))))))
theorem kok_X0_rich {γ : AG} (hm : γ.2.2.2.2.1 = mTab) (hk : γ.2.2.2.2.2 = kTab) : KOK γ m_X0_rich k_X0_rich :=
 kn_ok
 (kn_ok
 (kn_ok
 (kl_ok (ok_aP (ok_aload_n dX0_rich_0 rfl rfl)))
 (kn_ok
 (kl_ok (ok_aP (ok_iconst dX0_rich_1 rfl rfl)))
 (kl_ok (ok_aP (ok_aload_n dX0_rich_2 rfl rfl)))))
 (kn_ok
 (kl_ok (ok_aP (ok_iload_n dX0_rich_3 rfl rfl)))
 (kn_ok
 (kl_ok (ok_callV (List.forall_mem_cons.mpr ⟨run_V (C0 := "FavourTown") rfl rfl (by rw [hm]; rfl) q1655 q1656 q1657 q83 q1658 ⟨nh_0, dl_10⟩ (by decide) dX0_rich_4, (fun _ h => absurd h List.not_mem_nil)⟩) rfl))
 (kl_ok (ok_aP (ok_i2l dX0_rich_7 rfl))))))
 (kn_ok
 (kn_ok
 (kl_ok (ok_hp (ok_last dX0_rich_8 rfl) le_last))
 (kn_ok
 (kl_ok (ok_aP (ok_goto dX0_rich_9 rfl)))
 (kl_ok (ok_aP (ok_astore_n dX0_rich_12 rfl rfl)))))
 (kn_ok
 (kn_ok
 (kl_ok (ok_aP (ok_iconst dX0_rich_13 rfl rfl)))
 (kl_ok (ok_iret rfl dX0_rich_14)))
 (kn_ok
 (kl_ok (ok_aP (ok_iconst dX0_rich_15 rfl rfl)))
 (kl_ok (ok_iret rfl dX0_rich_16)))))
/-- 11: FavourTownLaw.debt(LFavourTown;I[J)I -/
noncomputable def k_X0_debt : Nat → Option AOp :=
 tn 8 (tn 3 (tn 1 (tl 0 (aP (f_aload 2 1)))
  (tn 2 (tl 1 (aP (f_const (.int (nI 0)) 2)))
  (tl 2 (aP (f_aload 0 3)))))
  (tn 4 (tl 3 (aP (f_iload 1 4)))
  (tn 7 (tl 4 (o_callV (lkN [(0, 72)]) 1 7))
  (tl 7 (aP (f_i2l 8))))))
  (tn 13 (tn 9 (tl 8 (o_last 2 9))
  (tn 12 (tl 9 (aP (f_goto 15)))
  (tl 12 (aP (f_astore 3 13)))))
  (tn 15 (tn 14 (tl 13 (aP (f_const (.int (nI 1)) 14)))
  (tl 14 (o_iret (fun _ => true))))
  (tn 16 (tl 15 (aP (f_const (.int (nI 0)) 16)))
  (tl 16 (o_iret (fun _ => true))))))
theorem kok_X0_debt {γ : AG} (hm : γ.2.2.2.2.1 = mTab) (hk : γ.2.2.2.2.2 = kTab) : KOK γ m_X0_debt k_X0_debt :=
 kn_ok
 (kn_ok
 (kn_ok
 (kl_ok (ok_aP (ok_aload_n dX0_debt_0 rfl rfl)))
 (kn_ok
 (kl_ok (ok_aP (ok_iconst dX0_debt_1 rfl rfl)))
 (kl_ok (ok_aP (ok_aload_n dX0_debt_2 rfl rfl)))))
 (kn_ok
 (kl_ok (ok_aP (ok_iload_n dX0_debt_3 rfl rfl)))
 (kn_ok
 (kl_ok (ok_callV (List.forall_mem_cons.mpr ⟨run_V (C0 := "FavourTown") rfl rfl (by rw [hm]; rfl) q1663 q1664 q1665 q83 q1666 ⟨nh_0, dl_10⟩ (by decide) dX0_debt_4, (fun _ h => absurd h List.not_mem_nil)⟩) rfl))
 (kl_ok (ok_aP (ok_i2l dX0_debt_7 rfl))))))
 (kn_ok
 (kn_ok
 (kl_ok (ok_hp (ok_last dX0_debt_8 rfl) le_last))
 (kn_ok
 (kl_ok (ok_aP (ok_goto dX0_debt_9 rfl)))
 (kl_ok (ok_aP (ok_astore_n dX0_debt_12 rfl rfl)))))
 (kn_ok
 (kn_ok
 (kl_ok (ok_aP (ok_iconst dX0_debt_13 rfl rfl)))
 (kl_ok (ok_iret rfl dX0_debt_14)))
 (kn_ok
 (kl_ok (ok_aP (ok_iconst dX0_debt_15 rfl rfl)))
 (kl_ok (ok_iret rfl dX0_debt_16)))))
/-- 12: FavourTownLaw.owes(LFavourTown;II[J)I -/
noncomputable def k_X0_owes : Nat → Option AOp :=
 tn 9 (tn 3 (tn 1 (tl 0 (aP (f_aload 3 1)))
  (tn 2 (tl 1 (aP (f_const (.int (nI 0)) 2)))
  (tl 2 (aP (f_aload 0 3)))))
  (tn 5 (tn 4 (tl 3 (aP (f_iload 1 4)))
  (tl 4 (aP (f_iload 2 5))))
  (tn 8 (tl 5 (o_callV (lkN [(0, 73)]) 2 8))
  (tl 8 (aP (f_i2l 9))))))
  (tn 15 (tn 10 (tl 9 (o_last 2 10))
  (tn 13 (tl 10 (aP (f_goto 17)))
  (tl 13 (aP (f_astore 4 15)))))
  (tn 17 (tn 16 (tl 15 (aP (f_const (.int (nI 1)) 16)))
  (tl 16 (o_iret (fun _ => true))))
  (tn 18 (tl 17 (aP (f_const (.int (nI 0)) 18)))
  (tl 18 (o_iret (fun _ => true))))))
theorem kok_X0_owes {γ : AG} (hm : γ.2.2.2.2.1 = mTab) (hk : γ.2.2.2.2.2 = kTab) : KOK γ m_X0_owes k_X0_owes :=
 kn_ok
 (kn_ok
 (kn_ok
 (kl_ok (ok_aP (ok_aload_n dX0_owes_0 rfl rfl)))
 (kn_ok
 (kl_ok (ok_aP (ok_iconst dX0_owes_1 rfl rfl)))
 (kl_ok (ok_aP (ok_aload_n dX0_owes_2 rfl rfl)))))
 (kn_ok
 (kn_ok
 (kl_ok (ok_aP (ok_iload_n dX0_owes_3 rfl rfl)))
 (kl_ok (ok_aP (ok_iload_n dX0_owes_4 rfl rfl))))
 (kn_ok
 (kl_ok (ok_callV (List.forall_mem_cons.mpr ⟨run_V (C0 := "FavourTown") rfl rfl (by rw [hm]; rfl) q1671 q1672 q1673 q83 q1674 ⟨nh_0, dl_6⟩ (by decide) dX0_owes_5, (fun _ h => absurd h List.not_mem_nil)⟩) rfl))
 (kl_ok (ok_aP (ok_i2l dX0_owes_8 rfl))))))
 (kn_ok
 (kn_ok
 (kl_ok (ok_hp (ok_last dX0_owes_9 rfl) le_last))
 (kn_ok
 (kl_ok (ok_aP (ok_goto dX0_owes_10 rfl)))
 (kl_ok (ok_aP (ok_astore dX0_owes_13 rfl)))))
 (kn_ok
 (kn_ok
 (kl_ok (ok_aP (ok_iconst dX0_owes_15 rfl rfl)))
 (kl_ok (ok_iret rfl dX0_owes_16)))
 (kn_ok
 (kl_ok (ok_aP (ok_iconst dX0_owes_17 rfl rfl)))
 (kl_ok (ok_iret rfl dX0_owes_18)))))
/-- 13: FavourTownLaw.pays(LFavourTown;III[J)I -/
noncomputable def k_X0_pays : Nat → Option AOp :=
 tn 12 (tn 5 (tn 3 (tn 2 (tl 0 (aP (f_aload 4 2)))
  (tl 2 (aP (f_const (.int (nI 0)) 3))))
  (tn 4 (tl 3 (aP (f_aload 0 4)))
  (tl 4 (aP (f_iload 1 5)))))
  (tn 7 (tn 6 (tl 5 (aP (f_iload 2 6)))
  (tl 6 (aP (f_iload 3 7))))
  (tn 10 (tl 7 (o_callV (lkN [(0, 74)]) 3 10))
  (tn 11 (tl 10 (aP (f_i2l 11)))
  (tl 11 (o_last 2 12))))))
  (tn 19 (tn 17 (tn 15 (tl 12 (aP (f_goto 23)))
  (tl 15 (aP (f_astore 5 17))))
  (tn 18 (tl 17 (aP (f_const (.int (nI 1)) 18)))
  (tl 18 (o_iret (fun _ => true)))))
  (tn 22 (tn 21 (tl 19 (aP (f_astore 5 21)))
  (tl 21 (aP (f_const (.int (nI 2)) 22))))
  (tn 23 (tl 22 (o_iret (fun _ => true)))
  (tn 24 (tl 23 (aP (f_const (.int (nI 0)) 24)))
  (tl 24 (o_iret (fun _ => true)))))))
theorem kok_X0_pays {γ : AG} (hm : γ.2.2.2.2.1 = mTab) (hk : γ.2.2.2.2.2 = kTab) : KOK γ m_X0_pays k_X0_pays :=
 kn_ok
 (kn_ok
 (kn_ok
 (kn_ok
 (kl_ok (ok_aP (ok_aload dX0_pays_0 rfl)))
 (kl_ok (ok_aP (ok_iconst dX0_pays_2 rfl rfl))))
 (kn_ok
 (kl_ok (ok_aP (ok_aload_n dX0_pays_3 rfl rfl)))
 (kl_ok (ok_aP (ok_iload_n dX0_pays_4 rfl rfl)))))
 (kn_ok
 (kn_ok
 (kl_ok (ok_aP (ok_iload_n dX0_pays_5 rfl rfl)))
 (kl_ok (ok_aP (ok_iload_n dX0_pays_6 rfl rfl))))
 (kn_ok
 (kl_ok (ok_callV (List.forall_mem_cons.mpr ⟨run_V (C0 := "FavourTown") rfl rfl (by rw [hm]; rfl) q1682 q1683 q1684 q83 q1685 ⟨nh_0, dl_13⟩ (by decide) dX0_pays_7, (fun _ h => absurd h List.not_mem_nil)⟩) rfl))
 (kn_ok
 (kl_ok (ok_aP (ok_i2l dX0_pays_10 rfl)))
 (kl_ok (ok_hp (ok_last dX0_pays_11 rfl) le_last))))))
 (kn_ok
 (kn_ok
 (kn_ok
 (kl_ok (ok_aP (ok_goto dX0_pays_12 rfl)))
 (kl_ok (ok_aP (ok_astore dX0_pays_15 rfl))))
 (kn_ok
 (kl_ok (ok_aP (ok_iconst dX0_pays_17 rfl rfl)))
 (kl_ok (ok_iret rfl dX0_pays_18))))
 (kn_ok
 (kn_ok
 (kl_ok (ok_aP (ok_astore dX0_pays_19 rfl)))
 (kl_ok (ok_aP (ok_iconst dX0_pays_21 rfl rfl))))
 (kn_ok
 (kl_ok (ok_iret rfl dX0_pays_22))
 (kn_ok
 (kl_ok (ok_aP (ok_iconst dX0_pays_23 rfl rfl)))
 (kl_ok (ok_iret rfl dX0_pays_24))))))
/-- 14: FavourTownLaw.can(LFavourTown;I[J)I -/
noncomputable def k_X0_can : Nat → Option AOp :=
 tn 14 (tn 4 (tn 2 (tn 1 (tl 0 (aP (f_aload 2 1)))
  (tl 1 (aP (f_const (.int (nI 0)) 2))))
  (tn 3 (tl 2 (aP (f_aload 0 3)))
  (tl 3 (aP (f_iload 1 4)))))
  (tn 10 (tn 7 (tl 4 (o_callV (lkN [(0, 75)]) 1 7))
  (tl 7 (aP (f_if (fun x => decide (x = 0)) 14 10))))
  (tn 11 (tl 10 (aP (f_const (.long 1) 11)))
  (tl 11 (aP (f_goto 15))))))
  (tn 20 (tn 16 (tn 15 (tl 14 (aP (f_const (.long 0) 15)))
  (tl 15 (o_last 2 16)))
  (tn 19 (tl 16 (aP (f_goto 22)))
  (tl 19 (aP (f_astore 3 20)))))
  (tn 22 (tn 21 (tl 20 (aP (f_const (.int (nI 1)) 21)))
  (tl 21 (o_iret (fun _ => true))))
  (tn 23 (tl 22 (aP (f_const (.int (nI 0)) 23)))
  (tl 23 (o_iret (fun _ => true))))))
theorem kok_X0_can {γ : AG} (hm : γ.2.2.2.2.1 = mTab) (hk : γ.2.2.2.2.2 = kTab) : KOK γ m_X0_can k_X0_can :=
 kn_ok
 (kn_ok
 (kn_ok
 (kn_ok
 (kl_ok (ok_aP (ok_aload_n dX0_can_0 rfl rfl)))
 (kl_ok (ok_aP (ok_iconst dX0_can_1 rfl rfl))))
 (kn_ok
 (kl_ok (ok_aP (ok_aload_n dX0_can_2 rfl rfl)))
 (kl_ok (ok_aP (ok_iload_n dX0_can_3 rfl rfl)))))
 (kn_ok
 (kn_ok
 (kl_ok (ok_callV (List.forall_mem_cons.mpr ⟨run_V (C0 := "FavourTown") rfl rfl (by rw [hm]; rfl) q1690 q1691 q1692 q83 q1693 ⟨nh_0, dl_2⟩ (by decide) dX0_can_4, (fun _ h => absurd h List.not_mem_nil)⟩) rfl))
 (kl_ok (ok_aP (ok_if_eq dX0_can_7 rfl rfl))))
 (kn_ok
 (kl_ok (ok_aP (ok_lconst dX0_can_10 (by decide +kernel) rfl)))
 (kl_ok (ok_aP (ok_goto dX0_can_11 rfl))))))
 (kn_ok
 (kn_ok
 (kn_ok
 (kl_ok (ok_aP (ok_lconst dX0_can_14 (by decide +kernel) rfl)))
 (kl_ok (ok_hp (ok_last dX0_can_15 rfl) le_last)))
 (kn_ok
 (kl_ok (ok_aP (ok_goto dX0_can_16 rfl)))
 (kl_ok (ok_aP (ok_astore_n dX0_can_19 rfl rfl)))))
 (kn_ok
 (kn_ok
 (kl_ok (ok_aP (ok_iconst dX0_can_20 rfl rfl)))
 (kl_ok (ok_iret rfl dX0_can_21)))
 (kn_ok
 (kl_ok (ok_aP (ok_iconst dX0_can_22 rfl rfl)))
 (kl_ok (ok_iret rfl dX0_can_23)))))
/-- 15: FavourTownLaw.meet(LFavourTown;I[J)I -/
noncomputable def k_X0_meet : Nat → Option AOp :=
 tn 8 (tn 3 (tn 1 (tl 0 (aP (f_aload 2 1)))
  (tn 2 (tl 1 (aP (f_const (.int (nI 0)) 2)))
  (tl 2 (aP (f_aload 0 3)))))
  (tn 4 (tl 3 (aP (f_iload 1 4)))
  (tn 7 (tl 4 (o_callV (lkN [(0, 77)]) 1 7))
  (tl 7 (aP (f_i2l 8))))))
  (tn 13 (tn 9 (tl 8 (o_last 2 9))
  (tn 12 (tl 9 (aP (f_goto 15)))
  (tl 12 (aP (f_astore 3 13)))))
  (tn 15 (tn 14 (tl 13 (aP (f_const (.int (nI 1)) 14)))
  (tl 14 (o_iret (fun _ => true))))
  (tn 16 (tl 15 (aP (f_const (.int (nI 0)) 16)))
  (tl 16 (o_iret (fun _ => true))))))
theorem kok_X0_meet {γ : AG} (hm : γ.2.2.2.2.1 = mTab) (hk : γ.2.2.2.2.2 = kTab) : KOK γ m_X0_meet k_X0_meet :=
 kn_ok
 (kn_ok
 (kn_ok
 (kl_ok (ok_aP (ok_aload_n dX0_meet_0 rfl rfl)))
 (kn_ok
 (kl_ok (ok_aP (ok_iconst dX0_meet_1 rfl rfl)))
 (kl_ok (ok_aP (ok_aload_n dX0_meet_2 rfl rfl)))))
 (kn_ok
 (kl_ok (ok_aP (ok_iload_n dX0_meet_3 rfl rfl)))
 (kn_ok
 (kl_ok (ok_callV (List.forall_mem_cons.mpr ⟨run_V (C0 := "FavourTown") rfl rfl (by rw [hm]; rfl) q1702 q1703 q1704 q83 q1705 ⟨nh_0, dl_10⟩ (by decide) dX0_meet_4, (fun _ h => absurd h List.not_mem_nil)⟩) rfl))
 (kl_ok (ok_aP (ok_i2l dX0_meet_7 rfl))))))
 (kn_ok
 (kn_ok
 (kl_ok (ok_hp (ok_last dX0_meet_8 rfl) le_last))
 (kn_ok
 (kl_ok (ok_aP (ok_goto dX0_meet_9 rfl)))
 (kl_ok (ok_aP (ok_astore_n dX0_meet_12 rfl rfl)))))
 (kn_ok
 (kn_ok
 (kl_ok (ok_aP (ok_iconst dX0_meet_13 rfl rfl)))
 (kl_ok (ok_iret rfl dX0_meet_14)))
 (kn_ok
 (kl_ok (ok_aP (ok_iconst dX0_meet_15 rfl rfl)))
 (kl_ok (ok_iret rfl dX0_meet_16)))))
/-- 16: FavourTownLaw.port(LFavourTown;II[J)I -/
noncomputable def k_X0_port : Nat → Option AOp :=
 tn 10 (tn 4 (tn 2 (tn 1 (tl 0 (aP (f_aload 3 1)))
  (tl 1 (aP (f_const (.int (nI 0)) 2))))
  (tn 3 (tl 2 (aP (f_aload 0 3)))
  (tl 3 (aP (f_iload 1 4)))))
  (tn 8 (tn 5 (tl 4 (aP (f_iload 2 5)))
  (tl 5 (o_callV (lkN [(0, 78)]) 2 8)))
  (tn 9 (tl 8 (aP (f_i2l 9)))
  (tl 9 (o_last 2 10)))))
  (tn 17 (tn 15 (tn 13 (tl 10 (aP (f_goto 21)))
  (tl 13 (aP (f_astore 4 15))))
  (tn 16 (tl 15 (aP (f_const (.int (nI 1)) 16)))
  (tl 16 (o_iret (fun _ => true)))))
  (tn 20 (tn 19 (tl 17 (aP (f_astore 4 19)))
  (tl 19 (aP (f_const (.int (nI 2)) 20))))
  (tn 21 (tl 20 (o_iret (fun _ => true)))
  (tn 22 (tl 21 (aP (f_const (.int (nI 0)) 22)))
  (tl 22 (o_iret (fun _ => true)))))))
theorem kok_X0_port {γ : AG} (hm : γ.2.2.2.2.1 = mTab) (hk : γ.2.2.2.2.2 = kTab) : KOK γ m_X0_port k_X0_port :=
 kn_ok
 (kn_ok
 (kn_ok
 (kn_ok
 (kl_ok (ok_aP (ok_aload_n dX0_port_0 rfl rfl)))
 (kl_ok (ok_aP (ok_iconst dX0_port_1 rfl rfl))))
 (kn_ok
 (kl_ok (ok_aP (ok_aload_n dX0_port_2 rfl rfl)))
 (kl_ok (ok_aP (ok_iload_n dX0_port_3 rfl rfl)))))
 (kn_ok
 (kn_ok
 (kl_ok (ok_aP (ok_iload_n dX0_port_4 rfl rfl)))
 (kl_ok (ok_callV (List.forall_mem_cons.mpr ⟨run_V (C0 := "FavourTown") rfl rfl (by rw [hm]; rfl) q1715 q1716 q1717 q83 q1718 ⟨nh_0, dl_6⟩ (by decide) dX0_port_5, (fun _ h => absurd h List.not_mem_nil)⟩) rfl)))
 (kn_ok
 (kl_ok (ok_aP (ok_i2l dX0_port_8 rfl)))
 (kl_ok (ok_hp (ok_last dX0_port_9 rfl) le_last)))))
 (kn_ok
 (kn_ok
 (kn_ok
 (kl_ok (ok_aP (ok_goto dX0_port_10 rfl)))
 (kl_ok (ok_aP (ok_astore dX0_port_13 rfl))))
 (kn_ok
 (kl_ok (ok_aP (ok_iconst dX0_port_15 rfl rfl)))
 (kl_ok (ok_iret rfl dX0_port_16))))
 (kn_ok
 (kn_ok
 (kl_ok (ok_aP (ok_astore dX0_port_17 rfl)))
 (kl_ok (ok_aP (ok_iconst dX0_port_19 rfl rfl))))
 (kn_ok
 (kl_ok (ok_iret rfl dX0_port_20))
 (kn_ok
 (kl_ok (ok_aP (ok_iconst dX0_port_21 rfl rfl)))
 (kl_ok (ok_iret rfl dX0_port_22))))))
/-- 17: FavourTownLaw.most(LFavourTown;II[J)I -/
noncomputable def k_X0_most : Nat → Option AOp :=
 tn 10 (tn 4 (tn 2 (tn 1 (tl 0 (aP (f_aload 3 1)))
  (tl 1 (aP (f_const (.int (nI 0)) 2))))
  (tn 3 (tl 2 (aP (f_aload 0 3)))
  (tl 3 (aP (f_iload 1 4)))))
  (tn 8 (tn 5 (tl 4 (aP (f_iload 2 5)))
  (tl 5 (o_callV (lkN [(0, 79)]) 2 8)))
  (tn 9 (tl 8 (aP (f_i2l 9)))
  (tl 9 (o_last 2 10)))))
  (tn 17 (tn 15 (tn 13 (tl 10 (aP (f_goto 21)))
  (tl 13 (aP (f_astore 4 15))))
  (tn 16 (tl 15 (aP (f_const (.int (nI 1)) 16)))
  (tl 16 (o_iret (fun _ => true)))))
  (tn 20 (tn 19 (tl 17 (aP (f_astore 4 19)))
  (tl 19 (aP (f_const (.int (nI 2)) 20))))
  (tn 21 (tl 20 (o_iret (fun _ => true)))
  (tn 22 (tl 21 (aP (f_const (.int (nI 0)) 22)))
  (tl 22 (o_iret (fun _ => true)))))))
theorem kok_X0_most {γ : AG} (hm : γ.2.2.2.2.1 = mTab) (hk : γ.2.2.2.2.2 = kTab) : KOK γ m_X0_most k_X0_most :=
 kn_ok
 (kn_ok
 (kn_ok
 (kn_ok
 (kl_ok (ok_aP (ok_aload_n dX0_most_0 rfl rfl)))
 (kl_ok (ok_aP (ok_iconst dX0_most_1 rfl rfl))))
 (kn_ok
 (kl_ok (ok_aP (ok_aload_n dX0_most_2 rfl rfl)))
 (kl_ok (ok_aP (ok_iload_n dX0_most_3 rfl rfl)))))
 (kn_ok
 (kn_ok
 (kl_ok (ok_aP (ok_iload_n dX0_most_4 rfl rfl)))
 (kl_ok (ok_callV (List.forall_mem_cons.mpr ⟨run_V (C0 := "FavourTown") rfl rfl (by rw [hm]; rfl) q1726 q1727 q1728 q83 q1729 ⟨nh_0, dl_6⟩ (by decide) dX0_most_5, (fun _ h => absurd h List.not_mem_nil)⟩) rfl)))
 (kn_ok
 (kl_ok (ok_aP (ok_i2l dX0_most_8 rfl)))
 (kl_ok (ok_hp (ok_last dX0_most_9 rfl) le_last)))))
 (kn_ok
 (kn_ok
 (kn_ok
 (kl_ok (ok_aP (ok_goto dX0_most_10 rfl)))
 (kl_ok (ok_aP (ok_astore dX0_most_13 rfl))))
 (kn_ok
 (kl_ok (ok_aP (ok_iconst dX0_most_15 rfl rfl)))
 (kl_ok (ok_iret rfl dX0_most_16))))
 (kn_ok
 (kn_ok
 (kl_ok (ok_aP (ok_astore dX0_most_17 rfl)))
 (kl_ok (ok_aP (ok_iconst dX0_most_19 rfl rfl))))
 (kn_ok
 (kl_ok (ok_iret rfl dX0_most_20))
 (kn_ok
 (kl_ok (ok_aP (ok_iconst dX0_most_21 rfl rfl)))
 (kl_ok (ok_iret rfl dX0_most_22))))))
/-- 18: FavourTownLaw.cut(LFavourTown;II[J)I -/
noncomputable def k_X0_cut : Nat → Option AOp :=
 tn 10 (tn 4 (tn 2 (tn 1 (tl 0 (aP (f_aload 3 1)))
  (tl 1 (aP (f_const (.int (nI 0)) 2))))
  (tn 3 (tl 2 (aP (f_aload 0 3)))
  (tl 3 (aP (f_iload 1 4)))))
  (tn 8 (tn 5 (tl 4 (aP (f_iload 2 5)))
  (tl 5 (o_callV (lkN [(0, 80)]) 2 8)))
  (tn 9 (tl 8 (aP (f_i2l 9)))
  (tl 9 (o_last 2 10)))))
  (tn 17 (tn 15 (tn 13 (tl 10 (aP (f_goto 21)))
  (tl 13 (aP (f_astore 4 15))))
  (tn 16 (tl 15 (aP (f_const (.int (nI 1)) 16)))
  (tl 16 (o_iret (fun _ => true)))))
  (tn 20 (tn 19 (tl 17 (aP (f_astore 4 19)))
  (tl 19 (aP (f_const (.int (nI 2)) 20))))
  (tn 21 (tl 20 (o_iret (fun _ => true)))
  (tn 22 (tl 21 (aP (f_const (.int (nI 0)) 22)))
  (tl 22 (o_iret (fun _ => true)))))))
theorem kok_X0_cut {γ : AG} (hm : γ.2.2.2.2.1 = mTab) (hk : γ.2.2.2.2.2 = kTab) : KOK γ m_X0_cut k_X0_cut :=
 kn_ok
 (kn_ok
 (kn_ok
 (kn_ok
 (kl_ok (ok_aP (ok_aload_n dX0_cut_0 rfl rfl)))
 (kl_ok (ok_aP (ok_iconst dX0_cut_1 rfl rfl))))
 (kn_ok
 (kl_ok (ok_aP (ok_aload_n dX0_cut_2 rfl rfl)))
 (kl_ok (ok_aP (ok_iload_n dX0_cut_3 rfl rfl)))))
 (kn_ok
 (kn_ok
 (kl_ok (ok_aP (ok_iload_n dX0_cut_4 rfl rfl)))
 (kl_ok (ok_callV (List.forall_mem_cons.mpr ⟨run_V (C0 := "FavourTown") rfl rfl (by rw [hm]; rfl) q1748 q1749 q1750 q83 q1751 ⟨nh_0, dl_6⟩ (by decide) dX0_cut_5, (fun _ h => absurd h List.not_mem_nil)⟩) rfl)))
 (kn_ok
 (kl_ok (ok_aP (ok_i2l dX0_cut_8 rfl)))
 (kl_ok (ok_hp (ok_last dX0_cut_9 rfl) le_last)))))
 (kn_ok
 (kn_ok
 (kn_ok
 (kl_ok (ok_aP (ok_goto dX0_cut_10 rfl)))
 (kl_ok (ok_aP (ok_astore dX0_cut_13 rfl))))
 (kn_ok
 (kl_ok (ok_aP (ok_iconst dX0_cut_15 rfl rfl)))
 (kl_ok (ok_iret rfl dX0_cut_16))))
 (kn_ok
 (kn_ok
 (kl_ok (ok_aP (ok_astore dX0_cut_17 rfl)))
 (kl_ok (ok_aP (ok_iconst dX0_cut_19 rfl rfl))))
 (kn_ok
 (kl_ok (ok_iret rfl dX0_cut_20))
 (kn_ok
 (kl_ok (ok_aP (ok_iconst dX0_cut_21 rfl rfl)))
 (kl_ok (ok_iret rfl dX0_cut_22))))))
/-- 19: FavourTownLaw.chain(LFavourTown;IIII[J)I -/
noncomputable def k_X0_chain : Nat → Option AOp :=
 tn 13 (tn 5 (tn 3 (tn 2 (tl 0 (aP (f_aload 5 2)))
  (tl 2 (aP (f_const (.int (nI 0)) 3))))
  (tn 4 (tl 3 (aP (f_aload 0 4)))
  (tl 4 (aP (f_iload 1 5)))))
  (tn 7 (tn 6 (tl 5 (aP (f_iload 2 6)))
  (tl 6 (aP (f_iload 3 7))))
  (tn 9 (tl 7 (aP (f_iload 4 9)))
  (tn 12 (tl 9 (o_callV (lkN [(0, 81)]) 4 12))
  (tl 12 (aP (f_i2l 13)))))))
  (tn 21 (tn 17 (tn 14 (tl 13 (o_last 2 14))
  (tl 14 (aP (f_goto 25))))
  (tn 19 (tl 17 (aP (f_astore 6 19)))
  (tn 20 (tl 19 (aP (f_const (.int (nI 1)) 20)))
  (tl 20 (o_iret (fun _ => true))))))
  (tn 24 (tn 23 (tl 21 (aP (f_astore 6 23)))
  (tl 23 (aP (f_const (.int (nI 2)) 24))))
  (tn 25 (tl 24 (o_iret (fun _ => true)))
  (tn 26 (tl 25 (aP (f_const (.int (nI 0)) 26)))
  (tl 26 (o_iret (fun _ => true)))))))
theorem kok_X0_chain {γ : AG} (hm : γ.2.2.2.2.1 = mTab) (hk : γ.2.2.2.2.2 = kTab) : KOK γ m_X0_chain k_X0_chain :=
 kn_ok
 (kn_ok
 (kn_ok
 (kn_ok
 (kl_ok (ok_aP (ok_aload dX0_chain_0 rfl)))
 (kl_ok (ok_aP (ok_iconst dX0_chain_2 rfl rfl))))
 (kn_ok
 (kl_ok (ok_aP (ok_aload_n dX0_chain_3 rfl rfl)))
 (kl_ok (ok_aP (ok_iload_n dX0_chain_4 rfl rfl)))))
 (kn_ok
 (kn_ok
 (kl_ok (ok_aP (ok_iload_n dX0_chain_5 rfl rfl)))
 (kl_ok (ok_aP (ok_iload_n dX0_chain_6 rfl rfl))))
 (kn_ok
 (kl_ok (ok_aP (ok_iload dX0_chain_7 rfl)))
 (kn_ok
 (kl_ok (ok_callV (List.forall_mem_cons.mpr ⟨run_V (C0 := "FavourTown") rfl rfl (by rw [hm]; rfl) q1756 q1757 q1758 q83 q1759 ⟨nh_0, dl_15⟩ (by decide) dX0_chain_9, (fun _ h => absurd h List.not_mem_nil)⟩) rfl))
 (kl_ok (ok_aP (ok_i2l dX0_chain_12 rfl)))))))
 (kn_ok
 (kn_ok
 (kn_ok
 (kl_ok (ok_hp (ok_last dX0_chain_13 rfl) le_last))
 (kl_ok (ok_aP (ok_goto dX0_chain_14 rfl))))
 (kn_ok
 (kl_ok (ok_aP (ok_astore dX0_chain_17 rfl)))
 (kn_ok
 (kl_ok (ok_aP (ok_iconst dX0_chain_19 rfl rfl)))
 (kl_ok (ok_iret rfl dX0_chain_20)))))
 (kn_ok
 (kn_ok
 (kl_ok (ok_aP (ok_astore dX0_chain_21 rfl)))
 (kl_ok (ok_aP (ok_iconst dX0_chain_23 rfl rfl))))
 (kn_ok
 (kl_ok (ok_iret rfl dX0_chain_24))
 (kn_ok
 (kl_ok (ok_aP (ok_iconst dX0_chain_25 rfl rfl)))
 (kl_ok (ok_iret rfl dX0_chain_26))))))
/-- 20: FavourTownLaw.ring(LFavourTown;[J)I -/
noncomputable def k_X0_ring : Nat → Option AOp :=
 tn 11 (tn 3 (tn 1 (tl 0 (aP (f_aload 1 1)))
  (tn 2 (tl 1 (aP (f_const (.int (nI 0)) 2)))
  (tl 2 (aP (f_aload 0 3)))))
  (tn 7 (tn 6 (tl 3 (o_callV (lkN [(0, 83)]) 0 6))
  (tl 6 (aP (f_i2l 7))))
  (tn 8 (tl 7 (o_last 2 8))
  (tl 8 (aP (f_goto 17))))))
  (tn 15 (tn 13 (tn 12 (tl 11 (aP (f_astore 2 12)))
  (tl 12 (aP (f_const (.int (nI 1)) 13))))
  (tn 14 (tl 13 (o_iret (fun _ => true)))
  (tl 14 (aP (f_astore 2 15)))))
  (tn 17 (tn 16 (tl 15 (aP (f_const (.int (nI 2)) 16)))
  (tl 16 (o_iret (fun _ => true))))
  (tn 18 (tl 17 (aP (f_const (.int (nI 0)) 18)))
  (tl 18 (o_iret (fun _ => true))))))
theorem kok_X0_ring {γ : AG} (hm : γ.2.2.2.2.1 = mTab) (hk : γ.2.2.2.2.2 = kTab) : KOK γ m_X0_ring k_X0_ring :=
 kn_ok
 (kn_ok
 (kn_ok
 (kl_ok (ok_aP (ok_aload_n dX0_ring_0 rfl rfl)))
 (kn_ok
 (kl_ok (ok_aP (ok_iconst dX0_ring_1 rfl rfl)))
 (kl_ok (ok_aP (ok_aload_n dX0_ring_2 rfl rfl)))))
 (kn_ok
 (kn_ok
 (kl_ok (ok_callV (List.forall_mem_cons.mpr ⟨run_V (C0 := "FavourTown") rfl rfl (by rw [hm]; rfl) q1770 q1771 q1772 q83 q1773 ⟨nh_0, dl_4⟩ (by decide) dX0_ring_3, (fun _ h => absurd h List.not_mem_nil)⟩) rfl))
 (kl_ok (ok_aP (ok_i2l dX0_ring_6 rfl))))
 (kn_ok
 (kl_ok (ok_hp (ok_last dX0_ring_7 rfl) le_last))
 (kl_ok (ok_aP (ok_goto dX0_ring_8 rfl))))))
 (kn_ok
 (kn_ok
 (kn_ok
 (kl_ok (ok_aP (ok_astore_n dX0_ring_11 rfl rfl)))
 (kl_ok (ok_aP (ok_iconst dX0_ring_12 rfl rfl))))
 (kn_ok
 (kl_ok (ok_iret rfl dX0_ring_13))
 (kl_ok (ok_aP (ok_astore_n dX0_ring_14 rfl rfl)))))
 (kn_ok
 (kn_ok
 (kl_ok (ok_aP (ok_iconst dX0_ring_15 rfl rfl)))
 (kl_ok (ok_iret rfl dX0_ring_16)))
 (kn_ok
 (kl_ok (ok_aP (ok_iconst dX0_ring_17 rfl rfl)))
 (kl_ok (ok_iret rfl dX0_ring_18)))))
/-- 21: FavourTownLaw.clear(LFavourTown;I[J)I -/
noncomputable def k_X0_clear : Nat → Option AOp :=
 tn 8 (tn 3 (tn 1 (tl 0 (aP (f_aload 2 1)))
  (tn 2 (tl 1 (aP (f_const (.int (nI 0)) 2)))
  (tl 2 (aP (f_aload 0 3)))))
  (tn 4 (tl 3 (aP (f_iload 1 4)))
  (tn 7 (tl 4 (o_callV (lkN [(0, 84)]) 1 7))
  (tl 7 (aP (f_i2l 8))))))
  (tn 13 (tn 9 (tl 8 (o_last 2 9))
  (tn 12 (tl 9 (aP (f_goto 15)))
  (tl 12 (aP (f_astore 3 13)))))
  (tn 15 (tn 14 (tl 13 (aP (f_const (.int (nI 1)) 14)))
  (tl 14 (o_iret (fun _ => true))))
  (tn 16 (tl 15 (aP (f_const (.int (nI 0)) 16)))
  (tl 16 (o_iret (fun _ => true))))))
theorem kok_X0_clear {γ : AG} (hm : γ.2.2.2.2.1 = mTab) (hk : γ.2.2.2.2.2 = kTab) : KOK γ m_X0_clear k_X0_clear :=
 kn_ok
 (kn_ok
 (kn_ok
 (kl_ok (ok_aP (ok_aload_n dX0_clear_0 rfl rfl)))
 (kn_ok
 (kl_ok (ok_aP (ok_iconst dX0_clear_1 rfl rfl)))
 (kl_ok (ok_aP (ok_aload_n dX0_clear_2 rfl rfl)))))
 (kn_ok
 (kl_ok (ok_aP (ok_iload_n dX0_clear_3 rfl rfl)))
 (kn_ok
 (kl_ok (ok_callV (List.forall_mem_cons.mpr ⟨run_V (C0 := "FavourTown") rfl rfl (by rw [hm]; rfl) q1777 q1778 q1779 q83 q1780 ⟨nh_0, dl_10⟩ (by decide) dX0_clear_4, (fun _ h => absurd h List.not_mem_nil)⟩) rfl))
 (kl_ok (ok_aP (ok_i2l dX0_clear_7 rfl))))))
 (kn_ok
 (kn_ok
 (kl_ok (ok_hp (ok_last dX0_clear_8 rfl) le_last))
 (kn_ok
 (kl_ok (ok_aP (ok_goto dX0_clear_9 rfl)))
 (kl_ok (ok_aP (ok_astore_n dX0_clear_12 rfl rfl)))))
 (kn_ok
 (kn_ok
 (kl_ok (ok_aP (ok_iconst dX0_clear_13 rfl rfl)))
 (kl_ok (ok_iret rfl dX0_clear_14)))
 (kn_ok
 (kl_ok (ok_aP (ok_iconst dX0_clear_15 rfl rfl)))
 (kl_ok (ok_iret rfl dX0_clear_16)))))
/-- 22: FavourTownLaw.loss(LFavourTown;II[J)I -/
noncomputable def k_X0_loss : Nat → Option AOp :=
 tn 9 (tn 3 (tn 1 (tl 0 (aP (f_aload 3 1)))
  (tn 2 (tl 1 (aP (f_const (.int (nI 0)) 2)))
  (tl 2 (aP (f_aload 0 3)))))
  (tn 5 (tn 4 (tl 3 (aP (f_iload 1 4)))
  (tl 4 (aP (f_iload 2 5))))
  (tn 8 (tl 5 (o_callV (lkN [(0, 85)]) 2 8))
  (tl 8 (aP (f_i2l 9))))))
  (tn 15 (tn 10 (tl 9 (o_last 2 10))
  (tn 13 (tl 10 (aP (f_goto 17)))
  (tl 13 (aP (f_astore 4 15)))))
  (tn 17 (tn 16 (tl 15 (aP (f_const (.int (nI 1)) 16)))
  (tl 16 (o_iret (fun _ => true))))
  (tn 18 (tl 17 (aP (f_const (.int (nI 0)) 18)))
  (tl 18 (o_iret (fun _ => true))))))
theorem kok_X0_loss {γ : AG} (hm : γ.2.2.2.2.1 = mTab) (hk : γ.2.2.2.2.2 = kTab) : KOK γ m_X0_loss k_X0_loss :=
 kn_ok
 (kn_ok
 (kn_ok
 (kl_ok (ok_aP (ok_aload_n dX0_loss_0 rfl rfl)))
 (kn_ok
 (kl_ok (ok_aP (ok_iconst dX0_loss_1 rfl rfl)))
 (kl_ok (ok_aP (ok_aload_n dX0_loss_2 rfl rfl)))))
 (kn_ok
 (kn_ok
 (kl_ok (ok_aP (ok_iload_n dX0_loss_3 rfl rfl)))
 (kl_ok (ok_aP (ok_iload_n dX0_loss_4 rfl rfl))))
 (kn_ok
 (kl_ok (ok_callV (List.forall_mem_cons.mpr ⟨run_V (C0 := "FavourTown") rfl rfl (by rw [hm]; rfl) q1807 q1808 q1809 q83 q1810 ⟨nh_0, dl_6⟩ (by decide) dX0_loss_5, (fun _ h => absurd h List.not_mem_nil)⟩) rfl))
 (kl_ok (ok_aP (ok_i2l dX0_loss_8 rfl))))))
 (kn_ok
 (kn_ok
 (kl_ok (ok_hp (ok_last dX0_loss_9 rfl) le_last))
 (kn_ok
 (kl_ok (ok_aP (ok_goto dX0_loss_10 rfl)))
 (kl_ok (ok_aP (ok_astore dX0_loss_13 rfl)))))
 (kn_ok
 (kn_ok
 (kl_ok (ok_aP (ok_iconst dX0_loss_15 rfl rfl)))
 (kl_ok (ok_iret rfl dX0_loss_16)))
 (kn_ok
 (kl_ok (ok_aP (ok_iconst dX0_loss_17 rfl rfl)))
 (kl_ok (ok_iret rfl dX0_loss_18)))))
/-- 23: FavourTownLaw.ruined(LFavourTown;I[J)I -/
noncomputable def k_X0_ruined : Nat → Option AOp :=
 tn 8 (tn 3 (tn 1 (tl 0 (aP (f_aload 2 1)))
  (tn 2 (tl 1 (aP (f_const (.int (nI 0)) 2)))
  (tl 2 (aP (f_aload 0 3)))))
  (tn 4 (tl 3 (aP (f_iload 1 4)))
  (tn 7 (tl 4 (o_callV (lkN [(0, 86)]) 1 7))
  (tl 7 (aP (f_i2l 8))))))
  (tn 13 (tn 9 (tl 8 (o_last 2 9))
  (tn 12 (tl 9 (aP (f_goto 15)))
  (tl 12 (aP (f_astore 3 13)))))
  (tn 15 (tn 14 (tl 13 (aP (f_const (.int (nI 1)) 14)))
  (tl 14 (o_iret (fun _ => true))))
  (tn 16 (tl 15 (aP (f_const (.int (nI 0)) 16)))
  (tl 16 (o_iret (fun _ => true))))))
theorem kok_X0_ruined {γ : AG} (hm : γ.2.2.2.2.1 = mTab) (hk : γ.2.2.2.2.2 = kTab) : KOK γ m_X0_ruined k_X0_ruined :=
 kn_ok
 (kn_ok
 (kn_ok
 (kl_ok (ok_aP (ok_aload_n dX0_ruined_0 rfl rfl)))
 (kn_ok
 (kl_ok (ok_aP (ok_iconst dX0_ruined_1 rfl rfl)))
 (kl_ok (ok_aP (ok_aload_n dX0_ruined_2 rfl rfl)))))
 (kn_ok
 (kl_ok (ok_aP (ok_iload_n dX0_ruined_3 rfl rfl)))
 (kn_ok
 (kl_ok (ok_callV (List.forall_mem_cons.mpr ⟨run_V (C0 := "FavourTown") rfl rfl (by rw [hm]; rfl) q1814 q1815 q1816 q83 q1817 ⟨nh_0, dl_10⟩ (by decide) dX0_ruined_4, (fun _ h => absurd h List.not_mem_nil)⟩) rfl))
 (kl_ok (ok_aP (ok_i2l dX0_ruined_7 rfl))))))
 (kn_ok
 (kn_ok
 (kl_ok (ok_hp (ok_last dX0_ruined_8 rfl) le_last))
 (kn_ok
 (kl_ok (ok_aP (ok_goto dX0_ruined_9 rfl)))
 (kl_ok (ok_aP (ok_astore_n dX0_ruined_12 rfl rfl)))))
 (kn_ok
 (kn_ok
 (kl_ok (ok_aP (ok_iconst dX0_ruined_13 rfl rfl)))
 (kl_ok (ok_iret rfl dX0_ruined_14)))
 (kn_ok
 (kl_ok (ok_aP (ok_iconst dX0_ruined_15 rfl rfl)))
 (kl_ok (ok_iret rfl dX0_ruined_16)))))
/-- 24: FavourTownLaw.fits(LFavourTown;I[J)I -/
noncomputable def k_X0_fits : Nat → Option AOp :=
 tn 8 (tn 3 (tn 1 (tl 0 (aP (f_aload 2 1)))
  (tn 2 (tl 1 (aP (f_const (.int (nI 0)) 2)))
  (tl 2 (aP (f_aload 0 3)))))
  (tn 4 (tl 3 (aP (f_iload 1 4)))
  (tn 7 (tl 4 (o_callV (lkN [(0, 87)]) 1 7))
  (tl 7 (aP (f_i2l 8))))))
  (tn 13 (tn 9 (tl 8 (o_last 2 9))
  (tn 12 (tl 9 (aP (f_goto 15)))
  (tl 12 (aP (f_astore 3 13)))))
  (tn 15 (tn 14 (tl 13 (aP (f_const (.int (nI 1)) 14)))
  (tl 14 (o_iret (fun _ => true))))
  (tn 16 (tl 15 (aP (f_const (.int (nI 0)) 16)))
  (tl 16 (o_iret (fun _ => true))))))
theorem kok_X0_fits {γ : AG} (hm : γ.2.2.2.2.1 = mTab) (hk : γ.2.2.2.2.2 = kTab) : KOK γ m_X0_fits k_X0_fits :=
 kn_ok
 (kn_ok
 (kn_ok
 (kl_ok (ok_aP (ok_aload_n dX0_fits_0 rfl rfl)))
 (kn_ok
 (kl_ok (ok_aP (ok_iconst dX0_fits_1 rfl rfl)))
 (kl_ok (ok_aP (ok_aload_n dX0_fits_2 rfl rfl)))))
 (kn_ok
 (kl_ok (ok_aP (ok_iload_n dX0_fits_3 rfl rfl)))
 (kn_ok
 (kl_ok (ok_callV (List.forall_mem_cons.mpr ⟨run_V (C0 := "FavourTown") rfl rfl (by rw [hm]; rfl) q1821 q1822 q1823 q83 q1824 ⟨nh_0, dl_10⟩ (by decide) dX0_fits_4, (fun _ h => absurd h List.not_mem_nil)⟩) rfl))
 (kl_ok (ok_aP (ok_i2l dX0_fits_7 rfl))))))
 (kn_ok
 (kn_ok
 (kl_ok (ok_hp (ok_last dX0_fits_8 rfl) le_last))
 (kn_ok
 (kl_ok (ok_aP (ok_goto dX0_fits_9 rfl)))
 (kl_ok (ok_aP (ok_astore_n dX0_fits_12 rfl rfl)))))
 (kn_ok
 (kn_ok
 (kl_ok (ok_aP (ok_iconst dX0_fits_13 rfl rfl)))
 (kl_ok (ok_iret rfl dX0_fits_14)))
 (kn_ok
 (kl_ok (ok_aP (ok_iconst dX0_fits_15 rfl rfl)))
 (kl_ok (ok_iret rfl dX0_fits_16)))))
/-- 25: FavourTownLaw.play(LFavourTown;III[J)I -/
noncomputable def k_X0_play : Nat → Option AOp :=
 tn 12 (tn 5 (tn 3 (tn 2 (tl 0 (aP (f_aload 4 2)))
  (tl 2 (aP (f_const (.int (nI 0)) 3))))
  (tn 4 (tl 3 (aP (f_aload 0 4)))
  (tl 4 (aP (f_iload 1 5)))))
  (tn 7 (tn 6 (tl 5 (aP (f_iload 2 6)))
  (tl 6 (aP (f_iload 3 7))))
  (tn 10 (tl 7 (o_callV (lkN [(0, 88)]) 3 10))
  (tn 11 (tl 10 (aP (f_i2l 11)))
  (tl 11 (o_last 2 12))))))
  (tn 19 (tn 17 (tn 15 (tl 12 (aP (f_goto 23)))
  (tl 15 (aP (f_astore 5 17))))
  (tn 18 (tl 17 (aP (f_const (.int (nI 1)) 18)))
  (tl 18 (o_iret (fun _ => true)))))
  (tn 22 (tn 21 (tl 19 (aP (f_astore 5 21)))
  (tl 21 (aP (f_const (.int (nI 2)) 22))))
  (tn 23 (tl 22 (o_iret (fun _ => true)))
  (tn 24 (tl 23 (aP (f_const (.int (nI 0)) 24)))
  (tl 24 (o_iret (fun _ => true)))))))
theorem kok_X0_play {γ : AG} (hm : γ.2.2.2.2.1 = mTab) (hk : γ.2.2.2.2.2 = kTab) : KOK γ m_X0_play k_X0_play :=
 kn_ok
 (kn_ok
 (kn_ok
 (kn_ok
 (kl_ok (ok_aP (ok_aload dX0_play_0 rfl)))
 (kl_ok (ok_aP (ok_iconst dX0_play_2 rfl rfl))))
 (kn_ok
 (kl_ok (ok_aP (ok_aload_n dX0_play_3 rfl rfl)))
 (kl_ok (ok_aP (ok_iload_n dX0_play_4 rfl rfl)))))
 (kn_ok
 (kn_ok
 (kl_ok (ok_aP (ok_iload_n dX0_play_5 rfl rfl)))
 (kl_ok (ok_aP (ok_iload_n dX0_play_6 rfl rfl))))
 (kn_ok
 (kl_ok (ok_callV (List.forall_mem_cons.mpr ⟨run_V (C0 := "FavourTown") rfl rfl (by rw [hm]; rfl) q1828 q1829 q1830 q83 q1831 ⟨nh_0, dl_13⟩ (by decide) dX0_play_7, (fun _ h => absurd h List.not_mem_nil)⟩) rfl))
 (kn_ok
 (kl_ok (ok_aP (ok_i2l dX0_play_10 rfl)))
 (kl_ok (ok_hp (ok_last dX0_play_11 rfl) le_last))))))
 (kn_ok
 (kn_ok
 (kn_ok
 (kl_ok (ok_aP (ok_goto dX0_play_12 rfl)))
 (kl_ok (ok_aP (ok_astore dX0_play_15 rfl))))
 (kn_ok
 (kl_ok (ok_aP (ok_iconst dX0_play_17 rfl rfl)))
 (kl_ok (ok_iret rfl dX0_play_18))))
 (kn_ok
 (kn_ok
 (kl_ok (ok_aP (ok_astore dX0_play_19 rfl)))
 (kl_ok (ok_aP (ok_iconst dX0_play_21 rfl rfl))))
 (kn_ok
 (kl_ok (ok_iret rfl dX0_play_22))
 (kn_ok
 (kl_ok (ok_aP (ok_iconst dX0_play_23 rfl rfl)))
 (kl_ok (ok_iret rfl dX0_play_24))))))
