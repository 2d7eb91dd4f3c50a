/-! ===== the model reads: sums, plain conditions ===== -/
theorem S_sum {d am n dp : Nat} {x : Nat → Int32} {M : MS} {h : AH} {F : FV} (hP : PM M x n dp F) (hK : KS h am) (hd : dp ≤ 6) {a : Nat} (ha : a ≤ n) : Pres idI am n dp M h F (pSum x n a) (exec tTab (d + 7) K_X7_sum [.ref am] (put am (us M 9 (nI a)) h)) := by
  have hL := hP.1
  have hf := hP.2.1
  have h8 := hL.1
  have h400 := hL.2.1
  have bad : ∀ (v : Int32) (q a' : Nat), q ≤ n → R_X7_sum (d + 6) 5 [some (.ref am), some (.int v)] [] (put am (us (us M 10 (nI q)) 9 (nI a')) h) = some (.inl (some (.int v)), put am (us (us M 10 (nI q)) 9 (nI a')) h) := by
    intro v q a' hq
    rw [q_X7_sum_5]
    simp (disch := first | omega | decide) only [r_X7_sum_9, r_X7_sum_42, aK_ret, aK_thr, Option.bind_some, Option.toList_some, Option.toList_none, List.cons_append, List.nil_append, List.set_cons_zero, List.set_cons_succ, lk1, hci_put, put_2, us_2, ua_1, us_eq, us_ne, ua_eq, ua_ne, uf_eq, uf_ne, us_neD, ua_neD, ua_0, sm_1, sm_2, sm_sm, us_sm, sm_us1, sm_ne, nI_add, pk_mul, add_n0, ret_bI, bI_0, Nat.add_zero, nI10, nI00, ne_eq, eq_self, Bool.true_eq_false, Bool.false_eq_true, cond_true, cond_false, not_false_eq_true, not_true_eq_false, ite_true, ite_false, if_true, if_false, reduceIte, mf_0, mf_1, mf_2, mf_3, mf_4, mf_5, mf_6, mf_7, mf_8, mf_9, mf_10, mf_11, mf_12, mf_13, mf_14, mf_15, mf_16, mf_17, mf_18, mf_19, mf_20, mf_21, mf_22, mf_23, mf_24, mf_25, mf_26, mf_27, mf_28, mp_0, mp_3, mp_6, mp_7, mp_8, mp_9, mp_10, mp_11, mp_12, mp_14, mp_15, mp_16, mp_17, mp_25, mp_26, mp_28, mr_0, mr_1, mr_2, mr_3, mr_4, mr_5, mr_6, mr_7, mr_8, mr_9, mr_10, mr_11, mr_12, mw_0, mw_1, mw_2, mw_3, mw_4, mw_5, mw_6, mw_7, mw_8, mw_9, mw_10, mw_11, mw_12, nIm]
  have tail : ∀ f a1 acc, a1 ≤ n → n < a1 + f → Pres idI am n dp M h F (loopT (pPart x n) (fun a => nxs x n a (nI 43)) (fun a => sk x n a + 1) (sk x n) (fun u v => u + v) f a1 acc) (R_X7_sum (d + 6) 5 [some (.ref am), some (.int (acc F))] [] (put am (us M 9 (nI a1)) h)) := by
    intro f
    induction f with
    | zero => intro a1 acc h1 h2; exact absurd h2 (by omega)
    | succ f ih =>
      intro a1 acc h1 h2
      have hs := S_isSign (d := d + 3) (am := am) (h := h) (c := nI 43) hL h1
      rw [loopT, q_X7_sum_5]
      cases hc : nxs x n a1 (nI 43) with
      | false =>
        rw [hc] at hs
        simp (disch := first | omega | decide) only [r_X7_sum_9, r_X7_sum_13, r_X7_sum_19, r_X7_sum_42, aK_ret, aK_thr, Option.bind_some, Option.toList_some, Option.toList_none, List.cons_append, List.nil_append, List.set_cons_zero, List.set_cons_succ, lk1, hci_put, put_2, us_2, ua_1, us_eq, us_ne, ua_eq, ua_ne, uf_eq, uf_ne, us_neD, ua_neD, ua_0, sm_1, sm_2, sm_sm, us_sm, sm_us1, sm_ne, nI_add, pk_mul, add_n0, ret_bI, bI_0, Nat.add_zero, nI10, nI00, ne_eq, eq_self, Bool.true_eq_false, Bool.false_eq_true, cond_true, cond_false, not_false_eq_true, not_true_eq_false, ite_true, ite_false, if_true, if_false, reduceIte, mf_0, mf_1, mf_2, mf_3, mf_4, mf_5, mf_6, mf_7, mf_8, mf_9, mf_10, mf_11, mf_12, mf_13, mf_14, mf_15, mf_16, mf_17, mf_18, mf_19, mf_20, mf_21, mf_22, mf_23, mf_24, mf_25, mf_26, mf_27, mf_28, mp_0, mp_3, mp_6, mp_7, mp_8, mp_9, mp_10, mp_11, mp_12, mp_14, mp_15, mp_16, mp_17, mp_25, mp_26, mp_28, mr_0, mr_1, mr_2, mr_3, mr_4, mr_5, mr_6, mr_7, mr_8, mr_9, mr_10, mr_11, mr_12, mw_0, mw_1, mw_2, mw_3, mw_4, mw_5, mw_6, mw_7, mw_8, mw_9, mw_10, mw_11, mw_12, hf, hs, Pres, idI]
      | true =>
        rw [hc] at hs
        have h3 := nxs_adv hc
        have h4 := sk_ge (x := x) (n := n) (a := a1)
        have hp := S_part (d := d) (am := am) (h := h) hP hK hd (a := sk x n a1 + 1) h3
        dsimp only [cond_true]
        cases hr : pPart x n (sk x n a1 + 1) with
        | inr q =>
          rw [hr] at hp
          obtain ⟨v, a', hq, hle, e⟩ := hp
          simp (disch := first | omega | decide) only [r_X7_sum_9, r_X7_sum_13, r_X7_sum_19, r_X7_sum_22, r_X7_sum_27, r_X7_sum_32, r_X7_sum_37, aK_ret, aK_thr, Option.bind_some, Option.toList_some, Option.toList_none, List.cons_append, List.nil_append, List.set_cons_zero, List.set_cons_succ, lk1, hci_put, put_2, us_2, ua_1, us_eq, us_ne, ua_eq, ua_ne, uf_eq, uf_ne, us_neD, ua_neD, ua_0, sm_1, sm_2, sm_sm, us_sm, sm_us1, sm_ne, nI_add, pk_mul, add_n0, ret_bI, bI_0, Nat.add_zero, nI10, nI00, ne_eq, eq_self, Bool.true_eq_false, Bool.false_eq_true, cond_true, cond_false, not_false_eq_true, not_true_eq_false, ite_true, ite_false, if_true, if_false, reduceIte, mf_0, mf_1, mf_2, mf_3, mf_4, mf_5, mf_6, mf_7, mf_8, mf_9, mf_10, mf_11, mf_12, mf_13, mf_14, mf_15, mf_16, mf_17, mf_18, mf_19, mf_20, mf_21, mf_22, mf_23, mf_24, mf_25, mf_26, mf_27, mf_28, mp_0, mp_3, mp_6, mp_7, mp_8, mp_9, mp_10, mp_11, mp_12, mp_14, mp_15, mp_16, mp_17, mp_25, mp_26, mp_28, mr_0, mr_1, mr_2, mr_3, mr_4, mr_5, mr_6, mr_7, mr_8, mr_9, mr_10, mr_11, mr_12, mw_0, mw_1, mw_2, mw_3, mw_4, mw_5, mw_6, mw_7, mw_8, mw_9, mw_10, mw_11, mw_12, hf, hs, us_us, e, bad _ q a' hq]
          exact ⟨_, a', hq, hle, rfl⟩
        | inl z =>
          obtain ⟨a2, u⟩ := z
          rw [hr] at hp
          have hp : _ = _ := hp
          dsimp only at hp
          have h5 := pPart_adv _ _ _ h3 hr
          simp (disch := first | omega | decide) only [r_X7_sum_9, r_X7_sum_13, r_X7_sum_19, r_X7_sum_22, r_X7_sum_27, r_X7_sum_32, r_X7_sum_37, aK_ret, aK_thr, Option.bind_some, Option.toList_some, Option.toList_none, List.cons_append, List.nil_append, List.set_cons_zero, List.set_cons_succ, lk1, hci_put, put_2, us_2, ua_1, us_eq, us_ne, ua_eq, ua_ne, uf_eq, uf_ne, us_neD, ua_neD, ua_0, sm_1, sm_2, sm_sm, us_sm, sm_us1, sm_ne, nI_add, pk_mul, add_n0, ret_bI, bI_0, Nat.add_zero, nI10, nI00, ne_eq, eq_self, Bool.true_eq_false, Bool.false_eq_true, cond_true, cond_false, not_false_eq_true, not_true_eq_false, ite_true, ite_false, if_true, if_false, reduceIte, mf_0, mf_1, mf_2, mf_3, mf_4, mf_5, mf_6, mf_7, mf_8, mf_9, mf_10, mf_11, mf_12, mf_13, mf_14, mf_15, mf_16, mf_17, mf_18, mf_19, mf_20, mf_21, mf_22, mf_23, mf_24, mf_25, mf_26, mf_27, mf_28, mp_0, mp_3, mp_6, mp_7, mp_8, mp_9, mp_10, mp_11, mp_12, mp_14, mp_15, mp_16, mp_17, mp_25, mp_26, mp_28, mr_0, mr_1, mr_2, mr_3, mr_4, mr_5, mr_6, mr_7, mr_8, mr_9, mr_10, mr_11, mr_12, mw_0, mw_1, mw_2, mw_3, mw_4, mw_5, mw_6, mw_7, mw_8, mw_9, mw_10, mw_11, mw_12, hf, hs, us_us, hp]
          exact ih a2 (fun F => acc F + u F) h5.2 (by omega)
  have hp := S_part (d := d) (am := am) (h := h) hP hK hd ha
  unfold pSum loopP
  cases hr : pPart x n a with
  | inr q =>
    rw [hr] at hp
    obtain ⟨v, a', hq, hle, e⟩ := hp
    simp (disch := first | omega | decide) only [e_X7_sum, r_X7_sum_0, r_X7_sum_4, aK_ret, aK_thr, Option.bind_some, Option.toList_some, Option.toList_none, List.cons_append, List.nil_append, List.set_cons_zero, List.set_cons_succ, lk1, hci_put, put_2, us_2, ua_1, us_eq, us_ne, ua_eq, ua_ne, uf_eq, uf_ne, us_neD, ua_neD, ua_0, sm_1, sm_2, sm_sm, us_sm, sm_us1, sm_ne, nI_add, pk_mul, add_n0, ret_bI, bI_0, Nat.add_zero, nI10, nI00, ne_eq, eq_self, Bool.true_eq_false, Bool.false_eq_true, cond_true, cond_false, not_false_eq_true, not_true_eq_false, ite_true, ite_false, if_true, if_false, reduceIte, mf_0, mf_1, mf_2, mf_3, mf_4, mf_5, mf_6, mf_7, mf_8, mf_9, mf_10, mf_11, mf_12, mf_13, mf_14, mf_15, mf_16, mf_17, mf_18, mf_19, mf_20, mf_21, mf_22, mf_23, mf_24, mf_25, mf_26, mf_27, mf_28, mp_0, mp_3, mp_6, mp_7, mp_8, mp_9, mp_10, mp_11, mp_12, mp_14, mp_15, mp_16, mp_17, mp_25, mp_26, mp_28, mr_0, mr_1, mr_2, mr_3, mr_4, mr_5, mr_6, mr_7, mr_8, mr_9, mr_10, mr_11, mr_12, mw_0, mw_1, mw_2, mw_3, mw_4, mw_5, mw_6, mw_7, mw_8, mw_9, mw_10, mw_11, mw_12, e, bad _ q a' hq]
    exact ⟨_, a', hq, hle, rfl⟩
  | inl z =>
    obtain ⟨a2, u⟩ := z
    rw [hr] at hp
    have hp : _ = _ := hp
    dsimp only at hp
    have h5 := pPart_adv _ _ _ ha hr
    simp (disch := first | omega | decide) only [e_X7_sum, r_X7_sum_0, r_X7_sum_4, aK_ret, aK_thr, Option.bind_some, Option.toList_some, Option.toList_none, List.cons_append, List.nil_append, List.set_cons_zero, List.set_cons_succ, lk1, hci_put, put_2, us_2, ua_1, us_eq, us_ne, ua_eq, ua_ne, uf_eq, uf_ne, us_neD, ua_neD, ua_0, sm_1, sm_2, sm_sm, us_sm, sm_us1, sm_ne, nI_add, pk_mul, add_n0, ret_bI, bI_0, Nat.add_zero, nI10, nI00, ne_eq, eq_self, Bool.true_eq_false, Bool.false_eq_true, cond_true, cond_false, not_false_eq_true, not_true_eq_false, ite_true, ite_false, if_true, if_false, reduceIte, mf_0, mf_1, mf_2, mf_3, mf_4, mf_5, mf_6, mf_7, mf_8, mf_9, mf_10, mf_11, mf_12, mf_13, mf_14, mf_15, mf_16, mf_17, mf_18, mf_19, mf_20, mf_21, mf_22, mf_23, mf_24, mf_25, mf_26, mf_27, mf_28, mp_0, mp_3, mp_6, mp_7, mp_8, mp_9, mp_10, mp_11, mp_12, mp_14, mp_15, mp_16, mp_17, mp_25, mp_26, mp_28, mr_0, mr_1, mr_2, mr_3, mr_4, mr_5, mr_6, mr_7, mr_8, mr_9, mr_10, mr_11, mr_12, mw_0, mw_1, mw_2, mw_3, mw_4, mw_5, mw_6, mw_7, mw_8, mw_9, mw_10, mw_11, mw_12, hp]
    exact tail (n + 1) a2 u h5.2 (by omega)
theorem S_plain {d am n dp : Nat} {x : Nat → Int32} {M : MS} {h : AH} {F : FV} (hP : PM M x n dp F) (hK : KS h am) (hd : dp ≤ 6) {a : Nat} (ha : a ≤ n) : Pres bI am n dp M h F (pPlain x n a) (exec tTab (d + 8) K_X7_plain [.ref am] (put am (us M 9 (nI a)) h)) := by
  have hL := hP.1
  have hf := hP.2.1
  obtain ⟨hF, hF1, hF2, hF3⟩ := hP.2.2.2
  have h8 := hL.1
  have h400 := hL.2.1
  have hb := sk_le (x := x) ha
  obtain ⟨a0, k0, s0⟩ := hK.2 (37, w_near) (by decide)
  have g0 := S_has0 (d := d + 2) hL hK.1 s0 (by decide) ha
  obtain ⟨a1, k1, s1⟩ := hK.2 (54, w_timed) (by decide)
  have g1 := S_ask (d := d + 2) (i := 0) hL hK.1 s1 (by decide) ha
  obtain ⟨a2, k2, s2⟩ := hK.2 (55, w_again) (by decide)
  have g2 := S_ask (d := d + 2) (i := 0) hL hK.1 s2 (by decide) ha
  unfold pPlain
  cases c0 : nxw x n a w_near with
  | true => simp (disch := first | omega | decide) only [e_X7_plain, r_X7_plain_0, r_X7_plain_3, r_X7_plain_3N, r_X7_plain_6, r_X7_plain_14, r_X7_plain_9, r_X7_plain_17, r_X7_plain_17N, r_X7_plain_13, r_X7_plain_20, r_X7_plain_28, r_X7_plain_23, r_X7_plain_31, r_X7_plain_31N, r_X7_plain_27, r_X7_plain_34, r_X7_plain_42, r_X7_plain_37, r_X7_plain_46, r_X7_plain_41, r_X7_plain_51, r_X7_plain_57, r_X7_plain_55, r_X7_plain_63, r_X7_plain_87, r_X7_plain_68, r_X7_plain_92, r_X7_plain_74, r_X7_plain_97, r_X7_plain_77, r_X7_plain_101, r_X7_plain_82, r_X7_plain_119, r_X7_plain_106, r_X7_plain_85, r_X7_plain_128, r_X7_plain_124, r_X7_plain_115, r_X7_plain_111, aK_ret, aK_thr, Option.bind_some, Option.toList_some, Option.toList_none, List.cons_append, List.nil_append, List.set_cons_zero, List.set_cons_succ, lk1, hci_put, put_2, us_2, ua_1, us_eq, us_ne, ua_eq, ua_ne, uf_eq, uf_ne, us_neD, ua_neD, ua_0, sm_1, sm_2, sm_sm, us_sm, sm_us1, sm_ne, nI_add, pk_mul, add_n0, ret_bI, bI_0, Nat.add_zero, nI10, nI00, ne_eq, eq_self, Bool.true_eq_false, Bool.false_eq_true, cond_true, cond_false, not_false_eq_true, not_true_eq_false, ite_true, ite_false, if_true, if_false, reduceIte, mf_0, mf_1, mf_2, mf_3, mf_4, mf_5, mf_6, mf_7, mf_8, mf_9, mf_10, mf_11, mf_12, mf_13, mf_14, mf_15, mf_16, mf_17, mf_18, mf_19, mf_20, mf_21, mf_22, mf_23, mf_24, mf_25, mf_26, mf_27, mf_28, mp_0, mp_3, mp_6, mp_7, mp_8, mp_9, mp_10, mp_11, mp_12, mp_14, mp_15, mp_16, mp_17, mp_25, mp_26, mp_28, mr_0, mr_1, mr_2, mr_3, mr_4, mr_5, mr_6, mr_7, mr_8, mr_9, mr_10, mr_11, mr_12, mw_0, mw_1, mw_2, mw_3, mw_4, mw_5, mw_6, mw_7, mw_8, mw_9, mw_10, mw_11, mw_12, k0, g0, c0, hF1, Pres]
  | false =>
    cases c1 : nxw x n a w_timed with
    | true => simp (disch := first | omega | decide) only [e_X7_plain, r_X7_plain_0, r_X7_plain_3, r_X7_plain_3N, r_X7_plain_6, r_X7_plain_14, r_X7_plain_9, r_X7_plain_17, r_X7_plain_17N, r_X7_plain_13, r_X7_plain_20, r_X7_plain_28, r_X7_plain_23, r_X7_plain_31, r_X7_plain_31N, r_X7_plain_27, r_X7_plain_34, r_X7_plain_42, r_X7_plain_37, r_X7_plain_46, r_X7_plain_41, r_X7_plain_51, r_X7_plain_57, r_X7_plain_55, r_X7_plain_63, r_X7_plain_87, r_X7_plain_68, r_X7_plain_92, r_X7_plain_74, r_X7_plain_97, r_X7_plain_77, r_X7_plain_101, r_X7_plain_82, r_X7_plain_119, r_X7_plain_106, r_X7_plain_85, r_X7_plain_128, r_X7_plain_124, r_X7_plain_115, r_X7_plain_111, aK_ret, aK_thr, Option.bind_some, Option.toList_some, Option.toList_none, List.cons_append, List.nil_append, List.set_cons_zero, List.set_cons_succ, lk1, hci_put, put_2, us_2, ua_1, us_eq, us_ne, ua_eq, ua_ne, uf_eq, uf_ne, us_neD, ua_neD, ua_0, sm_1, sm_2, sm_sm, us_sm, sm_us1, sm_ne, nI_add, pk_mul, add_n0, ret_bI, bI_0, Nat.add_zero, nI10, nI00, ne_eq, eq_self, Bool.true_eq_false, Bool.false_eq_true, cond_true, cond_false, not_false_eq_true, not_true_eq_false, ite_true, ite_false, if_true, if_false, reduceIte, mf_0, mf_1, mf_2, mf_3, mf_4, mf_5, mf_6, mf_7, mf_8, mf_9, mf_10, mf_11, mf_12, mf_13, mf_14, mf_15, mf_16, mf_17, mf_18, mf_19, mf_20, mf_21, mf_22, mf_23, mf_24, mf_25, mf_26, mf_27, mf_28, mp_0, mp_3, mp_6, mp_7, mp_8, mp_9, mp_10, mp_11, mp_12, mp_14, mp_15, mp_16, mp_17, mp_25, mp_26, mp_28, mr_0, mr_1, mr_2, mr_3, mr_4, mr_5, mr_6, mr_7, mr_8, mr_9, mr_10, mr_11, mr_12, mw_0, mw_1, mw_2, mw_3, mw_4, mw_5, mw_6, mw_7, mw_8, mw_9, mw_10, mw_11, mw_12, k0, g0, c0, nxa_f c0, k1, g1, c1, hF2, Pres]
    | false =>
      cases c2 : nxw x n a w_again with
      | true => simp (disch := first | omega | decide) only [e_X7_plain, r_X7_plain_0, r_X7_plain_3, r_X7_plain_3N, r_X7_plain_6, r_X7_plain_14, r_X7_plain_9, r_X7_plain_17, r_X7_plain_17N, r_X7_plain_13, r_X7_plain_20, r_X7_plain_28, r_X7_plain_23, r_X7_plain_31, r_X7_plain_31N, r_X7_plain_27, r_X7_plain_34, r_X7_plain_42, r_X7_plain_37, r_X7_plain_46, r_X7_plain_41, r_X7_plain_51, r_X7_plain_57, r_X7_plain_55, r_X7_plain_63, r_X7_plain_87, r_X7_plain_68, r_X7_plain_92, r_X7_plain_74, r_X7_plain_97, r_X7_plain_77, r_X7_plain_101, r_X7_plain_82, r_X7_plain_119, r_X7_plain_106, r_X7_plain_85, r_X7_plain_128, r_X7_plain_124, r_X7_plain_115, r_X7_plain_111, aK_ret, aK_thr, Option.bind_some, Option.toList_some, Option.toList_none, List.cons_append, List.nil_append, List.set_cons_zero, List.set_cons_succ, lk1, hci_put, put_2, us_2, ua_1, us_eq, us_ne, ua_eq, ua_ne, uf_eq, uf_ne, us_neD, ua_neD, ua_0, sm_1, sm_2, sm_sm, us_sm, sm_us1, sm_ne, nI_add, pk_mul, add_n0, ret_bI, bI_0, Nat.add_zero, nI10, nI00, ne_eq, eq_self, Bool.true_eq_false, Bool.false_eq_true, cond_true, cond_false, not_false_eq_true, not_true_eq_false, ite_true, ite_false, if_true, if_false, reduceIte, mf_0, mf_1, mf_2, mf_3, mf_4, mf_5, mf_6, mf_7, mf_8, mf_9, mf_10, mf_11, mf_12, mf_13, mf_14, mf_15, mf_16, mf_17, mf_18, mf_19, mf_20, mf_21, mf_22, mf_23, mf_24, mf_25, mf_26, mf_27, mf_28, mp_0, mp_3, mp_6, mp_7, mp_8, mp_9, mp_10, mp_11, mp_12, mp_14, mp_15, mp_16, mp_17, mp_25, mp_26, mp_28, mr_0, mr_1, mr_2, mr_3, mr_4, mr_5, mr_6, mr_7, mr_8, mr_9, mr_10, mr_11, mr_12, mw_0, mw_1, mw_2, mw_3, mw_4, mw_5, mw_6, mw_7, mw_8, mw_9, mw_10, mw_11, mw_12, k0, g0, c0, nxa_f c0, k1, g1, c1, nxa_f c1, k2, g2, c2, hF3, Pres]
      | false =>
        have go : exec tTab (d + 8) K_X7_plain [.ref am] (put am (us M 9 (nI a)) h) = R_X7_plain (d + 7) 42 [some (.ref am), none, none, none] [] (put am (us M 9 (nI (sk x n a))) h) := by
          simp (disch := first | omega | decide) only [e_X7_plain, r_X7_plain_0, r_X7_plain_3, r_X7_plain_6, r_X7_plain_14, r_X7_plain_17, r_X7_plain_20, r_X7_plain_28, r_X7_plain_31, r_X7_plain_34, aK_ret, aK_thr, Option.bind_some, Option.toList_some, Option.toList_none, List.cons_append, List.nil_append, List.set_cons_zero, List.set_cons_succ, lk1, hci_put, put_2, us_2, ua_1, us_eq, us_ne, ua_eq, ua_ne, uf_eq, uf_ne, us_neD, ua_neD, ua_0, sm_1, sm_2, sm_sm, us_sm, sm_us1, sm_ne, nI_add, pk_mul, add_n0, ret_bI, bI_0, Nat.add_zero, nI10, nI00, ne_eq, eq_self, Bool.true_eq_false, Bool.false_eq_true, cond_true, cond_false, not_false_eq_true, not_true_eq_false, ite_true, ite_false, if_true, if_false, reduceIte, mf_0, mf_1, mf_2, mf_3, mf_4, mf_5, mf_6, mf_7, mf_8, mf_9, mf_10, mf_11, mf_12, mf_13, mf_14, mf_15, mf_16, mf_17, mf_18, mf_19, mf_20, mf_21, mf_22, mf_23, mf_24, mf_25, mf_26, mf_27, mf_28, mp_0, mp_3, mp_6, mp_7, mp_8, mp_9, mp_10, mp_11, mp_12, mp_14, mp_15, mp_16, mp_17, mp_25, mp_26, mp_28, mr_0, mr_1, mr_2, mr_3, mr_4, mr_5, mr_6, mr_7, mr_8, mr_9, mr_10, mr_11, mr_12, mw_0, mw_1, mw_2, mw_3, mw_4, mw_5, mw_6, mw_7, mw_8, mw_9, mw_10, mw_11, mw_12, k0, g0, c0, nxa_f c0, k1, g1, c1, nxa_f c1, k2, g2, c2, nxa_f c2]
        rw [go]
        simp only [Bool.false_eq_true, if_false]
        have hs1 := S_sum (d := d) (am := am) (h := h) hP hK hd (a := sk x n a) hb
        have hss : pSum x n (sk x n a) = pSum x n a := by unfold pSum loopP pPart; simp only [sk_sk, nxw_sk, nxa_sk]
        rw [hss] at hs1
        cases hr : pSum x n a with
        | inr q =>
          rw [hr] at hs1
          obtain ⟨v, a', hq, hle, e⟩ := hs1
          simp (disch := first | omega | decide) only [r_X7_plain_42, r_X7_plain_46, r_X7_plain_51, r_X7_plain_55, aK_ret, aK_thr, Option.bind_some, Option.toList_some, Option.toList_none, List.cons_append, List.nil_append, List.set_cons_zero, List.set_cons_succ, lk1, hci_put, put_2, us_2, ua_1, us_eq, us_ne, ua_eq, ua_ne, uf_eq, uf_ne, us_neD, ua_neD, ua_0, sm_1, sm_2, sm_sm, us_sm, sm_us1, sm_ne, nI_add, pk_mul, add_n0, ret_bI, bI_0, Nat.add_zero, nI10, nI00, ne_eq, eq_self, Bool.true_eq_false, Bool.false_eq_true, cond_true, cond_false, not_false_eq_true, not_true_eq_false, ite_true, ite_false, if_true, if_false, reduceIte, mf_0, mf_1, mf_2, mf_3, mf_4, mf_5, mf_6, mf_7, mf_8, mf_9, mf_10, mf_11, mf_12, mf_13, mf_14, mf_15, mf_16, mf_17, mf_18, mf_19, mf_20, mf_21, mf_22, mf_23, mf_24, mf_25, mf_26, mf_27, mf_28, mp_0, mp_3, mp_6, mp_7, mp_8, mp_9, mp_10, mp_11, mp_12, mp_14, mp_15, mp_16, mp_17, mp_25, mp_26, mp_28, mr_0, mr_1, mr_2, mr_3, mr_4, mr_5, mr_6, mr_7, mr_8, mr_9, mr_10, mr_11, mr_12, mw_0, mw_1, mw_2, mw_3, mw_4, mw_5, mw_6, mw_7, mw_8, mw_9, mw_10, mw_11, mw_12, nIm, e]
          exact ⟨false, a', hq, hle, rfl⟩
        | inl z =>
          obtain ⟨b1, u⟩ := z
          rw [hr] at hs1
          have hs1 : _ = _ := hs1
          dsimp only at hs1
          have h5 := pSum_adv _ _ _ ha hr
          have hb1 := sk_le (x := x) h5.2
          have hl := S_isSign (d := d + 4) (am := am) (h := h) (c := nI 60) hL h5.2
          have hg := S_isSign (d := d + 4) (am := am) (h := h) (c := nI 62) hL hb1
          rw [nxs_sk, sk_sk] at hg
          have hw := S_wrong1 (d := d + 6) (am := am) (M := us M 9 (nI (sk x n b1))) (h := h) (w := nI (sk x n b1)) (by rw [us_neD (by decide)]; exact hf)
          dsimp only
          have two : ∀ less : Bool, sk x n b1 + 1 ≤ n → Pres bI am n dp M h F (match pSum x n (sk x n b1 + 1) with
              | .inr q => .inr q
              | .inl (a2, v) => .inl (a2, fun F => bif less then decide (u F < v F) else decide (v F < u F))) (R_X7_plain (d + 7) 87 [some (.ref am), some (.int (idI (u F))), some (.int (bI less)), none] [] (put am (us M 9 (nI (sk x n b1))) h)) := by
            intro less hn1
            have hs2 := S_sum (d := d) (am := am) (h := h) hP hK hd (a := sk x n b1 + 1) hn1
            have fin : ∀ (v : Int32) (H : AH), R_X7_plain (d + 7) 101 [some (.ref am), some (.int (idI (u F))), some (.int (bI less)), none] [.int v] H = some (.inl (some (.int (bI (bif less then decide (u F < v) else decide (v < u F))))), H) := by
              intro v H
              cases less with
              | true =>
                by_cases hc : v ≤ u F
                · simp only [r_X7_plain_101, r_X7_plain_106, r_X7_plain_115, bI_0, Bool.true_eq_false, if_false, idI, hc, if_true, cond_true, Int32.not_lt.mpr hc, decide_false, bI_f, nI10, nI00, if_true]
                · simp only [r_X7_plain_101, r_X7_plain_106, r_X7_plain_111, bI_0, Bool.true_eq_false, if_false, idI, hc, cond_true, Int32.not_le.mp hc, decide_true, bI_t, nI10, nI00, if_true]
              | false =>
                by_cases hc : u F ≤ v
                · simp only [r_X7_plain_101, r_X7_plain_119, r_X7_plain_128, bI_0, if_true, idI, hc, cond_false, Int32.not_lt.mpr hc, decide_false, bI_f, nI10, nI00, if_true]
                · simp only [r_X7_plain_101, r_X7_plain_119, r_X7_plain_124, bI_0, if_true, if_false, idI, hc, cond_false, Int32.not_le.mp hc, decide_true, bI_t, nI10, nI00, if_true]
            cases hr2 : pSum x n (sk x n b1 + 1) with
            | inr q =>
              rw [hr2] at hs2
              obtain ⟨v, a', hq, hle, e⟩ := hs2
              simp (disch := first | omega | decide) only [r_X7_plain_87, r_X7_plain_92, r_X7_plain_97, aK_ret, aK_thr, Option.bind_some, Option.toList_some, Option.toList_none, List.cons_append, List.nil_append, List.set_cons_zero, List.set_cons_succ, lk1, hci_put, put_2, us_2, ua_1, us_eq, us_ne, ua_eq, ua_ne, uf_eq, uf_ne, us_neD, ua_neD, ua_0, sm_1, sm_2, sm_sm, us_sm, sm_us1, sm_ne, nI_add, pk_mul, add_n0, ret_bI, bI_0, Nat.add_zero, nI10, nI00, ne_eq, eq_self, Bool.true_eq_false, Bool.false_eq_true, cond_true, cond_false, not_false_eq_true, not_true_eq_false, ite_true, ite_false, if_true, if_false, reduceIte, mf_0, mf_1, mf_2, mf_3, mf_4, mf_5, mf_6, mf_7, mf_8, mf_9, mf_10, mf_11, mf_12, mf_13, mf_14, mf_15, mf_16, mf_17, mf_18, mf_19, mf_20, mf_21, mf_22, mf_23, mf_24, mf_25, mf_26, mf_27, mf_28, mp_0, mp_3, mp_6, mp_7, mp_8, mp_9, mp_10, mp_11, mp_12, mp_14, mp_15, mp_16, mp_17, mp_25, mp_26, mp_28, mr_0, mr_1, mr_2, mr_3, mr_4, mr_5, mr_6, mr_7, mr_8, mr_9, mr_10, mr_11, mr_12, mw_0, mw_1, mw_2, mw_3, mw_4, mw_5, mw_6, mw_7, mw_8, mw_9, mw_10, mw_11, mw_12, us_us, e, fin]
              exact ⟨_, a', hq, hle, rfl⟩
            | inl z =>
              obtain ⟨b2, v⟩ := z
              rw [hr2] at hs2
              have hs2 : _ = _ := hs2
              dsimp only at hs2
              simp (disch := first | omega | decide) only [r_X7_plain_87, r_X7_plain_92, r_X7_plain_97, aK_ret, aK_thr, Option.bind_some, Option.toList_some, Option.toList_none, List.cons_append, List.nil_append, List.set_cons_zero, List.set_cons_succ, lk1, hci_put, put_2, us_2, ua_1, us_eq, us_ne, ua_eq, ua_ne, uf_eq, uf_ne, us_neD, ua_neD, ua_0, sm_1, sm_2, sm_sm, us_sm, sm_us1, sm_ne, nI_add, pk_mul, add_n0, ret_bI, bI_0, Nat.add_zero, nI10, nI00, ne_eq, eq_self, Bool.true_eq_false, Bool.false_eq_true, cond_true, cond_false, not_false_eq_true, not_true_eq_false, ite_true, ite_false, if_true, if_false, reduceIte, mf_0, mf_1, mf_2, mf_3, mf_4, mf_5, mf_6, mf_7, mf_8, mf_9, mf_10, mf_11, mf_12, mf_13, mf_14, mf_15, mf_16, mf_17, mf_18, mf_19, mf_20, mf_21, mf_22, mf_23, mf_24, mf_25, mf_26, mf_27, mf_28, mp_0, mp_3, mp_6, mp_7, mp_8, mp_9, mp_10, mp_11, mp_12, mp_14, mp_15, mp_16, mp_17, mp_25, mp_26, mp_28, mr_0, mr_1, mr_2, mr_3, mr_4, mr_5, mr_6, mr_7, mr_8, mr_9, mr_10, mr_11, mr_12, mw_0, mw_1, mw_2, mw_3, mw_4, mw_5, mw_6, mw_7, mw_8, mw_9, mw_10, mw_11, mw_12, us_us, hs2, fin]
              rfl
          cases cl : nxs x n b1 (nI 60) with
          | true =>
            rw [cl] at hl
            simp (disch := first | omega | decide) only [r_X7_plain_42, r_X7_plain_46, r_X7_plain_51, r_X7_plain_57, r_X7_plain_63, aK_ret, aK_thr, Option.bind_some, Option.toList_some, Option.toList_none, List.cons_append, List.nil_append, List.set_cons_zero, List.set_cons_succ, lk1, hci_put, put_2, us_2, ua_1, us_eq, us_ne, ua_eq, ua_ne, uf_eq, uf_ne, us_neD, ua_neD, ua_0, sm_1, sm_2, sm_sm, us_sm, sm_us1, sm_ne, nI_add, pk_mul, add_n0, ret_bI, bI_0, Nat.add_zero, nI10, nI00, ne_eq, eq_self, Bool.true_eq_false, Bool.false_eq_true, cond_true, cond_false, not_false_eq_true, not_true_eq_false, ite_true, ite_false, if_true, if_false, reduceIte, mf_0, mf_1, mf_2, mf_3, mf_4, mf_5, mf_6, mf_7, mf_8, mf_9, mf_10, mf_11, mf_12, mf_13, mf_14, mf_15, mf_16, mf_17, mf_18, mf_19, mf_20, mf_21, mf_22, mf_23, mf_24, mf_25, mf_26, mf_27, mf_28, mp_0, mp_3, mp_6, mp_7, mp_8, mp_9, mp_10, mp_11, mp_12, mp_14, mp_15, mp_16, mp_17, mp_25, mp_26, mp_28, mr_0, mr_1, mr_2, mr_3, mr_4, mr_5, mr_6, mr_7, mr_8, mr_9, mr_10, mr_11, mr_12, mw_0, mw_1, mw_2, mw_3, mw_4, mw_5, mw_6, mw_7, mw_8, mw_9, mw_10, mw_11, mw_12, hf, hs1, hl]
            exact two true (nxs_adv cl)
          | false =>
            rw [cl] at hl
            cases cg : nxs x n b1 (nI 62) with
            | true =>
              rw [cg] at hg
              simp (disch := first | omega | decide) only [r_X7_plain_42, r_X7_plain_46, r_X7_plain_51, r_X7_plain_57, r_X7_plain_63, r_X7_plain_68, r_X7_plain_74, aK_ret, aK_thr, Option.bind_some, Option.toList_some, Option.toList_none, List.cons_append, List.nil_append, List.set_cons_zero, List.set_cons_succ, lk1, hci_put, put_2, us_2, ua_1, us_eq, us_ne, ua_eq, ua_ne, uf_eq, uf_ne, us_neD, ua_neD, ua_0, sm_1, sm_2, sm_sm, us_sm, sm_us1, sm_ne, nI_add, pk_mul, add_n0, ret_bI, bI_0, Nat.add_zero, nI10, nI00, ne_eq, eq_self, Bool.true_eq_false, Bool.false_eq_true, cond_true, cond_false, not_false_eq_true, not_true_eq_false, ite_true, ite_false, if_true, if_false, reduceIte, mf_0, mf_1, mf_2, mf_3, mf_4, mf_5, mf_6, mf_7, mf_8, mf_9, mf_10, mf_11, mf_12, mf_13, mf_14, mf_15, mf_16, mf_17, mf_18, mf_19, mf_20, mf_21, mf_22, mf_23, mf_24, mf_25, mf_26, mf_27, mf_28, mp_0, mp_3, mp_6, mp_7, mp_8, mp_9, mp_10, mp_11, mp_12, mp_14, mp_15, mp_16, mp_17, mp_25, mp_26, mp_28, mr_0, mr_1, mr_2, mr_3, mr_4, mr_5, mr_6, mr_7, mr_8, mr_9, mr_10, mr_11, mr_12, mw_0, mw_1, mw_2, mw_3, mw_4, mw_5, mw_6, mw_7, mw_8, mw_9, mw_10, mw_11, mw_12, hf, hs1, hl, hg]
              exact two false (nxs_adv cg)
            | false =>
              rw [cg] at hg
              simp (disch := first | omega | decide) only [r_X7_plain_42, r_X7_plain_46, r_X7_plain_51, r_X7_plain_57, r_X7_plain_63, r_X7_plain_68, r_X7_plain_74, r_X7_plain_77, r_X7_plain_82, r_X7_plain_85, aK_ret, aK_thr, Option.bind_some, Option.toList_some, Option.toList_none, List.cons_append, List.nil_append, List.set_cons_zero, List.set_cons_succ, lk1, hci_put, put_2, us_2, ua_1, us_eq, us_ne, ua_eq, ua_ne, uf_eq, uf_ne, us_neD, ua_neD, ua_0, sm_1, sm_2, sm_sm, us_sm, sm_us1, sm_ne, nI_add, pk_mul, add_n0, ret_bI, bI_0, Nat.add_zero, nI10, nI00, ne_eq, eq_self, Bool.true_eq_false, Bool.false_eq_true, cond_true, cond_false, not_false_eq_true, not_true_eq_false, ite_true, ite_false, if_true, if_false, reduceIte, mf_0, mf_1, mf_2, mf_3, mf_4, mf_5, mf_6, mf_7, mf_8, mf_9, mf_10, mf_11, mf_12, mf_13, mf_14, mf_15, mf_16, mf_17, mf_18, mf_19, mf_20, mf_21, mf_22, mf_23, mf_24, mf_25, mf_26, mf_27, mf_28, mp_0, mp_3, mp_6, mp_7, mp_8, mp_9, mp_10, mp_11, mp_12, mp_14, mp_15, mp_16, mp_17, mp_25, mp_26, mp_28, mr_0, mr_1, mr_2, mr_3, mr_4, mr_5, mr_6, mr_7, mr_8, mr_9, mr_10, mr_11, mr_12, mw_0, mw_1, mw_2, mw_3, mw_4, mw_5, mw_6, mw_7, mw_8, mw_9, mw_10, mw_11, mw_12, hf, hs1, hl, hg, hw, us9_co]
              exact ⟨false, sk x n b1, hb1, by omega, rfl⟩
