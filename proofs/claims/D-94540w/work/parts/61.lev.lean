/-! ===== the model reads: rows of atoms, levels ===== -/
theorem S_every {d am n dp : Nat} {x : Nat → Int32} {M : MS} {h : AH} {F : FV} {atom : Nat → Res Bool} (hP : PM M x n dp F) (hK : KS h am) (hd : dp ≤ 6) (had : Adv n atom)
    (hi : ∀ a, a ≤ n → Pres bI am n dp M h F (atom a) (exec tTab (d + 9) K_X7_atom [.ref am] (put am (us M 9 (nI a)) h))) {a : Nat} (ha : a ≤ n) : Pres bI am n dp M h F (pEveryF x n atom a) (exec tTab (d + 10) K_X7_every [.ref am] (put am (us M 9 (nI a)) h)) := by
  have hL := hP.1
  have hf := hP.2.1
  have h8 := hL.1
  have h400 := hL.2.1
  obtain ⟨a0, k0, s0⟩ := hK.2 (57, w_and) (by decide)
  have bad : ∀ (v : Bool) (q a' : Nat) (l : Option Value), q ≤ n → R_X7_every (d + 9) 5 [some (.ref am), some (.int (bI v)), l] [] (put am (us (us M 10 (nI q)) 9 (nI a')) h) = some (.inl (some (.int (bI v))), put am (us (us M 10 (nI q)) 9 (nI a')) h) := by
    intro v q a' l hq
    rw [q_X7_every_5]
    simp (disch := first | omega | decide) only [r_X7_every_9, r_X7_every_44, aK_ret, aK_thr, Option.bind_some, Option.toList_some, Option.toList_none, List.cons_append, List.nil_append, List.set_cons_zero, List.set_cons_succ, lk1, hci_put, put_2, us_2, ua_1, us_eq, us_ne, ua_eq, ua_ne, uf_eq, uf_ne, us_neD, ua_neD, ua_0, sm_1, sm_2, sm_sm, us_sm, sm_us1, sm_ne, nI_add, pk_mul, add_n0, ret_bI, bI_0, Nat.add_zero, nI10, nI00, ne_eq, eq_self, Bool.true_eq_false, Bool.false_eq_true, cond_true, cond_false, not_false_eq_true, not_true_eq_false, ite_true, ite_false, if_true, if_false, reduceIte, mf_0, mf_1, mf_2, mf_3, mf_4, mf_5, mf_6, mf_7, mf_8, mf_9, mf_10, mf_11, mf_12, mf_13, mf_14, mf_15, mf_16, mf_17, mf_18, mf_19, mf_20, mf_21, mf_22, mf_23, mf_24, mf_25, mf_26, mf_27, mf_28, mp_0, mp_3, mp_6, mp_7, mp_8, mp_9, mp_10, mp_11, mp_12, mp_14, mp_15, mp_16, mp_17, mp_25, mp_26, mp_28, mr_0, mr_1, mr_2, mr_3, mr_4, mr_5, mr_6, mr_7, mr_8, mr_9, mr_10, mr_11, mr_12, mw_0, mw_1, mw_2, mw_3, mw_4, mw_5, mw_6, mw_7, mw_8, mw_9, mw_10, mw_11, mw_12, nIm]
  have join : ∀ (u v : Bool) (l : Option Value) (H : AH), R_X7_every (d + 9) 26 [some (.ref am), some (.int (bI u)), l] [.int (bI v)] H = R_X7_every (d + 9) 5 [some (.ref am), some (.int (bI (u && v))), some (.int (bI v))] [] H := by
    intro u v l H
    cases u <;> cases v <;> simp only [r_X7_every_26, r_X7_every_31, r_X7_every_35, r_X7_every_39, bI_0, Bool.true_eq_false, not_true_eq_false, not_false_eq_true, if_true, if_false, eq_self] <;> rfl
  have tail : ∀ f a1 acc l, a1 ≤ n → n < a1 + f → Pres bI am n dp M h F (loopT (atom) (fun a => nxw x n a w_and) (fun a => nxa x n a w_and) (sk x n) (fun u v => u && v) f a1 acc) (R_X7_every (d + 9) 5 [some (.ref am), some (.int (bI (acc F))), l] [] (put am (us M 9 (nI a1)) h)) := by
    intro f
    induction f with
    | zero => intro a1 acc l h1 h2; exact absurd h2 (by omega)
    | succ f ih =>
      intro a1 acc l h1 h2
      have g0 := S_has0 (d := d + 4) hL hK.1 s0 (by decide) h1
      rw [loopT, q_X7_every_5]
      cases hc : nxw x n a1 w_and with
      | false => simp (disch := first | omega | decide) only [r_X7_every_9, r_X7_every_13, r_X7_every_16, r_X7_every_19, r_X7_every_44, aK_ret, aK_thr, Option.bind_some, Option.toList_some, Option.toList_none, List.cons_append, List.nil_append, List.set_cons_zero, List.set_cons_succ, lk1, hci_put, put_2, us_2, ua_1, us_eq, us_ne, ua_eq, ua_ne, uf_eq, uf_ne, us_neD, ua_neD, ua_0, sm_1, sm_2, sm_sm, us_sm, sm_us1, sm_ne, nI_add, pk_mul, add_n0, ret_bI, bI_0, Nat.add_zero, nI10, nI00, ne_eq, eq_self, Bool.true_eq_false, Bool.false_eq_true, cond_true, cond_false, not_false_eq_true, not_true_eq_false, ite_true, ite_false, if_true, if_false, reduceIte, mf_0, mf_1, mf_2, mf_3, mf_4, mf_5, mf_6, mf_7, mf_8, mf_9, mf_10, mf_11, mf_12, mf_13, mf_14, mf_15, mf_16, mf_17, mf_18, mf_19, mf_20, mf_21, mf_22, mf_23, mf_24, mf_25, mf_26, mf_27, mf_28, mp_0, mp_3, mp_6, mp_7, mp_8, mp_9, mp_10, mp_11, mp_12, mp_14, mp_15, mp_16, mp_17, mp_25, mp_26, mp_28, mr_0, mr_1, mr_2, mr_3, mr_4, mr_5, mr_6, mr_7, mr_8, mr_9, mr_10, mr_11, mr_12, mw_0, mw_1, mw_2, mw_3, mw_4, mw_5, mw_6, mw_7, mw_8, mw_9, mw_10, mw_11, mw_12, hf, k0, g0, hc, nxa_f hc, Pres]
      | true =>
        have h3 := nxw_adv h1 hc
        have h4 : 0 < w_and.length := by decide
        have hp := hi (nxa x n a1 w_and) h3.2
        dsimp only [cond_true]
        cases hr : atom (nxa x n a1 w_and) with
        | inr q =>
          rw [hr] at hp
          obtain ⟨v, a', hq, hle, e⟩ := hp
          simp (disch := first | omega | decide) only [r_X7_every_9, r_X7_every_13, r_X7_every_16, r_X7_every_19, r_X7_every_22, aK_ret, aK_thr, Option.bind_some, Option.toList_some, Option.toList_none, List.cons_append, List.nil_append, List.set_cons_zero, List.set_cons_succ, lk1, hci_put, put_2, us_2, ua_1, us_eq, us_ne, ua_eq, ua_ne, uf_eq, uf_ne, us_neD, ua_neD, ua_0, sm_1, sm_2, sm_sm, us_sm, sm_us1, sm_ne, nI_add, pk_mul, add_n0, ret_bI, bI_0, Nat.add_zero, nI10, nI00, ne_eq, eq_self, Bool.true_eq_false, Bool.false_eq_true, cond_true, cond_false, not_false_eq_true, not_true_eq_false, ite_true, ite_false, if_true, if_false, reduceIte, mf_0, mf_1, mf_2, mf_3, mf_4, mf_5, mf_6, mf_7, mf_8, mf_9, mf_10, mf_11, mf_12, mf_13, mf_14, mf_15, mf_16, mf_17, mf_18, mf_19, mf_20, mf_21, mf_22, mf_23, mf_24, mf_25, mf_26, mf_27, mf_28, mp_0, mp_3, mp_6, mp_7, mp_8, mp_9, mp_10, mp_11, mp_12, mp_14, mp_15, mp_16, mp_17, mp_25, mp_26, mp_28, mr_0, mr_1, mr_2, mr_3, mr_4, mr_5, mr_6, mr_7, mr_8, mr_9, mr_10, mr_11, mr_12, mw_0, mw_1, mw_2, mw_3, mw_4, mw_5, mw_6, mw_7, mw_8, mw_9, mw_10, mw_11, mw_12, hf, k0, g0, hc, e, join, bad _ q a' _ hq]
          exact ⟨_, a', hq, hle, rfl⟩
        | inl z =>
          obtain ⟨a2, u⟩ := z
          rw [hr] at hp
          have hp : _ = _ := hp
          dsimp only at hp
          have h5 := had _ _ _ h3.2 hr
          simp (disch := first | omega | decide) only [r_X7_every_9, r_X7_every_13, r_X7_every_16, r_X7_every_19, r_X7_every_22, aK_ret, aK_thr, Option.bind_some, Option.toList_some, Option.toList_none, List.cons_append, List.nil_append, List.set_cons_zero, List.set_cons_succ, lk1, hci_put, put_2, us_2, ua_1, us_eq, us_ne, ua_eq, ua_ne, uf_eq, uf_ne, us_neD, ua_neD, ua_0, sm_1, sm_2, sm_sm, us_sm, sm_us1, sm_ne, nI_add, pk_mul, add_n0, ret_bI, bI_0, Nat.add_zero, nI10, nI00, ne_eq, eq_self, Bool.true_eq_false, Bool.false_eq_true, cond_true, cond_false, not_false_eq_true, not_true_eq_false, ite_true, ite_false, if_true, if_false, reduceIte, mf_0, mf_1, mf_2, mf_3, mf_4, mf_5, mf_6, mf_7, mf_8, mf_9, mf_10, mf_11, mf_12, mf_13, mf_14, mf_15, mf_16, mf_17, mf_18, mf_19, mf_20, mf_21, mf_22, mf_23, mf_24, mf_25, mf_26, mf_27, mf_28, mp_0, mp_3, mp_6, mp_7, mp_8, mp_9, mp_10, mp_11, mp_12, mp_14, mp_15, mp_16, mp_17, mp_25, mp_26, mp_28, mr_0, mr_1, mr_2, mr_3, mr_4, mr_5, mr_6, mr_7, mr_8, mr_9, mr_10, mr_11, mr_12, mw_0, mw_1, mw_2, mw_3, mw_4, mw_5, mw_6, mw_7, mw_8, mw_9, mw_10, mw_11, mw_12, hf, k0, g0, hc, hp, join]
          exact ih a2 (fun F => acc F && u F) _ h5.2 (by omega)
  have hp := hi a ha
  unfold pEveryF loopP
  cases hr : atom a with
  | inr q =>
    rw [hr] at hp
    obtain ⟨v, a', hq, hle, e⟩ := hp
    simp (disch := first | omega | decide) only [e_X7_every, r_X7_every_0, r_X7_every_4, aK_ret, aK_thr, Option.bind_some, Option.toList_some, Option.toList_none, List.cons_append, List.nil_append, List.set_cons_zero, List.set_cons_succ, lk1, hci_put, put_2, us_2, ua_1, us_eq, us_ne, ua_eq, ua_ne, uf_eq, uf_ne, us_neD, ua_neD, ua_0, sm_1, sm_2, sm_sm, us_sm, sm_us1, sm_ne, nI_add, pk_mul, add_n0, ret_bI, bI_0, Nat.add_zero, nI10, nI00, ne_eq, eq_self, Bool.true_eq_false, Bool.false_eq_true, cond_true, cond_false, not_false_eq_true, not_true_eq_false, ite_true, ite_false, if_true, if_false, reduceIte, mf_0, mf_1, mf_2, mf_3, mf_4, mf_5, mf_6, mf_7, mf_8, mf_9, mf_10, mf_11, mf_12, mf_13, mf_14, mf_15, mf_16, mf_17, mf_18, mf_19, mf_20, mf_21, mf_22, mf_23, mf_24, mf_25, mf_26, mf_27, mf_28, mp_0, mp_3, mp_6, mp_7, mp_8, mp_9, mp_10, mp_11, mp_12, mp_14, mp_15, mp_16, mp_17, mp_25, mp_26, mp_28, mr_0, mr_1, mr_2, mr_3, mr_4, mr_5, mr_6, mr_7, mr_8, mr_9, mr_10, mr_11, mr_12, mw_0, mw_1, mw_2, mw_3, mw_4, mw_5, mw_6, mw_7, mw_8, mw_9, mw_10, mw_11, mw_12, e, bad _ q a' _ hq]
    exact ⟨_, a', hq, hle, rfl⟩
  | inl z =>
    obtain ⟨a2, u⟩ := z
    rw [hr] at hp
    have hp : _ = _ := hp
    dsimp only at hp
    have h5 := had _ _ _ ha hr
    simp (disch := first | omega | decide) only [e_X7_every, r_X7_every_0, r_X7_every_4, aK_ret, aK_thr, Option.bind_some, Option.toList_some, Option.toList_none, List.cons_append, List.nil_append, List.set_cons_zero, List.set_cons_succ, lk1, hci_put, put_2, us_2, ua_1, us_eq, us_ne, ua_eq, ua_ne, uf_eq, uf_ne, us_neD, ua_neD, ua_0, sm_1, sm_2, sm_sm, us_sm, sm_us1, sm_ne, nI_add, pk_mul, add_n0, ret_bI, bI_0, Nat.add_zero, nI10, nI00, ne_eq, eq_self, Bool.true_eq_false, Bool.false_eq_true, cond_true, cond_false, not_false_eq_true, not_true_eq_false, ite_true, ite_false, if_true, if_false, reduceIte, mf_0, mf_1, mf_2, mf_3, mf_4, mf_5, mf_6, mf_7, mf_8, mf_9, mf_10, mf_11, mf_12, mf_13, mf_14, mf_15, mf_16, mf_17, mf_18, mf_19, mf_20, mf_21, mf_22, mf_23, mf_24, mf_25, mf_26, mf_27, mf_28, mp_0, mp_3, mp_6, mp_7, mp_8, mp_9, mp_10, mp_11, mp_12, mp_14, mp_15, mp_16, mp_17, mp_25, mp_26, mp_28, mr_0, mr_1, mr_2, mr_3, mr_4, mr_5, mr_6, mr_7, mr_8, mr_9, mr_10, mr_11, mr_12, mw_0, mw_1, mw_2, mw_3, mw_4, mw_5, mw_6, mw_7, mw_8, mw_9, mw_10, mw_11, mw_12, hp]
    exact tail (n + 1) a2 u none h5.2 (by omega)
theorem S_some {d am n dp : Nat} {x : Nat → Int32} {M : MS} {h : AH} {F : FV} {atom : Nat → Res Bool} (hP : PM M x n dp F) (hK : KS h am) (hd : dp ≤ 6) (had : Adv n atom)
    (hi : ∀ a, a ≤ n → Pres bI am n dp M h F (atom a) (exec tTab (d + 9) K_X7_atom [.ref am] (put am (us M 9 (nI a)) h))) {a : Nat} (ha : a ≤ n) : Pres bI am n dp M h F (pSomeF x n atom a) (exec tTab (d + 11) K_X7_some [.ref am] (put am (us M 9 (nI a)) h)) := by
  have hL := hP.1
  have hf := hP.2.1
  have h8 := hL.1
  have h400 := hL.2.1
  obtain ⟨a0, k0, s0⟩ := hK.2 (58, w_or) (by decide)
  have bad : ∀ (v : Bool) (q a' : Nat) (l : Option Value), q ≤ n → R_X7_some (d + 10) 5 [some (.ref am), some (.int (bI v)), l] [] (put am (us (us M 10 (nI q)) 9 (nI a')) h) = some (.inl (some (.int (bI v))), put am (us (us M 10 (nI q)) 9 (nI a')) h) := by
    intro v q a' l hq
    rw [q_X7_some_5]
    simp (disch := first | omega | decide) only [r_X7_some_9, r_X7_some_44, aK_ret, aK_thr, Option.bind_some, Option.toList_some, Option.toList_none, List.cons_append, List.nil_append, List.set_cons_zero, List.set_cons_succ, lk1, hci_put, put_2, us_2, ua_1, us_eq, us_ne, ua_eq, ua_ne, uf_eq, uf_ne, us_neD, ua_neD, ua_0, sm_1, sm_2, sm_sm, us_sm, sm_us1, sm_ne, nI_add, pk_mul, add_n0, ret_bI, bI_0, Nat.add_zero, nI10, nI00, ne_eq, eq_self, Bool.true_eq_false, Bool.false_eq_true, cond_true, cond_false, not_false_eq_true, not_true_eq_false, ite_true, ite_false, if_true, if_false, reduceIte, mf_0, mf_1, mf_2, mf_3, mf_4, mf_5, mf_6, mf_7, mf_8, mf_9, mf_10, mf_11, mf_12, mf_13, mf_14, mf_15, mf_16, mf_17, mf_18, mf_19, mf_20, mf_21, mf_22, mf_23, mf_24, mf_25, mf_26, mf_27, mf_28, mp_0, mp_3, mp_6, mp_7, mp_8, mp_9, mp_10, mp_11, mp_12, mp_14, mp_15, mp_16, mp_17, mp_25, mp_26, mp_28, mr_0, mr_1, mr_2, mr_3, mr_4, mr_5, mr_6, mr_7, mr_8, mr_9, mr_10, mr_11, mr_12, mw_0, mw_1, mw_2, mw_3, mw_4, mw_5, mw_6, mw_7, mw_8, mw_9, mw_10, mw_11, mw_12, nIm]
  have join : ∀ (u v : Bool) (l : Option Value) (H : AH), R_X7_some (d + 10) 26 [some (.ref am), some (.int (bI u)), l] [.int (bI v)] H = R_X7_some (d + 10) 5 [some (.ref am), some (.int (bI (u || v))), some (.int (bI v))] [] H := by
    intro u v l H
    cases u <;> cases v <;> simp only [r_X7_some_26, r_X7_some_31, r_X7_some_35, r_X7_some_39, bI_0, Bool.true_eq_false, not_true_eq_false, not_false_eq_true, if_true, if_false, eq_self] <;> rfl
  have tail : ∀ f a1 acc l, a1 ≤ n → n < a1 + f → Pres bI am n dp M h F (loopT (pEveryF x n atom) (fun a => nxw x n a w_or) (fun a => nxa x n a w_or) (sk x n) (fun u v => u || v) f a1 acc) (R_X7_some (d + 10) 5 [some (.ref am), some (.int (bI (acc F))), l] [] (put am (us M 9 (nI a1)) h)) := by
    intro f
    induction f with
    | zero => intro a1 acc l h1 h2; exact absurd h2 (by omega)
    | succ f ih =>
      intro a1 acc l h1 h2
      have g0 := S_has0 (d := d + 5) hL hK.1 s0 (by decide) h1
      rw [loopT, q_X7_some_5]
      cases hc : nxw x n a1 w_or with
      | false => simp (disch := first | omega | decide) only [r_X7_some_9, r_X7_some_13, r_X7_some_16, r_X7_some_19, r_X7_some_44, aK_ret, aK_thr, Option.bind_some, Option.toList_some, Option.toList_none, List.cons_append, List.nil_append, List.set_cons_zero, List.set_cons_succ, lk1, hci_put, put_2, us_2, ua_1, us_eq, us_ne, ua_eq, ua_ne, uf_eq, uf_ne, us_neD, ua_neD, ua_0, sm_1, sm_2, sm_sm, us_sm, sm_us1, sm_ne, nI_add, pk_mul, add_n0, ret_bI, bI_0, Nat.add_zero, nI10, nI00, ne_eq, eq_self, Bool.true_eq_false, Bool.false_eq_true, cond_true, cond_false, not_false_eq_true, not_true_eq_false, ite_true, ite_false, if_true, if_false, reduceIte, mf_0, mf_1, mf_2, mf_3, mf_4, mf_5, mf_6, mf_7, mf_8, mf_9, mf_10, mf_11, mf_12, mf_13, mf_14, mf_15, mf_16, mf_17, mf_18, mf_19, mf_20, mf_21, mf_22, mf_23, mf_24, mf_25, mf_26, mf_27, mf_28, mp_0, mp_3, mp_6, mp_7, mp_8, mp_9, mp_10, mp_11, mp_12, mp_14, mp_15, mp_16, mp_17, mp_25, mp_26, mp_28, mr_0, mr_1, mr_2, mr_3, mr_4, mr_5, mr_6, mr_7, mr_8, mr_9, mr_10, mr_11, mr_12, mw_0, mw_1, mw_2, mw_3, mw_4, mw_5, mw_6, mw_7, mw_8, mw_9, mw_10, mw_11, mw_12, hf, k0, g0, hc, nxa_f hc, Pres]
      | true =>
        have h3 := nxw_adv h1 hc
        have h4 : 0 < w_or.length := by decide
        have hp := (fun a ha => S_every (a := a) hP hK hd had hi ha) (nxa x n a1 w_or) h3.2
        dsimp only [cond_true]
        cases hr : pEveryF x n atom (nxa x n a1 w_or) with
        | inr q =>
          rw [hr] at hp
          obtain ⟨v, a', hq, hle, e⟩ := hp
          simp (disch := first | omega | decide) only [r_X7_some_9, r_X7_some_13, r_X7_some_16, r_X7_some_19, r_X7_some_22, aK_ret, aK_thr, Option.bind_some, Option.toList_some, Option.toList_none, List.cons_append, List.nil_append, List.set_cons_zero, List.set_cons_succ, lk1, hci_put, put_2, us_2, ua_1, us_eq, us_ne, ua_eq, ua_ne, uf_eq, uf_ne, us_neD, ua_neD, ua_0, sm_1, sm_2, sm_sm, us_sm, sm_us1, sm_ne, nI_add, pk_mul, add_n0, ret_bI, bI_0, Nat.add_zero, nI10, nI00, ne_eq, eq_self, Bool.true_eq_false, Bool.false_eq_true, cond_true, cond_false, not_false_eq_true, not_true_eq_false, ite_true, ite_false, if_true, if_false, reduceIte, mf_0, mf_1, mf_2, mf_3, mf_4, mf_5, mf_6, mf_7, mf_8, mf_9, mf_10, mf_11, mf_12, mf_13, mf_14, mf_15, mf_16, mf_17, mf_18, mf_19, mf_20, mf_21, mf_22, mf_23, mf_24, mf_25, mf_26, mf_27, mf_28, mp_0, mp_3, mp_6, mp_7, mp_8, mp_9, mp_10, mp_11, mp_12, mp_14, mp_15, mp_16, mp_17, mp_25, mp_26, mp_28, mr_0, mr_1, mr_2, mr_3, mr_4, mr_5, mr_6, mr_7, mr_8, mr_9, mr_10, mr_11, mr_12, mw_0, mw_1, mw_2, mw_3, mw_4, mw_5, mw_6, mw_7, mw_8, mw_9, mw_10, mw_11, mw_12, hf, k0, g0, hc, e, join, bad _ q a' _ hq]
          exact ⟨_, a', hq, hle, rfl⟩
        | inl z =>
          obtain ⟨a2, u⟩ := z
          rw [hr] at hp
          have hp : _ = _ := hp
          dsimp only at hp
          have h5 := pEveryF_adv had _ _ _ h3.2 hr
          simp (disch := first | omega | decide) only [r_X7_some_9, r_X7_some_13, r_X7_some_16, r_X7_some_19, r_X7_some_22, aK_ret, aK_thr, Option.bind_some, Option.toList_some, Option.toList_none, List.cons_append, List.nil_append, List.set_cons_zero, List.set_cons_succ, lk1, hci_put, put_2, us_2, ua_1, us_eq, us_ne, ua_eq, ua_ne, uf_eq, uf_ne, us_neD, ua_neD, ua_0, sm_1, sm_2, sm_sm, us_sm, sm_us1, sm_ne, nI_add, pk_mul, add_n0, ret_bI, bI_0, Nat.add_zero, nI10, nI00, ne_eq, eq_self, Bool.true_eq_false, Bool.false_eq_true, cond_true, cond_false, not_false_eq_true, not_true_eq_false, ite_true, ite_false, if_true, if_false, reduceIte, mf_0, mf_1, mf_2, mf_3, mf_4, mf_5, mf_6, mf_7, mf_8, mf_9, mf_10, mf_11, mf_12, mf_13, mf_14, mf_15, mf_16, mf_17, mf_18, mf_19, mf_20, mf_21, mf_22, mf_23, mf_24, mf_25, mf_26, mf_27, mf_28, mp_0, mp_3, mp_6, mp_7, mp_8, mp_9, mp_10, mp_11, mp_12, mp_14, mp_15, mp_16, mp_17, mp_25, mp_26, mp_28, mr_0, mr_1, mr_2, mr_3, mr_4, mr_5, mr_6, mr_7, mr_8, mr_9, mr_10, mr_11, mr_12, mw_0, mw_1, mw_2, mw_3, mw_4, mw_5, mw_6, mw_7, mw_8, mw_9, mw_10, mw_11, mw_12, hf, k0, g0, hc, hp, join]
          exact ih a2 (fun F => acc F || u F) _ h5.2 (by omega)
  have hp := (fun a ha => S_every (a := a) hP hK hd had hi ha) a ha
  unfold pSomeF loopP
  cases hr : pEveryF x n atom a with
  | inr q =>
    rw [hr] at hp
    obtain ⟨v, a', hq, hle, e⟩ := hp
    simp (disch := first | omega | decide) only [e_X7_some, r_X7_some_0, r_X7_some_4, aK_ret, aK_thr, Option.bind_some, Option.toList_some, Option.toList_none, List.cons_append, List.nil_append, List.set_cons_zero, List.set_cons_succ, lk1, hci_put, put_2, us_2, ua_1, us_eq, us_ne, ua_eq, ua_ne, uf_eq, uf_ne, us_neD, ua_neD, ua_0, sm_1, sm_2, sm_sm, us_sm, sm_us1, sm_ne, nI_add, pk_mul, add_n0, ret_bI, bI_0, Nat.add_zero, nI10, nI00, ne_eq, eq_self, Bool.true_eq_false, Bool.false_eq_true, cond_true, cond_false, not_false_eq_true, not_true_eq_false, ite_true, ite_false, if_true, if_false, reduceIte, mf_0, mf_1, mf_2, mf_3, mf_4, mf_5, mf_6, mf_7, mf_8, mf_9, mf_10, mf_11, mf_12, mf_13, mf_14, mf_15, mf_16, mf_17, mf_18, mf_19, mf_20, mf_21, mf_22, mf_23, mf_24, mf_25, mf_26, mf_27, mf_28, mp_0, mp_3, mp_6, mp_7, mp_8, mp_9, mp_10, mp_11, mp_12, mp_14, mp_15, mp_16, mp_17, mp_25, mp_26, mp_28, mr_0, mr_1, mr_2, mr_3, mr_4, mr_5, mr_6, mr_7, mr_8, mr_9, mr_10, mr_11, mr_12, mw_0, mw_1, mw_2, mw_3, mw_4, mw_5, mw_6, mw_7, mw_8, mw_9, mw_10, mw_11, mw_12, e, bad _ q a' _ hq]
    exact ⟨_, a', hq, hle, rfl⟩
  | inl z =>
    obtain ⟨a2, u⟩ := z
    rw [hr] at hp
    have hp : _ = _ := hp
    dsimp only at hp
    have h5 := pEveryF_adv had _ _ _ ha hr
    simp (disch := first | omega | decide) only [e_X7_some, r_X7_some_0, r_X7_some_4, aK_ret, aK_thr, Option.bind_some, Option.toList_some, Option.toList_none, List.cons_append, List.nil_append, List.set_cons_zero, List.set_cons_succ, lk1, hci_put, put_2, us_2, ua_1, us_eq, us_ne, ua_eq, ua_ne, uf_eq, uf_ne, us_neD, ua_neD, ua_0, sm_1, sm_2, sm_sm, us_sm, sm_us1, sm_ne, nI_add, pk_mul, add_n0, ret_bI, bI_0, Nat.add_zero, nI10, nI00, ne_eq, eq_self, Bool.true_eq_false, Bool.false_eq_true, cond_true, cond_false, not_false_eq_true, not_true_eq_false, ite_true, ite_false, if_true, if_false, reduceIte, mf_0, mf_1, mf_2, mf_3, mf_4, mf_5, mf_6, mf_7, mf_8, mf_9, mf_10, mf_11, mf_12, mf_13, mf_14, mf_15, mf_16, mf_17, mf_18, mf_19, mf_20, mf_21, mf_22, mf_23, mf_24, mf_25, mf_26, mf_27, mf_28, mp_0, mp_3, mp_6, mp_7, mp_8, mp_9, mp_10, mp_11, mp_12, mp_14, mp_15, mp_16, mp_17, mp_25, mp_26, mp_28, mr_0, mr_1, mr_2, mr_3, mr_4, mr_5, mr_6, mr_7, mr_8, mr_9, mr_10, mr_11, mr_12, mw_0, mw_1, mw_2, mw_3, mw_4, mw_5, mw_6, mw_7, mw_8, mw_9, mw_10, mw_11, mw_12, hp]
    exact tail (n + 1) a2 u none h5.2 (by omega)
theorem S_lev {am n : Nat} {x : Nat → Int32} {h : AH} {F : FV} (hK : KS h am) : ∀ r, r ≤ 6 → ∀ d M a, PM M x n (6 - r) F → a ≤ n → Pres bI am n (6 - r) M h F ((pLev x n r).1 a) (exec tTab (d + 3 * r + 9) K_X7_atom [.ref am] (put am (us M 9 (nI a)) h)) ∧ Pres bI am n (6 - r) M h F ((pLev x n r).2 a) (exec tTab (d + 3 * r + 11) K_X7_some [.ref am] (put am (us M 9 (nI a)) h)) := by
  intro r
  induction r with
  | zero =>
    intro _ d M a hP ha
    have hi : ∀ d a, a ≤ n → Pres bI am n 6 M h F (pAtomF x n none a) (exec tTab (d + 9) K_X7_atom [.ref am] (put am (us M 9 (nI a)) h)) := fun d a ha => S_atomF hP hK (by omega) (fun _ => rfl) (fun s hs => by cases hs) ha
    exact ⟨hi d a ha, S_some hP hK (by omega) (pAtomF_adv (fun s hs => by cases hs)) (fun a ha => hi d a ha) ha⟩
  | succ r ih =>
    intro hr6 d M a hP ha
    have e6 : 6 - (r + 1) + 1 = 6 - r := by omega
    have hi : ∀ d a, a ≤ n → Pres bI am n (6 - (r + 1)) M h F (pAtomF x n (some (pLev x n r)) a) (exec tTab (d + 3 * (r + 1) + 9) K_X7_atom [.ref am] (put am (us M 9 (nI a)) h)) := by
      intro d a ha
      refine S_atomF hP hK (by omega) (fun hs => by cases hs) (fun s hs => ?_) ha
      cases hs
      refine ⟨by omega, (pLev_adv r).1, (pLev_adv r).2, fun a ha => ?_⟩
      rw [e6]
      have hP' : PM (us M 11 (nI (6 - r))) x n (6 - r) F := hP.dp
      have h1 := (ih (by omega) (d + 2) _ a hP' ha).1
      have h2 := (ih (by omega) d _ a hP' ha).2
      rw [show d + 2 + 3 * r + 9 = d + 3 * (r + 1) + 8 by omega] at h1
      rw [show d + 3 * r + 11 = d + 3 * (r + 1) + 8 by omega] at h2
      exact ⟨h1, h2⟩
    exact ⟨hi d a ha, S_some (d := d + 3 * (r + 1)) hP hK (by omega) (pLev_adv (x := x) (r + 1)).1 (fun a ha => hi d a ha) ha⟩
