/-! ===== the model reads: atoms and conditions ===== -/
theorem us10_co {M : MS} {v w : Int32} : us (us M 10 v) 11 w = us (us M 11 w) 10 v := us_co (by decide)
theorem PM.dp {M : MS} {x : Nat → Int32} {n dp e : Nat} {F : FV} (hP : PM M x n dp F) : PM (us M 11 (nI e)) x n e F :=
  ⟨hP.1.u (by decide), (us_neD (by decide)).trans hP.2.1, us_eq, hP.2.2.2.u (by decide)⟩
theorem S_atomF {d am n dp : Nat} {x : Nat → Int32} {M : MS} {h : AH} {F : FV} {sub : Option ((Nat → Res Bool) × (Nat → Res Bool))} (hP : PM M x n dp F) (hK : KS h am) (hd : dp ≤ 6) (h6 : sub = none → dp = 6)
    (hs : ∀ s, sub = some s → dp < 6 ∧ Adv n s.1 ∧ Adv n s.2 ∧ ∀ a, a ≤ n → Pres bI am n (dp + 1) (us M 11 (nI (dp + 1))) h F (s.1 a) (exec tTab (d + 8) K_X7_atom [.ref am] (put am (us (us M 11 (nI (dp + 1))) 9 (nI a)) h)) ∧ Pres bI am n (dp + 1) (us M 11 (nI (dp + 1))) h F (s.2 a) (exec tTab (d + 8) K_X7_some [.ref am] (put am (us (us M 11 (nI (dp + 1))) 9 (nI a)) h)))
    {a : Nat} (ha : a ≤ n) : Pres bI am n dp M h F (pAtomF x n sub a) (exec tTab (d + 9) K_X7_atom [.ref am] (put am (us M 9 (nI a)) h)) := by
  have hL := hP.1
  have hf := hP.2.1
  have hdp := hP.2.2.1
  have h8 := hL.1
  have h400 := hL.2.1
  have hb := sk_le (x := x) ha
  have hsk := S_skip (d := d + 6) (am := am) (h := h) hL a ha
  obtain ⟨a0, k0, s0⟩ := hK.2 (56, w_not) (by decide)
  have g0 := S_ask (d := d + 3) (i := 0) hL hK.1 s0 (by decide) ha
  have gs := S_isSign (d := d + 5) (am := am) (h := h) (c := nI 40) hL hb
  rw [nxs_sk, sk_sk] at gs
  have back : us (us M 11 (nI (dp + 1))) 11 (nI dp) = M := by rw [us_us]; exact us_id hdp
  have hm1 : nI (dp + 1) - nI 1 = nI dp := by rw [pk_sub (by omega)]; rfl
  unfold pAtomF
  cases c0 : nxw x n a w_not with
  | false =>
    cases c1 : nxs x n a (nI 40) with
    | false =>
      rw [c1] at gs
      have hp := S_plain (d := d) (am := am) (h := h) hP hK hd (a := sk x n a) hb
      have hpp : pPlain x n (sk x n a) = pPlain x n a := by unfold pPlain pSum loopP pPart; simp only [sk_sk, nxw_sk, nxa_sk]
      rw [hpp] at hp
      have go : exec tTab (d + 9) K_X7_atom [.ref am] (put am (us M 9 (nI a)) h) = R_X7_atom (d + 8) 39 [some (.ref am), some (.int (nI (sk x n a))), some (.int (bI false)), none] [] (put am (us M 9 (nI (sk x n a))) h) := by
        simp (disch := first | omega | decide) only [e_X7_atom, r_X7_atom_0, r_X7_atom_4, r_X7_atom_10, r_X7_atom_14, r_X7_atom_18, r_X7_atom_22, r_X7_atom_25, r_X7_atom_30, r_X7_atom_36, aK_ret, aK_thr, Option.bind_some, Option.toList_some, Option.toList_none, List.cons_append, List.nil_append, List.set_cons_zero, List.set_cons_succ, lk1, hci_put, put_2, us_2, ua_1, us_eq, us_ne, ua_eq, ua_ne, uf_eq, uf_ne, us_neD, ua_neD, ua_0, sm_1, sm_2, sm_sm, us_sm, sm_us1, sm_ne, nI_add, pk_mul, add_n0, ret_bI, bI_0, Nat.add_zero, nI10, nI00, ne_eq, eq_self, Bool.true_eq_false, Bool.false_eq_true, cond_true, cond_false, not_false_eq_true, not_true_eq_false, ite_true, ite_false, if_true, if_false, reduceIte, mf_0, mf_1, mf_2, mf_3, mf_4, mf_5, mf_6, mf_7, mf_8, mf_9, mf_10, mf_11, mf_12, mf_13, mf_14, mf_15, mf_16, mf_17, mf_18, mf_19, mf_20, mf_21, mf_22, mf_23, mf_24, mf_25, mf_26, mf_27, mf_28, mp_0, mp_3, mp_6, mp_7, mp_8, mp_9, mp_10, mp_11, mp_12, mp_14, mp_15, mp_16, mp_17, mp_25, mp_26, mp_28, mr_0, mr_1, mr_2, mr_3, mr_4, mr_5, mr_6, mr_7, mr_8, mr_9, mr_10, mr_11, mr_12, mw_0, mw_1, mw_2, mw_3, mw_4, mw_5, mw_6, mw_7, mw_8, mw_9, mw_10, mw_11, mw_12, hf, hsk, k0, g0, c0, nxa_f c0, gs]
      rw [go]
      simp only [Bool.not_false, Bool.and_true, cond_true]
      cases hr : pPlain x n a with
      | inr q =>
        rw [hr] at hp
        obtain ⟨v, a', hq, hle, e⟩ := hp
        simp (disch := first | omega | decide) only [r_X7_atom_39, r_X7_atom_43, aK_ret, aK_thr, Option.bind_some, Option.toList_some, Option.toList_none, List.cons_append, List.nil_append, List.set_cons_zero, List.set_cons_succ, lk1, hci_put, put_2, us_2, ua_1, us_eq, us_ne, ua_eq, ua_ne, uf_eq, uf_ne, us_neD, ua_neD, ua_0, sm_1, sm_2, sm_sm, us_sm, sm_us1, sm_ne, nI_add, pk_mul, add_n0, ret_bI, bI_0, Nat.add_zero, nI10, nI00, ne_eq, eq_self, Bool.true_eq_false, Bool.false_eq_true, cond_true, cond_false, not_false_eq_true, not_true_eq_false, ite_true, ite_false, if_true, if_false, reduceIte, mf_0, mf_1, mf_2, mf_3, mf_4, mf_5, mf_6, mf_7, mf_8, mf_9, mf_10, mf_11, mf_12, mf_13, mf_14, mf_15, mf_16, mf_17, mf_18, mf_19, mf_20, mf_21, mf_22, mf_23, mf_24, mf_25, mf_26, mf_27, mf_28, mp_0, mp_3, mp_6, mp_7, mp_8, mp_9, mp_10, mp_11, mp_12, mp_14, mp_15, mp_16, mp_17, mp_25, mp_26, mp_28, mr_0, mr_1, mr_2, mr_3, mr_4, mr_5, mr_6, mr_7, mr_8, mr_9, mr_10, mr_11, mr_12, mw_0, mw_1, mw_2, mw_3, mw_4, mw_5, mw_6, mw_7, mw_8, mw_9, mw_10, mw_11, mw_12, e]
        exact ⟨v, a', hq, hle, rfl⟩
      | inl z =>
        obtain ⟨a1, u⟩ := z
        rw [hr] at hp
        have hp : _ = _ := hp
        dsimp only at hp
        simp (disch := first | omega | decide) only [r_X7_atom_39, r_X7_atom_43, aK_ret, aK_thr, Option.bind_some, Option.toList_some, Option.toList_none, List.cons_append, List.nil_append, List.set_cons_zero, List.set_cons_succ, lk1, hci_put, put_2, us_2, ua_1, us_eq, us_ne, ua_eq, ua_ne, uf_eq, uf_ne, us_neD, ua_neD, ua_0, sm_1, sm_2, sm_sm, us_sm, sm_us1, sm_ne, nI_add, pk_mul, add_n0, ret_bI, bI_0, Nat.add_zero, nI10, nI00, ne_eq, eq_self, Bool.true_eq_false, Bool.false_eq_true, cond_true, cond_false, not_false_eq_true, not_true_eq_false, ite_true, ite_false, if_true, if_false, reduceIte, mf_0, mf_1, mf_2, mf_3, mf_4, mf_5, mf_6, mf_7, mf_8, mf_9, mf_10, mf_11, mf_12, mf_13, mf_14, mf_15, mf_16, mf_17, mf_18, mf_19, mf_20, mf_21, mf_22, mf_23, mf_24, mf_25, mf_26, mf_27, mf_28, mp_0, mp_3, mp_6, mp_7, mp_8, mp_9, mp_10, mp_11, mp_12, mp_14, mp_15, mp_16, mp_17, mp_25, mp_26, mp_28, mr_0, mr_1, mr_2, mr_3, mr_4, mr_5, mr_6, mr_7, mr_8, mr_9, mr_10, mr_11, mr_12, mw_0, mw_1, mw_2, mw_3, mw_4, mw_5, mw_6, mw_7, mw_8, mw_9, mw_10, mw_11, mw_12, hp]
        rfl
    | true =>
      rw [c1] at gs
      have h1 := nxs_adv c1
      have go : exec tTab (d + 9) K_X7_atom [.ref am] (put am (us M 9 (nI a)) h) = R_X7_atom (d + 8) 44 [some (.ref am), some (.int (nI (sk x n a))), some (.int (bI false)), none] [] (put am (us M 9 (nI (sk x n a))) h) := by
        simp (disch := first | omega | decide) only [e_X7_atom, r_X7_atom_0, r_X7_atom_4, r_X7_atom_10, r_X7_atom_14, r_X7_atom_18, r_X7_atom_22, r_X7_atom_25, r_X7_atom_30, r_X7_atom_36, aK_ret, aK_thr, Option.bind_some, Option.toList_some, Option.toList_none, List.cons_append, List.nil_append, List.set_cons_zero, List.set_cons_succ, lk1, hci_put, put_2, us_2, ua_1, us_eq, us_ne, ua_eq, ua_ne, uf_eq, uf_ne, us_neD, ua_neD, ua_0, sm_1, sm_2, sm_sm, us_sm, sm_us1, sm_ne, nI_add, pk_mul, add_n0, ret_bI, bI_0, Nat.add_zero, nI10, nI00, ne_eq, eq_self, Bool.true_eq_false, Bool.false_eq_true, cond_true, cond_false, not_false_eq_true, not_true_eq_false, ite_true, ite_false, if_true, if_false, reduceIte, mf_0, mf_1, mf_2, mf_3, mf_4, mf_5, mf_6, mf_7, mf_8, mf_9, mf_10, mf_11, mf_12, mf_13, mf_14, mf_15, mf_16, mf_17, mf_18, mf_19, mf_20, mf_21, mf_22, mf_23, mf_24, mf_25, mf_26, mf_27, mf_28, mp_0, mp_3, mp_6, mp_7, mp_8, mp_9, mp_10, mp_11, mp_12, mp_14, mp_15, mp_16, mp_17, mp_25, mp_26, mp_28, mr_0, mr_1, mr_2, mr_3, mr_4, mr_5, mr_6, mr_7, mr_8, mr_9, mr_10, mr_11, mr_12, mw_0, mw_1, mw_2, mw_3, mw_4, mw_5, mw_6, mw_7, mw_8, mw_9, mw_10, mw_11, mw_12, hf, hsk, k0, g0, c0, nxa_f c0, gs]
      rw [go]
      simp only [Bool.not_false, Bool.not_true, Bool.and_false, cond_false]
      match sub, h6, hs with
      | none, h6, _ =>
        have h6 := h6 rfl
        have hw := S_wrong1 (d := d + 7) (am := am) (M := us M 9 (nI (sk x n a))) (h := h) (w := nI (sk x n a)) (by rw [us_neD (by decide)]; exact hf)
        subst h6
        simp (disch := first | omega | decide) only [r_X7_atom_44, r_X7_atom_48, r_X7_atom_53, r_X7_atom_58, aK_ret, aK_thr, Option.bind_some, Option.toList_some, Option.toList_none, List.cons_append, List.nil_append, List.set_cons_zero, List.set_cons_succ, lk1, hci_put, put_2, us_2, ua_1, us_eq, us_ne, ua_eq, ua_ne, uf_eq, uf_ne, us_neD, ua_neD, ua_0, sm_1, sm_2, sm_sm, us_sm, sm_us1, sm_ne, nI_add, pk_mul, add_n0, ret_bI, bI_0, Nat.add_zero, nI10, nI00, ne_eq, eq_self, Bool.true_eq_false, Bool.false_eq_true, cond_true, cond_false, not_false_eq_true, not_true_eq_false, ite_true, ite_false, if_true, if_false, reduceIte, mf_0, mf_1, mf_2, mf_3, mf_4, mf_5, mf_6, mf_7, mf_8, mf_9, mf_10, mf_11, mf_12, mf_13, mf_14, mf_15, mf_16, mf_17, mf_18, mf_19, mf_20, mf_21, mf_22, mf_23, mf_24, mf_25, mf_26, mf_27, mf_28, mp_0, mp_3, mp_6, mp_7, mp_8, mp_9, mp_10, mp_11, mp_12, mp_14, mp_15, mp_16, mp_17, mp_25, mp_26, mp_28, mr_0, mr_1, mr_2, mr_3, mr_4, mr_5, mr_6, mr_7, mr_8, mr_9, mr_10, mr_11, mr_12, mw_0, mw_1, mw_2, mw_3, mw_4, mw_5, mw_6, mw_7, mw_8, mw_9, mw_10, mw_11, mw_12, hdp, hw, us9_co]
        exact ⟨false, sk x n a, hb, by omega, rfl⟩
      | some s, _, hs =>
        obtain ⟨hlt, -, hadv, hs⟩ := hs s rfl
        have hp := (hs (sk x n a + 1) h1).2
        have hne : ¬ nI dp = nI 6 := by rw [nI_inj (by omega) (by decide)]; omega
        have go2 : R_X7_atom (d + 8) 44 [some (.ref am), some (.int (nI (sk x n a))), some (.int (bI false)), none] [] (put am (us M 9 (nI (sk x n a))) h) = R_X7_atom (d + 8) 102 [some (.ref am), some (.int (nI (sk x n a))), some (.int (bI false)), some (.int (nI 0))] [] (put am (us (us M 11 (nI (dp + 1))) 9 (nI (sk x n a + 1))) h) := by
          simp (disch := first | omega | decide) only [r_X7_atom_44, r_X7_atom_48, r_X7_atom_60, r_X7_atom_65, r_X7_atom_70, r_X7_atom_92, r_X7_atom_97, aK_ret, aK_thr, Option.bind_some, Option.toList_some, Option.toList_none, List.cons_append, List.nil_append, List.set_cons_zero, List.set_cons_succ, lk1, hci_put, put_2, us_2, ua_1, us_eq, us_ne, ua_eq, ua_ne, uf_eq, uf_ne, us_neD, ua_neD, ua_0, sm_1, sm_2, sm_sm, us_sm, sm_us1, sm_ne, nI_add, pk_mul, add_n0, ret_bI, bI_0, Nat.add_zero, nI10, nI00, ne_eq, eq_self, Bool.true_eq_false, Bool.false_eq_true, cond_true, cond_false, not_false_eq_true, not_true_eq_false, ite_true, ite_false, if_true, if_false, reduceIte, mf_0, mf_1, mf_2, mf_3, mf_4, mf_5, mf_6, mf_7, mf_8, mf_9, mf_10, mf_11, mf_12, mf_13, mf_14, mf_15, mf_16, mf_17, mf_18, mf_19, mf_20, mf_21, mf_22, mf_23, mf_24, mf_25, mf_26, mf_27, mf_28, mp_0, mp_3, mp_6, mp_7, mp_8, mp_9, mp_10, mp_11, mp_12, mp_14, mp_15, mp_16, mp_17, mp_25, mp_26, mp_28, mr_0, mr_1, mr_2, mr_3, mr_4, mr_5, mr_6, mr_7, mr_8, mr_9, mr_10, mr_11, mr_12, mw_0, mw_1, mw_2, mw_3, mw_4, mw_5, mw_6, mw_7, mw_8, mw_9, mw_10, mw_11, mw_12, hdp, hne, us9_co, us_us]
        rw [go2]
        dsimp only
        cases hr : s.2 (sk x n a + 1) with
        | inr q =>
          rw [hr] at hp
          obtain ⟨v, a', hq, hle, e⟩ := hp
          simp (disch := first | omega | decide) only [r_X7_atom_102, r_X7_atom_106, r_X7_atom_111, r_X7_atom_132, r_X7_atom_137, r_X7_atom_142, r_X7_atom_147, r_X7_atom_152, aK_ret, aK_thr, Option.bind_some, Option.toList_some, Option.toList_none, List.cons_append, List.nil_append, List.set_cons_zero, List.set_cons_succ, lk1, hci_put, put_2, us_2, ua_1, us_eq, us_ne, ua_eq, ua_ne, uf_eq, uf_ne, us_neD, ua_neD, ua_0, sm_1, sm_2, sm_sm, us_sm, sm_us1, sm_ne, nI_add, pk_mul, add_n0, ret_bI, bI_0, Nat.add_zero, nI10, nI00, ne_eq, eq_self, Bool.true_eq_false, Bool.false_eq_true, cond_true, cond_false, not_false_eq_true, not_true_eq_false, ite_true, ite_false, if_true, if_false, reduceIte, mf_0, mf_1, mf_2, mf_3, mf_4, mf_5, mf_6, mf_7, mf_8, mf_9, mf_10, mf_11, mf_12, mf_13, mf_14, mf_15, mf_16, mf_17, mf_18, mf_19, mf_20, mf_21, mf_22, mf_23, mf_24, mf_25, mf_26, mf_27, mf_28, mp_0, mp_3, mp_6, mp_7, mp_8, mp_9, mp_10, mp_11, mp_12, mp_14, mp_15, mp_16, mp_17, mp_25, mp_26, mp_28, mr_0, mr_1, mr_2, mr_3, mr_4, mr_5, mr_6, mr_7, mr_8, mr_9, mr_10, mr_11, mr_12, mw_0, mw_1, mw_2, mw_3, mw_4, mw_5, mw_6, mw_7, mw_8, mw_9, mw_10, mw_11, mw_12, e, nIm, us9_co, us_us, us10_co, hm1, back]
          exact ⟨v, a' + 1, hq, by omega, rfl⟩
        | inl z =>
          obtain ⟨a2, u⟩ := z
          rw [hr] at hp
          have hp : _ = _ := hp
          dsimp only at hp
          have h5 := hadv _ _ _ h1 hr
          have hL1 : Lx (us M 11 (nI (dp + 1))) x n := hL.u (by decide)
          have gr := S_isSign (d := d + 5) (am := am) (h := h) (c := nI 41) hL1 h5.2
          have h7 := sk_le (x := x) h5.2
          dsimp only
          cases c2 : nxs x n a2 (nI 41) with
          | true =>
            rw [c2] at gr
            simp (disch := first | omega | decide) only [r_X7_atom_102, r_X7_atom_106, r_X7_atom_111, r_X7_atom_115, r_X7_atom_121, r_X7_atom_132, r_X7_atom_137, r_X7_atom_142, r_X7_atom_147, r_X7_atom_152, aK_ret, aK_thr, Option.bind_some, Option.toList_some, Option.toList_none, List.cons_append, List.nil_append, List.set_cons_zero, List.set_cons_succ, lk1, hci_put, put_2, us_2, ua_1, us_eq, us_ne, ua_eq, ua_ne, uf_eq, uf_ne, us_neD, ua_neD, ua_0, sm_1, sm_2, sm_sm, us_sm, sm_us1, sm_ne, nI_add, pk_mul, add_n0, ret_bI, bI_0, Nat.add_zero, nI10, nI00, ne_eq, eq_self, Bool.true_eq_false, Bool.false_eq_true, cond_true, cond_false, not_false_eq_true, not_true_eq_false, ite_true, ite_false, if_true, if_false, reduceIte, mf_0, mf_1, mf_2, mf_3, mf_4, mf_5, mf_6, mf_7, mf_8, mf_9, mf_10, mf_11, mf_12, mf_13, mf_14, mf_15, mf_16, mf_17, mf_18, mf_19, mf_20, mf_21, mf_22, mf_23, mf_24, mf_25, mf_26, mf_27, mf_28, mp_0, mp_3, mp_6, mp_7, mp_8, mp_9, mp_10, mp_11, mp_12, mp_14, mp_15, mp_16, mp_17, mp_25, mp_26, mp_28, mr_0, mr_1, mr_2, mr_3, mr_4, mr_5, mr_6, mr_7, mr_8, mr_9, mr_10, mr_11, mr_12, mw_0, mw_1, mw_2, mw_3, mw_4, mw_5, mw_6, mw_7, mw_8, mw_9, mw_10, mw_11, mw_12, hf, hp, gr, us9_co, us_us, us10_co, hm1, back]
            rfl
          | false =>
            rw [c2] at gr
            have hw := S_wrong1 (d := d + 7) (am := am) (M := us (us M 11 (nI (dp + 1))) 9 (nI (sk x n a2))) (h := h) (w := nI (sk x n a2)) (by rw [us_neD (by decide), us_neD (by decide)]; exact hf)
            simp (disch := first | omega | decide) only [r_X7_atom_102, r_X7_atom_106, r_X7_atom_111, r_X7_atom_115, r_X7_atom_121, r_X7_atom_124, r_X7_atom_129, r_X7_atom_132, r_X7_atom_137, r_X7_atom_142, r_X7_atom_147, r_X7_atom_152, aK_ret, aK_thr, Option.bind_some, Option.toList_some, Option.toList_none, List.cons_append, List.nil_append, List.set_cons_zero, List.set_cons_succ, lk1, hci_put, put_2, us_2, ua_1, us_eq, us_ne, ua_eq, ua_ne, uf_eq, uf_ne, us_neD, ua_neD, ua_0, sm_1, sm_2, sm_sm, us_sm, sm_us1, sm_ne, nI_add, pk_mul, add_n0, ret_bI, bI_0, Nat.add_zero, nI10, nI00, ne_eq, eq_self, Bool.true_eq_false, Bool.false_eq_true, cond_true, cond_false, not_false_eq_true, not_true_eq_false, ite_true, ite_false, if_true, if_false, reduceIte, mf_0, mf_1, mf_2, mf_3, mf_4, mf_5, mf_6, mf_7, mf_8, mf_9, mf_10, mf_11, mf_12, mf_13, mf_14, mf_15, mf_16, mf_17, mf_18, mf_19, mf_20, mf_21, mf_22, mf_23, mf_24, mf_25, mf_26, mf_27, mf_28, mp_0, mp_3, mp_6, mp_7, mp_8, mp_9, mp_10, mp_11, mp_12, mp_14, mp_15, mp_16, mp_17, mp_25, mp_26, mp_28, mr_0, mr_1, mr_2, mr_3, mr_4, mr_5, mr_6, mr_7, mr_8, mr_9, mr_10, mr_11, mr_12, mw_0, mw_1, mw_2, mw_3, mw_4, mw_5, mw_6, mw_7, mw_8, mw_9, mw_10, mw_11, mw_12, hf, hp, gr, hw, us9_co, us_us, us10_co, hm1, back]
            exact ⟨u F, sk x n a2 + 1, h7, by omega, rfl⟩
  | true =>
    have h1 := nxw_adv ha c0
    have go : exec tTab (d + 9) K_X7_atom [.ref am] (put am (us M 9 (nI a)) h) = R_X7_atom (d + 8) 44 [some (.ref am), some (.int (nI (sk x n a))), some (.int (bI true)), none] [] (put am (us M 9 (nI (nxa x n a w_not))) h) := by
      simp (disch := first | omega | decide) only [e_X7_atom, r_X7_atom_0, r_X7_atom_4, r_X7_atom_10, r_X7_atom_14, r_X7_atom_18, r_X7_atom_22, r_X7_atom_25, aK_ret, aK_thr, Option.bind_some, Option.toList_some, Option.toList_none, List.cons_append, List.nil_append, List.set_cons_zero, List.set_cons_succ, lk1, hci_put, put_2, us_2, ua_1, us_eq, us_ne, ua_eq, ua_ne, uf_eq, uf_ne, us_neD, ua_neD, ua_0, sm_1, sm_2, sm_sm, us_sm, sm_us1, sm_ne, nI_add, pk_mul, add_n0, ret_bI, bI_0, Nat.add_zero, nI10, nI00, ne_eq, eq_self, Bool.true_eq_false, Bool.false_eq_true, cond_true, cond_false, not_false_eq_true, not_true_eq_false, ite_true, ite_false, if_true, if_false, reduceIte, mf_0, mf_1, mf_2, mf_3, mf_4, mf_5, mf_6, mf_7, mf_8, mf_9, mf_10, mf_11, mf_12, mf_13, mf_14, mf_15, mf_16, mf_17, mf_18, mf_19, mf_20, mf_21, mf_22, mf_23, mf_24, mf_25, mf_26, mf_27, mf_28, mp_0, mp_3, mp_6, mp_7, mp_8, mp_9, mp_10, mp_11, mp_12, mp_14, mp_15, mp_16, mp_17, mp_25, mp_26, mp_28, mr_0, mr_1, mr_2, mr_3, mr_4, mr_5, mr_6, mr_7, mr_8, mr_9, mr_10, mr_11, mr_12, mw_0, mw_1, mw_2, mw_3, mw_4, mw_5, mw_6, mw_7, mw_8, mw_9, mw_10, mw_11, mw_12, hf, hsk, k0, g0, c0]
    rw [go]
    simp only [Bool.not_true, Bool.false_and, cond_false, cond_true]
    match sub, h6, hs with
    | none, h6, _ =>
      have h6 := h6 rfl
      have hw := S_wrong1 (d := d + 7) (am := am) (M := us M 9 (nI (nxa x n a w_not))) (h := h) (w := nI (sk x n a)) (by rw [us_neD (by decide)]; exact hf)
      subst h6
      simp (disch := first | omega | decide) only [r_X7_atom_44, r_X7_atom_48, r_X7_atom_53, r_X7_atom_58, aK_ret, aK_thr, Option.bind_some, Option.toList_some, Option.toList_none, List.cons_append, List.nil_append, List.set_cons_zero, List.set_cons_succ, lk1, hci_put, put_2, us_2, ua_1, us_eq, us_ne, ua_eq, ua_ne, uf_eq, uf_ne, us_neD, ua_neD, ua_0, sm_1, sm_2, sm_sm, us_sm, sm_us1, sm_ne, nI_add, pk_mul, add_n0, ret_bI, bI_0, Nat.add_zero, nI10, nI00, ne_eq, eq_self, Bool.true_eq_false, Bool.false_eq_true, cond_true, cond_false, not_false_eq_true, not_true_eq_false, ite_true, ite_false, if_true, if_false, reduceIte, mf_0, mf_1, mf_2, mf_3, mf_4, mf_5, mf_6, mf_7, mf_8, mf_9, mf_10, mf_11, mf_12, mf_13, mf_14, mf_15, mf_16, mf_17, mf_18, mf_19, mf_20, mf_21, mf_22, mf_23, mf_24, mf_25, mf_26, mf_27, mf_28, mp_0, mp_3, mp_6, mp_7, mp_8, mp_9, mp_10, mp_11, mp_12, mp_14, mp_15, mp_16, mp_17, mp_25, mp_26, mp_28, mr_0, mr_1, mr_2, mr_3, mr_4, mr_5, mr_6, mr_7, mr_8, mr_9, mr_10, mr_11, mr_12, mw_0, mw_1, mw_2, mw_3, mw_4, mw_5, mw_6, mw_7, mw_8, mw_9, mw_10, mw_11, mw_12, hdp, hw, us9_co]
      exact ⟨false, nxa x n a w_not, hb, by omega, rfl⟩
    | some s, _, hs =>
      obtain ⟨hlt, hadv, -, hs⟩ := hs s rfl
      have hp := (hs (nxa x n a w_not) h1.2).1
      have hne : ¬ nI dp = nI 6 := by rw [nI_inj (by omega) (by decide)]; omega
      have go2 : R_X7_atom (d + 8) 44 [some (.ref am), some (.int (nI (sk x n a))), some (.int (bI true)), none] [] (put am (us M 9 (nI (nxa x n a w_not))) h) = R_X7_atom (d + 8) 76 [some (.ref am), some (.int (nI (sk x n a))), some (.int (bI true)), some (.int (nI 0))] [] (put am (us (us M 11 (nI (dp + 1))) 9 (nI (nxa x n a w_not))) h) := by
        simp (disch := first | omega | decide) only [r_X7_atom_44, r_X7_atom_48, r_X7_atom_60, r_X7_atom_65, r_X7_atom_70, aK_ret, aK_thr, Option.bind_some, Option.toList_some, Option.toList_none, List.cons_append, List.nil_append, List.set_cons_zero, List.set_cons_succ, lk1, hci_put, put_2, us_2, ua_1, us_eq, us_ne, ua_eq, ua_ne, uf_eq, uf_ne, us_neD, ua_neD, ua_0, sm_1, sm_2, sm_sm, us_sm, sm_us1, sm_ne, nI_add, pk_mul, add_n0, ret_bI, bI_0, Nat.add_zero, nI10, nI00, ne_eq, eq_self, Bool.true_eq_false, Bool.false_eq_true, cond_true, cond_false, not_false_eq_true, not_true_eq_false, ite_true, ite_false, if_true, if_false, reduceIte, mf_0, mf_1, mf_2, mf_3, mf_4, mf_5, mf_6, mf_7, mf_8, mf_9, mf_10, mf_11, mf_12, mf_13, mf_14, mf_15, mf_16, mf_17, mf_18, mf_19, mf_20, mf_21, mf_22, mf_23, mf_24, mf_25, mf_26, mf_27, mf_28, mp_0, mp_3, mp_6, mp_7, mp_8, mp_9, mp_10, mp_11, mp_12, mp_14, mp_15, mp_16, mp_17, mp_25, mp_26, mp_28, mr_0, mr_1, mr_2, mr_3, mr_4, mr_5, mr_6, mr_7, mr_8, mr_9, mr_10, mr_11, mr_12, mw_0, mw_1, mw_2, mw_3, mw_4, mw_5, mw_6, mw_7, mw_8, mw_9, mw_10, mw_11, mw_12, hdp, hne, us9_co, us_us]
      rw [go2]
      dsimp only
      cases hr : s.1 (nxa x n a w_not) with
      | inr q =>
        rw [hr] at hp
        obtain ⟨v, a', hq, hle, e⟩ := hp
        cases v <;> simp (disch := first | omega | decide) only [r_X7_atom_76, r_X7_atom_80, r_X7_atom_83, r_X7_atom_87, r_X7_atom_147, r_X7_atom_152, aK_ret, aK_thr, Option.bind_some, Option.toList_some, Option.toList_none, List.cons_append, List.nil_append, List.set_cons_zero, List.set_cons_succ, lk1, hci_put, put_2, us_2, ua_1, us_eq, us_ne, ua_eq, ua_ne, uf_eq, uf_ne, us_neD, ua_neD, ua_0, sm_1, sm_2, sm_sm, us_sm, sm_us1, sm_ne, nI_add, pk_mul, add_n0, ret_bI, bI_0, Nat.add_zero, nI10, nI00, ne_eq, eq_self, Bool.true_eq_false, Bool.false_eq_true, cond_true, cond_false, not_false_eq_true, not_true_eq_false, ite_true, ite_false, if_true, if_false, reduceIte, mf_0, mf_1, mf_2, mf_3, mf_4, mf_5, mf_6, mf_7, mf_8, mf_9, mf_10, mf_11, mf_12, mf_13, mf_14, mf_15, mf_16, mf_17, mf_18, mf_19, mf_20, mf_21, mf_22, mf_23, mf_24, mf_25, mf_26, mf_27, mf_28, mp_0, mp_3, mp_6, mp_7, mp_8, mp_9, mp_10, mp_11, mp_12, mp_14, mp_15, mp_16, mp_17, mp_25, mp_26, mp_28, mr_0, mr_1, mr_2, mr_3, mr_4, mr_5, mr_6, mr_7, mr_8, mr_9, mr_10, mr_11, mr_12, mw_0, mw_1, mw_2, mw_3, mw_4, mw_5, mw_6, mw_7, mw_8, mw_9, mw_10, mw_11, mw_12, e, nIm, us9_co, us_us, us10_co, hm1, back]
        · exact ⟨true, a', hq, by omega, rfl⟩
        · exact ⟨false, a', hq, by omega, rfl⟩
      | inl z =>
        obtain ⟨a2, u⟩ := z
        rw [hr] at hp
        have hp : _ = _ := hp
        dsimp only at hp
        unfold Pres
        dsimp only
        cases hu : u F <;> rw [hu] at hp <;> simp (disch := first | omega | decide) only [r_X7_atom_76, r_X7_atom_80, r_X7_atom_83, r_X7_atom_87, r_X7_atom_147, r_X7_atom_152, aK_ret, aK_thr, Option.bind_some, Option.toList_some, Option.toList_none, List.cons_append, List.nil_append, List.set_cons_zero, List.set_cons_succ, lk1, hci_put, put_2, us_2, ua_1, us_eq, us_ne, ua_eq, ua_ne, uf_eq, uf_ne, us_neD, ua_neD, ua_0, sm_1, sm_2, sm_sm, us_sm, sm_us1, sm_ne, nI_add, pk_mul, add_n0, ret_bI, bI_0, Nat.add_zero, nI10, nI00, ne_eq, eq_self, Bool.true_eq_false, Bool.false_eq_true, cond_true, cond_false, not_false_eq_true, not_true_eq_false, ite_true, ite_false, if_true, if_false, reduceIte, mf_0, mf_1, mf_2, mf_3, mf_4, mf_5, mf_6, mf_7, mf_8, mf_9, mf_10, mf_11, mf_12, mf_13, mf_14, mf_15, mf_16, mf_17, mf_18, mf_19, mf_20, mf_21, mf_22, mf_23, mf_24, mf_25, mf_26, mf_27, mf_28, mp_0, mp_3, mp_6, mp_7, mp_8, mp_9, mp_10, mp_11, mp_12, mp_14, mp_15, mp_16, mp_17, mp_25, mp_26, mp_28, mr_0, mr_1, mr_2, mr_3, mr_4, mr_5, mr_6, mr_7, mr_8, mr_9, mr_10, mr_11, mr_12, mw_0, mw_1, mw_2, mw_3, mw_4, mw_5, mw_6, mw_7, mw_8, mw_9, mw_10, mw_11, mw_12, hp, us9_co, us_us, us10_co, hm1, back] <;> rfl
