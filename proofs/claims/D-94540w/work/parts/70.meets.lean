theorem Sc.us26 {M M' : MS} {v : Int32} (h : Sc (us M 26 v) M') : Sc M (us M' 26 (M.1 26)) ∧ us (us M' 26 (M.1 26)) 26 v = M' := by
  refine ⟨⟨fun j hj => h.1 j hj, fun k k1 k2 k3 k4 k5 => ?_⟩, ?_⟩
  · by_cases hk : k = 26
    · rw [hk]; exact us_eq
    · rw [us_ne hk, h.2 k k1 k2 k3 k4 k5, us_ne hk]
  · rw [us_us]
    exact us_id ((h.2 26 (by decide) (by decide) (by decide) (by decide) (by decide)).trans us_eq)
theorem S_meets {d am N a b : Nat} {n : Int32} {M : MS} {h : AH} (hK : KS h am) (hN : M.2 0 3 = nI N) (h40 : N ≤ 40) (ha : a < 12) (hb : b < 12) (hO : OkFs (M.2 0) N) (hT : OkT (M.2 0)) : ∃ M', Sc M M' ∧ exec tTab (d + 37) K_X7_meets [.ref am, .int (nI a), .int (nI b), .int n] (put am M h) = some (.inl (some (.int (sp_meets (M.2 0) N a b n).2.1)), put am (sm (us M' 26 (bI (sp_meets (M.2 0) N a b n).2.2)) (sp_meets (M.2 0) N a b n).1) h) := by
  obtain ⟨M1, hS1, e1⟩ := S_paysBy (d := d) (am := am) (h := h) (a := nI a) (n := n) hK hN h40 hb hO hT
  have h0 : M1.2 0 = M.2 0 := hS1.1 0 (by decide)
  unfold sp_meets
  by_cases hp : (sp_pays (M.2 0) N (nI a) b n).1 = -1
  · have h1 : (us M1 26 (nI 0)).2 0 = M.2 0 := h0
    obtain ⟨M2, hS2, e2⟩ := S_gives (d := d + 2) (am := am) (h := h) (M := us M1 26 (nI 0)) (n := n) (dd := nI 0) (forced := false) hK (by rw [h1]; exact hN) h40 ha hb (by rw [h1]; exact hT)
    rw [h1, bI_f] at e2
    obtain ⟨hS3, hS4⟩ := hS2.us26
    rw [← hS4] at e2
    refine ⟨_, hS1.trans hS3, ?_⟩
    rw [if_pos hp]
    rw [hp] at e1
    simp (disch := omega) only [e_X7_meets, r_X7_meets_0, r_X7_meets_7, r_X7_meets_20, r_X7_meets_16, r_X7_meets_24, r_X7_meets_40, r_X7_meets_30, r_X7_meets_47, r_X7_meets_39, r_X7_meets_55, r_X7_meets_51, aK_ret, aK_thr, Option.bind_some, Option.toList_some, Option.toList_none, List.cons_append, List.nil_append, List.set_cons_zero, List.set_cons_succ, lk1, hci_put, put_2, us_2, ua_1, us_eq, us_ne, ua_eq, ua_ne, uf_eq, uf_ne, us_neD, ua_neD, ua_0, sm_1, sm_2, sm_sm, us_sm, sm_us1, sm_ne, nI_add, pk_mul, add_n0, ret_bI, bI_0, Nat.add_zero, nI10, nI00, ne_eq, eq_self, Bool.true_eq_false, Bool.false_eq_true, cond_true, cond_false, not_false_eq_true, not_true_eq_false, ite_true, ite_false, if_true, if_false, reduceIte, mf_0, mf_1, mf_2, mf_3, mf_4, mf_5, mf_6, mf_7, mf_8, mf_9, mf_10, mf_11, mf_12, mf_13, mf_14, mf_15, mf_16, mf_17, mf_18, mf_19, mf_20, mf_21, mf_22, mf_23, mf_24, mf_25, mf_26, mf_27, mf_28, mp_0, mp_3, mp_6, mp_7, mp_8, mp_9, mp_10, mp_11, mp_12, mp_14, mp_15, mp_16, mp_17, mp_25, mp_26, mp_28, mr_0, mr_1, mr_2, mr_3, mr_4, mr_5, mr_6, mr_7, mr_8, mr_9, mr_10, mr_11, mr_12, mw_0, mw_1, mw_2, mw_3, mw_4, mw_5, mw_6, mw_7, mw_8, mw_9, mw_10, mw_11, mw_12, e1, show vZ (.int (nI 0)) = true by decide, e2, us_us, bI_f]
  · rcases pays_lt (m := M.2 0) (p := b) (a := nI a) (n := n) h40 with hq | ⟨f, hf, hq⟩
    · exact absurd hq hp
    · have h1 : (us M1 26 (nI 1)).2 0 = M.2 0 := h0
      obtain ⟨g, len, ho⟩ := hO f hf
      obtain ⟨M2, hS2, e2⟩ := S_passes (d := d + 1) (am := am) (h := h) (M := us M1 26 (nI 1)) (p := b) (f := f) hK (by rw [h1]; exact hN) h40 hb (by omega) (by rw [h1]; exact ho) (by rw [h1]; exact hT)
      rw [h1] at e2
      obtain ⟨hS3, hS4⟩ := hS2.us26
      rw [← hS4] at e2
      refine ⟨_, hS1.trans hS3, ?_⟩
      rw [if_neg hp, hq, nI_clamp (by omega)]
      rw [hq] at e1 hp
      by_cases hr : (sp_passes (M.2 0) N f b).2 = -1
      · rw [hr] at e2 ⊢
        simp (disch := omega) only [e_X7_meets, r_X7_meets_0, r_X7_meets_7, r_X7_meets_20, r_X7_meets_16, r_X7_meets_24, r_X7_meets_40, r_X7_meets_30, r_X7_meets_47, r_X7_meets_39, r_X7_meets_55, r_X7_meets_51, aK_ret, aK_thr, Option.bind_some, Option.toList_some, Option.toList_none, List.cons_append, List.nil_append, List.set_cons_zero, List.set_cons_succ, lk1, hci_put, put_2, us_2, ua_1, us_eq, us_ne, ua_eq, ua_ne, uf_eq, uf_ne, us_neD, ua_neD, ua_0, sm_1, sm_2, sm_sm, us_sm, sm_us1, sm_ne, nI_add, pk_mul, add_n0, ret_bI, bI_0, Nat.add_zero, nI10, nI00, ne_eq, eq_self, Bool.true_eq_false, Bool.false_eq_true, cond_true, cond_false, not_false_eq_true, not_true_eq_false, ite_true, ite_false, if_true, if_false, reduceIte, mf_0, mf_1, mf_2, mf_3, mf_4, mf_5, mf_6, mf_7, mf_8, mf_9, mf_10, mf_11, mf_12, mf_13, mf_14, mf_15, mf_16, mf_17, mf_18, mf_19, mf_20, mf_21, mf_22, mf_23, mf_24, mf_25, mf_26, mf_27, mf_28, mp_0, mp_3, mp_6, mp_7, mp_8, mp_9, mp_10, mp_11, mp_12, mp_14, mp_15, mp_16, mp_17, mp_25, mp_26, mp_28, mr_0, mr_1, mr_2, mr_3, mr_4, mr_5, mr_6, mr_7, mr_8, mr_9, mr_10, mr_11, mr_12, mw_0, mw_1, mw_2, mw_3, mw_4, mw_5, mw_6, mw_7, mw_8, mw_9, mw_10, mw_11, mw_12, e1, hp, show vZ (.int (nI 1)) = true by decide, e2, us_us, bI_t]
      · simp (disch := omega) only [e_X7_meets, r_X7_meets_0, r_X7_meets_7, r_X7_meets_20, r_X7_meets_16, r_X7_meets_24, r_X7_meets_40, r_X7_meets_30, r_X7_meets_47, r_X7_meets_39, r_X7_meets_55, r_X7_meets_51, aK_ret, aK_thr, Option.bind_some, Option.toList_some, Option.toList_none, List.cons_append, List.nil_append, List.set_cons_zero, List.set_cons_succ, lk1, hci_put, put_2, us_2, ua_1, us_eq, us_ne, ua_eq, ua_ne, uf_eq, uf_ne, us_neD, ua_neD, ua_0, sm_1, sm_2, sm_sm, us_sm, sm_us1, sm_ne, nI_add, pk_mul, add_n0, ret_bI, bI_0, Nat.add_zero, nI10, nI00, ne_eq, eq_self, Bool.true_eq_false, Bool.false_eq_true, cond_true, cond_false, not_false_eq_true, not_true_eq_false, ite_true, ite_false, if_true, if_false, reduceIte, mf_0, mf_1, mf_2, mf_3, mf_4, mf_5, mf_6, mf_7, mf_8, mf_9, mf_10, mf_11, mf_12, mf_13, mf_14, mf_15, mf_16, mf_17, mf_18, mf_19, mf_20, mf_21, mf_22, mf_23, mf_24, mf_25, mf_26, mf_27, mf_28, mp_0, mp_3, mp_6, mp_7, mp_8, mp_9, mp_10, mp_11, mp_12, mp_14, mp_15, mp_16, mp_17, mp_25, mp_26, mp_28, mr_0, mr_1, mr_2, mr_3, mr_4, mr_5, mr_6, mr_7, mr_8, mr_9, mr_10, mr_11, mr_12, mw_0, mw_1, mw_2, mw_3, mw_4, mw_5, mw_6, mw_7, mw_8, mw_9, mw_10, mw_11, mw_12, e1, hp, hr, show vZ (.int (nI 1)) = true by decide, e2, us_us, bI_t]
