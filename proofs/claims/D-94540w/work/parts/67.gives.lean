/-! ===== the model: gives ===== -/
def sp_zero (m : Nat → Int32) (N : Nat) : Nat → Nat → Int32 := itr (fun k m => uf m (140 + 20 * N + k) (nI 0)) (uf m 3 (m 3 + nI 1))
def sp_gm (m : Nat → Int32) (N a b : Nat) (n ends : Int32) (forced : Bool) : Nat → Int32 :=
  uf (uf (uf (uf (uf (uf (uf (uf (sp_zero m N 20) (140 + 20 * N) (nI a)) (140 + 20 * N + 1) n) (140 + 20 * N + 2) (nI b)) (140 + 20 * N + 4) ends) (140 + 20 * N + 5) (bI forced)) (140 + 20 * N + 6) (nI 2)) (140 + 20 * N + 7) (nI a)) (140 + 20 * N + 8) (nI b)
def sp_ends (m : Nat → Int32) (dd : Int32) : Int32 := if dd = 0 then -1 else m 6 + dd
def sp_gives (m : Nat → Int32) (N a b : Nat) (n dd : Int32) (forced : Bool) : (Nat → Int32) × Int32 := bif sp_cgive m N a b n (sp_ends m dd) forced then (sp_gm m N a b n (sp_ends m dd) forced, nI N) else (m, -1)
theorem S_gives {d am N a b : Nat} {n dd : Int32} {forced : Bool} {M : MS} {h : AH} (hK : KS h am) (hN : M.2 0 3 = nI N) (h40 : N ≤ 40) (ha : a < 12) (hb : b < 12) (hT : OkT (M.2 0)) : ∃ M', Sc M M' ∧ exec tTab (d + 34) K_X7_gives [.ref am, .int (nI a), .int (nI b), .int n, .int dd, .int (bI forced)] (put am M h) = some (.inl (some (.int (sp_gives (M.2 0) N a b n dd forced).2)), put am (sm M' (sp_gives (M.2 0) N a b n dd forced).1) h) := by
  obtain ⟨M', hSc, e⟩ := S_canGive (d := d) (am := am) (h := h) (n := n) (ends := sp_ends (M.2 0) dd) (forced := forced) hK hN h40 ha hb hT
  have h0 : M'.2 0 = M.2 0 := hSc.1 0 (by decide)
  refine ⟨M', hSc, ?_⟩
  have hst : ∀ (M : MS) f j v, 140 + 20 * f + j < 3346 → exec tTab (d + 33) K_X7_sets [.ref am, .int (nI f), .int (nI j), .int v] (put am M h) = some (.inl none, put am (sm M (uf (M.2 0) (140 + 20 * f + j) v)) h) := fun M f j v hj => S_sets (d := d + 32) hj
  have hN39 : sp_cgive (M.2 0) N a b n (sp_ends (M.2 0) dd) forced = true → N < 40 := by
    intro hc
    unfold sp_cgive at hc
    rw [hN, Bool.and_eq_true] at hc
    have := of_decide_eq_true hc.2
    rwa [nI_ltI (by omega) (by decide)] at this
  have start : ∀ x, x = exec tTab (d + 34) K_X7_gives [.ref am, .int (nI a), .int (nI b), .int n, .int dd, .int (bI forced)] (put am M h) → x = bif sp_cgive (M.2 0) N a b n (sp_ends (M.2 0) dd) forced then R_X7_gives (d + 33) 37 [some (.ref am), some (.int (nI a)), some (.int (nI b)), some (.int n), some (.int dd), some (.int (bI forced)), some (.int (sp_ends (M.2 0) dd)), none, none] [] (put am M' h) else some (.inl (some (.int (-1))), put am M' h) := by
    intro x hx
    rw [hx]
    unfold sp_ends at e ⊢
    by_cases hd : dd = 0
    · rw [if_pos hd] at e ⊢
      cases hc : sp_cgive (M.2 0) N a b n (-1) forced <;> rw [hc] at e <;> simp (disch := omega) only [e_X7_gives, r_X7_gives_0, r_X7_gives_5, r_X7_gives_32, r_X7_gives_35, aK_ret, aK_thr, Option.bind_some, Option.toList_some, Option.toList_none, List.cons_append, List.nil_append, List.set_cons_zero, List.set_cons_succ, lk1, hci_put, put_2, us_2, ua_1, us_eq, us_ne, ua_eq, ua_ne, uf_eq, uf_ne, us_neD, ua_neD, ua_0, sm_1, sm_2, sm_sm, us_sm, sm_us1, sm_ne, nI_add, pk_mul, add_n0, ret_bI, bI_0, Nat.add_zero, nI10, nI00, ne_eq, eq_self, Bool.true_eq_false, Bool.false_eq_true, cond_true, cond_false, not_false_eq_true, not_true_eq_false, ite_true, ite_false, if_true, if_false, reduceIte, mf_0, mf_1, mf_2, mf_3, mf_4, mf_5, mf_6, mf_7, mf_8, mf_9, mf_10, mf_11, mf_12, mf_13, mf_14, mf_15, mf_16, mf_17, mf_18, mf_19, mf_20, mf_21, mf_22, mf_23, mf_24, mf_25, mf_26, mf_27, mf_28, mp_0, mp_3, mp_6, mp_7, mp_8, mp_9, mp_10, mp_11, mp_12, mp_14, mp_15, mp_16, mp_17, mp_25, mp_26, mp_28, mr_0, mr_1, mr_2, mr_3, mr_4, mr_5, mr_6, mr_7, mr_8, mr_9, mr_10, mr_11, mr_12, mw_0, mw_1, mw_2, mw_3, mw_4, mw_5, mw_6, mw_7, mw_8, mw_9, mw_10, mw_11, mw_12, hd, e]
    · rw [if_neg hd] at e ⊢
      cases hc : sp_cgive (M.2 0) N a b n (M.2 0 6 + dd) forced <;> rw [hc] at e <;> simp (disch := omega) only [e_X7_gives, r_X7_gives_0, r_X7_gives_9, r_X7_gives_13, r_X7_gives_16, r_X7_gives_32, r_X7_gives_35, aK_ret, aK_thr, Option.bind_some, Option.toList_some, Option.toList_none, List.cons_append, List.nil_append, List.set_cons_zero, List.set_cons_succ, lk1, hci_put, put_2, us_2, ua_1, us_eq, us_ne, ua_eq, ua_ne, uf_eq, uf_ne, us_neD, ua_neD, ua_0, sm_1, sm_2, sm_sm, us_sm, sm_us1, sm_ne, nI_add, pk_mul, add_n0, ret_bI, bI_0, Nat.add_zero, nI10, nI00, ne_eq, eq_self, Bool.true_eq_false, Bool.false_eq_true, cond_true, cond_false, not_false_eq_true, not_true_eq_false, ite_true, ite_false, if_true, if_false, reduceIte, mf_0, mf_1, mf_2, mf_3, mf_4, mf_5, mf_6, mf_7, mf_8, mf_9, mf_10, mf_11, mf_12, mf_13, mf_14, mf_15, mf_16, mf_17, mf_18, mf_19, mf_20, mf_21, mf_22, mf_23, mf_24, mf_25, mf_26, mf_27, mf_28, mp_0, mp_3, mp_6, mp_7, mp_8, mp_9, mp_10, mp_11, mp_12, mp_14, mp_15, mp_16, mp_17, mp_25, mp_26, mp_28, mr_0, mr_1, mr_2, mr_3, mr_4, mr_5, mr_6, mr_7, mr_8, mr_9, mr_10, mr_11, mr_12, mw_0, mw_1, mw_2, mw_3, mw_4, mw_5, mw_6, mw_7, mw_8, mw_9, mw_10, mw_11, mw_12, hd, e]
  rw [start _ rfl]
  unfold sp_gives
  cases hc : sp_cgive (M.2 0) N a b n (sp_ends (M.2 0) dd) forced with
  | false => simp only [cond_false, ← h0, sm_id]
  | true =>
    have hlt := hN39 hc
    have fin : ∀ H, H = put am (sm M' (sp_zero (M.2 0) N 20)) h → R_X7_gives (d + 33) 80 [some (.ref am), some (.int (nI a)), some (.int (nI b)), some (.int n), some (.int dd), some (.int (bI forced)), some (.int (sp_ends (M.2 0) dd)), some (.int (nI N)), some (.int (nI 20))] [] H = some (.inl (some (.int (nI N))), put am (sm M' (sp_gm (M.2 0) N a b n (sp_ends (M.2 0) dd) forced)) h) := by
      intro H hH
      rw [hH]
      cases forced <;> simp (disch := first | omega | decide) only [r_X7_gives_80, r_X7_gives_88, r_X7_gives_96, r_X7_gives_104, r_X7_gives_113, r_X7_gives_122, r_X7_gives_126, r_X7_gives_130, r_X7_gives_139, r_X7_gives_148, r_X7_gives_157, aK_ret, aK_thr, Option.bind_some, Option.toList_some, Option.toList_none, List.cons_append, List.nil_append, List.set_cons_zero, List.set_cons_succ, lk1, hci_put, put_2, us_2, ua_1, us_eq, us_ne, ua_eq, ua_ne, uf_eq, uf_ne, us_neD, ua_neD, ua_0, sm_1, sm_2, sm_sm, us_sm, sm_us1, sm_ne, nI_add, pk_mul, add_n0, ret_bI, bI_0, Nat.add_zero, nI10, nI00, ne_eq, eq_self, Bool.true_eq_false, Bool.false_eq_true, cond_true, cond_false, not_false_eq_true, not_true_eq_false, ite_true, ite_false, if_true, if_false, reduceIte, mf_0, mf_1, mf_2, mf_3, mf_4, mf_5, mf_6, mf_7, mf_8, mf_9, mf_10, mf_11, mf_12, mf_13, mf_14, mf_15, mf_16, mf_17, mf_18, mf_19, mf_20, mf_21, mf_22, mf_23, mf_24, mf_25, mf_26, mf_27, mf_28, mp_0, mp_3, mp_6, mp_7, mp_8, mp_9, mp_10, mp_11, mp_12, mp_14, mp_15, mp_16, mp_17, mp_25, mp_26, mp_28, mr_0, mr_1, mr_2, mr_3, mr_4, mr_5, mr_6, mr_7, mr_8, mr_9, mr_10, mr_11, mr_12, mw_0, mw_1, mw_2, mw_3, mw_4, mw_5, mw_6, mw_7, mw_8, mw_9, mw_10, mw_11, mw_12, hst, sp_gm, bI_t, bI_f]
    have loop : R_X7_gives (d + 33) 58 [some (.ref am), some (.int (nI a)), some (.int (nI b)), some (.int n), some (.int dd), some (.int (bI forced)), some (.int (sp_ends (M.2 0) dd)), some (.int (nI N)), some (.int (nI 0))] [] (put am (sm M' (sp_zero (M.2 0) N 0)) h) = some (.inl (some (.int (nI N))), put am (sm M' (sp_gm (M.2 0) N a b n (sp_ends (M.2 0) dd) forced)) h) := by
      refine loopUp (α := Unit) (fun k _ => R_X7_gives (d + 33) 58 [some (.ref am), some (.int (nI a)), some (.int (nI b)), some (.int n), some (.int dd), some (.int (bI forced)), some (.int (sp_ends (M.2 0) dd)), some (.int (nI N)), some (.int (nI k))] [] (put am (sm M' (sp_zero (M.2 0) N k)) h)) 20 ?_ ?_ ()
      · intro k hk _
        refine ⟨(), ?_⟩
        rw [q_X7_gives_58]
        simp (disch := first | omega | decide) only [r_X7_gives_65, r_X7_gives_74, aK_ret, aK_thr, Option.bind_some, Option.toList_some, Option.toList_none, List.cons_append, List.nil_append, List.set_cons_zero, List.set_cons_succ, lk1, hci_put, put_2, us_2, ua_1, us_eq, us_ne, ua_eq, ua_ne, uf_eq, uf_ne, us_neD, ua_neD, ua_0, sm_1, sm_2, sm_sm, us_sm, sm_us1, sm_ne, nI_add, pk_mul, add_n0, ret_bI, bI_0, Nat.add_zero, nI10, nI00, ne_eq, eq_self, Bool.true_eq_false, Bool.false_eq_true, cond_true, cond_false, not_false_eq_true, not_true_eq_false, ite_true, ite_false, if_true, if_false, reduceIte, mf_0, mf_1, mf_2, mf_3, mf_4, mf_5, mf_6, mf_7, mf_8, mf_9, mf_10, mf_11, mf_12, mf_13, mf_14, mf_15, mf_16, mf_17, mf_18, mf_19, mf_20, mf_21, mf_22, mf_23, mf_24, mf_25, mf_26, mf_27, mf_28, mp_0, mp_3, mp_6, mp_7, mp_8, mp_9, mp_10, mp_11, mp_12, mp_14, mp_15, mp_16, mp_17, mp_25, mp_26, mp_28, mr_0, mr_1, mr_2, mr_3, mr_4, mr_5, mr_6, mr_7, mr_8, mr_9, mr_10, mr_11, mr_12, mw_0, mw_1, mw_2, mw_3, mw_4, mw_5, mw_6, mw_7, mw_8, mw_9, mw_10, mw_11, mw_12, hst, nI_leI, Nat.not_le.mpr hk]
        rfl
      · intro _
        rw [q_X7_gives_58]
        simp (disch := first | omega | decide) only [nI_leI, Nat.le_refl, if_true]
        exact fin _ rfl
    simp (disch := first | omega | decide) only [r_X7_gives_37, r_X7_gives_41, r_X7_gives_43, r_X7_gives_49, r_X7_gives_52, r_X7_gives_55, aK_ret, aK_thr, Option.bind_some, Option.toList_some, Option.toList_none, List.cons_append, List.nil_append, List.set_cons_zero, List.set_cons_succ, lk1, hci_put, put_2, us_2, ua_1, us_eq, us_ne, ua_eq, ua_ne, uf_eq, uf_ne, us_neD, ua_neD, ua_0, sm_1, sm_2, sm_sm, us_sm, sm_us1, sm_ne, nI_add, pk_mul, add_n0, ret_bI, bI_0, Nat.add_zero, nI10, nI00, ne_eq, eq_self, Bool.true_eq_false, Bool.false_eq_true, cond_true, cond_false, not_false_eq_true, not_true_eq_false, ite_true, ite_false, if_true, if_false, reduceIte, mf_0, mf_1, mf_2, mf_3, mf_4, mf_5, mf_6, mf_7, mf_8, mf_9, mf_10, mf_11, mf_12, mf_13, mf_14, mf_15, mf_16, mf_17, mf_18, mf_19, mf_20, mf_21, mf_22, mf_23, mf_24, mf_25, mf_26, mf_27, mf_28, mp_0, mp_3, mp_6, mp_7, mp_8, mp_9, mp_10, mp_11, mp_12, mp_14, mp_15, mp_16, mp_17, mp_25, mp_26, mp_28, mr_0, mr_1, mr_2, mr_3, mr_4, mr_5, mr_6, mr_7, mr_8, mr_9, mr_10, mr_11, mr_12, mw_0, mw_1, mw_2, mw_3, mw_4, mw_5, mw_6, mw_7, mw_8, mw_9, mw_10, mw_11, mw_12, h0, hN]
    rw [← loop]
    unfold sp_zero itr
    simp only [hN, nI_add]
