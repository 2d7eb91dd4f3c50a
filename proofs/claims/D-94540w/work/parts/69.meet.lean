/-! ===== the model: meeting ===== -/
def sp_cmeet (m : Nat → Int32) (N a b : Nat) (n : Int32) : Bool := !decide ((sp_pays m N (nI a) b n).1 = -1) || sp_cgive m N a b n (-1) false
theorem S_canMeet {d am N a b : Nat} {n : Int32} {M : MS} {h : AH} (hK : KS h am) (hN : M.2 0 3 = nI N) (h40 : N ≤ 40) (ha : a < 12) (hb : b < 12) (hO : OkFs (M.2 0) N) (hT : OkT (M.2 0)) : ∃ M', Sc M M' ∧ exec tTab (d + 37) K_X7_canMeet [.ref am, .int (nI a), .int (nI b), .int n] (put am M h) = some (.inl (some (.int (bI (sp_cmeet (M.2 0) N a b n)))), put am M' h) := by
  obtain ⟨M1, hS1, e1⟩ := S_paysBy (d := d) (am := am) (h := h) (a := nI a) (n := n) hK hN h40 hb hO hT
  have h0 : M1.2 0 = M.2 0 := hS1.1 0 (by decide)
  obtain ⟨M2, hS2, e2⟩ := S_canGive (d := d + 3) (am := am) (h := h) (M := M1) (n := n) (ends := -1) (forced := false) hK (by rw [h0]; exact hN) h40 ha hb (by rw [h0]; exact hT)
  rw [h0, bI_f] at e2
  unfold sp_cmeet
  by_cases hp : (sp_pays (M.2 0) N (nI a) b n).1 = -1
  · refine ⟨M2, hS1.trans hS2, ?_⟩
    rw [hp] at e1
    cases hc : sp_cgive (M.2 0) N a b n (-1) false <;> rw [hc] at e2 <;> simp (disch := omega) only [e_X7_canMeet, r_X7_canMeet_0, r_X7_canMeet_7, r_X7_canMeet_23, r_X7_canMeet_11, r_X7_canMeet_20, r_X7_canMeet_27, aK_ret, aK_thr, Option.bind_some, Option.toList_some, Option.toList_none, List.cons_append, List.nil_append, List.set_cons_zero, List.set_cons_succ, lk1, hci_put, put_2, us_2, ua_1, us_eq, us_ne, ua_eq, ua_ne, uf_eq, uf_ne, us_neD, ua_neD, ua_0, sm_1, sm_2, sm_sm, us_sm, sm_us1, sm_ne, nI_add, pk_mul, add_n0, ret_bI, bI_0, Nat.add_zero, nI10, nI00, ne_eq, eq_self, Bool.true_eq_false, Bool.false_eq_true, cond_true, cond_false, not_false_eq_true, not_true_eq_false, ite_true, ite_false, if_true, if_false, reduceIte, mf_0, mf_1, mf_2, mf_3, mf_4, mf_5, mf_6, mf_7, mf_8, mf_9, mf_10, mf_11, mf_12, mf_13, mf_14, mf_15, mf_16, mf_17, mf_18, mf_19, mf_20, mf_21, mf_22, mf_23, mf_24, mf_25, mf_26, mf_27, mf_28, mp_0, mp_3, mp_6, mp_7, mp_8, mp_9, mp_10, mp_11, mp_12, mp_14, mp_15, mp_16, mp_17, mp_25, mp_26, mp_28, mr_0, mr_1, mr_2, mr_3, mr_4, mr_5, mr_6, mr_7, mr_8, mr_9, mr_10, mr_11, mr_12, mw_0, mw_1, mw_2, mw_3, mw_4, mw_5, mw_6, mw_7, mw_8, mw_9, mw_10, mw_11, mw_12, e1, hp, e2, decide_true, Bool.not_true, Bool.false_or, bI_t, bI_f]
  · refine ⟨M1, hS1, ?_⟩
    simp (disch := omega) only [e_X7_canMeet, r_X7_canMeet_0, r_X7_canMeet_7, r_X7_canMeet_23, r_X7_canMeet_11, r_X7_canMeet_20, r_X7_canMeet_27, aK_ret, aK_thr, Option.bind_some, Option.toList_some, Option.toList_none, List.cons_append, List.nil_append, List.set_cons_zero, List.set_cons_succ, lk1, hci_put, put_2, us_2, ua_1, us_eq, us_ne, ua_eq, ua_ne, uf_eq, uf_ne, us_neD, ua_neD, ua_0, sm_1, sm_2, sm_sm, us_sm, sm_us1, sm_ne, nI_add, pk_mul, add_n0, ret_bI, bI_0, Nat.add_zero, nI10, nI00, ne_eq, eq_self, Bool.true_eq_false, Bool.false_eq_true, cond_true, cond_false, not_false_eq_true, not_true_eq_false, ite_true, ite_false, if_true, if_false, reduceIte, mf_0, mf_1, mf_2, mf_3, mf_4, mf_5, mf_6, mf_7, mf_8, mf_9, mf_10, mf_11, mf_12, mf_13, mf_14, mf_15, mf_16, mf_17, mf_18, mf_19, mf_20, mf_21, mf_22, mf_23, mf_24, mf_25, mf_26, mf_27, mf_28, mp_0, mp_3, mp_6, mp_7, mp_8, mp_9, mp_10, mp_11, mp_12, mp_14, mp_15, mp_16, mp_17, mp_25, mp_26, mp_28, mr_0, mr_1, mr_2, mr_3, mr_4, mr_5, mr_6, mr_7, mr_8, mr_9, mr_10, mr_11, mr_12, mw_0, mw_1, mw_2, mw_3, mw_4, mw_5, mw_6, mw_7, mw_8, mw_9, mw_10, mw_11, mw_12, e1, hp, decide_false, Bool.not_false, Bool.true_or, bI_t]
theorem OkF.g {m : Nat → Int32} {f g len : Nat} (h : OkF m f g len) : (m (140 + 20 * f)).toNatClampNeg = g := by rw [h.1, nI_clamp (by have := h.2.1; omega)]
/-- by passing (b) or giving: what is met; the row behind it -/
def sp_meets (m : Nat → Int32) (N a b : Nat) (n : Int32) : (Nat → Int32) × Int32 × Bool :=
  if (sp_pays m N (nI a) b n).1 = -1 then ((sp_gives m N a b n (nI 0) false).1, (sp_gives m N a b n (nI 0) false).2, false)
  else ((sp_passes m N (sp_pays m N (nI a) b n).1.toNatClampNeg b).1, if (sp_passes m N (sp_pays m N (nI a) b n).1.toNatClampNeg b).2 = -1 then -1 else (sp_pays m N (nI a) b n).1, true)
theorem pays_lt {m : Nat → Int32} {N p : Nat} {a n : Int32} (h40 : N ≤ 40) : (sp_pays m N a p n).1 = -1 ∨ ∃ f, f < N ∧ (sp_pays m N a p n).1 = nI f := by
  have key : ∀ k, (itr (st_pays m N a p n) (-1, nI 0) k).1 = -1 ∨ ∃ f, f < k ∧ (itr (st_pays m N a p n) (-1, nI 0) k).1 = nI f := by
    intro k
    induction k with
    | zero => exact Or.inl rfl
    | succ k ih =>
      have ih' : (itr (st_pays m N a p n) (-1, nI 0) k).1 = -1 ∨ ∃ f, f < k + 1 ∧ (itr (st_pays m N a p n) (-1, nI 0) k).1 = nI f := by
        rcases ih with h | ⟨f, h1, h2⟩
        · exact Or.inl h
        · exact Or.inr ⟨f, by omega, h2⟩
      rw [itr]
      generalize itr (st_pays m N a p n) (-1, nI 0) k = s at ih'
      unfold st_pays
      generalize (decide (m (140 + 20 * k + 2) = a) && !decide (sp_worth (m (140 + 20 * k + 1)) (m (140 + 20 * k + 3) + nI 1) < nI 1024 * n) && (decide (s.1 = -1) || decide (sp_worth (m (140 + 20 * k + 1)) (m (140 + 20 * k + 3) + nI 1) < s.2)) && sp_goes m N k a p) = c
      cases c with
      | true => exact Or.inr ⟨k, by omega, rfl⟩
      | false => exact ih'
  exact key N
