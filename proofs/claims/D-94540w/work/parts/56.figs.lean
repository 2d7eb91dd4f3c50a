theorem us9_co {M : MS} {j : Nat} {v w : Int32} (h : (9 == j) = false) : us (us M 9 v) j w = us (us M j w) 9 v := us_co h
def nxs (x : Nat → Int32) (n a : Nat) (c : Int32) : Bool := decide (sk x n a < n ∧ x (sk x n a) = c)
theorem S_isSign {d am n : Nat} {x : Nat → Int32} {M : MS} {h : AH} {c : Int32} (hL : Lx M x n) {a : Nat} (ha : a ≤ n) : exec tTab (d + 3) K_X7_isSign [.ref am, .int c] (put am (us M 9 (nI a)) h) = some (.inl (some (.int (bI (nxs x n a c)))), put am (us M 9 (nI (sk x n a))) h) := by
  have h8 := hL.1
  have h400 := hL.2.1
  have hb := sk_le (x := x) ha
  have hsk := S_skip (d := d) (am := am) (h := h) hL a ha
  unfold nxs
  generalize sk x n a = b at hb hsk
  by_cases hn : n ≤ b
  · simp (disch := first | omega | decide) only [e_X7_isSign, r_X7_isSign_0, r_X7_isSign_4, r_X7_isSign_8, r_X7_isSign_12, r_X7_isSign_31, r_X7_isSign_15, r_X7_isSign_20, r_X7_isSign_23, r_X7_isSign_27, aK_ret, aK_thr, Option.bind_some, Option.toList_some, Option.toList_none, List.cons_append, List.nil_append, List.set_cons_zero, List.set_cons_succ, lk1, hci_put, put_2, us_2, ua_1, us_eq, us_ne, ua_eq, ua_ne, uf_eq, uf_ne, us_neD, ua_neD, ua_0, sm_1, sm_2, sm_sm, us_sm, sm_us1, sm_ne, nI_add, pk_mul, add_n0, ret_bI, bI_0, Nat.add_zero, nI10, nI00, ne_eq, eq_self, Bool.true_eq_false, Bool.false_eq_true, cond_true, cond_false, not_false_eq_true, not_true_eq_false, ite_true, ite_false, if_true, if_false, reduceIte, mf_0, mf_1, mf_2, mf_3, mf_4, mf_5, mf_6, mf_7, mf_8, mf_9, mf_10, mf_11, mf_12, mf_13, mf_14, mf_15, mf_16, mf_17, mf_18, mf_19, mf_20, mf_21, mf_22, mf_23, mf_24, mf_25, mf_26, mf_27, mf_28, mp_0, mp_3, mp_6, mp_7, mp_8, mp_9, mp_10, mp_11, mp_12, mp_14, mp_15, mp_16, mp_17, mp_25, mp_26, mp_28, mr_0, mr_1, mr_2, mr_3, mr_4, mr_5, mr_6, mr_7, mr_8, mr_9, mr_10, mr_11, mr_12, mw_0, mw_1, mw_2, mw_3, mw_4, mw_5, mw_6, mw_7, mw_8, mw_9, mw_10, mw_11, mw_12, hsk, h8, nI_leI, hn, show ¬ b < n by omega, false_and, decide_false, bI_f]
  · have hs := S_letter (d := d + 1) (am := am) (h := h) (hL.u (k := 9) (v := nI b) (by decide)) (show b < n by omega)
    simp (disch := first | omega | decide) only [e_X7_isSign, r_X7_isSign_0, r_X7_isSign_4, r_X7_isSign_8, r_X7_isSign_12, r_X7_isSign_31, r_X7_isSign_15, r_X7_isSign_20, r_X7_isSign_23, r_X7_isSign_27, aK_ret, aK_thr, Option.bind_some, Option.toList_some, Option.toList_none, List.cons_append, List.nil_append, List.set_cons_zero, List.set_cons_succ, lk1, hci_put, put_2, us_2, ua_1, us_eq, us_ne, ua_eq, ua_ne, uf_eq, uf_ne, us_neD, ua_neD, ua_0, sm_1, sm_2, sm_sm, us_sm, sm_us1, sm_ne, nI_add, pk_mul, add_n0, ret_bI, bI_0, Nat.add_zero, nI10, nI00, ne_eq, eq_self, Bool.true_eq_false, Bool.false_eq_true, cond_true, cond_false, not_false_eq_true, not_true_eq_false, ite_true, ite_false, if_true, if_false, reduceIte, mf_0, mf_1, mf_2, mf_3, mf_4, mf_5, mf_6, mf_7, mf_8, mf_9, mf_10, mf_11, mf_12, mf_13, mf_14, mf_15, mf_16, mf_17, mf_18, mf_19, mf_20, mf_21, mf_22, mf_23, mf_24, mf_25, mf_26, mf_27, mf_28, mp_0, mp_3, mp_6, mp_7, mp_8, mp_9, mp_10, mp_11, mp_12, mp_14, mp_15, mp_16, mp_17, mp_25, mp_26, mp_28, mr_0, mr_1, mr_2, mr_3, mr_4, mr_5, mr_6, mr_7, mr_8, mr_9, mr_10, mr_11, mr_12, mw_0, mw_1, mw_2, mw_3, mw_4, mw_5, mw_6, mw_7, mw_8, mw_9, mw_10, mw_11, mw_12, hsk, h8, nI_leI, hn, hs, show b < n by omega, true_and]
    by_cases hc : x b = c
    · simp [hc, bI_t]
    · simp [hc, bI_f]
theorem S_wrong1 {d am : Nat} {M : MS} {h : AH} {w : Int32} (hf : M.1 10 = -1) : exec tTab (d + 1) K_X7_wrong [.ref am, .int w] (put am M h) = some (.inl none, put am (us M 10 w) h) := by
  simp (disch := first | omega | decide) only [e_X7_wrong, r_X7_wrong_0, r_X7_wrong_4, r_X7_wrong_13, r_X7_wrong_8, aK_ret, aK_thr, Option.bind_some, Option.toList_some, Option.toList_none, List.cons_append, List.nil_append, List.set_cons_zero, List.set_cons_succ, lk1, hci_put, put_2, us_2, ua_1, us_eq, us_ne, ua_eq, ua_ne, uf_eq, uf_ne, us_neD, ua_neD, ua_0, sm_1, sm_2, sm_sm, us_sm, sm_us1, sm_ne, nI_add, pk_mul, add_n0, ret_bI, bI_0, Nat.add_zero, nI10, nI00, ne_eq, eq_self, Bool.true_eq_false, Bool.false_eq_true, cond_true, cond_false, not_false_eq_true, not_true_eq_false, ite_true, ite_false, if_true, if_false, reduceIte, mf_0, mf_1, mf_2, mf_3, mf_4, mf_5, mf_6, mf_7, mf_8, mf_9, mf_10, mf_11, mf_12, mf_13, mf_14, mf_15, mf_16, mf_17, mf_18, mf_19, mf_20, mf_21, mf_22, mf_23, mf_24, mf_25, mf_26, mf_27, mf_28, mp_0, mp_3, mp_6, mp_7, mp_8, mp_9, mp_10, mp_11, mp_12, mp_14, mp_15, mp_16, mp_17, mp_25, mp_26, mp_28, mr_0, mr_1, mr_2, mr_3, mr_4, mr_5, mr_6, mr_7, mr_8, mr_9, mr_10, mr_11, mr_12, mw_0, mw_1, mw_2, mw_3, mw_4, mw_5, mw_6, mw_7, mw_8, mw_9, mw_10, mw_11, mw_12, hf]
theorem S_wrong0 {d am : Nat} {M : MS} {h : AH} {w : Int32} (hf : ¬ M.1 10 = -1) : exec tTab (d + 1) K_X7_wrong [.ref am, .int w] (put am M h) = some (.inl none, put am M h) := by
  simp (disch := first | omega | decide) only [e_X7_wrong, r_X7_wrong_0, r_X7_wrong_4, r_X7_wrong_13, r_X7_wrong_8, aK_ret, aK_thr, Option.bind_some, Option.toList_some, Option.toList_none, List.cons_append, List.nil_append, List.set_cons_zero, List.set_cons_succ, lk1, hci_put, put_2, us_2, ua_1, us_eq, us_ne, ua_eq, ua_ne, uf_eq, uf_ne, us_neD, ua_neD, ua_0, sm_1, sm_2, sm_sm, us_sm, sm_us1, sm_ne, nI_add, pk_mul, add_n0, ret_bI, bI_0, Nat.add_zero, nI10, nI00, ne_eq, eq_self, Bool.true_eq_false, Bool.false_eq_true, cond_true, cond_false, not_false_eq_true, not_true_eq_false, ite_true, ite_false, if_true, if_false, reduceIte, mf_0, mf_1, mf_2, mf_3, mf_4, mf_5, mf_6, mf_7, mf_8, mf_9, mf_10, mf_11, mf_12, mf_13, mf_14, mf_15, mf_16, mf_17, mf_18, mf_19, mf_20, mf_21, mf_22, mf_23, mf_24, mf_25, mf_26, mf_27, mf_28, mp_0, mp_3, mp_6, mp_7, mp_8, mp_9, mp_10, mp_11, mp_12, mp_14, mp_15, mp_16, mp_17, mp_25, mp_26, mp_28, mr_0, mr_1, mr_2, mr_3, mr_4, mr_5, mr_6, mr_7, mr_8, mr_9, mr_10, mr_11, mr_12, mw_0, mw_1, mw_2, mw_3, mw_4, mw_5, mw_6, mw_7, mw_8, mw_9, mw_10, mw_11, mw_12, hf]
def isD (v : Int32) : Bool := inI v (nI 48) (nI 57)
def fgp (x : Nat → Int32) : Nat → Nat → Int32 → Nat × Int32
  | 0, a, v => (a, v)
  | f + 1, a, v => if isD (x a) = true then fgp x f (a + 1) ((nI 10 * v + x a) - nI 48) else (a, v)
/-- at most four figures from b on: where they end, the number -/
def fg (x : Nat → Int32) (n b : Nat) : Nat × Int32 := fgp x (min (n - b) 4) b (nI 0)
theorem fgp_ge {x : Nat → Int32} : ∀ f a v, a ≤ (fgp x f a v).1 ∧ (fgp x f a v).1 ≤ a + f := by
  intro f
  induction f with
  | zero => intro a v; exact ⟨Nat.le_refl _, Nat.le_refl _⟩
  | succ f ih =>
    intro a v
    show a ≤ (if isD (x a) = true then fgp x f (a + 1) ((nI 10 * v + x a) - nI 48) else (a, v)).1 ∧ (if isD (x a) = true then fgp x f (a + 1) ((nI 10 * v + x a) - nI 48) else (a, v)).1 ≤ a + (f + 1)
    split
    · have := ih (a + 1) ((nI 10 * v + x a) - nI 48); omega
    · exact ⟨Nat.le_refl _, by dsimp only; omega⟩
theorem fg_ge {x : Nat → Int32} {n b : Nat} (hb : b ≤ n) : b ≤ (fg x n b).1 ∧ (fg x n b).1 ≤ n ∧ (fg x n b).1 ≤ b + 4 := by
  have := fgp_ge (x := x) (min (n - b) 4) b (nI 0)
  unfold fg; omega
/-- a number of one to three figures within bounds stands at b -/
def fgo (x : Nat → Int32) (n b : Nat) (lo hi : Int32) : Bool := decide (¬ (fg x n b).1 = b ∧ (fg x n b).1 ≤ b + 3 ∧ ¬ (fg x n b).2 < lo ∧ (fg x n b).2 ≤ hi)
def fM (ok : Bool) (M : MS) (b : Nat) : MS := bif ok then M else us M 10 (nI b)
theorem S_figures {d am n : Nat} {x : Nat → Int32} {M : MS} {h : AH} {lo hi : Int32} (hL : Lx M x n) (hf : M.1 10 = -1) {a : Nat} (ha : a ≤ n) : exec tTab (d + 3) K_X7_figures [.ref am, .int lo, .int hi] (put am (us M 9 (nI a)) h) = some (.inl (some (.int (fg x n (sk x n a)).2)), put am (us (fM (fgo x n (sk x n a) lo hi) M (sk x n a)) 9 (nI (fg x n (sk x n a)).1)) h) := by
  have hL' : ∀ v, Lx (us M 9 v) x n := fun v => hL.u (by decide)
  have h8 := hL.1
  have h400 := hL.2.1
  have hb := sk_le (x := x) ha
  have hsk := S_skip (d := d) (am := am) (h := h) hL a ha
  generalize sk x n a = b at hb hsk
  have hfg := fg_ge (x := x) hb
  have fin : R_X7_figures (d + 2) 93 [some (.ref am), some (.int lo), some (.int hi), some (.int (nI b)), some (.int (fg x n b).2)] [] (put am (us M 9 (nI (fg x n b).1)) h) = some (.inl (some (.int (fg x n b).2)), put am (us (fM (fgo x n b lo hi) M b) 9 (nI (fg x n b).1)) h) := by
    unfold fgo
    generalize fg x n b = p at hfg
    obtain ⟨e, v⟩ := p
    dsimp only at hfg ⊢
    have hw := S_wrong1 (d := d + 1) (am := am) (M := us M 9 (nI e)) (h := h) (w := nI b) (by rw [us_neD (by decide)]; exact hf)
    simp (disch := first | omega | decide) only [e_X7_figures, r_X7_figures_0, r_X7_figures_4, r_X7_figures_10, r_X7_figures_8, r_X7_figures_14, r_X7_figures_18, r_X7_figures_26, r_X7_figures_30, r_X7_figures_93, r_X7_figures_33, r_X7_figures_97, r_X7_figures_38, r_X7_figures_123, r_X7_figures_101, r_X7_figures_41, r_X7_figures_128, r_X7_figures_105, r_X7_figures_48, r_X7_figures_111, r_X7_figures_51, r_X7_figures_117, r_X7_figures_55, r_X7_figures_61, r_X7_figures_71, r_X7_figures_74, r_X7_figures_85, r_X7_figures_90, aK_ret, aK_thr, Option.bind_some, Option.toList_some, Option.toList_none, List.cons_append, List.nil_append, List.set_cons_zero, List.set_cons_succ, lk1, hci_put, put_2, us_2, ua_1, us_eq, us_ne, ua_eq, ua_ne, uf_eq, uf_ne, us_neD, ua_neD, ua_0, sm_1, sm_2, sm_sm, us_sm, sm_us1, sm_ne, nI_add, pk_mul, add_n0, ret_bI, bI_0, Nat.add_zero, nI10, nI00, ne_eq, eq_self, Bool.true_eq_false, Bool.false_eq_true, cond_true, cond_false, not_false_eq_true, not_true_eq_false, ite_true, ite_false, if_true, if_false, reduceIte, mf_0, mf_1, mf_2, mf_3, mf_4, mf_5, mf_6, mf_7, mf_8, mf_9, mf_10, mf_11, mf_12, mf_13, mf_14, mf_15, mf_16, mf_17, mf_18, mf_19, mf_20, mf_21, mf_22, mf_23, mf_24, mf_25, mf_26, mf_27, mf_28, mp_0, mp_3, mp_6, mp_7, mp_8, mp_9, mp_10, mp_11, mp_12, mp_14, mp_15, mp_16, mp_17, mp_25, mp_26, mp_28, mr_0, mr_1, mr_2, mr_3, mr_4, mr_5, mr_6, mr_7, mr_8, mr_9, mr_10, mr_11, mr_12, mw_0, mw_1, mw_2, mw_3, mw_4, mw_5, mw_6, mw_7, mw_8, mw_9, mw_10, mw_11, mw_12, hw, nI_inj, nI_ltI, pk_sub, us9_co]
    by_cases h1 : e = b
    · simp [h1, fM]
    · by_cases h2 : 3 < e - b
      · simp [h1, h2, show ¬ e ≤ b + 3 by omega, fM]
      · by_cases h3 : v < lo
        · simp [h1, h2, h3, fM]
        · by_cases h4 : v ≤ hi
          · simp [h1, h2, h3, h4, show e ≤ b + 3 by omega, fM]
          · simp [h1, h2, h3, h4, fM]
  have key : ∀ f a v, f = min (n - a) (b + 4 - a) → b ≤ a → a ≤ n → R_X7_figures (d + 2) 22 [some (.ref am), some (.int lo), some (.int hi), some (.int (nI b)), some (.int v)] [] (put am (us M 9 (nI a)) h) = R_X7_figures (d + 2) 93 [some (.ref am), some (.int lo), some (.int hi), some (.int (nI b)), some (.int (fgp x f a v).2)] [] (put am (us M 9 (nI (fgp x f a v).1)) h) := by
    intro f
    induction f with
    | zero =>
      intro a v hm hba han
      rw [q_X7_figures_22]
      by_cases hn : n ≤ a
      · simp (disch := first | omega | decide) only [r_X7_figures_26, r_X7_figures_30, aK_ret, aK_thr, Option.bind_some, Option.toList_some, Option.toList_none, List.cons_append, List.nil_append, List.set_cons_zero, List.set_cons_succ, lk1, hci_put, put_2, us_2, ua_1, us_eq, us_ne, ua_eq, ua_ne, uf_eq, uf_ne, us_neD, ua_neD, ua_0, sm_1, sm_2, sm_sm, us_sm, sm_us1, sm_ne, nI_add, pk_mul, add_n0, ret_bI, bI_0, Nat.add_zero, nI10, nI00, ne_eq, eq_self, Bool.true_eq_false, Bool.false_eq_true, cond_true, cond_false, not_false_eq_true, not_true_eq_false, ite_true, ite_false, if_true, if_false, reduceIte, mf_0, mf_1, mf_2, mf_3, mf_4, mf_5, mf_6, mf_7, mf_8, mf_9, mf_10, mf_11, mf_12, mf_13, mf_14, mf_15, mf_16, mf_17, mf_18, mf_19, mf_20, mf_21, mf_22, mf_23, mf_24, mf_25, mf_26, mf_27, mf_28, mp_0, mp_3, mp_6, mp_7, mp_8, mp_9, mp_10, mp_11, mp_12, mp_14, mp_15, mp_16, mp_17, mp_25, mp_26, mp_28, mr_0, mr_1, mr_2, mr_3, mr_4, mr_5, mr_6, mr_7, mr_8, mr_9, mr_10, mr_11, mr_12, mw_0, mw_1, mw_2, mw_3, mw_4, mw_5, mw_6, mw_7, mw_8, mw_9, mw_10, mw_11, mw_12, h8, nI_leI, hn]
        rfl
      · have hs := S_letter (d := d + 1) (am := am) (h := h) (hL' (nI a)) (show a < n by omega)
        simp (disch := first | omega | decide) only [r_X7_figures_26, r_X7_figures_30, r_X7_figures_33, r_X7_figures_38, r_X7_figures_41, r_X7_figures_48, r_X7_figures_51, r_X7_figures_55, aK_ret, aK_thr, Option.bind_some, Option.toList_some, Option.toList_none, List.cons_append, List.nil_append, List.set_cons_zero, List.set_cons_succ, lk1, hci_put, put_2, us_2, ua_1, us_eq, us_ne, ua_eq, ua_ne, uf_eq, uf_ne, us_neD, ua_neD, ua_0, sm_1, sm_2, sm_sm, us_sm, sm_us1, sm_ne, nI_add, pk_mul, add_n0, ret_bI, bI_0, Nat.add_zero, nI10, nI00, ne_eq, eq_self, Bool.true_eq_false, Bool.false_eq_true, cond_true, cond_false, not_false_eq_true, not_true_eq_false, ite_true, ite_false, if_true, if_false, reduceIte, mf_0, mf_1, mf_2, mf_3, mf_4, mf_5, mf_6, mf_7, mf_8, mf_9, mf_10, mf_11, mf_12, mf_13, mf_14, mf_15, mf_16, mf_17, mf_18, mf_19, mf_20, mf_21, mf_22, mf_23, mf_24, mf_25, mf_26, mf_27, mf_28, mp_0, mp_3, mp_6, mp_7, mp_8, mp_9, mp_10, mp_11, mp_12, mp_14, mp_15, mp_16, mp_17, mp_25, mp_26, mp_28, mr_0, mr_1, mr_2, mr_3, mr_4, mr_5, mr_6, mr_7, mr_8, mr_9, mr_10, mr_11, mr_12, mw_0, mw_1, mw_2, mw_3, mw_4, mw_5, mw_6, mw_7, mw_8, mw_9, mw_10, mw_11, mw_12, h8, nI_leI, hn, hs, S_isIn, pk_sub, show 4 ≤ a - b by omega]
        rw [ite_self]
        rfl
    | succ f ih =>
      intro a v hm hba han
      have hs := S_letter (d := d + 1) (am := am) (h := h) (hL' (nI a)) (show a < n by omega)
      rw [q_X7_figures_22]
      simp (disch := first | omega | decide) only [r_X7_figures_26, r_X7_figures_30, r_X7_figures_33, r_X7_figures_38, r_X7_figures_41, r_X7_figures_48, r_X7_figures_51, r_X7_figures_55, r_X7_figures_61, r_X7_figures_71, r_X7_figures_74, r_X7_figures_85, r_X7_figures_90, aK_ret, aK_thr, Option.bind_some, Option.toList_some, Option.toList_none, List.cons_append, List.nil_append, List.set_cons_zero, List.set_cons_succ, lk1, hci_put, put_2, us_2, ua_1, us_eq, us_ne, ua_eq, ua_ne, uf_eq, uf_ne, us_neD, ua_neD, ua_0, sm_1, sm_2, sm_sm, us_sm, sm_us1, sm_ne, nI_add, pk_mul, add_n0, ret_bI, bI_0, Nat.add_zero, nI10, nI00, ne_eq, eq_self, Bool.true_eq_false, Bool.false_eq_true, cond_true, cond_false, not_false_eq_true, not_true_eq_false, ite_true, ite_false, if_true, if_false, reduceIte, mf_0, mf_1, mf_2, mf_3, mf_4, mf_5, mf_6, mf_7, mf_8, mf_9, mf_10, mf_11, mf_12, mf_13, mf_14, mf_15, mf_16, mf_17, mf_18, mf_19, mf_20, mf_21, mf_22, mf_23, mf_24, mf_25, mf_26, mf_27, mf_28, mp_0, mp_3, mp_6, mp_7, mp_8, mp_9, mp_10, mp_11, mp_12, mp_14, mp_15, mp_16, mp_17, mp_25, mp_26, mp_28, mr_0, mr_1, mr_2, mr_3, mr_4, mr_5, mr_6, mr_7, mr_8, mr_9, mr_10, mr_11, mr_12, mw_0, mw_1, mw_2, mw_3, mw_4, mw_5, mw_6, mw_7, mw_8, mw_9, mw_10, mw_11, mw_12, h8, nI_leI, show ¬ n ≤ a by omega, hs, S_isIn, pk_sub, show ¬ 4 ≤ a - b by omega, us_us]
      cases hx : isD (x a) with
      | false =>
        rw [if_pos (show inI (x a) (nI 48) (nI 57) = false from hx)]
        have e1 : fgp x (f + 1) a v = (a, v) := if_neg (by rw [hx]; decide)
        rw [e1]
      | true =>
        rw [if_neg (by rw [show inI (x a) (nI 48) (nI 57) = true from hx]; decide)]
        have e1 : fgp x (f + 1) a v = fgp x f (a + 1) ((nI 10 * v + x a) - nI 48) := if_pos hx
        rw [e1]
        exact ih (a + 1) _ (by omega) (by omega) (by omega)
  simp (disch := first | omega | decide) only [e_X7_figures, r_X7_figures_0, r_X7_figures_4, r_X7_figures_10, r_X7_figures_14, r_X7_figures_18, aK_ret, aK_thr, Option.bind_some, Option.toList_some, Option.toList_none, List.cons_append, List.nil_append, List.set_cons_zero, List.set_cons_succ, lk1, hci_put, put_2, us_2, ua_1, us_eq, us_ne, ua_eq, ua_ne, uf_eq, uf_ne, us_neD, ua_neD, ua_0, sm_1, sm_2, sm_sm, us_sm, sm_us1, sm_ne, nI_add, pk_mul, add_n0, ret_bI, bI_0, Nat.add_zero, nI10, nI00, ne_eq, eq_self, Bool.true_eq_false, Bool.false_eq_true, cond_true, cond_false, not_false_eq_true, not_true_eq_false, ite_true, ite_false, if_true, if_false, reduceIte, mf_0, mf_1, mf_2, mf_3, mf_4, mf_5, mf_6, mf_7, mf_8, mf_9, mf_10, mf_11, mf_12, mf_13, mf_14, mf_15, mf_16, mf_17, mf_18, mf_19, mf_20, mf_21, mf_22, mf_23, mf_24, mf_25, mf_26, mf_27, mf_28, mp_0, mp_3, mp_6, mp_7, mp_8, mp_9, mp_10, mp_11, mp_12, mp_14, mp_15, mp_16, mp_17, mp_25, mp_26, mp_28, mr_0, mr_1, mr_2, mr_3, mr_4, mr_5, mr_6, mr_7, mr_8, mr_9, mr_10, mr_11, mr_12, mw_0, mw_1, mw_2, mw_3, mw_4, mw_5, mw_6, mw_7, mw_8, mw_9, mw_10, mw_11, mw_12, hf, hsk]
  rw [key (min (n - b) 4) b (nI 0) (by omega) (Nat.le_refl _) hb]
  exact fin
theorem S_figures0 {d am : Nat} {M : MS} {h : AH} {lo hi : Int32} (hf : ¬ M.1 10 = -1) : exec tTab (d + 1) K_X7_figures [.ref am, .int lo, .int hi] (put am M h) = some (.inl (some (.int (nI 0))), put am M h) := by
  simp (disch := first | omega | decide) only [e_X7_figures, r_X7_figures_0, r_X7_figures_4, r_X7_figures_8, aK_ret, aK_thr, Option.bind_some, Option.toList_some, Option.toList_none, List.cons_append, List.nil_append, List.set_cons_zero, List.set_cons_succ, lk1, hci_put, put_2, us_2, ua_1, us_eq, us_ne, ua_eq, ua_ne, uf_eq, uf_ne, us_neD, ua_neD, ua_0, sm_1, sm_2, sm_sm, us_sm, sm_us1, sm_ne, nI_add, pk_mul, add_n0, ret_bI, bI_0, Nat.add_zero, nI10, nI00, ne_eq, eq_self, Bool.true_eq_false, Bool.false_eq_true, cond_true, cond_false, not_false_eq_true, not_true_eq_false, ite_true, ite_false, if_true, if_false, reduceIte, mf_0, mf_1, mf_2, mf_3, mf_4, mf_5, mf_6, mf_7, mf_8, mf_9, mf_10, mf_11, mf_12, mf_13, mf_14, mf_15, mf_16, mf_17, mf_18, mf_19, mf_20, mf_21, mf_22, mf_23, mf_24, mf_25, mf_26, mf_27, mf_28, mp_0, mp_3, mp_6, mp_7, mp_8, mp_9, mp_10, mp_11, mp_12, mp_14, mp_15, mp_16, mp_17, mp_25, mp_26, mp_28, mr_0, mr_1, mr_2, mr_3, mr_4, mr_5, mr_6, mr_7, mr_8, mr_9, mr_10, mr_11, mr_12, mw_0, mw_1, mw_2, mw_3, mw_4, mw_5, mw_6, mw_7, mw_8, mw_9, mw_10, mw_11, mw_12, hf]
