/-! ===== the model: letters, blanks, words, signs, figures ===== -/
theorem us_us {M : MS} {k : Nat} {v w : Int32} : us (us M k v) k w = us M k w := by
  refine Prod.ext (funext fun a => ?_) rfl
  show (if a = k then w else if a = k then v else M.1 a) = if a = k then w else M.1 a
  by_cases h : a = k
  · rw [if_pos h, if_pos h]
  · rw [if_neg h, if_neg h, if_neg h]
theorem us_co {M : MS} {k j : Nat} {v w : Int32} (h : (k == j) = false) : us (us M k v) j w = us (us M j w) k v := by
  have h : k ≠ j := by simpa using h
  refine Prod.ext (funext fun a => ?_) rfl
  show (if a = j then w else if a = k then v else M.1 a) = if a = k then v else if a = j then w else M.1 a
  by_cases h1 : a = j
  · rw [if_pos h1, if_neg (by omega), if_pos h1]
  · rw [if_neg h1, if_neg h1]
theorem us_id {M : MS} {k : Nat} {v : Int32} (h : M.1 k = v) : us M k v = M := by
  refine Prod.ext (funext fun a => ?_) rfl
  show (if a = k then v else M.1 a) = M.1 a
  by_cases h1 : a = k
  · rw [if_pos h1, ← h, h1]
  · rw [if_neg h1]
/-- a text x of n letters is being read -/
def Lx (M : MS) (x : Nat → Int32) (n : Nat) : Prop := M.1 8 = nI n ∧ n ≤ 400 ∧ ((M.1 7 = -1 ∧ x = M.2 3) ∨ ∃ B, M.1 7 = nI B ∧ B + n ≤ 3346 ∧ x = fun k => M.2 0 (B + k))
theorem Lx.u {M : MS} {x : Nat → Int32} {n k : Nat} {v : Int32} (h : Lx M x n) (hk : (k == 8 || k == 7) = false) : Lx (us M k v) x n := by
  have h8 : (8 : Nat) ≠ k := by rintro rfl; exact absurd hk (by decide)
  have h7 : (7 : Nat) ≠ k := by rintro rfl; exact absurd hk (by decide)
  unfold Lx
  rw [us_ne h8, us_ne h7, us_2]
  exact h
theorem nIne {n : Nat} (h : n < 2 ^ 31) : ¬ nI n = -1 := by
  intro e
  have h1 := nI_toInt h
  rw [e] at h1
  have h2 : (-1 : Int32).toInt = -1 := by decide
  omega
theorem S_letter {d am k n : Nat} {x : Nat → Int32} {M : MS} {h : AH} (hL : Lx M x n) (hk : k < n) : exec tTab (d + 1) K_X7_letter [.ref am, .int (nI k)] (put am M h) = some (.inl (some (.int (x k))), put am M h) := by
  obtain ⟨h1, h2, ⟨h3, rfl⟩ | ⟨B, h3, h4, rfl⟩⟩ := hL
  · simp (disch := omega) only [e_X7_letter, r_X7_letter_0, r_X7_letter_4, r_X7_letter_17, r_X7_letter_8, r_X7_letter_21, r_X7_letter_21N, r_X7_letter_12, r_X7_letter_25, r_X7_letter_14, r_X7_letter_28, aK_ret, aK_thr, Option.bind_some, Option.toList_some, Option.toList_none, List.cons_append, List.nil_append, List.set_cons_zero, List.set_cons_succ, lk1, hci_put, put_2, us_2, ua_1, us_eq, us_ne, ua_eq, ua_ne, uf_eq, uf_ne, us_neD, ua_neD, ua_0, sm_1, sm_2, sm_sm, us_sm, sm_us1, sm_ne, nI_add, pk_mul, add_n0, ret_bI, bI_0, Nat.add_zero, nI10, nI00, ne_eq, eq_self, Bool.true_eq_false, Bool.false_eq_true, cond_true, cond_false, not_false_eq_true, not_true_eq_false, ite_true, ite_false, if_true, if_false, reduceIte, mf_0, mf_1, mf_2, mf_3, mf_4, mf_5, mf_6, mf_7, mf_8, mf_9, mf_10, mf_11, mf_12, mf_13, mf_14, mf_15, mf_16, mf_17, mf_18, mf_19, mf_20, mf_21, mf_22, mf_23, mf_24, mf_25, mf_26, mf_27, mf_28, mp_0, mp_3, mp_6, mp_7, mp_8, mp_9, mp_10, mp_11, mp_12, mp_14, mp_15, mp_16, mp_17, mp_25, mp_26, mp_28, mr_0, mr_1, mr_2, mr_3, mr_4, mr_5, mr_6, mr_7, mr_8, mr_9, mr_10, mr_11, mr_12, mw_0, mw_1, mw_2, mw_3, mw_4, mw_5, mw_6, mw_7, mw_8, mw_9, mw_10, mw_11, mw_12, h3]
  · have := nIne (show B < 2 ^ 31 by omega)
    simp (disch := omega) only [e_X7_letter, r_X7_letter_0, r_X7_letter_4, r_X7_letter_17, r_X7_letter_8, r_X7_letter_21, r_X7_letter_21N, r_X7_letter_12, r_X7_letter_25, r_X7_letter_14, r_X7_letter_28, aK_ret, aK_thr, Option.bind_some, Option.toList_some, Option.toList_none, List.cons_append, List.nil_append, List.set_cons_zero, List.set_cons_succ, lk1, hci_put, put_2, us_2, ua_1, us_eq, us_ne, ua_eq, ua_ne, uf_eq, uf_ne, us_neD, ua_neD, ua_0, sm_1, sm_2, sm_sm, us_sm, sm_us1, sm_ne, nI_add, pk_mul, add_n0, ret_bI, bI_0, Nat.add_zero, nI10, nI00, ne_eq, eq_self, Bool.true_eq_false, Bool.false_eq_true, cond_true, cond_false, not_false_eq_true, not_true_eq_false, ite_true, ite_false, if_true, if_false, reduceIte, mf_0, mf_1, mf_2, mf_3, mf_4, mf_5, mf_6, mf_7, mf_8, mf_9, mf_10, mf_11, mf_12, mf_13, mf_14, mf_15, mf_16, mf_17, mf_18, mf_19, mf_20, mf_21, mf_22, mf_23, mf_24, mf_25, mf_26, mf_27, mf_28, mp_0, mp_3, mp_6, mp_7, mp_8, mp_9, mp_10, mp_11, mp_12, mp_14, mp_15, mp_16, mp_17, mp_25, mp_26, mp_28, mr_0, mr_1, mr_2, mr_3, mr_4, mr_5, mr_6, mr_7, mr_8, mr_9, mr_10, mr_11, mr_12, mw_0, mw_1, mw_2, mw_3, mw_4, mw_5, mw_6, mw_7, mw_8, mw_9, mw_10, mw_11, mw_12, h3, this]
def skp (x : Nat → Int32) : Nat → Nat → Nat
  | 0, a => a
  | f + 1, a => if x a = nI 32 then skp x f (a + 1) else a
/-- where the blanks from a on end -/
def sk (x : Nat → Int32) (n a : Nat) : Nat := skp x (n - a) a
theorem sk_end {x : Nat → Int32} {n a : Nat} (h : n ≤ a) : sk x n a = a := by unfold sk; rw [show n - a = 0 by omega]; rfl
theorem sk_no {x : Nat → Int32} {n a : Nat} (h : ¬ x a = nI 32) : sk x n a = a := by
  unfold sk
  cases n - a with
  | zero => rfl
  | succ f => exact if_neg h
theorem sk_go {x : Nat → Int32} {n a : Nat} (ha : a < n) (h : x a = nI 32) : sk x n a = sk x n (a + 1) := by
  unfold sk
  rw [show n - a = (n - (a + 1)) + 1 by omega]
  exact if_pos h
theorem skp_ge {x : Nat → Int32} : ∀ f a, a ≤ skp x f a ∧ skp x f a ≤ a + f := by
  intro f
  induction f with
  | zero => intro a; exact ⟨Nat.le_refl _, Nat.le_refl _⟩
  | succ f ih =>
    intro a
    show a ≤ (if x a = nI 32 then skp x f (a + 1) else a) ∧ (if x a = nI 32 then skp x f (a + 1) else a) ≤ a + (f + 1)
    have := ih (a + 1)
    split <;> omega
theorem sk_ge {x : Nat → Int32} {n a : Nat} : a ≤ sk x n a := (skp_ge _ _).1
theorem sk_le {x : Nat → Int32} {n a : Nat} (h : a ≤ n) : sk x n a ≤ n := by have := (skp_ge (x := x) (n - a) a).2; unfold sk; omega
theorem skp_st {x : Nat → Int32} : ∀ f a, skp x f a < a + f → ¬ x (skp x f a) = nI 32 := by
  intro f
  induction f with
  | zero => intro a h; exact absurd h (Nat.lt_irrefl _)
  | succ f ih =>
    intro a
    show (if x a = nI 32 then skp x f (a + 1) else a) < a + (f + 1) → ¬ x (if x a = nI 32 then skp x f (a + 1) else a) = nI 32
    split
    · intro h; exact ih (a + 1) (by omega)
    · intro _; assumption
theorem sk_st {x : Nat → Int32} {n a : Nat} (h : sk x n a < n) : ¬ x (sk x n a) = nI 32 := skp_st _ _ (by unfold sk at h; omega)
theorem sk_sk {x : Nat → Int32} {n a : Nat} : sk x n (sk x n a) = sk x n a := by
  by_cases h : sk x n a < n
  · exact sk_no (sk_st h)
  · exact sk_end (by omega)
theorem S_skip {d am n : Nat} {x : Nat → Int32} {M : MS} {h : AH} (hL : Lx M x n) : ∀ a, a ≤ n → exec tTab (d + 2) K_X7_skip [.ref am] (put am (us M 9 (nI a)) h) = some (.inl none, put am (us M 9 (nI (sk x n a))) h) := by
  have hL' : ∀ v, Lx (us M 9 v) x n := fun v => hL.u (by decide)
  have h8 := hL.1
  have h400 := hL.2.1
  have key : ∀ j a, a + j = n → R_X7_skip (d + 1) 0 [some (.ref am)] [] (put am (us M 9 (nI a)) h) = some (.inl none, put am (us M 9 (nI (sk x n a))) h) := by
    intro j
    induction j with
    | zero =>
      intro a ha
      rw [q_X7_skip_0, sk_end (by omega)]
      simp (disch := first | omega | decide) only [e_X7_skip, r_X7_skip_4, r_X7_skip_8, r_X7_skip_37, r_X7_skip_11, r_X7_skip_16, r_X7_skip_19, r_X7_skip_24, r_X7_skip_29, r_X7_skip_34, aK_ret, aK_thr, Option.bind_some, Option.toList_some, Option.toList_none, List.cons_append, List.nil_append, List.set_cons_zero, List.set_cons_succ, lk1, hci_put, put_2, us_2, ua_1, us_eq, us_ne, ua_eq, ua_ne, uf_eq, uf_ne, us_neD, ua_neD, ua_0, sm_1, sm_2, sm_sm, us_sm, sm_us1, sm_ne, nI_add, pk_mul, add_n0, ret_bI, bI_0, Nat.add_zero, nI10, nI00, ne_eq, eq_self, Bool.true_eq_false, Bool.false_eq_true, cond_true, cond_false, not_false_eq_true, not_true_eq_false, ite_true, ite_false, if_true, if_false, reduceIte, mf_0, mf_1, mf_2, mf_3, mf_4, mf_5, mf_6, mf_7, mf_8, mf_9, mf_10, mf_11, mf_12, mf_13, mf_14, mf_15, mf_16, mf_17, mf_18, mf_19, mf_20, mf_21, mf_22, mf_23, mf_24, mf_25, mf_26, mf_27, mf_28, mp_0, mp_3, mp_6, mp_7, mp_8, mp_9, mp_10, mp_11, mp_12, mp_14, mp_15, mp_16, mp_17, mp_25, mp_26, mp_28, mr_0, mr_1, mr_2, mr_3, mr_4, mr_5, mr_6, mr_7, mr_8, mr_9, mr_10, mr_11, mr_12, mw_0, mw_1, mw_2, mw_3, mw_4, mw_5, mw_6, mw_7, mw_8, mw_9, mw_10, mw_11, mw_12, h8, nI_leI, show n ≤ a by omega]
    | succ j ih =>
      intro a ha
      have hs := S_letter (d := d) (am := am) (h := h) (hL' (nI a)) (show a < n by omega)
      rw [q_X7_skip_0]
      simp (disch := first | omega | decide) only [e_X7_skip, r_X7_skip_4, r_X7_skip_8, r_X7_skip_37, r_X7_skip_11, r_X7_skip_16, r_X7_skip_19, r_X7_skip_24, r_X7_skip_29, r_X7_skip_34, aK_ret, aK_thr, Option.bind_some, Option.toList_some, Option.toList_none, List.cons_append, List.nil_append, List.set_cons_zero, List.set_cons_succ, lk1, hci_put, put_2, us_2, ua_1, us_eq, us_ne, ua_eq, ua_ne, uf_eq, uf_ne, us_neD, ua_neD, ua_0, sm_1, sm_2, sm_sm, us_sm, sm_us1, sm_ne, nI_add, pk_mul, add_n0, ret_bI, bI_0, Nat.add_zero, nI10, nI00, ne_eq, eq_self, Bool.true_eq_false, Bool.false_eq_true, cond_true, cond_false, not_false_eq_true, not_true_eq_false, ite_true, ite_false, if_true, if_false, reduceIte, mf_0, mf_1, mf_2, mf_3, mf_4, mf_5, mf_6, mf_7, mf_8, mf_9, mf_10, mf_11, mf_12, mf_13, mf_14, mf_15, mf_16, mf_17, mf_18, mf_19, mf_20, mf_21, mf_22, mf_23, mf_24, mf_25, mf_26, mf_27, mf_28, mp_0, mp_3, mp_6, mp_7, mp_8, mp_9, mp_10, mp_11, mp_12, mp_14, mp_15, mp_16, mp_17, mp_25, mp_26, mp_28, mr_0, mr_1, mr_2, mr_3, mr_4, mr_5, mr_6, mr_7, mr_8, mr_9, mr_10, mr_11, mr_12, mw_0, mw_1, mw_2, mw_3, mw_4, mw_5, mw_6, mw_7, mw_8, mw_9, mw_10, mw_11, mw_12, h8, nI_leI, show ¬ n ≤ a by omega, hs, us_us]
      by_cases hx : x a = nI 32
      · rw [if_neg (not_not_intro hx), ih (a + 1) (by omega), sk_go (by omega) hx]
      · rw [if_pos hx, sk_no hx]
  intro a ha
  rw [e_X7_skip]
  exact key (n - a) a (by omega)
